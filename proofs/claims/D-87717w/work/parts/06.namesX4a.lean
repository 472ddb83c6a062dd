/-! EventHunterModel -/
set_option maxRecDepth 100000
def RX4 : String := "EventHunterModel"
def TX4 : u_T := fun k => match k with
  | 0 => ("EventHunterModel", "code", "I", false)
  | 1 => ("EventHunterModel", "parent", "[I", true)
  | 2 => ("EventHunterModel", "now", "[I", true)
  | 3 => ("EventHunterModel", "waiting", "I", false)
  | 4 => ("EventHunterModel", "waitKind", "[I", true)
  | 5 => ("EventHunterModel", "waitMinute", "[I", true)
  | 6 => ("EventHunterModel", "waitNumber", "[I", true)
  | 7 => ("EventHunterModel", "waitField", "[I", true)
  | 8 => ("EventHunterModel", "events", "I", false)
  | 9 => ("EventHunterModel", "kindOf", "[I", true)
  | 10 => ("EventHunterModel", "minuteOf", "[I", true)
  | 11 => ("EventHunterModel", "numberOf", "[I", true)
  | 12 => ("EventHunterModel", "fieldOf", "[I", true)
  | 13 => ("EventHunterModel", "mark", "I", false)
  | 14 => ("EventHunterModel", "left", "I", false)
  | 15 => ("EventHunterModel", "patterns", "I", false)
  | 16 => ("EventHunterModel", "within", "[I", true)
  | 17 => ("EventHunterModel", "way", "[I", true)
  | 18 => ("EventHunterModel", "key", "[I", true)
  | 19 => ("EventHunterModel", "steps", "[I", true)
  | 20 => ("EventHunterModel", "since", "[I", true)
  | 21 => ("EventHunterModel", "begun", "[Z", true)
  | 22 => ("EventHunterModel", "spent", "[Z", true)
  | 23 => ("EventHunterModel", "told", "[I", true)
  | 24 => ("EventHunterModel", "stepSort", "[I", true)
  | 25 => ("EventHunterModel", "stepKind", "[I", true)
  | 26 => ("EventHunterModel", "stepTest", "[I", true)
  | 27 => ("EventHunterModel", "stepField", "[I", true)
  | 28 => ("EventHunterModel", "stepThan", "[I", true)
  | 29 => ("EventHunterModel", "runs", "[I", true)
  | 30 => ("EventHunterModel", "length", "[I", true)
  | 31 => ("EventHunterModel", "hurt", "[Z", true)
  | 32 => ("EventHunterModel", "runEvent", "[I", true)
  | 33 => ("EventHunterModel", "runStep", "[I", true)
  | 34 => ("EventHunterModel", "gone", "[Z", true)
  | 35 => ("EventHunterModel", "matches", "I", false)
  | 36 => ("EventHunterModel", "matchPattern", "[I", true)
  | 37 => ("EventHunterModel", "matchLength", "[I", true)
  | 38 => ("EventHunterModel", "matchEvent", "[I", true)
  | 39 => ("EventHunterModel", "matchStep", "[I", true)
  | 40 => ("EventHunterModel", "rowEvent", "[I", true)
  | 41 => ("EventHunterModel", "rowStep", "[I", true)
  | 42 => ("EventHunterModel", "rowMany", "I", false)
  | 43 => ("EventHunterModel", "move", "[I", true)
  | 44 => ("EventHunterModel", "moves", "I", false)
  | 45 => ("EventHunterModel", "held", "[Z", true)
  | 46 => ("EventHunterModel", "triedEvent", "[I", true)
  | _ => ("EventHunterModel", "triedStep", "[I", true)
def tyX4 : Nat → FieldType := fun k => match k with
  | 0 => .int
  | 1 => .array .int
  | 2 => .array .int
  | 3 => .int
  | 4 => .array .int
  | 5 => .array .int
  | 6 => .array .int
  | 7 => .array .int
  | 8 => .int
  | 9 => .array .int
  | 10 => .array .int
  | 11 => .array .int
  | 12 => .array .int
  | 13 => .int
  | 14 => .int
  | 15 => .int
  | 16 => .array .int
  | 17 => .array .int
  | 18 => .array .int
  | 19 => .array .int
  | 20 => .array .int
  | 21 => .array .boolean
  | 22 => .array .boolean
  | 23 => .array .int
  | 24 => .array .int
  | 25 => .array .int
  | 26 => .array .int
  | 27 => .array .int
  | 28 => .array .int
  | 29 => .array .int
  | 30 => .array .int
  | 31 => .array .boolean
  | 32 => .array .int
  | 33 => .array .int
  | 34 => .array .boolean
  | 35 => .int
  | 36 => .array .int
  | 37 => .array .int
  | 38 => .array .int
  | 39 => .array .int
  | 40 => .array .int
  | 41 => .array .int
  | 42 => .int
  | 43 => .array .int
  | 44 => .int
  | 45 => .array .boolean
  | 46 => .array .int
  | _ => .array .int
abbrev wsX40 : List Cond := u_ws RX4 TX4 48
set_option maxRecDepth 100000 in
theorem nmX4 : ∀ a, a < 48 → ∀ b, b < 48 → a ≠ b → (TX4 a).2.1 ≠ (TX4 b).2.1 := by decide +kernel
set_option maxRecDepth 100000 in
theorem tyX4_ok : ∀ k, k < 48 → parseFieldDescriptor (TX4 k).2.2.1 = some (tyX4 k) := by decide +kernel
abbrev cX4_init : ByteArray := prog_6_method_1_code
def yX4_init : MethodName := ⟨RX4, "<init>", "()V"⟩
theorem dX4_init_0 : decode cX4_init 0 = .ok (.aload_n 0, 1) := by decide +kernel
theorem dX4_init_1 : decode cX4_init 1 = .ok (.invokespecial 1, 3) := by decide +kernel
theorem dX4_init_4 : decode cX4_init 4 = .ok (.aload_n 0, 1) := by decide +kernel
theorem dX4_init_5 : decode cX4_init 5 = .ok (.bipush 16, 2) := by decide +kernel
theorem dX4_init_7 : decode cX4_init 7 = .ok (.newarray .int, 2) := by decide +kernel
theorem dX4_init_9 : decode cX4_init 9 = .ok (.dup, 1) := by decide +kernel
theorem dX4_init_10 : decode cX4_init 10 = .ok (.iconst 0, 1) := by decide +kernel
theorem dX4_init_11 : decode cX4_init 11 = .ok (.iconst (-1), 1) := by decide +kernel
theorem dX4_init_12 : decode cX4_init 12 = .ok (.iastore, 1) := by decide +kernel
theorem dX4_init_13 : decode cX4_init 13 = .ok (.dup, 1) := by decide +kernel
theorem dX4_init_14 : decode cX4_init 14 = .ok (.iconst 1, 1) := by decide +kernel
theorem dX4_init_15 : decode cX4_init 15 = .ok (.iconst (-1), 1) := by decide +kernel
theorem dX4_init_16 : decode cX4_init 16 = .ok (.iastore, 1) := by decide +kernel
theorem dX4_init_17 : decode cX4_init 17 = .ok (.dup, 1) := by decide +kernel
theorem dX4_init_18 : decode cX4_init 18 = .ok (.iconst 2, 1) := by decide +kernel
theorem dX4_init_19 : decode cX4_init 19 = .ok (.iconst (-1), 1) := by decide +kernel
theorem dX4_init_20 : decode cX4_init 20 = .ok (.iastore, 1) := by decide +kernel
theorem dX4_init_21 : decode cX4_init 21 = .ok (.dup, 1) := by decide +kernel
theorem dX4_init_22 : decode cX4_init 22 = .ok (.iconst 3, 1) := by decide +kernel
theorem dX4_init_23 : decode cX4_init 23 = .ok (.iconst (-1), 1) := by decide +kernel
theorem dX4_init_24 : decode cX4_init 24 = .ok (.iastore, 1) := by decide +kernel
theorem dX4_init_25 : decode cX4_init 25 = .ok (.dup, 1) := by decide +kernel
theorem dX4_init_26 : decode cX4_init 26 = .ok (.iconst 4, 1) := by decide +kernel
theorem dX4_init_27 : decode cX4_init 27 = .ok (.iconst (-1), 1) := by decide +kernel
theorem dX4_init_28 : decode cX4_init 28 = .ok (.iastore, 1) := by decide +kernel
theorem dX4_init_29 : decode cX4_init 29 = .ok (.dup, 1) := by decide +kernel
theorem dX4_init_30 : decode cX4_init 30 = .ok (.iconst 5, 1) := by decide +kernel
theorem dX4_init_31 : decode cX4_init 31 = .ok (.iconst (-1), 1) := by decide +kernel
theorem dX4_init_32 : decode cX4_init 32 = .ok (.iastore, 1) := by decide +kernel
theorem dX4_init_33 : decode cX4_init 33 = .ok (.dup, 1) := by decide +kernel
theorem dX4_init_34 : decode cX4_init 34 = .ok (.bipush 6, 2) := by decide +kernel
theorem dX4_init_36 : decode cX4_init 36 = .ok (.iconst (-1), 1) := by decide +kernel
theorem dX4_init_37 : decode cX4_init 37 = .ok (.iastore, 1) := by decide +kernel
theorem dX4_init_38 : decode cX4_init 38 = .ok (.dup, 1) := by decide +kernel
theorem dX4_init_39 : decode cX4_init 39 = .ok (.bipush 7, 2) := by decide +kernel
theorem dX4_init_41 : decode cX4_init 41 = .ok (.iconst (-1), 1) := by decide +kernel
theorem dX4_init_42 : decode cX4_init 42 = .ok (.iastore, 1) := by decide +kernel
theorem dX4_init_43 : decode cX4_init 43 = .ok (.dup, 1) := by decide +kernel
theorem dX4_init_44 : decode cX4_init 44 = .ok (.bipush 8, 2) := by decide +kernel
theorem dX4_init_46 : decode cX4_init 46 = .ok (.iconst (-1), 1) := by decide +kernel
theorem dX4_init_47 : decode cX4_init 47 = .ok (.iastore, 1) := by decide +kernel
theorem dX4_init_48 : decode cX4_init 48 = .ok (.dup, 1) := by decide +kernel
theorem dX4_init_49 : decode cX4_init 49 = .ok (.bipush 9, 2) := by decide +kernel
theorem dX4_init_51 : decode cX4_init 51 = .ok (.iconst (-1), 1) := by decide +kernel
theorem dX4_init_52 : decode cX4_init 52 = .ok (.iastore, 1) := by decide +kernel
theorem dX4_init_53 : decode cX4_init 53 = .ok (.dup, 1) := by decide +kernel
theorem dX4_init_54 : decode cX4_init 54 = .ok (.bipush 10, 2) := by decide +kernel
theorem dX4_init_56 : decode cX4_init 56 = .ok (.iconst (-1), 1) := by decide +kernel
theorem dX4_init_57 : decode cX4_init 57 = .ok (.iastore, 1) := by decide +kernel
theorem dX4_init_58 : decode cX4_init 58 = .ok (.dup, 1) := by decide +kernel
theorem dX4_init_59 : decode cX4_init 59 = .ok (.bipush 11, 2) := by decide +kernel
theorem dX4_init_61 : decode cX4_init 61 = .ok (.iconst (-1), 1) := by decide +kernel
theorem dX4_init_62 : decode cX4_init 62 = .ok (.iastore, 1) := by decide +kernel
theorem dX4_init_63 : decode cX4_init 63 = .ok (.dup, 1) := by decide +kernel
theorem dX4_init_64 : decode cX4_init 64 = .ok (.bipush 12, 2) := by decide +kernel
theorem dX4_init_66 : decode cX4_init 66 = .ok (.iconst (-1), 1) := by decide +kernel
theorem dX4_init_67 : decode cX4_init 67 = .ok (.iastore, 1) := by decide +kernel
theorem dX4_init_68 : decode cX4_init 68 = .ok (.dup, 1) := by decide +kernel
theorem dX4_init_69 : decode cX4_init 69 = .ok (.bipush 13, 2) := by decide +kernel
theorem dX4_init_71 : decode cX4_init 71 = .ok (.iconst (-1), 1) := by decide +kernel
theorem dX4_init_72 : decode cX4_init 72 = .ok (.iastore, 1) := by decide +kernel
theorem dX4_init_73 : decode cX4_init 73 = .ok (.dup, 1) := by decide +kernel
theorem dX4_init_74 : decode cX4_init 74 = .ok (.bipush 14, 2) := by decide +kernel
theorem dX4_init_76 : decode cX4_init 76 = .ok (.iconst (-1), 1) := by decide +kernel
theorem dX4_init_77 : decode cX4_init 77 = .ok (.iastore, 1) := by decide +kernel
theorem dX4_init_78 : decode cX4_init 78 = .ok (.dup, 1) := by decide +kernel
theorem dX4_init_79 : decode cX4_init 79 = .ok (.bipush 15, 2) := by decide +kernel
theorem dX4_init_81 : decode cX4_init 81 = .ok (.iconst (-1), 1) := by decide +kernel
theorem dX4_init_82 : decode cX4_init 82 = .ok (.iastore, 1) := by decide +kernel
theorem dX4_init_83 : decode cX4_init 83 = .ok (.putfield 7, 3) := by decide +kernel
theorem dX4_init_86 : decode cX4_init 86 = .ok (.aload_n 0, 1) := by decide +kernel
theorem dX4_init_87 : decode cX4_init 87 = .ok (.iconst 4, 1) := by decide +kernel
theorem dX4_init_88 : decode cX4_init 88 = .ok (.newarray .int, 2) := by decide +kernel
theorem dX4_init_90 : decode cX4_init 90 = .ok (.putfield 13, 3) := by decide +kernel
theorem dX4_init_93 : decode cX4_init 93 = .ok (.aload_n 0, 1) := by decide +kernel
theorem dX4_init_94 : decode cX4_init 94 = .ok (.bipush 101, 2) := by decide +kernel
theorem dX4_init_96 : decode cX4_init 96 = .ok (.newarray .int, 2) := by decide +kernel
theorem dX4_init_98 : decode cX4_init 98 = .ok (.putfield 16, 3) := by decide +kernel
theorem dX4_init_101 : decode cX4_init 101 = .ok (.aload_n 0, 1) := by decide +kernel
theorem dX4_init_102 : decode cX4_init 102 = .ok (.bipush 101, 2) := by decide +kernel
theorem dX4_init_104 : decode cX4_init 104 = .ok (.newarray .int, 2) := by decide +kernel
theorem dX4_init_106 : decode cX4_init 106 = .ok (.putfield 19, 3) := by decide +kernel
theorem dX4_init_109 : decode cX4_init 109 = .ok (.aload_n 0, 1) := by decide +kernel
theorem dX4_init_110 : decode cX4_init 110 = .ok (.bipush 101, 2) := by decide +kernel
theorem dX4_init_112 : decode cX4_init 112 = .ok (.newarray .int, 2) := by decide +kernel
theorem dX4_init_114 : decode cX4_init 114 = .ok (.putfield 22, 3) := by decide +kernel
theorem dX4_init_117 : decode cX4_init 117 = .ok (.aload_n 0, 1) := by decide +kernel
theorem dX4_init_118 : decode cX4_init 118 = .ok (.sipush 404, 3) := by decide +kernel
theorem dX4_init_121 : decode cX4_init 121 = .ok (.newarray .int, 2) := by decide +kernel
theorem dX4_init_123 : decode cX4_init 123 = .ok (.putfield 25, 3) := by decide +kernel
theorem dX4_init_126 : decode cX4_init 126 = .ok (.aload_n 0, 1) := by decide +kernel
theorem dX4_init_127 : decode cX4_init 127 = .ok (.sipush 1000, 3) := by decide +kernel
theorem dX4_init_130 : decode cX4_init 130 = .ok (.newarray .int, 2) := by decide +kernel
theorem dX4_init_132 : decode cX4_init 132 = .ok (.putfield 28, 3) := by decide +kernel
theorem dX4_init_135 : decode cX4_init 135 = .ok (.aload_n 0, 1) := by decide +kernel
theorem dX4_init_136 : decode cX4_init 136 = .ok (.sipush 1000, 3) := by decide +kernel
theorem dX4_init_139 : decode cX4_init 139 = .ok (.newarray .int, 2) := by decide +kernel
theorem dX4_init_141 : decode cX4_init 141 = .ok (.putfield 31, 3) := by decide +kernel
theorem dX4_init_144 : decode cX4_init 144 = .ok (.aload_n 0, 1) := by decide +kernel
theorem dX4_init_145 : decode cX4_init 145 = .ok (.sipush 1000, 3) := by decide +kernel
theorem dX4_init_148 : decode cX4_init 148 = .ok (.newarray .int, 2) := by decide +kernel
theorem dX4_init_150 : decode cX4_init 150 = .ok (.putfield 34, 3) := by decide +kernel
theorem dX4_init_153 : decode cX4_init 153 = .ok (.aload_n 0, 1) := by decide +kernel
theorem dX4_init_154 : decode cX4_init 154 = .ok (.sipush 4000, 3) := by decide +kernel
theorem dX4_init_157 : decode cX4_init 157 = .ok (.newarray .int, 2) := by decide +kernel
theorem dX4_init_159 : decode cX4_init 159 = .ok (.putfield 37, 3) := by decide +kernel
theorem dX4_init_162 : decode cX4_init 162 = .ok (.aload_n 0, 1) := by decide +kernel
theorem dX4_init_163 : decode cX4_init 163 = .ok (.bipush 8, 2) := by decide +kernel
theorem dX4_init_165 : decode cX4_init 165 = .ok (.newarray .int, 2) := by decide +kernel
theorem dX4_init_167 : decode cX4_init 167 = .ok (.putfield 40, 3) := by decide +kernel
theorem dX4_init_170 : decode cX4_init 170 = .ok (.aload_n 0, 1) := by decide +kernel
theorem dX4_init_171 : decode cX4_init 171 = .ok (.bipush 8, 2) := by decide +kernel
theorem dX4_init_173 : decode cX4_init 173 = .ok (.newarray .int, 2) := by decide +kernel
theorem dX4_init_175 : decode cX4_init 175 = .ok (.putfield 43, 3) := by decide +kernel
theorem dX4_init_178 : decode cX4_init 178 = .ok (.aload_n 0, 1) := by decide +kernel
theorem dX4_init_179 : decode cX4_init 179 = .ok (.bipush 8, 2) := by decide +kernel
theorem dX4_init_181 : decode cX4_init 181 = .ok (.newarray .int, 2) := by decide +kernel
theorem dX4_init_183 : decode cX4_init 183 = .ok (.putfield 46, 3) := by decide +kernel
theorem dX4_init_186 : decode cX4_init 186 = .ok (.aload_n 0, 1) := by decide +kernel
theorem dX4_init_187 : decode cX4_init 187 = .ok (.bipush 8, 2) := by decide +kernel
theorem dX4_init_189 : decode cX4_init 189 = .ok (.newarray .int, 2) := by decide +kernel
theorem dX4_init_191 : decode cX4_init 191 = .ok (.putfield 49, 3) := by decide +kernel
theorem dX4_init_194 : decode cX4_init 194 = .ok (.aload_n 0, 1) := by decide +kernel
theorem dX4_init_195 : decode cX4_init 195 = .ok (.bipush 8, 2) := by decide +kernel
theorem dX4_init_197 : decode cX4_init 197 = .ok (.newarray .int, 2) := by decide +kernel
theorem dX4_init_199 : decode cX4_init 199 = .ok (.putfield 52, 3) := by decide +kernel
theorem dX4_init_202 : decode cX4_init 202 = .ok (.aload_n 0, 1) := by decide +kernel
theorem dX4_init_203 : decode cX4_init 203 = .ok (.bipush 8, 2) := by decide +kernel
theorem dX4_init_205 : decode cX4_init 205 = .ok (.newarray .boolean, 2) := by decide +kernel
theorem dX4_init_207 : decode cX4_init 207 = .ok (.putfield 55, 3) := by decide +kernel
theorem dX4_init_210 : decode cX4_init 210 = .ok (.aload_n 0, 1) := by decide +kernel
theorem dX4_init_211 : decode cX4_init 211 = .ok (.bipush 8, 2) := by decide +kernel
theorem dX4_init_213 : decode cX4_init 213 = .ok (.newarray .boolean, 2) := by decide +kernel
theorem dX4_init_215 : decode cX4_init 215 = .ok (.putfield 59, 3) := by decide +kernel
theorem dX4_init_218 : decode cX4_init 218 = .ok (.aload_n 0, 1) := by decide +kernel
theorem dX4_init_219 : decode cX4_init 219 = .ok (.bipush 8, 2) := by decide +kernel
theorem dX4_init_221 : decode cX4_init 221 = .ok (.newarray .int, 2) := by decide +kernel
theorem dX4_init_223 : decode cX4_init 223 = .ok (.putfield 62, 3) := by decide +kernel
theorem dX4_init_226 : decode cX4_init 226 = .ok (.aload_n 0, 1) := by decide +kernel
theorem dX4_init_227 : decode cX4_init 227 = .ok (.bipush 48, 2) := by decide +kernel
theorem dX4_init_229 : decode cX4_init 229 = .ok (.newarray .int, 2) := by decide +kernel
theorem dX4_init_231 : decode cX4_init 231 = .ok (.putfield 65, 3) := by decide +kernel
theorem dX4_init_234 : decode cX4_init 234 = .ok (.aload_n 0, 1) := by decide +kernel
theorem dX4_init_235 : decode cX4_init 235 = .ok (.bipush 48, 2) := by decide +kernel
theorem dX4_init_237 : decode cX4_init 237 = .ok (.newarray .int, 2) := by decide +kernel
theorem dX4_init_239 : decode cX4_init 239 = .ok (.putfield 68, 3) := by decide +kernel
theorem dX4_init_242 : decode cX4_init 242 = .ok (.aload_n 0, 1) := by decide +kernel
theorem dX4_init_243 : decode cX4_init 243 = .ok (.bipush 48, 2) := by decide +kernel
theorem dX4_init_245 : decode cX4_init 245 = .ok (.newarray .int, 2) := by decide +kernel
theorem dX4_init_247 : decode cX4_init 247 = .ok (.putfield 71, 3) := by decide +kernel
theorem dX4_init_250 : decode cX4_init 250 = .ok (.aload_n 0, 1) := by decide +kernel
theorem dX4_init_251 : decode cX4_init 251 = .ok (.bipush 48, 2) := by decide +kernel
theorem dX4_init_253 : decode cX4_init 253 = .ok (.newarray .int, 2) := by decide +kernel
theorem dX4_init_255 : decode cX4_init 255 = .ok (.putfield 74, 3) := by decide +kernel
theorem dX4_init_258 : decode cX4_init 258 = .ok (.aload_n 0, 1) := by decide +kernel
theorem dX4_init_259 : decode cX4_init 259 = .ok (.bipush 48, 2) := by decide +kernel
theorem dX4_init_261 : decode cX4_init 261 = .ok (.newarray .int, 2) := by decide +kernel
theorem dX4_init_263 : decode cX4_init 263 = .ok (.putfield 77, 3) := by decide +kernel
theorem dX4_init_266 : decode cX4_init 266 = .ok (.aload_n 0, 1) := by decide +kernel
theorem dX4_init_267 : decode cX4_init 267 = .ok (.bipush 8, 2) := by decide +kernel
theorem dX4_init_269 : decode cX4_init 269 = .ok (.newarray .int, 2) := by decide +kernel
theorem dX4_init_271 : decode cX4_init 271 = .ok (.putfield 80, 3) := by decide +kernel
theorem dX4_init_274 : decode cX4_init 274 = .ok (.aload_n 0, 1) := by decide +kernel
theorem dX4_init_275 : decode cX4_init 275 = .ok (.sipush 1608, 3) := by decide +kernel
theorem dX4_init_278 : decode cX4_init 278 = .ok (.newarray .int, 2) := by decide +kernel
theorem dX4_init_280 : decode cX4_init 280 = .ok (.putfield 83, 3) := by decide +kernel
theorem dX4_init_283 : decode cX4_init 283 = .ok (.aload_n 0, 1) := by decide +kernel
theorem dX4_init_284 : decode cX4_init 284 = .ok (.sipush 1608, 3) := by decide +kernel
theorem dX4_init_287 : decode cX4_init 287 = .ok (.newarray .boolean, 2) := by decide +kernel
theorem dX4_init_289 : decode cX4_init 289 = .ok (.putfield 86, 3) := by decide +kernel
theorem dX4_init_292 : decode cX4_init 292 = .ok (.aload_n 0, 1) := by decide +kernel
theorem dX4_init_293 : decode cX4_init 293 = .ok (.ldc 89, 2) := by decide +kernel
theorem dX4_init_295 : decode cX4_init 295 = .ok (.newarray .int, 2) := by decide +kernel
theorem dX4_init_297 : decode cX4_init 297 = .ok (.putfield 90, 3) := by decide +kernel
theorem dX4_init_300 : decode cX4_init 300 = .ok (.aload_n 0, 1) := by decide +kernel
theorem dX4_init_301 : decode cX4_init 301 = .ok (.ldc 89, 2) := by decide +kernel
theorem dX4_init_303 : decode cX4_init 303 = .ok (.newarray .int, 2) := by decide +kernel
theorem dX4_init_305 : decode cX4_init 305 = .ok (.putfield 93, 3) := by decide +kernel
theorem dX4_init_308 : decode cX4_init 308 = .ok (.aload_n 0, 1) := by decide +kernel
theorem dX4_init_309 : decode cX4_init 309 = .ok (.sipush 201, 3) := by decide +kernel
theorem dX4_init_312 : decode cX4_init 312 = .ok (.newarray .boolean, 2) := by decide +kernel
theorem dX4_init_314 : decode cX4_init 314 = .ok (.putfield 96, 3) := by decide +kernel
theorem dX4_init_317 : decode cX4_init 317 = .ok (.aload_n 0, 1) := by decide +kernel
theorem dX4_init_318 : decode cX4_init 318 = .ok (.sipush 1000, 3) := by decide +kernel
theorem dX4_init_321 : decode cX4_init 321 = .ok (.newarray .int, 2) := by decide +kernel
theorem dX4_init_323 : decode cX4_init 323 = .ok (.putfield 99, 3) := by decide +kernel
theorem dX4_init_326 : decode cX4_init 326 = .ok (.aload_n 0, 1) := by decide +kernel
theorem dX4_init_327 : decode cX4_init 327 = .ok (.sipush 1000, 3) := by decide +kernel
theorem dX4_init_330 : decode cX4_init 330 = .ok (.newarray .int, 2) := by decide +kernel
theorem dX4_init_332 : decode cX4_init 332 = .ok (.putfield 102, 3) := by decide +kernel
theorem dX4_init_335 : decode cX4_init 335 = .ok (.aload_n 0, 1) := by decide +kernel
theorem dX4_init_336 : decode cX4_init 336 = .ok (.sipush 24000, 3) := by decide +kernel
theorem dX4_init_339 : decode cX4_init 339 = .ok (.newarray .int, 2) := by decide +kernel
theorem dX4_init_341 : decode cX4_init 341 = .ok (.putfield 105, 3) := by decide +kernel
theorem dX4_init_344 : decode cX4_init 344 = .ok (.aload_n 0, 1) := by decide +kernel
theorem dX4_init_345 : decode cX4_init 345 = .ok (.sipush 24000, 3) := by decide +kernel
theorem dX4_init_348 : decode cX4_init 348 = .ok (.newarray .int, 2) := by decide +kernel
theorem dX4_init_350 : decode cX4_init 350 = .ok (.putfield 108, 3) := by decide +kernel
theorem dX4_init_353 : decode cX4_init 353 = .ok (.aload_n 0, 1) := by decide +kernel
theorem dX4_init_354 : decode cX4_init 354 = .ok (.bipush 25, 2) := by decide +kernel
theorem dX4_init_356 : decode cX4_init 356 = .ok (.newarray .int, 2) := by decide +kernel
theorem dX4_init_358 : decode cX4_init 358 = .ok (.putfield 111, 3) := by decide +kernel
theorem dX4_init_361 : decode cX4_init 361 = .ok (.aload_n 0, 1) := by decide +kernel
theorem dX4_init_362 : decode cX4_init 362 = .ok (.bipush 25, 2) := by decide +kernel
theorem dX4_init_364 : decode cX4_init 364 = .ok (.newarray .int, 2) := by decide +kernel
theorem dX4_init_366 : decode cX4_init 366 = .ok (.putfield 114, 3) := by decide +kernel
theorem dX4_init_369 : decode cX4_init 369 = .ok (.aload_n 0, 1) := by decide +kernel
theorem dX4_init_370 : decode cX4_init 370 = .ok (.bipush 8, 2) := by decide +kernel
theorem dX4_init_372 : decode cX4_init 372 = .ok (.newarray .int, 2) := by decide +kernel
theorem dX4_init_374 : decode cX4_init 374 = .ok (.putfield 117, 3) := by decide +kernel
theorem dX4_init_377 : decode cX4_init 377 = .ok (.aload_n 0, 1) := by decide +kernel
theorem dX4_init_378 : decode cX4_init 378 = .ok (.sipush 1000, 3) := by decide +kernel
theorem dX4_init_381 : decode cX4_init 381 = .ok (.newarray .boolean, 2) := by decide +kernel
theorem dX4_init_383 : decode cX4_init 383 = .ok (.putfield 120, 3) := by decide +kernel
theorem dX4_init_386 : decode cX4_init 386 = .ok (.aload_n 0, 1) := by decide +kernel
theorem dX4_init_387 : decode cX4_init 387 = .ok (.bipush 26, 2) := by decide +kernel
theorem dX4_init_389 : decode cX4_init 389 = .ok (.newarray .int, 2) := by decide +kernel
theorem dX4_init_391 : decode cX4_init 391 = .ok (.putfield 123, 3) := by decide +kernel
theorem dX4_init_394 : decode cX4_init 394 = .ok (.aload_n 0, 1) := by decide +kernel
theorem dX4_init_395 : decode cX4_init 395 = .ok (.bipush 26, 2) := by decide +kernel
theorem dX4_init_397 : decode cX4_init 397 = .ok (.newarray .int, 2) := by decide +kernel
theorem dX4_init_399 : decode cX4_init 399 = .ok (.putfield 126, 3) := by decide +kernel
theorem dX4_init_402 : decode cX4_init 402 = .ok (.return_, 1) := by decide +kernel
abbrev cX4_parent : ByteArray := prog_6_method_6_code
def yX4_parent : MethodName := ⟨RX4, "parent", "(II)I"⟩
theorem dX4_parent_0 : decode cX4_parent 0 = .ok (.iload_n 1, 1) := by decide +kernel
theorem dX4_parent_1 : decode cX4_parent 1 = .ok (.invokestatic 136, 3) := by decide +kernel
theorem dX4_parent_4 : decode cX4_parent 4 = .ok (.ifCond .eq 13, 3) := by decide +kernel
theorem dX4_parent_7 : decode cX4_parent 7 = .ok (.iload_n 2, 1) := by decide +kernel
theorem dX4_parent_8 : decode cX4_parent 8 = .ok (.iconst (-1), 1) := by decide +kernel
theorem dX4_parent_9 : decode cX4_parent 9 = .ok (.if_icmp .lt 8, 3) := by decide +kernel
theorem dX4_parent_12 : decode cX4_parent 12 = .ok (.iload_n 2, 1) := by decide +kernel
theorem dX4_parent_13 : decode cX4_parent 13 = .ok (.iload_n 1, 1) := by decide +kernel
theorem dX4_parent_14 : decode cX4_parent 14 = .ok (.if_icmp .lt 6, 3) := by decide +kernel
theorem dX4_parent_17 : decode cX4_parent 17 = .ok (.bipush (-2), 2) := by decide +kernel
theorem dX4_parent_19 : decode cX4_parent 19 = .ok (.ireturn, 1) := by decide +kernel
theorem dX4_parent_20 : decode cX4_parent 20 = .ok (.iconst 0, 1) := by decide +kernel
theorem dX4_parent_21 : decode cX4_parent 21 = .ok (.istore_n 3, 1) := by decide +kernel
theorem dX4_parent_22 : decode cX4_parent 22 = .ok (.iload_n 3, 1) := by decide +kernel
theorem dX4_parent_23 : decode cX4_parent 23 = .ok (.aload_n 0, 1) := by decide +kernel
theorem dX4_parent_24 : decode cX4_parent 24 = .ok (.getfield 133, 3) := by decide +kernel
theorem dX4_parent_27 : decode cX4_parent 27 = .ok (.if_icmp .ge 21, 3) := by decide +kernel
theorem dX4_parent_30 : decode cX4_parent 30 = .ok (.aload_n 0, 1) := by decide +kernel
theorem dX4_parent_31 : decode cX4_parent 31 = .ok (.getfield 55, 3) := by decide +kernel
theorem dX4_parent_34 : decode cX4_parent 34 = .ok (.iload_n 3, 1) := by decide +kernel
theorem dX4_parent_35 : decode cX4_parent 35 = .ok (.baload, 1) := by decide +kernel
theorem dX4_parent_36 : decode cX4_parent 36 = .ok (.ifCond .eq 6, 3) := by decide +kernel
theorem dX4_parent_39 : decode cX4_parent 39 = .ok (.bipush (-3), 2) := by decide +kernel
theorem dX4_parent_41 : decode cX4_parent 41 = .ok (.ireturn, 1) := by decide +kernel
theorem dX4_parent_42 : decode cX4_parent 42 = .ok (.iinc 3 1, 3) := by decide +kernel
theorem dX4_parent_45 : decode cX4_parent 45 = .ok (.goto (-23), 3) := by decide +kernel
theorem dX4_parent_48 : decode cX4_parent 48 = .ok (.aload_n 0, 1) := by decide +kernel
theorem dX4_parent_49 : decode cX4_parent 49 = .ok (.getfield 7, 3) := by decide +kernel
theorem dX4_parent_52 : decode cX4_parent 52 = .ok (.iload_n 1, 1) := by decide +kernel
theorem dX4_parent_53 : decode cX4_parent 53 = .ok (.iaload, 1) := by decide +kernel
theorem dX4_parent_54 : decode cX4_parent 54 = .ok (.istore_n 3, 1) := by decide +kernel
theorem dX4_parent_55 : decode cX4_parent 55 = .ok (.aload_n 0, 1) := by decide +kernel
theorem dX4_parent_56 : decode cX4_parent 56 = .ok (.getfield 7, 3) := by decide +kernel
theorem dX4_parent_59 : decode cX4_parent 59 = .ok (.iload_n 1, 1) := by decide +kernel
theorem dX4_parent_60 : decode cX4_parent 60 = .ok (.iload_n 2, 1) := by decide +kernel
theorem dX4_parent_61 : decode cX4_parent 61 = .ok (.iastore, 1) := by decide +kernel
theorem dX4_parent_62 : decode cX4_parent 62 = .ok (.iload_n 3, 1) := by decide +kernel
theorem dX4_parent_63 : decode cX4_parent 63 = .ok (.ireturn, 1) := by decide +kernel
abbrev cX4_isKind : ByteArray := prog_6_method_3_code
def yX4_isKind : MethodName := ⟨RX4, "isKind", "(I)Z"⟩
theorem dX4_isKind_0 : decode cX4_isKind 0 = .ok (.iload_n 0, 1) := by decide +kernel
theorem dX4_isKind_1 : decode cX4_isKind 1 = .ok (.ifCond .lt 13, 3) := by decide +kernel
theorem dX4_isKind_4 : decode cX4_isKind 4 = .ok (.iload_n 0, 1) := by decide +kernel
theorem dX4_isKind_5 : decode cX4_isKind 5 = .ok (.bipush 16, 2) := by decide +kernel
theorem dX4_isKind_7 : decode cX4_isKind 7 = .ok (.if_icmp .ge 7, 3) := by decide +kernel
theorem dX4_isKind_10 : decode cX4_isKind 10 = .ok (.iconst 1, 1) := by decide +kernel
theorem dX4_isKind_11 : decode cX4_isKind 11 = .ok (.goto 4, 3) := by decide +kernel
theorem dX4_isKind_14 : decode cX4_isKind 14 = .ok (.iconst 0, 1) := by decide +kernel
theorem dX4_isKind_15 : decode cX4_isKind 15 = .ok (.ireturn, 1) := by decide +kernel
abbrev cX4_pattern : ByteArray := prog_6_method_7_code
def yX4_pattern : MethodName := ⟨RX4, "pattern", "(III)I"⟩
theorem dX4_pattern_0 : decode cX4_pattern 0 = .ok (.iload_n 1, 1) := by decide +kernel
theorem dX4_pattern_1 : decode cX4_pattern 1 = .ok (.iconst 1, 1) := by decide +kernel
theorem dX4_pattern_2 : decode cX4_pattern 2 = .ok (.if_icmp .lt 29, 3) := by decide +kernel
theorem dX4_pattern_5 : decode cX4_pattern 5 = .ok (.iload_n 1, 1) := by decide +kernel
theorem dX4_pattern_6 : decode cX4_pattern 6 = .ok (.sipush 1000, 3) := by decide +kernel
theorem dX4_pattern_9 : decode cX4_pattern 9 = .ok (.if_icmp .gt 22, 3) := by decide +kernel
theorem dX4_pattern_12 : decode cX4_pattern 12 = .ok (.iload_n 2, 1) := by decide +kernel
theorem dX4_pattern_13 : decode cX4_pattern 13 = .ok (.ifCond .lt 18, 3) := by decide +kernel
theorem dX4_pattern_16 : decode cX4_pattern 16 = .ok (.iload_n 2, 1) := by decide +kernel
theorem dX4_pattern_17 : decode cX4_pattern 17 = .ok (.iconst 1, 1) := by decide +kernel
theorem dX4_pattern_18 : decode cX4_pattern 18 = .ok (.if_icmp .gt 13, 3) := by decide +kernel
theorem dX4_pattern_21 : decode cX4_pattern 21 = .ok (.iload_n 3, 1) := by decide +kernel
theorem dX4_pattern_22 : decode cX4_pattern 22 = .ok (.iconst (-1), 1) := by decide +kernel
theorem dX4_pattern_23 : decode cX4_pattern 23 = .ok (.if_icmp .lt 8, 3) := by decide +kernel
theorem dX4_pattern_26 : decode cX4_pattern 26 = .ok (.iload_n 3, 1) := by decide +kernel
theorem dX4_pattern_27 : decode cX4_pattern 27 = .ok (.iconst 3, 1) := by decide +kernel
theorem dX4_pattern_28 : decode cX4_pattern 28 = .ok (.if_icmp .le 5, 3) := by decide +kernel
theorem dX4_pattern_31 : decode cX4_pattern 31 = .ok (.iconst (-1), 1) := by decide +kernel
theorem dX4_pattern_32 : decode cX4_pattern 32 = .ok (.ireturn, 1) := by decide +kernel
theorem dX4_pattern_33 : decode cX4_pattern 33 = .ok (.aload_n 0, 1) := by decide +kernel
theorem dX4_pattern_34 : decode cX4_pattern 34 = .ok (.getfield 133, 3) := by decide +kernel
theorem dX4_pattern_37 : decode cX4_pattern 37 = .ok (.bipush 8, 2) := by decide +kernel
theorem dX4_pattern_39 : decode cX4_pattern 39 = .ok (.if_icmp .ne 6, 3) := by decide +kernel
theorem dX4_pattern_42 : decode cX4_pattern 42 = .ok (.bipush (-4), 2) := by decide +kernel
theorem dX4_pattern_44 : decode cX4_pattern 44 = .ok (.ireturn, 1) := by decide +kernel
theorem dX4_pattern_45 : decode cX4_pattern 45 = .ok (.aload_n 0, 1) := by decide +kernel
theorem dX4_pattern_46 : decode cX4_pattern 46 = .ok (.getfield 133, 3) := by decide +kernel
theorem dX4_pattern_49 : decode cX4_pattern 49 = .ok (.istore 4, 2) := by decide +kernel
theorem dX4_pattern_51 : decode cX4_pattern 51 = .ok (.aload_n 0, 1) := by decide +kernel
theorem dX4_pattern_52 : decode cX4_pattern 52 = .ok (.getfield 40, 3) := by decide +kernel
theorem dX4_pattern_55 : decode cX4_pattern 55 = .ok (.iload 4, 2) := by decide +kernel
theorem dX4_pattern_57 : decode cX4_pattern 57 = .ok (.iload_n 1, 1) := by decide +kernel
theorem dX4_pattern_58 : decode cX4_pattern 58 = .ok (.iastore, 1) := by decide +kernel
theorem dX4_pattern_59 : decode cX4_pattern 59 = .ok (.aload_n 0, 1) := by decide +kernel
theorem dX4_pattern_60 : decode cX4_pattern 60 = .ok (.getfield 43, 3) := by decide +kernel
theorem dX4_pattern_63 : decode cX4_pattern 63 = .ok (.iload 4, 2) := by decide +kernel
theorem dX4_pattern_65 : decode cX4_pattern 65 = .ok (.iload_n 2, 1) := by decide +kernel
theorem dX4_pattern_66 : decode cX4_pattern 66 = .ok (.iastore, 1) := by decide +kernel
theorem dX4_pattern_67 : decode cX4_pattern 67 = .ok (.aload_n 0, 1) := by decide +kernel
theorem dX4_pattern_68 : decode cX4_pattern 68 = .ok (.getfield 46, 3) := by decide +kernel
theorem dX4_pattern_71 : decode cX4_pattern 71 = .ok (.iload 4, 2) := by decide +kernel
theorem dX4_pattern_73 : decode cX4_pattern 73 = .ok (.iload_n 3, 1) := by decide +kernel
theorem dX4_pattern_74 : decode cX4_pattern 74 = .ok (.iastore, 1) := by decide +kernel
theorem dX4_pattern_75 : decode cX4_pattern 75 = .ok (.aload_n 0, 1) := by decide +kernel
theorem dX4_pattern_76 : decode cX4_pattern 76 = .ok (.getfield 49, 3) := by decide +kernel
theorem dX4_pattern_79 : decode cX4_pattern 79 = .ok (.iload 4, 2) := by decide +kernel
theorem dX4_pattern_81 : decode cX4_pattern 81 = .ok (.iconst 0, 1) := by decide +kernel
theorem dX4_pattern_82 : decode cX4_pattern 82 = .ok (.iastore, 1) := by decide +kernel
theorem dX4_pattern_83 : decode cX4_pattern 83 = .ok (.aload_n 0, 1) := by decide +kernel
theorem dX4_pattern_84 : decode cX4_pattern 84 = .ok (.getfield 55, 3) := by decide +kernel
theorem dX4_pattern_87 : decode cX4_pattern 87 = .ok (.iload 4, 2) := by decide +kernel
theorem dX4_pattern_89 : decode cX4_pattern 89 = .ok (.iconst 0, 1) := by decide +kernel
theorem dX4_pattern_90 : decode cX4_pattern 90 = .ok (.bastore, 1) := by decide +kernel
theorem dX4_pattern_91 : decode cX4_pattern 91 = .ok (.aload_n 0, 1) := by decide +kernel
theorem dX4_pattern_92 : decode cX4_pattern 92 = .ok (.getfield 59, 3) := by decide +kernel
theorem dX4_pattern_95 : decode cX4_pattern 95 = .ok (.iload 4, 2) := by decide +kernel
theorem dX4_pattern_97 : decode cX4_pattern 97 = .ok (.iconst 0, 1) := by decide +kernel
theorem dX4_pattern_98 : decode cX4_pattern 98 = .ok (.bastore, 1) := by decide +kernel
theorem dX4_pattern_99 : decode cX4_pattern 99 = .ok (.aload_n 0, 1) := by decide +kernel
theorem dX4_pattern_100 : decode cX4_pattern 100 = .ok (.getfield 62, 3) := by decide +kernel
theorem dX4_pattern_103 : decode cX4_pattern 103 = .ok (.iload 4, 2) := by decide +kernel
theorem dX4_pattern_105 : decode cX4_pattern 105 = .ok (.iconst 0, 1) := by decide +kernel
theorem dX4_pattern_106 : decode cX4_pattern 106 = .ok (.iastore, 1) := by decide +kernel
theorem dX4_pattern_107 : decode cX4_pattern 107 = .ok (.aload_n 0, 1) := by decide +kernel
theorem dX4_pattern_108 : decode cX4_pattern 108 = .ok (.getfield 80, 3) := by decide +kernel
theorem dX4_pattern_111 : decode cX4_pattern 111 = .ok (.iload 4, 2) := by decide +kernel
theorem dX4_pattern_113 : decode cX4_pattern 113 = .ok (.iconst 0, 1) := by decide +kernel
theorem dX4_pattern_114 : decode cX4_pattern 114 = .ok (.iastore, 1) := by decide +kernel
theorem dX4_pattern_115 : decode cX4_pattern 115 = .ok (.aload_n 0, 1) := by decide +kernel
theorem dX4_pattern_116 : decode cX4_pattern 116 = .ok (.dup, 1) := by decide +kernel
theorem dX4_pattern_117 : decode cX4_pattern 117 = .ok (.getfield 133, 3) := by decide +kernel
theorem dX4_pattern_120 : decode cX4_pattern 120 = .ok (.iconst 1, 1) := by decide +kernel
theorem dX4_pattern_121 : decode cX4_pattern 121 = .ok (.iadd, 1) := by decide +kernel
theorem dX4_pattern_122 : decode cX4_pattern 122 = .ok (.putfield 133, 3) := by decide +kernel
theorem dX4_pattern_125 : decode cX4_pattern 125 = .ok (.iload 4, 2) := by decide +kernel
theorem dX4_pattern_127 : decode cX4_pattern 127 = .ok (.ireturn, 1) := by decide +kernel
abbrev cX4_step : ByteArray := prog_6_method_11_code
def yX4_step : MethodName := ⟨RX4, "step", "(IIIIII)I"⟩
theorem dX4_step_0 : decode cX4_step 0 = .ok (.aload_n 0, 1) := by decide +kernel
theorem dX4_step_1 : decode cX4_step 1 = .ok (.iload_n 1, 1) := by decide +kernel
theorem dX4_step_2 : decode cX4_step 2 = .ok (.invokevirtual 143, 3) := by decide +kernel
theorem dX4_step_5 : decode cX4_step 5 = .ok (.ifCond .eq 46, 3) := by decide +kernel
theorem dX4_step_8 : decode cX4_step 8 = .ok (.iload_n 2, 1) := by decide +kernel
theorem dX4_step_9 : decode cX4_step 9 = .ok (.ifCond .lt 42, 3) := by decide +kernel
theorem dX4_step_12 : decode cX4_step 12 = .ok (.iload_n 2, 1) := by decide +kernel
theorem dX4_step_13 : decode cX4_step 13 = .ok (.iconst 3, 1) := by decide +kernel
theorem dX4_step_14 : decode cX4_step 14 = .ok (.if_icmp .gt 37, 3) := by decide +kernel
theorem dX4_step_17 : decode cX4_step 17 = .ok (.iload_n 3, 1) := by decide +kernel
theorem dX4_step_18 : decode cX4_step 18 = .ok (.invokestatic 136, 3) := by decide +kernel
theorem dX4_step_21 : decode cX4_step 21 = .ok (.ifCond .eq 30, 3) := by decide +kernel
theorem dX4_step_24 : decode cX4_step 24 = .ok (.iload 4, 2) := by decide +kernel
theorem dX4_step_26 : decode cX4_step 26 = .ok (.iload 5, 2) := by decide +kernel
theorem dX4_step_28 : decode cX4_step 28 = .ok (.iload 6, 2) := by decide +kernel
theorem dX4_step_30 : decode cX4_step 30 = .ok (.aload_n 0, 1) := by decide +kernel
theorem dX4_step_31 : decode cX4_step 31 = .ok (.getfield 49, 3) := by decide +kernel
theorem dX4_step_34 : decode cX4_step 34 = .ok (.iload_n 1, 1) := by decide +kernel
theorem dX4_step_35 : decode cX4_step 35 = .ok (.iaload, 1) := by decide +kernel
theorem dX4_step_36 : decode cX4_step 36 = .ok (.invokestatic 146, 3) := by decide +kernel
theorem dX4_step_39 : decode cX4_step 39 = .ok (.ifCond .eq 12, 3) := by decide +kernel
theorem dX4_step_42 : decode cX4_step 42 = .ok (.aload_n 0, 1) := by decide +kernel
theorem dX4_step_43 : decode cX4_step 43 = .ok (.iload_n 1, 1) := by decide +kernel
theorem dX4_step_44 : decode cX4_step 44 = .ok (.iload_n 2, 1) := by decide +kernel
theorem dX4_step_45 : decode cX4_step 45 = .ok (.invokevirtual 150, 3) := by decide +kernel
theorem dX4_step_48 : decode cX4_step 48 = .ok (.ifCond .ne 5, 3) := by decide +kernel
theorem dX4_step_51 : decode cX4_step 51 = .ok (.iconst (-1), 1) := by decide +kernel
theorem dX4_step_52 : decode cX4_step 52 = .ok (.ireturn, 1) := by decide +kernel
theorem dX4_step_53 : decode cX4_step 53 = .ok (.aload_n 0, 1) := by decide +kernel
theorem dX4_step_54 : decode cX4_step 54 = .ok (.getfield 55, 3) := by decide +kernel
theorem dX4_step_57 : decode cX4_step 57 = .ok (.iload_n 1, 1) := by decide +kernel
theorem dX4_step_58 : decode cX4_step 58 = .ok (.baload, 1) := by decide +kernel
theorem dX4_step_59 : decode cX4_step 59 = .ok (.ifCond .eq 6, 3) := by decide +kernel
theorem dX4_step_62 : decode cX4_step 62 = .ok (.bipush (-3), 2) := by decide +kernel
theorem dX4_step_64 : decode cX4_step 64 = .ok (.ireturn, 1) := by decide +kernel
theorem dX4_step_65 : decode cX4_step 65 = .ok (.aload_n 0, 1) := by decide +kernel
theorem dX4_step_66 : decode cX4_step 66 = .ok (.getfield 49, 3) := by decide +kernel
theorem dX4_step_69 : decode cX4_step 69 = .ok (.iload_n 1, 1) := by decide +kernel
theorem dX4_step_70 : decode cX4_step 70 = .ok (.iaload, 1) := by decide +kernel
theorem dX4_step_71 : decode cX4_step 71 = .ok (.bipush 6, 2) := by decide +kernel
theorem dX4_step_73 : decode cX4_step 73 = .ok (.if_icmp .ne 6, 3) := by decide +kernel
theorem dX4_step_76 : decode cX4_step 76 = .ok (.bipush (-4), 2) := by decide +kernel
theorem dX4_step_78 : decode cX4_step 78 = .ok (.ireturn, 1) := by decide +kernel
theorem dX4_step_79 : decode cX4_step 79 = .ok (.bipush 6, 2) := by decide +kernel
theorem dX4_step_81 : decode cX4_step 81 = .ok (.iload_n 1, 1) := by decide +kernel
theorem dX4_step_82 : decode cX4_step 82 = .ok (.imul, 1) := by decide +kernel
theorem dX4_step_83 : decode cX4_step 83 = .ok (.aload_n 0, 1) := by decide +kernel
theorem dX4_step_84 : decode cX4_step 84 = .ok (.getfield 49, 3) := by decide +kernel
theorem dX4_step_87 : decode cX4_step 87 = .ok (.iload_n 1, 1) := by decide +kernel
theorem dX4_step_88 : decode cX4_step 88 = .ok (.iaload, 1) := by decide +kernel
theorem dX4_step_89 : decode cX4_step 89 = .ok (.iadd, 1) := by decide +kernel
theorem dX4_step_90 : decode cX4_step 90 = .ok (.istore 7, 2) := by decide +kernel
theorem dX4_step_92 : decode cX4_step 92 = .ok (.aload_n 0, 1) := by decide +kernel
theorem dX4_step_93 : decode cX4_step 93 = .ok (.getfield 65, 3) := by decide +kernel
theorem dX4_step_96 : decode cX4_step 96 = .ok (.iload 7, 2) := by decide +kernel
theorem dX4_step_98 : decode cX4_step 98 = .ok (.iload_n 2, 1) := by decide +kernel
theorem dX4_step_99 : decode cX4_step 99 = .ok (.iastore, 1) := by decide +kernel
theorem dX4_step_100 : decode cX4_step 100 = .ok (.aload_n 0, 1) := by decide +kernel
theorem dX4_step_101 : decode cX4_step 101 = .ok (.getfield 68, 3) := by decide +kernel
theorem dX4_step_104 : decode cX4_step 104 = .ok (.iload 7, 2) := by decide +kernel
theorem dX4_step_106 : decode cX4_step 106 = .ok (.iload_n 3, 1) := by decide +kernel
theorem dX4_step_107 : decode cX4_step 107 = .ok (.iastore, 1) := by decide +kernel
theorem dX4_step_108 : decode cX4_step 108 = .ok (.aload_n 0, 1) := by decide +kernel
theorem dX4_step_109 : decode cX4_step 109 = .ok (.getfield 71, 3) := by decide +kernel
theorem dX4_step_112 : decode cX4_step 112 = .ok (.iload 7, 2) := by decide +kernel
theorem dX4_step_114 : decode cX4_step 114 = .ok (.iload 4, 2) := by decide +kernel
theorem dX4_step_116 : decode cX4_step 116 = .ok (.iastore, 1) := by decide +kernel
theorem dX4_step_117 : decode cX4_step 117 = .ok (.aload_n 0, 1) := by decide +kernel
theorem dX4_step_118 : decode cX4_step 118 = .ok (.getfield 74, 3) := by decide +kernel
theorem dX4_step_121 : decode cX4_step 121 = .ok (.iload 7, 2) := by decide +kernel
theorem dX4_step_123 : decode cX4_step 123 = .ok (.iload 5, 2) := by decide +kernel
theorem dX4_step_125 : decode cX4_step 125 = .ok (.iastore, 1) := by decide +kernel
theorem dX4_step_126 : decode cX4_step 126 = .ok (.aload_n 0, 1) := by decide +kernel
theorem dX4_step_127 : decode cX4_step 127 = .ok (.getfield 77, 3) := by decide +kernel
theorem dX4_step_130 : decode cX4_step 130 = .ok (.iload 7, 2) := by decide +kernel
theorem dX4_step_132 : decode cX4_step 132 = .ok (.iload 6, 2) := by decide +kernel
theorem dX4_step_134 : decode cX4_step 134 = .ok (.iastore, 1) := by decide +kernel
theorem dX4_step_135 : decode cX4_step 135 = .ok (.aload_n 0, 1) := by decide +kernel
theorem dX4_step_136 : decode cX4_step 136 = .ok (.getfield 49, 3) := by decide +kernel
theorem dX4_step_139 : decode cX4_step 139 = .ok (.iload_n 1, 1) := by decide +kernel
theorem dX4_step_140 : decode cX4_step 140 = .ok (.iaload, 1) := by decide +kernel
theorem dX4_step_141 : decode cX4_step 141 = .ok (.ifCond .ne 13, 3) := by decide +kernel
theorem dX4_step_144 : decode cX4_step 144 = .ok (.aload_n 0, 1) := by decide +kernel
theorem dX4_step_145 : decode cX4_step 145 = .ok (.getfield 52, 3) := by decide +kernel
theorem dX4_step_148 : decode cX4_step 148 = .ok (.iload_n 1, 1) := by decide +kernel
theorem dX4_step_149 : decode cX4_step 149 = .ok (.aload_n 0, 1) := by decide +kernel
theorem dX4_step_150 : decode cX4_step 150 = .ok (.getfield 154, 3) := by decide +kernel
theorem dX4_step_153 : decode cX4_step 153 = .ok (.iastore, 1) := by decide +kernel
theorem dX4_step_154 : decode cX4_step 154 = .ok (.aload_n 0, 1) := by decide +kernel
theorem dX4_step_155 : decode cX4_step 155 = .ok (.getfield 49, 3) := by decide +kernel
theorem dX4_step_158 : decode cX4_step 158 = .ok (.iload_n 1, 1) := by decide +kernel
theorem dX4_step_159 : decode cX4_step 159 = .ok (.dup2, 1) := by decide +kernel
theorem dX4_step_160 : decode cX4_step 160 = .ok (.iaload, 1) := by decide +kernel
theorem dX4_step_161 : decode cX4_step 161 = .ok (.iconst 1, 1) := by decide +kernel
theorem dX4_step_162 : decode cX4_step 162 = .ok (.iadd, 1) := by decide +kernel
theorem dX4_step_163 : decode cX4_step 163 = .ok (.iastore, 1) := by decide +kernel
theorem dX4_step_164 : decode cX4_step 164 = .ok (.aload_n 0, 1) := by decide +kernel
theorem dX4_step_165 : decode cX4_step 165 = .ok (.getfield 49, 3) := by decide +kernel
theorem dX4_step_168 : decode cX4_step 168 = .ok (.iload_n 1, 1) := by decide +kernel
theorem dX4_step_169 : decode cX4_step 169 = .ok (.iaload, 1) := by decide +kernel
theorem dX4_step_170 : decode cX4_step 170 = .ok (.iconst 1, 1) := by decide +kernel
theorem dX4_step_171 : decode cX4_step 171 = .ok (.isub, 1) := by decide +kernel
theorem dX4_step_172 : decode cX4_step 172 = .ok (.ireturn, 1) := by decide +kernel
abbrev cX4_isPattern : ByteArray := prog_6_method_5_code
def yX4_isPattern : MethodName := ⟨RX4, "isPattern", "(I)Z"⟩
theorem dX4_isPattern_0 : decode cX4_isPattern 0 = .ok (.iload_n 1, 1) := by decide +kernel
theorem dX4_isPattern_1 : decode cX4_isPattern 1 = .ok (.ifCond .lt 15, 3) := by decide +kernel
theorem dX4_isPattern_4 : decode cX4_isPattern 4 = .ok (.iload_n 1, 1) := by decide +kernel
theorem dX4_isPattern_5 : decode cX4_isPattern 5 = .ok (.aload_n 0, 1) := by decide +kernel
theorem dX4_isPattern_6 : decode cX4_isPattern 6 = .ok (.getfield 133, 3) := by decide +kernel
theorem dX4_isPattern_9 : decode cX4_isPattern 9 = .ok (.if_icmp .ge 7, 3) := by decide +kernel
theorem dX4_isPattern_12 : decode cX4_isPattern 12 = .ok (.iconst 1, 1) := by decide +kernel
theorem dX4_isPattern_13 : decode cX4_isPattern 13 = .ok (.goto 4, 3) := by decide +kernel
theorem dX4_isPattern_16 : decode cX4_isPattern 16 = .ok (.iconst 0, 1) := by decide +kernel
theorem dX4_isPattern_17 : decode cX4_isPattern 17 = .ok (.ireturn, 1) := by decide +kernel
abbrev cX4_isTest : ByteArray := prog_6_method_10_code
def yX4_isTest : MethodName := ⟨RX4, "isTest", "(IIII)Z"⟩
theorem dX4_isTest_0 : decode cX4_isTest 0 = .ok (.iload_n 0, 1) := by decide +kernel
theorem dX4_isTest_1 : decode cX4_isTest 1 = .ok (.ifCond .ne 5, 3) := by decide +kernel
theorem dX4_isTest_4 : decode cX4_isTest 4 = .ok (.iconst 1, 1) := by decide +kernel
theorem dX4_isTest_5 : decode cX4_isTest 5 = .ok (.ireturn, 1) := by decide +kernel
theorem dX4_isTest_6 : decode cX4_isTest 6 = .ok (.iload_n 0, 1) := by decide +kernel
theorem dX4_isTest_7 : decode cX4_isTest 7 = .ok (.ifCond .lt 18, 3) := by decide +kernel
theorem dX4_isTest_10 : decode cX4_isTest 10 = .ok (.iload_n 0, 1) := by decide +kernel
theorem dX4_isTest_11 : decode cX4_isTest 11 = .ok (.bipush 6, 2) := by decide +kernel
theorem dX4_isTest_13 : decode cX4_isTest 13 = .ok (.if_icmp .gt 12, 3) := by decide +kernel
theorem dX4_isTest_16 : decode cX4_isTest 16 = .ok (.iload_n 1, 1) := by decide +kernel
theorem dX4_isTest_17 : decode cX4_isTest 17 = .ok (.ifCond .lt 8, 3) := by decide +kernel
theorem dX4_isTest_20 : decode cX4_isTest 20 = .ok (.iload_n 1, 1) := by decide +kernel
theorem dX4_isTest_21 : decode cX4_isTest 21 = .ok (.iconst 3, 1) := by decide +kernel
theorem dX4_isTest_22 : decode cX4_isTest 22 = .ok (.if_icmp .le 5, 3) := by decide +kernel
theorem dX4_isTest_25 : decode cX4_isTest 25 = .ok (.iconst 0, 1) := by decide +kernel
theorem dX4_isTest_26 : decode cX4_isTest 26 = .ok (.ireturn, 1) := by decide +kernel
theorem dX4_isTest_27 : decode cX4_isTest 27 = .ok (.iload_n 0, 1) := by decide +kernel
theorem dX4_isTest_28 : decode cX4_isTest 28 = .ok (.iconst 4, 1) := by decide +kernel
theorem dX4_isTest_29 : decode cX4_isTest 29 = .ok (.if_icmp .ge 25, 3) := by decide +kernel
theorem dX4_isTest_32 : decode cX4_isTest 32 = .ok (.iload_n 2, 1) := by decide +kernel
theorem dX4_isTest_33 : decode cX4_isTest 33 = .ok (.sipush (-1000), 3) := by decide +kernel
theorem dX4_isTest_36 : decode cX4_isTest 36 = .ok (.if_icmp .lt 14, 3) := by decide +kernel
theorem dX4_isTest_39 : decode cX4_isTest 39 = .ok (.iload_n 2, 1) := by decide +kernel
theorem dX4_isTest_40 : decode cX4_isTest 40 = .ok (.sipush 1000, 3) := by decide +kernel
theorem dX4_isTest_43 : decode cX4_isTest 43 = .ok (.if_icmp .gt 7, 3) := by decide +kernel
theorem dX4_isTest_46 : decode cX4_isTest 46 = .ok (.iconst 1, 1) := by decide +kernel
theorem dX4_isTest_47 : decode cX4_isTest 47 = .ok (.goto 21, 3) := by decide +kernel
theorem dX4_isTest_50 : decode cX4_isTest 50 = .ok (.iconst 0, 1) := by decide +kernel
theorem dX4_isTest_51 : decode cX4_isTest 51 = .ok (.goto 17, 3) := by decide +kernel
theorem dX4_isTest_54 : decode cX4_isTest 54 = .ok (.iload_n 2, 1) := by decide +kernel
theorem dX4_isTest_55 : decode cX4_isTest 55 = .ok (.ifCond .lt 12, 3) := by decide +kernel
theorem dX4_isTest_58 : decode cX4_isTest 58 = .ok (.iload_n 2, 1) := by decide +kernel
theorem dX4_isTest_59 : decode cX4_isTest 59 = .ok (.iload_n 3, 1) := by decide +kernel
theorem dX4_isTest_60 : decode cX4_isTest 60 = .ok (.if_icmp .ge 7, 3) := by decide +kernel
theorem dX4_isTest_63 : decode cX4_isTest 63 = .ok (.iconst 1, 1) := by decide +kernel
theorem dX4_isTest_64 : decode cX4_isTest 64 = .ok (.goto 4, 3) := by decide +kernel
theorem dX4_isTest_67 : decode cX4_isTest 67 = .ok (.iconst 0, 1) := by decide +kernel
theorem dX4_isTest_68 : decode cX4_isTest 68 = .ok (.ireturn, 1) := by decide +kernel
abbrev cX4_mayStand : ByteArray := prog_6_method_9_code
def yX4_mayStand : MethodName := ⟨RX4, "mayStand", "(II)Z"⟩
theorem dX4_mayStand_0 : decode cX4_mayStand 0 = .ok (.aload_n 0, 1) := by decide +kernel
theorem dX4_mayStand_1 : decode cX4_mayStand 1 = .ok (.getfield 49, 3) := by decide +kernel
theorem dX4_mayStand_4 : decode cX4_mayStand 4 = .ok (.iload_n 1, 1) := by decide +kernel
theorem dX4_mayStand_5 : decode cX4_mayStand 5 = .ok (.iaload, 1) := by decide +kernel
theorem dX4_mayStand_6 : decode cX4_mayStand 6 = .ok (.ifCond .ne 8, 3) := by decide +kernel
theorem dX4_mayStand_9 : decode cX4_mayStand 9 = .ok (.iload_n 2, 1) := by decide +kernel
theorem dX4_mayStand_10 : decode cX4_mayStand 10 = .ok (.invokestatic 140, 3) := by decide +kernel
theorem dX4_mayStand_13 : decode cX4_mayStand 13 = .ok (.ireturn, 1) := by decide +kernel
theorem dX4_mayStand_14 : decode cX4_mayStand 14 = .ok (.aload_n 0, 1) := by decide +kernel
theorem dX4_mayStand_15 : decode cX4_mayStand 15 = .ok (.getfield 65, 3) := by decide +kernel
theorem dX4_mayStand_18 : decode cX4_mayStand 18 = .ok (.bipush 6, 2) := by decide +kernel
theorem dX4_mayStand_20 : decode cX4_mayStand 20 = .ok (.iload_n 1, 1) := by decide +kernel
theorem dX4_mayStand_21 : decode cX4_mayStand 21 = .ok (.imul, 1) := by decide +kernel
theorem dX4_mayStand_22 : decode cX4_mayStand 22 = .ok (.aload_n 0, 1) := by decide +kernel
theorem dX4_mayStand_23 : decode cX4_mayStand 23 = .ok (.getfield 49, 3) := by decide +kernel
theorem dX4_mayStand_26 : decode cX4_mayStand 26 = .ok (.iload_n 1, 1) := by decide +kernel
theorem dX4_mayStand_27 : decode cX4_mayStand 27 = .ok (.iaload, 1) := by decide +kernel
theorem dX4_mayStand_28 : decode cX4_mayStand 28 = .ok (.iadd, 1) := by decide +kernel
theorem dX4_mayStand_29 : decode cX4_mayStand 29 = .ok (.iconst 1, 1) := by decide +kernel
theorem dX4_mayStand_30 : decode cX4_mayStand 30 = .ok (.isub, 1) := by decide +kernel
theorem dX4_mayStand_31 : decode cX4_mayStand 31 = .ok (.iaload, 1) := by decide +kernel
theorem dX4_mayStand_32 : decode cX4_mayStand 32 = .ok (.istore_n 3, 1) := by decide +kernel
theorem dX4_mayStand_33 : decode cX4_mayStand 33 = .ok (.iload_n 2, 1) := by decide +kernel
theorem dX4_mayStand_34 : decode cX4_mayStand 34 = .ok (.iconst 3, 1) := by decide +kernel
theorem dX4_mayStand_35 : decode cX4_mayStand 35 = .ok (.if_icmp .ne 10, 3) := by decide +kernel
theorem dX4_mayStand_38 : decode cX4_mayStand 38 = .ok (.iload_n 3, 1) := by decide +kernel
theorem dX4_mayStand_39 : decode cX4_mayStand 39 = .ok (.invokestatic 140, 3) := by decide +kernel
theorem dX4_mayStand_42 : decode cX4_mayStand 42 = .ok (.goto 20, 3) := by decide +kernel
theorem dX4_mayStand_45 : decode cX4_mayStand 45 = .ok (.iload_n 3, 1) := by decide +kernel
theorem dX4_mayStand_46 : decode cX4_mayStand 46 = .ok (.iconst 3, 1) := by decide +kernel
theorem dX4_mayStand_47 : decode cX4_mayStand 47 = .ok (.if_icmp .ne 10, 3) := by decide +kernel
theorem dX4_mayStand_50 : decode cX4_mayStand 50 = .ok (.iload_n 2, 1) := by decide +kernel
theorem dX4_mayStand_51 : decode cX4_mayStand 51 = .ok (.invokestatic 140, 3) := by decide +kernel
theorem dX4_mayStand_54 : decode cX4_mayStand 54 = .ok (.ifCond .eq 7, 3) := by decide +kernel
theorem dX4_mayStand_57 : decode cX4_mayStand 57 = .ok (.iconst 1, 1) := by decide +kernel
theorem dX4_mayStand_58 : decode cX4_mayStand 58 = .ok (.goto 4, 3) := by decide +kernel
theorem dX4_mayStand_61 : decode cX4_mayStand 61 = .ok (.iconst 0, 1) := by decide +kernel
theorem dX4_mayStand_62 : decode cX4_mayStand 62 = .ok (.ireturn, 1) := by decide +kernel
abbrev cX4_isSure : ByteArray := prog_6_method_8_code
def yX4_isSure : MethodName := ⟨RX4, "isSure", "(I)Z"⟩
theorem dX4_isSure_0 : decode cX4_isSure 0 = .ok (.iload_n 0, 1) := by decide +kernel
theorem dX4_isSure_1 : decode cX4_isSure 1 = .ok (.ifCond .eq 8, 3) := by decide +kernel
theorem dX4_isSure_4 : decode cX4_isSure 4 = .ok (.iload_n 0, 1) := by decide +kernel
theorem dX4_isSure_5 : decode cX4_isSure 5 = .ok (.iconst 1, 1) := by decide +kernel
theorem dX4_isSure_6 : decode cX4_isSure 6 = .ok (.if_icmp .ne 7, 3) := by decide +kernel
theorem dX4_isSure_9 : decode cX4_isSure 9 = .ok (.iconst 1, 1) := by decide +kernel
theorem dX4_isSure_10 : decode cX4_isSure 10 = .ok (.goto 4, 3) := by decide +kernel
theorem dX4_isSure_13 : decode cX4_isSure 13 = .ok (.iconst 0, 1) := by decide +kernel
theorem dX4_isSure_14 : decode cX4_isSure 14 = .ok (.ireturn, 1) := by decide +kernel
abbrev cX4_fields : ByteArray := prog_6_method_24_code
def yX4_fields : MethodName := ⟨RX4, "fields", "(IIII)I"⟩
theorem dX4_fields_0 : decode cX4_fields 0 = .ok (.iload_n 1, 1) := by decide +kernel
theorem dX4_fields_1 : decode cX4_fields 1 = .ok (.sipush (-1000), 3) := by decide +kernel
theorem dX4_fields_4 : decode cX4_fields 4 = .ok (.if_icmp .lt 58, 3) := by decide +kernel
theorem dX4_fields_7 : decode cX4_fields 7 = .ok (.iload_n 1, 1) := by decide +kernel
theorem dX4_fields_8 : decode cX4_fields 8 = .ok (.sipush 1000, 3) := by decide +kernel
theorem dX4_fields_11 : decode cX4_fields 11 = .ok (.if_icmp .gt 51, 3) := by decide +kernel
theorem dX4_fields_14 : decode cX4_fields 14 = .ok (.iload_n 2, 1) := by decide +kernel
theorem dX4_fields_15 : decode cX4_fields 15 = .ok (.sipush (-1000), 3) := by decide +kernel
theorem dX4_fields_18 : decode cX4_fields 18 = .ok (.if_icmp .lt 44, 3) := by decide +kernel
theorem dX4_fields_21 : decode cX4_fields 21 = .ok (.iload_n 2, 1) := by decide +kernel
theorem dX4_fields_22 : decode cX4_fields 22 = .ok (.sipush 1000, 3) := by decide +kernel
theorem dX4_fields_25 : decode cX4_fields 25 = .ok (.if_icmp .gt 37, 3) := by decide +kernel
theorem dX4_fields_28 : decode cX4_fields 28 = .ok (.iload_n 3, 1) := by decide +kernel
theorem dX4_fields_29 : decode cX4_fields 29 = .ok (.sipush (-1000), 3) := by decide +kernel
theorem dX4_fields_32 : decode cX4_fields 32 = .ok (.if_icmp .lt 30, 3) := by decide +kernel
theorem dX4_fields_35 : decode cX4_fields 35 = .ok (.iload_n 3, 1) := by decide +kernel
theorem dX4_fields_36 : decode cX4_fields 36 = .ok (.sipush 1000, 3) := by decide +kernel
theorem dX4_fields_39 : decode cX4_fields 39 = .ok (.if_icmp .gt 23, 3) := by decide +kernel
theorem dX4_fields_42 : decode cX4_fields 42 = .ok (.iload 4, 2) := by decide +kernel
theorem dX4_fields_44 : decode cX4_fields 44 = .ok (.sipush (-1000), 3) := by decide +kernel
theorem dX4_fields_47 : decode cX4_fields 47 = .ok (.if_icmp .lt 15, 3) := by decide +kernel
theorem dX4_fields_50 : decode cX4_fields 50 = .ok (.iload 4, 2) := by decide +kernel
theorem dX4_fields_52 : decode cX4_fields 52 = .ok (.sipush 1000, 3) := by decide +kernel
theorem dX4_fields_55 : decode cX4_fields 55 = .ok (.if_icmp .gt 7, 3) := by decide +kernel
theorem dX4_fields_58 : decode cX4_fields 58 = .ok (.iconst 1, 1) := by decide +kernel
theorem dX4_fields_59 : decode cX4_fields 59 = .ok (.goto 4, 3) := by decide +kernel
theorem dX4_fields_62 : decode cX4_fields 62 = .ok (.iconst 0, 1) := by decide +kernel
theorem dX4_fields_63 : decode cX4_fields 63 = .ok (.istore 5, 2) := by decide +kernel
theorem dX4_fields_65 : decode cX4_fields 65 = .ok (.iload 5, 2) := by decide +kernel
theorem dX4_fields_67 : decode cX4_fields 67 = .ok (.ifCond .ne 5, 3) := by decide +kernel
theorem dX4_fields_70 : decode cX4_fields 70 = .ok (.iconst (-1), 1) := by decide +kernel
theorem dX4_fields_71 : decode cX4_fields 71 = .ok (.ireturn, 1) := by decide +kernel
theorem dX4_fields_72 : decode cX4_fields 72 = .ok (.aload_n 0, 1) := by decide +kernel
theorem dX4_fields_73 : decode cX4_fields 73 = .ok (.getfield 13, 3) := by decide +kernel
theorem dX4_fields_76 : decode cX4_fields 76 = .ok (.iconst 0, 1) := by decide +kernel
theorem dX4_fields_77 : decode cX4_fields 77 = .ok (.iload_n 1, 1) := by decide +kernel
theorem dX4_fields_78 : decode cX4_fields 78 = .ok (.iastore, 1) := by decide +kernel
theorem dX4_fields_79 : decode cX4_fields 79 = .ok (.aload_n 0, 1) := by decide +kernel
theorem dX4_fields_80 : decode cX4_fields 80 = .ok (.getfield 13, 3) := by decide +kernel
theorem dX4_fields_83 : decode cX4_fields 83 = .ok (.iconst 1, 1) := by decide +kernel
theorem dX4_fields_84 : decode cX4_fields 84 = .ok (.iload_n 2, 1) := by decide +kernel
theorem dX4_fields_85 : decode cX4_fields 85 = .ok (.iastore, 1) := by decide +kernel
theorem dX4_fields_86 : decode cX4_fields 86 = .ok (.aload_n 0, 1) := by decide +kernel
theorem dX4_fields_87 : decode cX4_fields 87 = .ok (.getfield 13, 3) := by decide +kernel
theorem dX4_fields_90 : decode cX4_fields 90 = .ok (.iconst 2, 1) := by decide +kernel
theorem dX4_fields_91 : decode cX4_fields 91 = .ok (.iload_n 3, 1) := by decide +kernel
theorem dX4_fields_92 : decode cX4_fields 92 = .ok (.iastore, 1) := by decide +kernel
theorem dX4_fields_93 : decode cX4_fields 93 = .ok (.aload_n 0, 1) := by decide +kernel
theorem dX4_fields_94 : decode cX4_fields 94 = .ok (.getfield 13, 3) := by decide +kernel
theorem dX4_fields_97 : decode cX4_fields 97 = .ok (.iconst 3, 1) := by decide +kernel
theorem dX4_fields_98 : decode cX4_fields 98 = .ok (.iload 4, 2) := by decide +kernel
theorem dX4_fields_100 : decode cX4_fields 100 = .ok (.iastore, 1) := by decide +kernel
theorem dX4_fields_101 : decode cX4_fields 101 = .ok (.iconst 1, 1) := by decide +kernel
theorem dX4_fields_102 : decode cX4_fields 102 = .ok (.ireturn, 1) := by decide +kernel
abbrev cX4_put : ByteArray := prog_6_method_25_code
def yX4_put : MethodName := ⟨RX4, "put", "(III)I"⟩
theorem dX4_put_0 : decode cX4_put 0 = .ok (.iload_n 1, 1) := by decide +kernel
theorem dX4_put_1 : decode cX4_put 1 = .ok (.invokestatic 136, 3) := by decide +kernel
theorem dX4_put_4 : decode cX4_put 4 = .ok (.ifCond .eq 24, 3) := by decide +kernel
theorem dX4_put_7 : decode cX4_put 7 = .ok (.iload_n 2, 1) := by decide +kernel
theorem dX4_put_8 : decode cX4_put 8 = .ok (.ifCond .lt 20, 3) := by decide +kernel
theorem dX4_put_11 : decode cX4_put 11 = .ok (.iload_n 2, 1) := by decide +kernel
theorem dX4_put_12 : decode cX4_put 12 = .ok (.ldc 207, 2) := by decide +kernel
theorem dX4_put_14 : decode cX4_put 14 = .ok (.if_icmp .gt 14, 3) := by decide +kernel
theorem dX4_put_17 : decode cX4_put 17 = .ok (.iload_n 3, 1) := by decide +kernel
theorem dX4_put_18 : decode cX4_put 18 = .ok (.ifCond .lt 10, 3) := by decide +kernel
theorem dX4_put_21 : decode cX4_put 21 = .ok (.iload_n 3, 1) := by decide +kernel
theorem dX4_put_22 : decode cX4_put 22 = .ok (.sipush 9999, 3) := by decide +kernel
theorem dX4_put_25 : decode cX4_put 25 = .ok (.if_icmp .le 5, 3) := by decide +kernel
theorem dX4_put_28 : decode cX4_put 28 = .ok (.iconst (-1), 1) := by decide +kernel
theorem dX4_put_29 : decode cX4_put 29 = .ok (.ireturn, 1) := by decide +kernel
theorem dX4_put_30 : decode cX4_put 30 = .ok (.iconst 0, 1) := by decide +kernel
theorem dX4_put_31 : decode cX4_put 31 = .ok (.istore 4, 2) := by decide +kernel
theorem dX4_put_33 : decode cX4_put 33 = .ok (.iload 4, 2) := by decide +kernel
theorem dX4_put_35 : decode cX4_put 35 = .ok (.aload_n 0, 1) := by decide +kernel
theorem dX4_put_36 : decode cX4_put 36 = .ok (.getfield 208, 3) := by decide +kernel
theorem dX4_put_39 : decode cX4_put 39 = .ok (.if_icmp .ge 34, 3) := by decide +kernel
theorem dX4_put_42 : decode cX4_put 42 = .ok (.aload_n 0, 1) := by decide +kernel
theorem dX4_put_43 : decode cX4_put 43 = .ok (.getfield 19, 3) := by decide +kernel
theorem dX4_put_46 : decode cX4_put 46 = .ok (.iload 4, 2) := by decide +kernel
theorem dX4_put_48 : decode cX4_put 48 = .ok (.iaload, 1) := by decide +kernel
theorem dX4_put_49 : decode cX4_put 49 = .ok (.iload_n 2, 1) := by decide +kernel
theorem dX4_put_50 : decode cX4_put 50 = .ok (.if_icmp .ne 17, 3) := by decide +kernel
theorem dX4_put_53 : decode cX4_put 53 = .ok (.aload_n 0, 1) := by decide +kernel
theorem dX4_put_54 : decode cX4_put 54 = .ok (.getfield 22, 3) := by decide +kernel
theorem dX4_put_57 : decode cX4_put 57 = .ok (.iload 4, 2) := by decide +kernel
theorem dX4_put_59 : decode cX4_put 59 = .ok (.iaload, 1) := by decide +kernel
theorem dX4_put_60 : decode cX4_put 60 = .ok (.iload_n 3, 1) := by decide +kernel
theorem dX4_put_61 : decode cX4_put 61 = .ok (.if_icmp .ne 6, 3) := by decide +kernel
theorem dX4_put_64 : decode cX4_put 64 = .ok (.bipush (-2), 2) := by decide +kernel
theorem dX4_put_66 : decode cX4_put 66 = .ok (.ireturn, 1) := by decide +kernel
theorem dX4_put_67 : decode cX4_put 67 = .ok (.iinc 4 1, 3) := by decide +kernel
theorem dX4_put_70 : decode cX4_put 70 = .ok (.goto (-37), 3) := by decide +kernel
theorem dX4_put_73 : decode cX4_put 73 = .ok (.iload_n 2, 1) := by decide +kernel
theorem dX4_put_74 : decode cX4_put 74 = .ok (.aload_n 0, 1) := by decide +kernel
theorem dX4_put_75 : decode cX4_put 75 = .ok (.getfield 211, 3) := by decide +kernel
theorem dX4_put_78 : decode cX4_put 78 = .ok (.if_icmp .ge 15, 3) := by decide +kernel
theorem dX4_put_81 : decode cX4_put 81 = .ok (.aload_n 0, 1) := by decide +kernel
theorem dX4_put_82 : decode cX4_put 82 = .ok (.dup, 1) := by decide +kernel
theorem dX4_put_83 : decode cX4_put 83 = .ok (.getfield 214, 3) := by decide +kernel
theorem dX4_put_86 : decode cX4_put 86 = .ok (.iconst 1, 1) := by decide +kernel
theorem dX4_put_87 : decode cX4_put 87 = .ok (.iadd, 1) := by decide +kernel
theorem dX4_put_88 : decode cX4_put 88 = .ok (.putfield 214, 3) := by decide +kernel
theorem dX4_put_91 : decode cX4_put 91 = .ok (.iconst 0, 1) := by decide +kernel
theorem dX4_put_92 : decode cX4_put 92 = .ok (.ireturn, 1) := by decide +kernel
theorem dX4_put_93 : decode cX4_put 93 = .ok (.aload_n 0, 1) := by decide +kernel
theorem dX4_put_94 : decode cX4_put 94 = .ok (.getfield 208, 3) := by decide +kernel
theorem dX4_put_97 : decode cX4_put 97 = .ok (.bipush 100, 2) := by decide +kernel
theorem dX4_put_99 : decode cX4_put 99 = .ok (.if_icmp .eq 18, 3) := by decide +kernel
theorem dX4_put_102 : decode cX4_put 102 = .ok (.aload_n 0, 1) := by decide +kernel
theorem dX4_put_103 : decode cX4_put 103 = .ok (.getfield 154, 3) := by decide +kernel
theorem dX4_put_106 : decode cX4_put 106 = .ok (.aload_n 0, 1) := by decide +kernel
theorem dX4_put_107 : decode cX4_put 107 = .ok (.getfield 208, 3) := by decide +kernel
theorem dX4_put_110 : decode cX4_put 110 = .ok (.iadd, 1) := by decide +kernel
theorem dX4_put_111 : decode cX4_put 111 = .ok (.sipush 1000, 3) := by decide +kernel
theorem dX4_put_114 : decode cX4_put 114 = .ok (.if_icmp .ne 6, 3) := by decide +kernel
theorem dX4_put_117 : decode cX4_put 117 = .ok (.bipush (-4), 2) := by decide +kernel
theorem dX4_put_119 : decode cX4_put 119 = .ok (.ireturn, 1) := by decide +kernel
theorem dX4_put_120 : decode cX4_put 120 = .ok (.aload_n 0, 1) := by decide +kernel
theorem dX4_put_121 : decode cX4_put 121 = .ok (.getfield 208, 3) := by decide +kernel
theorem dX4_put_124 : decode cX4_put 124 = .ok (.istore 4, 2) := by decide +kernel
theorem dX4_put_126 : decode cX4_put 126 = .ok (.iload 4, 2) := by decide +kernel
theorem dX4_put_128 : decode cX4_put 128 = .ok (.ifCond .le 58, 3) := by decide +kernel
theorem dX4_put_131 : decode cX4_put 131 = .ok (.aload_n 0, 1) := by decide +kernel
theorem dX4_put_132 : decode cX4_put 132 = .ok (.getfield 19, 3) := by decide +kernel
theorem dX4_put_135 : decode cX4_put 135 = .ok (.iload 4, 2) := by decide +kernel
theorem dX4_put_137 : decode cX4_put 137 = .ok (.iconst 1, 1) := by decide +kernel
theorem dX4_put_138 : decode cX4_put 138 = .ok (.isub, 1) := by decide +kernel
theorem dX4_put_139 : decode cX4_put 139 = .ok (.iaload, 1) := by decide +kernel
theorem dX4_put_140 : decode cX4_put 140 = .ok (.iload_n 2, 1) := by decide +kernel
theorem dX4_put_141 : decode cX4_put 141 = .ok (.if_icmp .gt 29, 3) := by decide +kernel
theorem dX4_put_144 : decode cX4_put 144 = .ok (.aload_n 0, 1) := by decide +kernel
theorem dX4_put_145 : decode cX4_put 145 = .ok (.getfield 19, 3) := by decide +kernel
theorem dX4_put_148 : decode cX4_put 148 = .ok (.iload 4, 2) := by decide +kernel
theorem dX4_put_150 : decode cX4_put 150 = .ok (.iconst 1, 1) := by decide +kernel
theorem dX4_put_151 : decode cX4_put 151 = .ok (.isub, 1) := by decide +kernel
theorem dX4_put_152 : decode cX4_put 152 = .ok (.iaload, 1) := by decide +kernel
theorem dX4_put_153 : decode cX4_put 153 = .ok (.iload_n 2, 1) := by decide +kernel
theorem dX4_put_154 : decode cX4_put 154 = .ok (.if_icmp .ne 32, 3) := by decide +kernel
theorem dX4_put_157 : decode cX4_put 157 = .ok (.aload_n 0, 1) := by decide +kernel
theorem dX4_put_158 : decode cX4_put 158 = .ok (.getfield 22, 3) := by decide +kernel
theorem dX4_put_161 : decode cX4_put 161 = .ok (.iload 4, 2) := by decide +kernel
theorem dX4_put_163 : decode cX4_put 163 = .ok (.iconst 1, 1) := by decide +kernel
theorem dX4_put_164 : decode cX4_put 164 = .ok (.isub, 1) := by decide +kernel
theorem dX4_put_165 : decode cX4_put 165 = .ok (.iaload, 1) := by decide +kernel
theorem dX4_put_166 : decode cX4_put 166 = .ok (.iload_n 3, 1) := by decide +kernel
theorem dX4_put_167 : decode cX4_put 167 = .ok (.if_icmp .le 19, 3) := by decide +kernel
theorem dX4_put_170 : decode cX4_put 170 = .ok (.aload_n 0, 1) := by decide +kernel
theorem dX4_put_171 : decode cX4_put 171 = .ok (.iload 4, 2) := by decide +kernel
theorem dX4_put_173 : decode cX4_put 173 = .ok (.iconst 1, 1) := by decide +kernel
theorem dX4_put_174 : decode cX4_put 174 = .ok (.isub, 1) := by decide +kernel
theorem dX4_put_175 : decode cX4_put 175 = .ok (.iload 4, 2) := by decide +kernel
theorem dX4_put_177 : decode cX4_put 177 = .ok (.invokevirtual 217, 3) := by decide +kernel
theorem dX4_put_180 : decode cX4_put 180 = .ok (.iinc 4 (-1), 3) := by decide +kernel
theorem dX4_put_183 : decode cX4_put 183 = .ok (.goto (-57), 3) := by decide +kernel
theorem dX4_put_186 : decode cX4_put 186 = .ok (.aload_n 0, 1) := by decide +kernel
theorem dX4_put_187 : decode cX4_put 187 = .ok (.getfield 16, 3) := by decide +kernel
theorem dX4_put_190 : decode cX4_put 190 = .ok (.iload 4, 2) := by decide +kernel
theorem dX4_put_192 : decode cX4_put 192 = .ok (.iload_n 1, 1) := by decide +kernel
theorem dX4_put_193 : decode cX4_put 193 = .ok (.iastore, 1) := by decide +kernel
theorem dX4_put_194 : decode cX4_put 194 = .ok (.aload_n 0, 1) := by decide +kernel
theorem dX4_put_195 : decode cX4_put 195 = .ok (.getfield 19, 3) := by decide +kernel
theorem dX4_put_198 : decode cX4_put 198 = .ok (.iload 4, 2) := by decide +kernel
theorem dX4_put_200 : decode cX4_put 200 = .ok (.iload_n 2, 1) := by decide +kernel
theorem dX4_put_201 : decode cX4_put 201 = .ok (.iastore, 1) := by decide +kernel
theorem dX4_put_202 : decode cX4_put 202 = .ok (.aload_n 0, 1) := by decide +kernel
theorem dX4_put_203 : decode cX4_put 203 = .ok (.getfield 22, 3) := by decide +kernel
theorem dX4_put_206 : decode cX4_put 206 = .ok (.iload 4, 2) := by decide +kernel
theorem dX4_put_208 : decode cX4_put 208 = .ok (.iload_n 3, 1) := by decide +kernel
theorem dX4_put_209 : decode cX4_put 209 = .ok (.iastore, 1) := by decide +kernel
theorem dX4_put_210 : decode cX4_put 210 = .ok (.iconst 0, 1) := by decide +kernel
theorem dX4_put_211 : decode cX4_put 211 = .ok (.istore 5, 2) := by decide +kernel
theorem dX4_put_213 : decode cX4_put 213 = .ok (.iload 5, 2) := by decide +kernel
theorem dX4_put_215 : decode cX4_put 215 = .ok (.iconst 4, 1) := by decide +kernel
theorem dX4_put_216 : decode cX4_put 216 = .ok (.if_icmp .ge 28, 3) := by decide +kernel
theorem dX4_put_219 : decode cX4_put 219 = .ok (.aload_n 0, 1) := by decide +kernel
theorem dX4_put_220 : decode cX4_put 220 = .ok (.getfield 25, 3) := by decide +kernel
theorem dX4_put_223 : decode cX4_put 223 = .ok (.iconst 4, 1) := by decide +kernel
theorem dX4_put_224 : decode cX4_put 224 = .ok (.iload 4, 2) := by decide +kernel
theorem dX4_put_226 : decode cX4_put 226 = .ok (.imul, 1) := by decide +kernel
theorem dX4_put_227 : decode cX4_put 227 = .ok (.iload 5, 2) := by decide +kernel
theorem dX4_put_229 : decode cX4_put 229 = .ok (.iadd, 1) := by decide +kernel
theorem dX4_put_230 : decode cX4_put 230 = .ok (.aload_n 0, 1) := by decide +kernel
theorem dX4_put_231 : decode cX4_put 231 = .ok (.getfield 13, 3) := by decide +kernel
theorem dX4_put_234 : decode cX4_put 234 = .ok (.iload 5, 2) := by decide +kernel
theorem dX4_put_236 : decode cX4_put 236 = .ok (.iaload, 1) := by decide +kernel
theorem dX4_put_237 : decode cX4_put 237 = .ok (.iastore, 1) := by decide +kernel
theorem dX4_put_238 : decode cX4_put 238 = .ok (.iinc 5 1, 3) := by decide +kernel
theorem dX4_put_241 : decode cX4_put 241 = .ok (.goto (-28), 3) := by decide +kernel
theorem dX4_put_244 : decode cX4_put 244 = .ok (.aload_n 0, 1) := by decide +kernel
theorem dX4_put_245 : decode cX4_put 245 = .ok (.dup, 1) := by decide +kernel
theorem dX4_put_246 : decode cX4_put 246 = .ok (.getfield 208, 3) := by decide +kernel
theorem dX4_put_249 : decode cX4_put 249 = .ok (.iconst 1, 1) := by decide +kernel
theorem dX4_put_250 : decode cX4_put 250 = .ok (.iadd, 1) := by decide +kernel
theorem dX4_put_251 : decode cX4_put 251 = .ok (.putfield 208, 3) := by decide +kernel
theorem dX4_put_254 : decode cX4_put 254 = .ok (.iconst 1, 1) := by decide +kernel
theorem dX4_put_255 : decode cX4_put 255 = .ok (.ireturn, 1) := by decide +kernel
abbrev cX4_moveWaiting : ByteArray := prog_6_method_26_code
def yX4_moveWaiting : MethodName := ⟨RX4, "moveWaiting", "(II)V"⟩
theorem dX4_moveWaiting_0 : decode cX4_moveWaiting 0 = .ok (.aload_n 0, 1) := by decide +kernel
theorem dX4_moveWaiting_1 : decode cX4_moveWaiting 1 = .ok (.getfield 16, 3) := by decide +kernel
theorem dX4_moveWaiting_4 : decode cX4_moveWaiting 4 = .ok (.iload_n 2, 1) := by decide +kernel
theorem dX4_moveWaiting_5 : decode cX4_moveWaiting 5 = .ok (.aload_n 0, 1) := by decide +kernel
theorem dX4_moveWaiting_6 : decode cX4_moveWaiting 6 = .ok (.getfield 16, 3) := by decide +kernel
theorem dX4_moveWaiting_9 : decode cX4_moveWaiting 9 = .ok (.iload_n 1, 1) := by decide +kernel
theorem dX4_moveWaiting_10 : decode cX4_moveWaiting 10 = .ok (.iaload, 1) := by decide +kernel
theorem dX4_moveWaiting_11 : decode cX4_moveWaiting 11 = .ok (.iastore, 1) := by decide +kernel
theorem dX4_moveWaiting_12 : decode cX4_moveWaiting 12 = .ok (.aload_n 0, 1) := by decide +kernel
theorem dX4_moveWaiting_13 : decode cX4_moveWaiting 13 = .ok (.getfield 19, 3) := by decide +kernel
theorem dX4_moveWaiting_16 : decode cX4_moveWaiting 16 = .ok (.iload_n 2, 1) := by decide +kernel
theorem dX4_moveWaiting_17 : decode cX4_moveWaiting 17 = .ok (.aload_n 0, 1) := by decide +kernel
theorem dX4_moveWaiting_18 : decode cX4_moveWaiting 18 = .ok (.getfield 19, 3) := by decide +kernel
theorem dX4_moveWaiting_21 : decode cX4_moveWaiting 21 = .ok (.iload_n 1, 1) := by decide +kernel
theorem dX4_moveWaiting_22 : decode cX4_moveWaiting 22 = .ok (.iaload, 1) := by decide +kernel
theorem dX4_moveWaiting_23 : decode cX4_moveWaiting 23 = .ok (.iastore, 1) := by decide +kernel
theorem dX4_moveWaiting_24 : decode cX4_moveWaiting 24 = .ok (.aload_n 0, 1) := by decide +kernel
theorem dX4_moveWaiting_25 : decode cX4_moveWaiting 25 = .ok (.getfield 22, 3) := by decide +kernel
theorem dX4_moveWaiting_28 : decode cX4_moveWaiting 28 = .ok (.iload_n 2, 1) := by decide +kernel
theorem dX4_moveWaiting_29 : decode cX4_moveWaiting 29 = .ok (.aload_n 0, 1) := by decide +kernel
theorem dX4_moveWaiting_30 : decode cX4_moveWaiting 30 = .ok (.getfield 22, 3) := by decide +kernel
theorem dX4_moveWaiting_33 : decode cX4_moveWaiting 33 = .ok (.iload_n 1, 1) := by decide +kernel
theorem dX4_moveWaiting_34 : decode cX4_moveWaiting 34 = .ok (.iaload, 1) := by decide +kernel
theorem dX4_moveWaiting_35 : decode cX4_moveWaiting 35 = .ok (.iastore, 1) := by decide +kernel
theorem dX4_moveWaiting_36 : decode cX4_moveWaiting 36 = .ok (.iconst 0, 1) := by decide +kernel
theorem dX4_moveWaiting_37 : decode cX4_moveWaiting 37 = .ok (.istore_n 3, 1) := by decide +kernel
theorem dX4_moveWaiting_38 : decode cX4_moveWaiting 38 = .ok (.iload_n 3, 1) := by decide +kernel
theorem dX4_moveWaiting_39 : decode cX4_moveWaiting 39 = .ok (.iconst 4, 1) := by decide +kernel
theorem dX4_moveWaiting_40 : decode cX4_moveWaiting 40 = .ok (.if_icmp .ge 29, 3) := by decide +kernel
theorem dX4_moveWaiting_43 : decode cX4_moveWaiting 43 = .ok (.aload_n 0, 1) := by decide +kernel
theorem dX4_moveWaiting_44 : decode cX4_moveWaiting 44 = .ok (.getfield 25, 3) := by decide +kernel
theorem dX4_moveWaiting_47 : decode cX4_moveWaiting 47 = .ok (.iconst 4, 1) := by decide +kernel
theorem dX4_moveWaiting_48 : decode cX4_moveWaiting 48 = .ok (.iload_n 2, 1) := by decide +kernel
theorem dX4_moveWaiting_49 : decode cX4_moveWaiting 49 = .ok (.imul, 1) := by decide +kernel
theorem dX4_moveWaiting_50 : decode cX4_moveWaiting 50 = .ok (.iload_n 3, 1) := by decide +kernel
theorem dX4_moveWaiting_51 : decode cX4_moveWaiting 51 = .ok (.iadd, 1) := by decide +kernel
theorem dX4_moveWaiting_52 : decode cX4_moveWaiting 52 = .ok (.aload_n 0, 1) := by decide +kernel
theorem dX4_moveWaiting_53 : decode cX4_moveWaiting 53 = .ok (.getfield 25, 3) := by decide +kernel
theorem dX4_moveWaiting_56 : decode cX4_moveWaiting 56 = .ok (.iconst 4, 1) := by decide +kernel
theorem dX4_moveWaiting_57 : decode cX4_moveWaiting 57 = .ok (.iload_n 1, 1) := by decide +kernel
theorem dX4_moveWaiting_58 : decode cX4_moveWaiting 58 = .ok (.imul, 1) := by decide +kernel
theorem dX4_moveWaiting_59 : decode cX4_moveWaiting 59 = .ok (.iload_n 3, 1) := by decide +kernel
theorem dX4_moveWaiting_60 : decode cX4_moveWaiting 60 = .ok (.iadd, 1) := by decide +kernel
theorem dX4_moveWaiting_61 : decode cX4_moveWaiting 61 = .ok (.iaload, 1) := by decide +kernel
theorem dX4_moveWaiting_62 : decode cX4_moveWaiting 62 = .ok (.iastore, 1) := by decide +kernel
theorem dX4_moveWaiting_63 : decode cX4_moveWaiting 63 = .ok (.iinc 3 1, 3) := by decide +kernel
theorem dX4_moveWaiting_66 : decode cX4_moveWaiting 66 = .ok (.goto (-28), 3) := by decide +kernel
theorem dX4_moveWaiting_69 : decode cX4_moveWaiting 69 = .ok (.return_, 1) := by decide +kernel
abbrev cX4_mark : ByteArray := prog_6_method_27_code
def yX4_mark : MethodName := ⟨RX4, "mark", "(I)I"⟩
theorem dX4_mark_0 : decode cX4_mark 0 = .ok (.iload_n 1, 1) := by decide +kernel
theorem dX4_mark_1 : decode cX4_mark 1 = .ok (.ifCond .lt 9, 3) := by decide +kernel
theorem dX4_mark_4 : decode cX4_mark 4 = .ok (.iload_n 1, 1) := by decide +kernel
theorem dX4_mark_5 : decode cX4_mark 5 = .ok (.ldc 220, 2) := by decide +kernel
theorem dX4_mark_7 : decode cX4_mark 7 = .ok (.if_icmp .le 5, 3) := by decide +kernel
theorem dX4_mark_10 : decode cX4_mark 10 = .ok (.iconst (-1), 1) := by decide +kernel
theorem dX4_mark_11 : decode cX4_mark 11 = .ok (.ireturn, 1) := by decide +kernel
theorem dX4_mark_12 : decode cX4_mark 12 = .ok (.iload_n 1, 1) := by decide +kernel
theorem dX4_mark_13 : decode cX4_mark 13 = .ok (.aload_n 0, 1) := by decide +kernel
theorem dX4_mark_14 : decode cX4_mark 14 = .ok (.getfield 211, 3) := by decide +kernel
theorem dX4_mark_17 : decode cX4_mark 17 = .ok (.if_icmp .ge 6, 3) := by decide +kernel
theorem dX4_mark_20 : decode cX4_mark 20 = .ok (.bipush (-5), 2) := by decide +kernel
theorem dX4_mark_22 : decode cX4_mark 22 = .ok (.ireturn, 1) := by decide +kernel
theorem dX4_mark_23 : decode cX4_mark 23 = .ok (.aload_n 0, 1) := by decide +kernel
theorem dX4_mark_24 : decode cX4_mark 24 = .ok (.iload_n 1, 1) := by decide +kernel
theorem dX4_mark_25 : decode cX4_mark 25 = .ok (.putfield 211, 3) := by decide +kernel
theorem dX4_mark_28 : decode cX4_mark 28 = .ok (.iconst 0, 1) := by decide +kernel
theorem dX4_mark_29 : decode cX4_mark 29 = .ok (.istore_n 2, 1) := by decide +kernel
theorem dX4_mark_30 : decode cX4_mark 30 = .ok (.iload_n 2, 1) := by decide +kernel
theorem dX4_mark_31 : decode cX4_mark 31 = .ok (.aload_n 0, 1) := by decide +kernel
theorem dX4_mark_32 : decode cX4_mark 32 = .ok (.getfield 208, 3) := by decide +kernel
theorem dX4_mark_35 : decode cX4_mark 35 = .ok (.if_icmp .ge 163, 3) := by decide +kernel
theorem dX4_mark_38 : decode cX4_mark 38 = .ok (.aload_n 0, 1) := by decide +kernel
theorem dX4_mark_39 : decode cX4_mark 39 = .ok (.getfield 19, 3) := by decide +kernel
theorem dX4_mark_42 : decode cX4_mark 42 = .ok (.iload_n 2, 1) := by decide +kernel
theorem dX4_mark_43 : decode cX4_mark 43 = .ok (.iaload, 1) := by decide +kernel
theorem dX4_mark_44 : decode cX4_mark 44 = .ok (.iload_n 1, 1) := by decide +kernel
theorem dX4_mark_45 : decode cX4_mark 45 = .ok (.if_icmp .ge 153, 3) := by decide +kernel
theorem dX4_mark_48 : decode cX4_mark 48 = .ok (.aload_n 0, 1) := by decide +kernel
theorem dX4_mark_49 : decode cX4_mark 49 = .ok (.getfield 154, 3) := by decide +kernel
theorem dX4_mark_52 : decode cX4_mark 52 = .ok (.istore_n 3, 1) := by decide +kernel
theorem dX4_mark_53 : decode cX4_mark 53 = .ok (.aload_n 0, 1) := by decide +kernel
theorem dX4_mark_54 : decode cX4_mark 54 = .ok (.getfield 28, 3) := by decide +kernel
theorem dX4_mark_57 : decode cX4_mark 57 = .ok (.iload_n 3, 1) := by decide +kernel
theorem dX4_mark_58 : decode cX4_mark 58 = .ok (.aload_n 0, 1) := by decide +kernel
theorem dX4_mark_59 : decode cX4_mark 59 = .ok (.getfield 16, 3) := by decide +kernel
theorem dX4_mark_62 : decode cX4_mark 62 = .ok (.iload_n 2, 1) := by decide +kernel
theorem dX4_mark_63 : decode cX4_mark 63 = .ok (.iaload, 1) := by decide +kernel
theorem dX4_mark_64 : decode cX4_mark 64 = .ok (.iastore, 1) := by decide +kernel
theorem dX4_mark_65 : decode cX4_mark 65 = .ok (.aload_n 0, 1) := by decide +kernel
theorem dX4_mark_66 : decode cX4_mark 66 = .ok (.getfield 31, 3) := by decide +kernel
theorem dX4_mark_69 : decode cX4_mark 69 = .ok (.iload_n 3, 1) := by decide +kernel
theorem dX4_mark_70 : decode cX4_mark 70 = .ok (.aload_n 0, 1) := by decide +kernel
theorem dX4_mark_71 : decode cX4_mark 71 = .ok (.getfield 19, 3) := by decide +kernel
theorem dX4_mark_74 : decode cX4_mark 74 = .ok (.iload_n 2, 1) := by decide +kernel
theorem dX4_mark_75 : decode cX4_mark 75 = .ok (.iaload, 1) := by decide +kernel
theorem dX4_mark_76 : decode cX4_mark 76 = .ok (.iastore, 1) := by decide +kernel
theorem dX4_mark_77 : decode cX4_mark 77 = .ok (.aload_n 0, 1) := by decide +kernel
theorem dX4_mark_78 : decode cX4_mark 78 = .ok (.getfield 34, 3) := by decide +kernel
theorem dX4_mark_81 : decode cX4_mark 81 = .ok (.iload_n 3, 1) := by decide +kernel
theorem dX4_mark_82 : decode cX4_mark 82 = .ok (.aload_n 0, 1) := by decide +kernel
theorem dX4_mark_83 : decode cX4_mark 83 = .ok (.getfield 22, 3) := by decide +kernel
theorem dX4_mark_86 : decode cX4_mark 86 = .ok (.iload_n 2, 1) := by decide +kernel
theorem dX4_mark_87 : decode cX4_mark 87 = .ok (.iaload, 1) := by decide +kernel
theorem dX4_mark_88 : decode cX4_mark 88 = .ok (.iastore, 1) := by decide +kernel
theorem dX4_mark_89 : decode cX4_mark 89 = .ok (.iconst 0, 1) := by decide +kernel
theorem dX4_mark_90 : decode cX4_mark 90 = .ok (.istore 4, 2) := by decide +kernel
theorem dX4_mark_92 : decode cX4_mark 92 = .ok (.iload 4, 2) := by decide +kernel
theorem dX4_mark_94 : decode cX4_mark 94 = .ok (.iconst 4, 1) := by decide +kernel
theorem dX4_mark_95 : decode cX4_mark 95 = .ok (.if_icmp .ge 31, 3) := by decide +kernel
theorem dX4_mark_98 : decode cX4_mark 98 = .ok (.aload_n 0, 1) := by decide +kernel
theorem dX4_mark_99 : decode cX4_mark 99 = .ok (.getfield 37, 3) := by decide +kernel
theorem dX4_mark_102 : decode cX4_mark 102 = .ok (.iconst 4, 1) := by decide +kernel
theorem dX4_mark_103 : decode cX4_mark 103 = .ok (.iload_n 3, 1) := by decide +kernel
theorem dX4_mark_104 : decode cX4_mark 104 = .ok (.imul, 1) := by decide +kernel
theorem dX4_mark_105 : decode cX4_mark 105 = .ok (.iload 4, 2) := by decide +kernel
theorem dX4_mark_107 : decode cX4_mark 107 = .ok (.iadd, 1) := by decide +kernel
theorem dX4_mark_108 : decode cX4_mark 108 = .ok (.aload_n 0, 1) := by decide +kernel
theorem dX4_mark_109 : decode cX4_mark 109 = .ok (.getfield 25, 3) := by decide +kernel
theorem dX4_mark_112 : decode cX4_mark 112 = .ok (.iconst 4, 1) := by decide +kernel
theorem dX4_mark_113 : decode cX4_mark 113 = .ok (.iload_n 2, 1) := by decide +kernel
theorem dX4_mark_114 : decode cX4_mark 114 = .ok (.imul, 1) := by decide +kernel
theorem dX4_mark_115 : decode cX4_mark 115 = .ok (.iload 4, 2) := by decide +kernel
theorem dX4_mark_117 : decode cX4_mark 117 = .ok (.iadd, 1) := by decide +kernel
theorem dX4_mark_118 : decode cX4_mark 118 = .ok (.iaload, 1) := by decide +kernel
theorem dX4_mark_119 : decode cX4_mark 119 = .ok (.iastore, 1) := by decide +kernel
theorem dX4_mark_120 : decode cX4_mark 120 = .ok (.iinc 4 1, 3) := by decide +kernel
theorem dX4_mark_123 : decode cX4_mark 123 = .ok (.goto (-31), 3) := by decide +kernel
theorem dX4_mark_126 : decode cX4_mark 126 = .ok (.aload_n 0, 1) := by decide +kernel
theorem dX4_mark_127 : decode cX4_mark 127 = .ok (.dup, 1) := by decide +kernel
theorem dX4_mark_128 : decode cX4_mark 128 = .ok (.getfield 154, 3) := by decide +kernel
theorem dX4_mark_131 : decode cX4_mark 131 = .ok (.iconst 1, 1) := by decide +kernel
theorem dX4_mark_132 : decode cX4_mark 132 = .ok (.iadd, 1) := by decide +kernel
theorem dX4_mark_133 : decode cX4_mark 133 = .ok (.putfield 154, 3) := by decide +kernel
theorem dX4_mark_136 : decode cX4_mark 136 = .ok (.iinc 2 1, 3) := by decide +kernel
theorem dX4_mark_139 : decode cX4_mark 139 = .ok (.iconst 0, 1) := by decide +kernel
theorem dX4_mark_140 : decode cX4_mark 140 = .ok (.istore 4, 2) := by decide +kernel
theorem dX4_mark_142 : decode cX4_mark 142 = .ok (.iload 4, 2) := by decide +kernel
theorem dX4_mark_144 : decode cX4_mark 144 = .ok (.aload_n 0, 1) := by decide +kernel
theorem dX4_mark_145 : decode cX4_mark 145 = .ok (.getfield 133, 3) := by decide +kernel
theorem dX4_mark_148 : decode cX4_mark 148 = .ok (.if_icmp .ge 47, 3) := by decide +kernel
theorem dX4_mark_151 : decode cX4_mark 151 = .ok (.aload_n 0, 1) := by decide +kernel
theorem dX4_mark_152 : decode cX4_mark 152 = .ok (.getfield 49, 3) := by decide +kernel
theorem dX4_mark_155 : decode cX4_mark 155 = .ok (.iload 4, 2) := by decide +kernel
theorem dX4_mark_157 : decode cX4_mark 157 = .ok (.iaload, 1) := by decide +kernel
theorem dX4_mark_158 : decode cX4_mark 158 = .ok (.ifCond .ne 6, 3) := by decide +kernel
theorem dX4_mark_161 : decode cX4_mark 161 = .ok (.goto 28, 3) := by decide +kernel
theorem dX4_mark_164 : decode cX4_mark 164 = .ok (.aload_n 0, 1) := by decide +kernel
theorem dX4_mark_165 : decode cX4_mark 165 = .ok (.getfield 55, 3) := by decide +kernel
theorem dX4_mark_168 : decode cX4_mark 168 = .ok (.iload 4, 2) := by decide +kernel
theorem dX4_mark_170 : decode cX4_mark 170 = .ok (.iconst 1, 1) := by decide +kernel
theorem dX4_mark_171 : decode cX4_mark 171 = .ok (.bastore, 1) := by decide +kernel
theorem dX4_mark_172 : decode cX4_mark 172 = .ok (.aload_n 0, 1) := by decide +kernel
theorem dX4_mark_173 : decode cX4_mark 173 = .ok (.getfield 59, 3) := by decide +kernel
theorem dX4_mark_176 : decode cX4_mark 176 = .ok (.iload 4, 2) := by decide +kernel
theorem dX4_mark_178 : decode cX4_mark 178 = .ok (.baload, 1) := by decide +kernel
theorem dX4_mark_179 : decode cX4_mark 179 = .ok (.ifCond .ne 10, 3) := by decide +kernel
theorem dX4_mark_182 : decode cX4_mark 182 = .ok (.aload_n 0, 1) := by decide +kernel
theorem dX4_mark_183 : decode cX4_mark 183 = .ok (.iload 4, 2) := by decide +kernel
theorem dX4_mark_185 : decode cX4_mark 185 = .ok (.iload_n 3, 1) := by decide +kernel
theorem dX4_mark_186 : decode cX4_mark 186 = .ok (.invokevirtual 221, 3) := by decide +kernel
theorem dX4_mark_189 : decode cX4_mark 189 = .ok (.iinc 4 1, 3) := by decide +kernel
theorem dX4_mark_192 : decode cX4_mark 192 = .ok (.goto (-50), 3) := by decide +kernel
theorem dX4_mark_195 : decode cX4_mark 195 = .ok (.goto (-165), 3) := by decide +kernel
theorem dX4_mark_198 : decode cX4_mark 198 = .ok (.iload_n 2, 1) := by decide +kernel
theorem dX4_mark_199 : decode cX4_mark 199 = .ok (.istore_n 3, 1) := by decide +kernel
theorem dX4_mark_200 : decode cX4_mark 200 = .ok (.iload_n 3, 1) := by decide +kernel
theorem dX4_mark_201 : decode cX4_mark 201 = .ok (.aload_n 0, 1) := by decide +kernel
theorem dX4_mark_202 : decode cX4_mark 202 = .ok (.getfield 208, 3) := by decide +kernel
theorem dX4_mark_205 : decode cX4_mark 205 = .ok (.if_icmp .ge 17, 3) := by decide +kernel
theorem dX4_mark_208 : decode cX4_mark 208 = .ok (.aload_n 0, 1) := by decide +kernel
theorem dX4_mark_209 : decode cX4_mark 209 = .ok (.iload_n 3, 1) := by decide +kernel
theorem dX4_mark_210 : decode cX4_mark 210 = .ok (.iload_n 3, 1) := by decide +kernel
theorem dX4_mark_211 : decode cX4_mark 211 = .ok (.iload_n 2, 1) := by decide +kernel
theorem dX4_mark_212 : decode cX4_mark 212 = .ok (.isub, 1) := by decide +kernel
theorem dX4_mark_213 : decode cX4_mark 213 = .ok (.invokevirtual 217, 3) := by decide +kernel
theorem dX4_mark_216 : decode cX4_mark 216 = .ok (.iinc 3 1, 3) := by decide +kernel
theorem dX4_mark_219 : decode cX4_mark 219 = .ok (.goto (-19), 3) := by decide +kernel
theorem dX4_mark_222 : decode cX4_mark 222 = .ok (.aload_n 0, 1) := by decide +kernel
theorem dX4_mark_223 : decode cX4_mark 223 = .ok (.dup, 1) := by decide +kernel
theorem dX4_mark_224 : decode cX4_mark 224 = .ok (.getfield 208, 3) := by decide +kernel
theorem dX4_mark_227 : decode cX4_mark 227 = .ok (.iload_n 2, 1) := by decide +kernel
theorem dX4_mark_228 : decode cX4_mark 228 = .ok (.isub, 1) := by decide +kernel
theorem dX4_mark_229 : decode cX4_mark 229 = .ok (.putfield 208, 3) := by decide +kernel
theorem dX4_mark_232 : decode cX4_mark 232 = .ok (.iload_n 2, 1) := by decide +kernel
theorem dX4_mark_233 : decode cX4_mark 233 = .ok (.ireturn, 1) := by decide +kernel
