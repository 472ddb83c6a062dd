/-! EventHunter -/
set_option maxRecDepth 100000
def RX0 : String := "EventHunter"
def TX0 : u_T := fun k => match k with
  | 0 => ("EventHunter", "parent", "[I", true)
  | 1 => ("EventHunter", "kind", "[I", true)
  | 2 => ("EventHunter", "minute", "[I", true)
  | 3 => ("EventHunter", "number", "[I", true)
  | 4 => ("EventHunter", "field", "[I", true)
  | 5 => ("EventHunter", "taken", "I", false)
  | 6 => ("EventHunter", "many", "I", false)
  | 7 => ("EventHunter", "left", "I", false)
  | 8 => ("EventHunter", "mark", "I", false)
  | 9 => ("EventHunter", "fields", "[I", true)
  | 10 => ("EventHunter", "web", "LEventHunter$Web;", true)
  | 11 => ("EventHunter", "matchPattern", "[I", true)
  | 12 => ("EventHunter", "matchMany", "[I", true)
  | 13 => ("EventHunter", "matchEvent", "[[S", true)
  | 14 => ("EventHunter", "matchStep", "[[B", true)
  | 15 => ("EventHunter", "matches", "I", false)
  | 16 => ("EventHunter", "here", "I", false)
  | 17 => ("EventHunter", "patterns", "[LEventHunter$Pattern;", true)
  | 18 => ("EventHunter", "patternMany", "I", false)
  | 19 => ("EventHunter", "plain", "LEventHunter$Plain;", true)
  | _ => ("EventHunter", "has", "[Z", true)
def tyX0 : Nat → FieldType := fun k => match k with
  | 0 => .array .int
  | 1 => .array .int
  | 2 => .array .int
  | 3 => .array .int
  | 4 => .array .int
  | 5 => .int
  | 6 => .int
  | 7 => .int
  | 8 => .int
  | 9 => .array .int
  | 10 => .object "EventHunter$Web"
  | 11 => .array .int
  | 12 => .array .int
  | 13 => .array (.array .short)
  | 14 => .array (.array .byte)
  | 15 => .int
  | 16 => .int
  | 17 => .array (.object "EventHunter$Pattern")
  | 18 => .int
  | 19 => .object "EventHunter$Plain"
  | _ => .array .boolean
abbrev wsX00 : List Cond := u_ws RX0 TX0 21
set_option maxRecDepth 100000 in
theorem nmX0 : ∀ a, a < 21 → ∀ b, b < 21 → a ≠ b → (TX0 a).2.1 ≠ (TX0 b).2.1 := by decide +kernel
set_option maxRecDepth 100000 in
theorem tyX0_ok : ∀ k, k < 21 → parseFieldDescriptor (TX0 k).2.2.1 = some (tyX0 k) := by decide +kernel
abbrev cX0_init : ByteArray := prog_1_method_3_code
def yX0_init : MethodName := ⟨RX0, "<init>", "()V"⟩
theorem dX0_init_0 : decode cX0_init 0 = .ok (.aload_n 0, 1) := by decide +kernel
theorem dX0_init_1 : decode cX0_init 1 = .ok (.invokespecial 7, 3) := by decide +kernel
theorem dX0_init_4 : decode cX0_init 4 = .ok (.aload_n 0, 1) := by decide +kernel
theorem dX0_init_5 : decode cX0_init 5 = .ok (.bipush 16, 2) := by decide +kernel
theorem dX0_init_7 : decode cX0_init 7 = .ok (.newarray .int, 2) := by decide +kernel
theorem dX0_init_9 : decode cX0_init 9 = .ok (.putfield 3, 3) := by decide +kernel
theorem dX0_init_12 : decode cX0_init 12 = .ok (.aload_n 0, 1) := by decide +kernel
theorem dX0_init_13 : decode cX0_init 13 = .ok (.sipush 1000, 3) := by decide +kernel
theorem dX0_init_16 : decode cX0_init 16 = .ok (.newarray .int, 2) := by decide +kernel
theorem dX0_init_18 : decode cX0_init 18 = .ok (.putfield 13, 3) := by decide +kernel
theorem dX0_init_21 : decode cX0_init 21 = .ok (.aload_n 0, 1) := by decide +kernel
theorem dX0_init_22 : decode cX0_init 22 = .ok (.sipush 1000, 3) := by decide +kernel
theorem dX0_init_25 : decode cX0_init 25 = .ok (.newarray .int, 2) := by decide +kernel
theorem dX0_init_27 : decode cX0_init 27 = .ok (.putfield 16, 3) := by decide +kernel
theorem dX0_init_30 : decode cX0_init 30 = .ok (.aload_n 0, 1) := by decide +kernel
theorem dX0_init_31 : decode cX0_init 31 = .ok (.sipush 1000, 3) := by decide +kernel
theorem dX0_init_34 : decode cX0_init 34 = .ok (.newarray .int, 2) := by decide +kernel
theorem dX0_init_36 : decode cX0_init 36 = .ok (.putfield 19, 3) := by decide +kernel
theorem dX0_init_39 : decode cX0_init 39 = .ok (.aload_n 0, 1) := by decide +kernel
theorem dX0_init_40 : decode cX0_init 40 = .ok (.sipush 4000, 3) := by decide +kernel
theorem dX0_init_43 : decode cX0_init 43 = .ok (.newarray .int, 2) := by decide +kernel
theorem dX0_init_45 : decode cX0_init 45 = .ok (.putfield 22, 3) := by decide +kernel
theorem dX0_init_48 : decode cX0_init 48 = .ok (.aload_n 0, 1) := by decide +kernel
theorem dX0_init_49 : decode cX0_init 49 = .ok (.iconst 4, 1) := by decide +kernel
theorem dX0_init_50 : decode cX0_init 50 = .ok (.newarray .int, 2) := by decide +kernel
theorem dX0_init_52 : decode cX0_init 52 = .ok (.putfield 25, 3) := by decide +kernel
theorem dX0_init_55 : decode cX0_init 55 = .ok (.aload_n 0, 1) := by decide +kernel
theorem dX0_init_56 : decode cX0_init 56 = .ok (.new 28, 3) := by decide +kernel
theorem dX0_init_59 : decode cX0_init 59 = .ok (.dup, 1) := by decide +kernel
theorem dX0_init_60 : decode cX0_init 60 = .ok (.invokespecial 30, 3) := by decide +kernel
theorem dX0_init_63 : decode cX0_init 63 = .ok (.putfield 31, 3) := by decide +kernel
theorem dX0_init_66 : decode cX0_init 66 = .ok (.aload_n 0, 1) := by decide +kernel
theorem dX0_init_67 : decode cX0_init 67 = .ok (.sipush 1000, 3) := by decide +kernel
theorem dX0_init_70 : decode cX0_init 70 = .ok (.newarray .int, 2) := by decide +kernel
theorem dX0_init_72 : decode cX0_init 72 = .ok (.putfield 35, 3) := by decide +kernel
theorem dX0_init_75 : decode cX0_init 75 = .ok (.aload_n 0, 1) := by decide +kernel
theorem dX0_init_76 : decode cX0_init 76 = .ok (.sipush 1000, 3) := by decide +kernel
theorem dX0_init_79 : decode cX0_init 79 = .ok (.newarray .int, 2) := by decide +kernel
theorem dX0_init_81 : decode cX0_init 81 = .ok (.putfield 38, 3) := by decide +kernel
theorem dX0_init_84 : decode cX0_init 84 = .ok (.aload_n 0, 1) := by decide +kernel
theorem dX0_init_85 : decode cX0_init 85 = .ok (.sipush 1000, 3) := by decide +kernel
theorem dX0_init_88 : decode cX0_init 88 = .ok (.anewarray 41, 3) := by decide +kernel
theorem dX0_init_91 : decode cX0_init 91 = .ok (.putfield 43, 3) := by decide +kernel
theorem dX0_init_94 : decode cX0_init 94 = .ok (.aload_n 0, 1) := by decide +kernel
theorem dX0_init_95 : decode cX0_init 95 = .ok (.sipush 1000, 3) := by decide +kernel
theorem dX0_init_98 : decode cX0_init 98 = .ok (.anewarray 47, 3) := by decide +kernel
theorem dX0_init_101 : decode cX0_init 101 = .ok (.putfield 49, 3) := by decide +kernel
theorem dX0_init_104 : decode cX0_init 104 = .ok (.aload_n 0, 1) := by decide +kernel
theorem dX0_init_105 : decode cX0_init 105 = .ok (.bipush 8, 2) := by decide +kernel
theorem dX0_init_107 : decode cX0_init 107 = .ok (.anewarray 53, 3) := by decide +kernel
theorem dX0_init_110 : decode cX0_init 110 = .ok (.putfield 55, 3) := by decide +kernel
theorem dX0_init_113 : decode cX0_init 113 = .ok (.aload_n 0, 1) := by decide +kernel
theorem dX0_init_114 : decode cX0_init 114 = .ok (.new 59, 3) := by decide +kernel
theorem dX0_init_117 : decode cX0_init 117 = .ok (.dup, 1) := by decide +kernel
theorem dX0_init_118 : decode cX0_init 118 = .ok (.aload_n 0, 1) := by decide +kernel
theorem dX0_init_119 : decode cX0_init 119 = .ok (.invokespecial 61, 3) := by decide +kernel
theorem dX0_init_122 : decode cX0_init 122 = .ok (.putfield 64, 3) := by decide +kernel
theorem dX0_init_125 : decode cX0_init 125 = .ok (.aload_n 0, 1) := by decide +kernel
theorem dX0_init_126 : decode cX0_init 126 = .ok (.sipush 1000, 3) := by decide +kernel
theorem dX0_init_129 : decode cX0_init 129 = .ok (.newarray .boolean, 2) := by decide +kernel
theorem dX0_init_131 : decode cX0_init 131 = .ok (.putfield 68, 3) := by decide +kernel
theorem dX0_init_134 : decode cX0_init 134 = .ok (.iconst 0, 1) := by decide +kernel
theorem dX0_init_135 : decode cX0_init 135 = .ok (.istore_n 1, 1) := by decide +kernel
theorem dX0_init_136 : decode cX0_init 136 = .ok (.iload_n 1, 1) := by decide +kernel
theorem dX0_init_137 : decode cX0_init 137 = .ok (.bipush 16, 2) := by decide +kernel
theorem dX0_init_139 : decode cX0_init 139 = .ok (.if_icmp .ge 16, 3) := by decide +kernel
theorem dX0_init_142 : decode cX0_init 142 = .ok (.aload_n 0, 1) := by decide +kernel
theorem dX0_init_143 : decode cX0_init 143 = .ok (.getfield 3, 3) := by decide +kernel
theorem dX0_init_146 : decode cX0_init 146 = .ok (.iload_n 1, 1) := by decide +kernel
theorem dX0_init_147 : decode cX0_init 147 = .ok (.iconst (-1), 1) := by decide +kernel
theorem dX0_init_148 : decode cX0_init 148 = .ok (.iastore, 1) := by decide +kernel
theorem dX0_init_149 : decode cX0_init 149 = .ok (.iinc 1 1, 3) := by decide +kernel
theorem dX0_init_152 : decode cX0_init 152 = .ok (.goto (-16), 3) := by decide +kernel
theorem dX0_init_155 : decode cX0_init 155 = .ok (.iconst 0, 1) := by decide +kernel
theorem dX0_init_156 : decode cX0_init 156 = .ok (.istore_n 1, 1) := by decide +kernel
theorem dX0_init_157 : decode cX0_init 157 = .ok (.iload_n 1, 1) := by decide +kernel
theorem dX0_init_158 : decode cX0_init 158 = .ok (.bipush 8, 2) := by decide +kernel
theorem dX0_init_160 : decode cX0_init 160 = .ok (.if_icmp .ge 23, 3) := by decide +kernel
theorem dX0_init_163 : decode cX0_init 163 = .ok (.aload_n 0, 1) := by decide +kernel
theorem dX0_init_164 : decode cX0_init 164 = .ok (.getfield 55, 3) := by decide +kernel
theorem dX0_init_167 : decode cX0_init 167 = .ok (.iload_n 1, 1) := by decide +kernel
theorem dX0_init_168 : decode cX0_init 168 = .ok (.new 53, 3) := by decide +kernel
theorem dX0_init_171 : decode cX0_init 171 = .ok (.dup, 1) := by decide +kernel
theorem dX0_init_172 : decode cX0_init 172 = .ok (.aload_n 0, 1) := by decide +kernel
theorem dX0_init_173 : decode cX0_init 173 = .ok (.invokespecial 72, 3) := by decide +kernel
theorem dX0_init_176 : decode cX0_init 176 = .ok (.aastore, 1) := by decide +kernel
theorem dX0_init_177 : decode cX0_init 177 = .ok (.iinc 1 1, 3) := by decide +kernel
theorem dX0_init_180 : decode cX0_init 180 = .ok (.goto (-23), 3) := by decide +kernel
theorem dX0_init_183 : decode cX0_init 183 = .ok (.return_, 1) := by decide +kernel
abbrev cX0_parent : ByteArray := prog_1_method_5_code
def yX0_parent : MethodName := ⟨RX0, "parent", "(II)I"⟩
theorem dX0_parent_0 : decode cX0_parent 0 = .ok (.iload_n 1, 1) := by decide +kernel
theorem dX0_parent_1 : decode cX0_parent 1 = .ok (.iconst 0, 1) := by decide +kernel
theorem dX0_parent_2 : decode cX0_parent 2 = .ok (.bipush 15, 2) := by decide +kernel
theorem dX0_parent_4 : decode cX0_parent 4 = .ok (.invokestatic 77, 3) := by decide +kernel
theorem dX0_parent_7 : decode cX0_parent 7 = .ok (.ifCond .eq 14, 3) := by decide +kernel
theorem dX0_parent_10 : decode cX0_parent 10 = .ok (.iload_n 2, 1) := by decide +kernel
theorem dX0_parent_11 : decode cX0_parent 11 = .ok (.iconst (-1), 1) := by decide +kernel
theorem dX0_parent_12 : decode cX0_parent 12 = .ok (.iload_n 1, 1) := by decide +kernel
theorem dX0_parent_13 : decode cX0_parent 13 = .ok (.iconst 1, 1) := by decide +kernel
theorem dX0_parent_14 : decode cX0_parent 14 = .ok (.isub, 1) := by decide +kernel
theorem dX0_parent_15 : decode cX0_parent 15 = .ok (.invokestatic 77, 3) := by decide +kernel
theorem dX0_parent_18 : decode cX0_parent 18 = .ok (.ifCond .ne 6, 3) := by decide +kernel
theorem dX0_parent_21 : decode cX0_parent 21 = .ok (.bipush (-2), 2) := by decide +kernel
theorem dX0_parent_23 : decode cX0_parent 23 = .ok (.ireturn, 1) := by decide +kernel
theorem dX0_parent_24 : decode cX0_parent 24 = .ok (.iconst 0, 1) := by decide +kernel
theorem dX0_parent_25 : decode cX0_parent 25 = .ok (.istore_n 3, 1) := by decide +kernel
theorem dX0_parent_26 : decode cX0_parent 26 = .ok (.iload_n 3, 1) := by decide +kernel
theorem dX0_parent_27 : decode cX0_parent 27 = .ok (.aload_n 0, 1) := by decide +kernel
theorem dX0_parent_28 : decode cX0_parent 28 = .ok (.getfield 73, 3) := by decide +kernel
theorem dX0_parent_31 : decode cX0_parent 31 = .ok (.if_icmp .ge 24, 3) := by decide +kernel
theorem dX0_parent_34 : decode cX0_parent 34 = .ok (.aload_n 0, 1) := by decide +kernel
theorem dX0_parent_35 : decode cX0_parent 35 = .ok (.getfield 55, 3) := by decide +kernel
theorem dX0_parent_38 : decode cX0_parent 38 = .ok (.iload_n 3, 1) := by decide +kernel
theorem dX0_parent_39 : decode cX0_parent 39 = .ok (.aaload, 1) := by decide +kernel
theorem dX0_parent_40 : decode cX0_parent 40 = .ok (.getfield 81, 3) := by decide +kernel
theorem dX0_parent_43 : decode cX0_parent 43 = .ok (.ifCond .eq 6, 3) := by decide +kernel
theorem dX0_parent_46 : decode cX0_parent 46 = .ok (.bipush (-3), 2) := by decide +kernel
theorem dX0_parent_48 : decode cX0_parent 48 = .ok (.ireturn, 1) := by decide +kernel
theorem dX0_parent_49 : decode cX0_parent 49 = .ok (.iinc 3 1, 3) := by decide +kernel
theorem dX0_parent_52 : decode cX0_parent 52 = .ok (.goto (-26), 3) := by decide +kernel
theorem dX0_parent_55 : decode cX0_parent 55 = .ok (.aload_n 0, 1) := by decide +kernel
theorem dX0_parent_56 : decode cX0_parent 56 = .ok (.getfield 3, 3) := by decide +kernel
theorem dX0_parent_59 : decode cX0_parent 59 = .ok (.iload_n 1, 1) := by decide +kernel
theorem dX0_parent_60 : decode cX0_parent 60 = .ok (.iaload, 1) := by decide +kernel
theorem dX0_parent_61 : decode cX0_parent 61 = .ok (.istore_n 3, 1) := by decide +kernel
theorem dX0_parent_62 : decode cX0_parent 62 = .ok (.aload_n 0, 1) := by decide +kernel
theorem dX0_parent_63 : decode cX0_parent 63 = .ok (.getfield 3, 3) := by decide +kernel
theorem dX0_parent_66 : decode cX0_parent 66 = .ok (.iload_n 1, 1) := by decide +kernel
theorem dX0_parent_67 : decode cX0_parent 67 = .ok (.iload_n 2, 1) := by decide +kernel
theorem dX0_parent_68 : decode cX0_parent 68 = .ok (.iastore, 1) := by decide +kernel
theorem dX0_parent_69 : decode cX0_parent 69 = .ok (.iload_n 3, 1) := by decide +kernel
theorem dX0_parent_70 : decode cX0_parent 70 = .ok (.ireturn, 1) := by decide +kernel
abbrev cX0_within : ByteArray := prog_1_method_1_code
def yX0_within : MethodName := ⟨RX0, "within", "(III)Z"⟩
theorem dX0_within_0 : decode cX0_within 0 = .ok (.iload_n 0, 1) := by decide +kernel
theorem dX0_within_1 : decode cX0_within 1 = .ok (.iload_n 1, 1) := by decide +kernel
theorem dX0_within_2 : decode cX0_within 2 = .ok (.if_icmp .lt 12, 3) := by decide +kernel
theorem dX0_within_5 : decode cX0_within 5 = .ok (.iload_n 0, 1) := by decide +kernel
theorem dX0_within_6 : decode cX0_within 6 = .ok (.iload_n 2, 1) := by decide +kernel
theorem dX0_within_7 : decode cX0_within 7 = .ok (.if_icmp .gt 7, 3) := by decide +kernel
theorem dX0_within_10 : decode cX0_within 10 = .ok (.iconst 1, 1) := by decide +kernel
theorem dX0_within_11 : decode cX0_within 11 = .ok (.goto 4, 3) := by decide +kernel
theorem dX0_within_14 : decode cX0_within 14 = .ok (.iconst 0, 1) := by decide +kernel
theorem dX0_within_15 : decode cX0_within 15 = .ok (.ireturn, 1) := by decide +kernel
abbrev cX0_pattern : ByteArray := prog_1_method_6_code
def yX0_pattern : MethodName := ⟨RX0, "pattern", "(III)I"⟩
theorem dX0_pattern_0 : decode cX0_pattern 0 = .ok (.iload_n 1, 1) := by decide +kernel
theorem dX0_pattern_1 : decode cX0_pattern 1 = .ok (.iconst 1, 1) := by decide +kernel
theorem dX0_pattern_2 : decode cX0_pattern 2 = .ok (.sipush 1000, 3) := by decide +kernel
theorem dX0_pattern_5 : decode cX0_pattern 5 = .ok (.invokestatic 77, 3) := by decide +kernel
theorem dX0_pattern_8 : decode cX0_pattern 8 = .ok (.ifCond .eq 21, 3) := by decide +kernel
theorem dX0_pattern_11 : decode cX0_pattern 11 = .ok (.iload_n 2, 1) := by decide +kernel
theorem dX0_pattern_12 : decode cX0_pattern 12 = .ok (.iconst 0, 1) := by decide +kernel
theorem dX0_pattern_13 : decode cX0_pattern 13 = .ok (.iconst 1, 1) := by decide +kernel
theorem dX0_pattern_14 : decode cX0_pattern 14 = .ok (.invokestatic 77, 3) := by decide +kernel
theorem dX0_pattern_17 : decode cX0_pattern 17 = .ok (.ifCond .eq 12, 3) := by decide +kernel
theorem dX0_pattern_20 : decode cX0_pattern 20 = .ok (.iload_n 3, 1) := by decide +kernel
theorem dX0_pattern_21 : decode cX0_pattern 21 = .ok (.iconst (-1), 1) := by decide +kernel
theorem dX0_pattern_22 : decode cX0_pattern 22 = .ok (.iconst 3, 1) := by decide +kernel
theorem dX0_pattern_23 : decode cX0_pattern 23 = .ok (.invokestatic 77, 3) := by decide +kernel
theorem dX0_pattern_26 : decode cX0_pattern 26 = .ok (.ifCond .ne 5, 3) := by decide +kernel
theorem dX0_pattern_29 : decode cX0_pattern 29 = .ok (.iconst (-1), 1) := by decide +kernel
theorem dX0_pattern_30 : decode cX0_pattern 30 = .ok (.ireturn, 1) := by decide +kernel
theorem dX0_pattern_31 : decode cX0_pattern 31 = .ok (.aload_n 0, 1) := by decide +kernel
theorem dX0_pattern_32 : decode cX0_pattern 32 = .ok (.getfield 73, 3) := by decide +kernel
theorem dX0_pattern_35 : decode cX0_pattern 35 = .ok (.bipush 8, 2) := by decide +kernel
theorem dX0_pattern_37 : decode cX0_pattern 37 = .ok (.if_icmp .ne 6, 3) := by decide +kernel
theorem dX0_pattern_40 : decode cX0_pattern 40 = .ok (.bipush (-4), 2) := by decide +kernel
theorem dX0_pattern_42 : decode cX0_pattern 42 = .ok (.ireturn, 1) := by decide +kernel
theorem dX0_pattern_43 : decode cX0_pattern 43 = .ok (.aload_n 0, 1) := by decide +kernel
theorem dX0_pattern_44 : decode cX0_pattern 44 = .ok (.getfield 55, 3) := by decide +kernel
theorem dX0_pattern_47 : decode cX0_pattern 47 = .ok (.aload_n 0, 1) := by decide +kernel
theorem dX0_pattern_48 : decode cX0_pattern 48 = .ok (.getfield 73, 3) := by decide +kernel
theorem dX0_pattern_51 : decode cX0_pattern 51 = .ok (.aaload, 1) := by decide +kernel
theorem dX0_pattern_52 : decode cX0_pattern 52 = .ok (.astore 4, 2) := by decide +kernel
theorem dX0_pattern_54 : decode cX0_pattern 54 = .ok (.aload 4, 2) := by decide +kernel
theorem dX0_pattern_56 : decode cX0_pattern 56 = .ok (.iload_n 1, 1) := by decide +kernel
theorem dX0_pattern_57 : decode cX0_pattern 57 = .ok (.putfield 85, 3) := by decide +kernel
theorem dX0_pattern_60 : decode cX0_pattern 60 = .ok (.aload 4, 2) := by decide +kernel
theorem dX0_pattern_62 : decode cX0_pattern 62 = .ok (.iload_n 2, 1) := by decide +kernel
theorem dX0_pattern_63 : decode cX0_pattern 63 = .ok (.putfield 87, 3) := by decide +kernel
theorem dX0_pattern_66 : decode cX0_pattern 66 = .ok (.aload 4, 2) := by decide +kernel
theorem dX0_pattern_68 : decode cX0_pattern 68 = .ok (.iload_n 3, 1) := by decide +kernel
theorem dX0_pattern_69 : decode cX0_pattern 69 = .ok (.putfield 90, 3) := by decide +kernel
theorem dX0_pattern_72 : decode cX0_pattern 72 = .ok (.aload_n 0, 1) := by decide +kernel
theorem dX0_pattern_73 : decode cX0_pattern 73 = .ok (.dup, 1) := by decide +kernel
theorem dX0_pattern_74 : decode cX0_pattern 74 = .ok (.getfield 73, 3) := by decide +kernel
theorem dX0_pattern_77 : decode cX0_pattern 77 = .ok (.dup_x1, 1) := by decide +kernel
theorem dX0_pattern_78 : decode cX0_pattern 78 = .ok (.iconst 1, 1) := by decide +kernel
theorem dX0_pattern_79 : decode cX0_pattern 79 = .ok (.iadd, 1) := by decide +kernel
theorem dX0_pattern_80 : decode cX0_pattern 80 = .ok (.putfield 73, 3) := by decide +kernel
theorem dX0_pattern_83 : decode cX0_pattern 83 = .ok (.ireturn, 1) := by decide +kernel
abbrev cX0_step : ByteArray := prog_1_method_8_code
def yX0_step : MethodName := ⟨RX0, "step", "(IIIIII)I"⟩
theorem dX0_step_0 : decode cX0_step 0 = .ok (.aload_n 0, 1) := by decide +kernel
theorem dX0_step_1 : decode cX0_step 1 = .ok (.iload_n 1, 1) := by decide +kernel
theorem dX0_step_2 : decode cX0_step 2 = .ok (.invokevirtual 99, 3) := by decide +kernel
theorem dX0_step_5 : decode cX0_step 5 = .ok (.ifCond .eq 33, 3) := by decide +kernel
theorem dX0_step_8 : decode cX0_step 8 = .ok (.iload_n 2, 1) := by decide +kernel
theorem dX0_step_9 : decode cX0_step 9 = .ok (.iconst 0, 1) := by decide +kernel
theorem dX0_step_10 : decode cX0_step 10 = .ok (.iconst 3, 1) := by decide +kernel
theorem dX0_step_11 : decode cX0_step 11 = .ok (.invokestatic 77, 3) := by decide +kernel
theorem dX0_step_14 : decode cX0_step 14 = .ok (.ifCond .eq 24, 3) := by decide +kernel
theorem dX0_step_17 : decode cX0_step 17 = .ok (.iload_n 3, 1) := by decide +kernel
theorem dX0_step_18 : decode cX0_step 18 = .ok (.iconst 0, 1) := by decide +kernel
theorem dX0_step_19 : decode cX0_step 19 = .ok (.bipush 15, 2) := by decide +kernel
theorem dX0_step_21 : decode cX0_step 21 = .ok (.invokestatic 77, 3) := by decide +kernel
theorem dX0_step_24 : decode cX0_step 24 = .ok (.ifCond .eq 14, 3) := by decide +kernel
theorem dX0_step_27 : decode cX0_step 27 = .ok (.iload 4, 2) := by decide +kernel
theorem dX0_step_29 : decode cX0_step 29 = .ok (.iconst 0, 1) := by decide +kernel
theorem dX0_step_30 : decode cX0_step 30 = .ok (.bipush 6, 2) := by decide +kernel
theorem dX0_step_32 : decode cX0_step 32 = .ok (.invokestatic 77, 3) := by decide +kernel
theorem dX0_step_35 : decode cX0_step 35 = .ok (.ifCond .ne 5, 3) := by decide +kernel
theorem dX0_step_38 : decode cX0_step 38 = .ok (.iconst (-1), 1) := by decide +kernel
theorem dX0_step_39 : decode cX0_step 39 = .ok (.ireturn, 1) := by decide +kernel
theorem dX0_step_40 : decode cX0_step 40 = .ok (.aload_n 0, 1) := by decide +kernel
theorem dX0_step_41 : decode cX0_step 41 = .ok (.getfield 55, 3) := by decide +kernel
theorem dX0_step_44 : decode cX0_step 44 = .ok (.iload_n 1, 1) := by decide +kernel
theorem dX0_step_45 : decode cX0_step 45 = .ok (.aaload, 1) := by decide +kernel
theorem dX0_step_46 : decode cX0_step 46 = .ok (.astore 7, 2) := by decide +kernel
theorem dX0_step_48 : decode cX0_step 48 = .ok (.iload 4, 2) := by decide +kernel
theorem dX0_step_50 : decode cX0_step 50 = .ok (.ifCond .le 54, 3) := by decide +kernel
theorem dX0_step_53 : decode cX0_step 53 = .ok (.iload 5, 2) := by decide +kernel
theorem dX0_step_55 : decode cX0_step 55 = .ok (.iconst 0, 1) := by decide +kernel
theorem dX0_step_56 : decode cX0_step 56 = .ok (.iconst 3, 1) := by decide +kernel
theorem dX0_step_57 : decode cX0_step 57 = .ok (.invokestatic 77, 3) := by decide +kernel
theorem dX0_step_60 : decode cX0_step 60 = .ok (.ifCond .eq 42, 3) := by decide +kernel
theorem dX0_step_63 : decode cX0_step 63 = .ok (.iload 4, 2) := by decide +kernel
theorem dX0_step_65 : decode cX0_step 65 = .ok (.iconst 4, 1) := by decide +kernel
theorem dX0_step_66 : decode cX0_step 66 = .ok (.if_icmp .ge 20, 3) := by decide +kernel
theorem dX0_step_69 : decode cX0_step 69 = .ok (.iload 6, 2) := by decide +kernel
theorem dX0_step_71 : decode cX0_step 71 = .ok (.sipush (-1000), 3) := by decide +kernel
theorem dX0_step_74 : decode cX0_step 74 = .ok (.sipush 1000, 3) := by decide +kernel
theorem dX0_step_77 : decode cX0_step 77 = .ok (.invokestatic 77, 3) := by decide +kernel
theorem dX0_step_80 : decode cX0_step 80 = .ok (.ifCond .eq 22, 3) := by decide +kernel
theorem dX0_step_83 : decode cX0_step 83 = .ok (.goto 21, 3) := by decide +kernel
theorem dX0_step_86 : decode cX0_step 86 = .ok (.iload 6, 2) := by decide +kernel
theorem dX0_step_88 : decode cX0_step 88 = .ok (.iconst 0, 1) := by decide +kernel
theorem dX0_step_89 : decode cX0_step 89 = .ok (.aload 7, 2) := by decide +kernel
theorem dX0_step_91 : decode cX0_step 91 = .ok (.getfield 93, 3) := by decide +kernel
theorem dX0_step_94 : decode cX0_step 94 = .ok (.iconst 1, 1) := by decide +kernel
theorem dX0_step_95 : decode cX0_step 95 = .ok (.isub, 1) := by decide +kernel
theorem dX0_step_96 : decode cX0_step 96 = .ok (.invokestatic 77, 3) := by decide +kernel
theorem dX0_step_99 : decode cX0_step 99 = .ok (.ifCond .ne 5, 3) := by decide +kernel
theorem dX0_step_102 : decode cX0_step 102 = .ok (.iconst (-1), 1) := by decide +kernel
theorem dX0_step_103 : decode cX0_step 103 = .ok (.ireturn, 1) := by decide +kernel
theorem dX0_step_104 : decode cX0_step 104 = .ok (.aload 7, 2) := by decide +kernel
theorem dX0_step_106 : decode cX0_step 106 = .ok (.iload_n 2, 1) := by decide +kernel
theorem dX0_step_107 : decode cX0_step 107 = .ok (.invokestatic 103, 3) := by decide +kernel
theorem dX0_step_110 : decode cX0_step 110 = .ok (.ifCond .ne 5, 3) := by decide +kernel
theorem dX0_step_113 : decode cX0_step 113 = .ok (.iconst (-1), 1) := by decide +kernel
theorem dX0_step_114 : decode cX0_step 114 = .ok (.ireturn, 1) := by decide +kernel
theorem dX0_step_115 : decode cX0_step 115 = .ok (.aload 7, 2) := by decide +kernel
theorem dX0_step_117 : decode cX0_step 117 = .ok (.getfield 81, 3) := by decide +kernel
theorem dX0_step_120 : decode cX0_step 120 = .ok (.ifCond .eq 6, 3) := by decide +kernel
theorem dX0_step_123 : decode cX0_step 123 = .ok (.bipush (-3), 2) := by decide +kernel
theorem dX0_step_125 : decode cX0_step 125 = .ok (.ireturn, 1) := by decide +kernel
theorem dX0_step_126 : decode cX0_step 126 = .ok (.aload 7, 2) := by decide +kernel
theorem dX0_step_128 : decode cX0_step 128 = .ok (.getfield 93, 3) := by decide +kernel
theorem dX0_step_131 : decode cX0_step 131 = .ok (.bipush 6, 2) := by decide +kernel
theorem dX0_step_133 : decode cX0_step 133 = .ok (.if_icmp .ne 6, 3) := by decide +kernel
theorem dX0_step_136 : decode cX0_step 136 = .ok (.bipush (-4), 2) := by decide +kernel
theorem dX0_step_138 : decode cX0_step 138 = .ok (.ireturn, 1) := by decide +kernel
theorem dX0_step_139 : decode cX0_step 139 = .ok (.aload 7, 2) := by decide +kernel
theorem dX0_step_141 : decode cX0_step 141 = .ok (.getfield 93, 3) := by decide +kernel
theorem dX0_step_144 : decode cX0_step 144 = .ok (.ifCond .ne 12, 3) := by decide +kernel
theorem dX0_step_147 : decode cX0_step 147 = .ok (.aload 7, 2) := by decide +kernel
theorem dX0_step_149 : decode cX0_step 149 = .ok (.aload_n 0, 1) := by decide +kernel
theorem dX0_step_150 : decode cX0_step 150 = .ok (.getfield 107, 3) := by decide +kernel
theorem dX0_step_153 : decode cX0_step 153 = .ok (.putfield 110, 3) := by decide +kernel
theorem dX0_step_156 : decode cX0_step 156 = .ok (.aload 7, 2) := by decide +kernel
theorem dX0_step_158 : decode cX0_step 158 = .ok (.getfield 96, 3) := by decide +kernel
theorem dX0_step_161 : decode cX0_step 161 = .ok (.aload 7, 2) := by decide +kernel
theorem dX0_step_163 : decode cX0_step 163 = .ok (.getfield 93, 3) := by decide +kernel
theorem dX0_step_166 : decode cX0_step 166 = .ok (.iload_n 2, 1) := by decide +kernel
theorem dX0_step_167 : decode cX0_step 167 = .ok (.iastore, 1) := by decide +kernel
theorem dX0_step_168 : decode cX0_step 168 = .ok (.aload 7, 2) := by decide +kernel
theorem dX0_step_170 : decode cX0_step 170 = .ok (.getfield 113, 3) := by decide +kernel
theorem dX0_step_173 : decode cX0_step 173 = .ok (.aload 7, 2) := by decide +kernel
theorem dX0_step_175 : decode cX0_step 175 = .ok (.getfield 93, 3) := by decide +kernel
theorem dX0_step_178 : decode cX0_step 178 = .ok (.iload_n 3, 1) := by decide +kernel
theorem dX0_step_179 : decode cX0_step 179 = .ok (.iastore, 1) := by decide +kernel
theorem dX0_step_180 : decode cX0_step 180 = .ok (.aload 7, 2) := by decide +kernel
theorem dX0_step_182 : decode cX0_step 182 = .ok (.getfield 116, 3) := by decide +kernel
theorem dX0_step_185 : decode cX0_step 185 = .ok (.aload 7, 2) := by decide +kernel
theorem dX0_step_187 : decode cX0_step 187 = .ok (.getfield 93, 3) := by decide +kernel
theorem dX0_step_190 : decode cX0_step 190 = .ok (.iload 4, 2) := by decide +kernel
theorem dX0_step_192 : decode cX0_step 192 = .ok (.iastore, 1) := by decide +kernel
theorem dX0_step_193 : decode cX0_step 193 = .ok (.aload 7, 2) := by decide +kernel
theorem dX0_step_195 : decode cX0_step 195 = .ok (.getfield 119, 3) := by decide +kernel
theorem dX0_step_198 : decode cX0_step 198 = .ok (.aload 7, 2) := by decide +kernel
theorem dX0_step_200 : decode cX0_step 200 = .ok (.getfield 93, 3) := by decide +kernel
theorem dX0_step_203 : decode cX0_step 203 = .ok (.iload 4, 2) := by decide +kernel
theorem dX0_step_205 : decode cX0_step 205 = .ok (.ifCond .le 8, 3) := by decide +kernel
theorem dX0_step_208 : decode cX0_step 208 = .ok (.iload 5, 2) := by decide +kernel
theorem dX0_step_210 : decode cX0_step 210 = .ok (.goto 4, 3) := by decide +kernel
theorem dX0_step_213 : decode cX0_step 213 = .ok (.iconst 0, 1) := by decide +kernel
theorem dX0_step_214 : decode cX0_step 214 = .ok (.iastore, 1) := by decide +kernel
theorem dX0_step_215 : decode cX0_step 215 = .ok (.aload 7, 2) := by decide +kernel
theorem dX0_step_217 : decode cX0_step 217 = .ok (.getfield 122, 3) := by decide +kernel
theorem dX0_step_220 : decode cX0_step 220 = .ok (.aload 7, 2) := by decide +kernel
theorem dX0_step_222 : decode cX0_step 222 = .ok (.getfield 93, 3) := by decide +kernel
theorem dX0_step_225 : decode cX0_step 225 = .ok (.iload 4, 2) := by decide +kernel
theorem dX0_step_227 : decode cX0_step 227 = .ok (.ifCond .le 8, 3) := by decide +kernel
theorem dX0_step_230 : decode cX0_step 230 = .ok (.iload 6, 2) := by decide +kernel
theorem dX0_step_232 : decode cX0_step 232 = .ok (.goto 4, 3) := by decide +kernel
theorem dX0_step_235 : decode cX0_step 235 = .ok (.iconst 0, 1) := by decide +kernel
theorem dX0_step_236 : decode cX0_step 236 = .ok (.iastore, 1) := by decide +kernel
theorem dX0_step_237 : decode cX0_step 237 = .ok (.aload 7, 2) := by decide +kernel
theorem dX0_step_239 : decode cX0_step 239 = .ok (.dup, 1) := by decide +kernel
theorem dX0_step_240 : decode cX0_step 240 = .ok (.getfield 93, 3) := by decide +kernel
theorem dX0_step_243 : decode cX0_step 243 = .ok (.dup_x1, 1) := by decide +kernel
theorem dX0_step_244 : decode cX0_step 244 = .ok (.iconst 1, 1) := by decide +kernel
theorem dX0_step_245 : decode cX0_step 245 = .ok (.iadd, 1) := by decide +kernel
theorem dX0_step_246 : decode cX0_step 246 = .ok (.putfield 93, 3) := by decide +kernel
theorem dX0_step_249 : decode cX0_step 249 = .ok (.ireturn, 1) := by decide +kernel
abbrev cX0_isPattern : ByteArray := prog_1_method_4_code
def yX0_isPattern : MethodName := ⟨RX0, "isPattern", "(I)Z"⟩
theorem dX0_isPattern_0 : decode cX0_isPattern 0 = .ok (.iload_n 1, 1) := by decide +kernel
theorem dX0_isPattern_1 : decode cX0_isPattern 1 = .ok (.iconst 0, 1) := by decide +kernel
theorem dX0_isPattern_2 : decode cX0_isPattern 2 = .ok (.aload_n 0, 1) := by decide +kernel
theorem dX0_isPattern_3 : decode cX0_isPattern 3 = .ok (.getfield 73, 3) := by decide +kernel
theorem dX0_isPattern_6 : decode cX0_isPattern 6 = .ok (.iconst 1, 1) := by decide +kernel
theorem dX0_isPattern_7 : decode cX0_isPattern 7 = .ok (.isub, 1) := by decide +kernel
theorem dX0_isPattern_8 : decode cX0_isPattern 8 = .ok (.invokestatic 77, 3) := by decide +kernel
theorem dX0_isPattern_11 : decode cX0_isPattern 11 = .ok (.ireturn, 1) := by decide +kernel
abbrev cX0_mayStand : ByteArray := prog_1_method_7_code
def yX0_mayStand : MethodName := ⟨RX0, "mayStand", "(LEventHunter$Pattern;I)Z"⟩
theorem dX0_mayStand_0 : decode cX0_mayStand 0 = .ok (.aload_n 0, 1) := by decide +kernel
theorem dX0_mayStand_1 : decode cX0_mayStand 1 = .ok (.getfield 93, 3) := by decide +kernel
theorem dX0_mayStand_4 : decode cX0_mayStand 4 = .ok (.ifCond .ne 18, 3) := by decide +kernel
theorem dX0_mayStand_7 : decode cX0_mayStand 7 = .ok (.iload_n 1, 1) := by decide +kernel
theorem dX0_mayStand_8 : decode cX0_mayStand 8 = .ok (.ifCond .eq 8, 3) := by decide +kernel
theorem dX0_mayStand_11 : decode cX0_mayStand 11 = .ok (.iload_n 1, 1) := by decide +kernel
theorem dX0_mayStand_12 : decode cX0_mayStand 12 = .ok (.iconst 1, 1) := by decide +kernel
theorem dX0_mayStand_13 : decode cX0_mayStand 13 = .ok (.if_icmp .ne 7, 3) := by decide +kernel
theorem dX0_mayStand_16 : decode cX0_mayStand 16 = .ok (.iconst 1, 1) := by decide +kernel
theorem dX0_mayStand_17 : decode cX0_mayStand 17 = .ok (.goto 4, 3) := by decide +kernel
theorem dX0_mayStand_20 : decode cX0_mayStand 20 = .ok (.iconst 0, 1) := by decide +kernel
theorem dX0_mayStand_21 : decode cX0_mayStand 21 = .ok (.ireturn, 1) := by decide +kernel
theorem dX0_mayStand_22 : decode cX0_mayStand 22 = .ok (.aload_n 0, 1) := by decide +kernel
theorem dX0_mayStand_23 : decode cX0_mayStand 23 = .ok (.getfield 96, 3) := by decide +kernel
theorem dX0_mayStand_26 : decode cX0_mayStand 26 = .ok (.aload_n 0, 1) := by decide +kernel
theorem dX0_mayStand_27 : decode cX0_mayStand 27 = .ok (.getfield 93, 3) := by decide +kernel
theorem dX0_mayStand_30 : decode cX0_mayStand 30 = .ok (.iconst 1, 1) := by decide +kernel
theorem dX0_mayStand_31 : decode cX0_mayStand 31 = .ok (.isub, 1) := by decide +kernel
theorem dX0_mayStand_32 : decode cX0_mayStand 32 = .ok (.iaload, 1) := by decide +kernel
theorem dX0_mayStand_33 : decode cX0_mayStand 33 = .ok (.istore_n 2, 1) := by decide +kernel
theorem dX0_mayStand_34 : decode cX0_mayStand 34 = .ok (.iload_n 1, 1) := by decide +kernel
theorem dX0_mayStand_35 : decode cX0_mayStand 35 = .ok (.iconst 3, 1) := by decide +kernel
theorem dX0_mayStand_36 : decode cX0_mayStand 36 = .ok (.if_icmp .ne 20, 3) := by decide +kernel
theorem dX0_mayStand_39 : decode cX0_mayStand 39 = .ok (.iload_n 2, 1) := by decide +kernel
theorem dX0_mayStand_40 : decode cX0_mayStand 40 = .ok (.ifCond .eq 8, 3) := by decide +kernel
theorem dX0_mayStand_43 : decode cX0_mayStand 43 = .ok (.iload_n 2, 1) := by decide +kernel
theorem dX0_mayStand_44 : decode cX0_mayStand 44 = .ok (.iconst 1, 1) := by decide +kernel
theorem dX0_mayStand_45 : decode cX0_mayStand 45 = .ok (.if_icmp .ne 7, 3) := by decide +kernel
theorem dX0_mayStand_48 : decode cX0_mayStand 48 = .ok (.iconst 1, 1) := by decide +kernel
theorem dX0_mayStand_49 : decode cX0_mayStand 49 = .ok (.goto 22, 3) := by decide +kernel
theorem dX0_mayStand_52 : decode cX0_mayStand 52 = .ok (.iconst 0, 1) := by decide +kernel
theorem dX0_mayStand_53 : decode cX0_mayStand 53 = .ok (.goto 18, 3) := by decide +kernel
theorem dX0_mayStand_56 : decode cX0_mayStand 56 = .ok (.iload_n 1, 1) := by decide +kernel
theorem dX0_mayStand_57 : decode cX0_mayStand 57 = .ok (.iconst 2, 1) := by decide +kernel
theorem dX0_mayStand_58 : decode cX0_mayStand 58 = .ok (.if_icmp .ne 8, 3) := by decide +kernel
theorem dX0_mayStand_61 : decode cX0_mayStand 61 = .ok (.iload_n 2, 1) := by decide +kernel
theorem dX0_mayStand_62 : decode cX0_mayStand 62 = .ok (.iconst 3, 1) := by decide +kernel
theorem dX0_mayStand_63 : decode cX0_mayStand 63 = .ok (.if_icmp .eq 7, 3) := by decide +kernel
theorem dX0_mayStand_66 : decode cX0_mayStand 66 = .ok (.iconst 1, 1) := by decide +kernel
theorem dX0_mayStand_67 : decode cX0_mayStand 67 = .ok (.goto 4, 3) := by decide +kernel
theorem dX0_mayStand_70 : decode cX0_mayStand 70 = .ok (.iconst 0, 1) := by decide +kernel
theorem dX0_mayStand_71 : decode cX0_mayStand 71 = .ok (.ireturn, 1) := by decide +kernel
abbrev cX0_put : ByteArray := prog_1_method_10_code
def yX0_put : MethodName := ⟨RX0, "put", "(III)I"⟩
theorem dX0_put_0 : decode cX0_put 0 = .ok (.iload_n 1, 1) := by decide +kernel
theorem dX0_put_1 : decode cX0_put 1 = .ok (.iconst 0, 1) := by decide +kernel
theorem dX0_put_2 : decode cX0_put 2 = .ok (.bipush 15, 2) := by decide +kernel
theorem dX0_put_4 : decode cX0_put 4 = .ok (.invokestatic 77, 3) := by decide +kernel
theorem dX0_put_7 : decode cX0_put 7 = .ok (.ifCond .eq 24, 3) := by decide +kernel
theorem dX0_put_10 : decode cX0_put 10 = .ok (.iload_n 2, 1) := by decide +kernel
theorem dX0_put_11 : decode cX0_put 11 = .ok (.iconst 0, 1) := by decide +kernel
theorem dX0_put_12 : decode cX0_put 12 = .ok (.ldc 125, 2) := by decide +kernel
theorem dX0_put_14 : decode cX0_put 14 = .ok (.invokestatic 77, 3) := by decide +kernel
theorem dX0_put_17 : decode cX0_put 17 = .ok (.ifCond .eq 14, 3) := by decide +kernel
theorem dX0_put_20 : decode cX0_put 20 = .ok (.iload_n 3, 1) := by decide +kernel
theorem dX0_put_21 : decode cX0_put 21 = .ok (.iconst 0, 1) := by decide +kernel
theorem dX0_put_22 : decode cX0_put 22 = .ok (.sipush 9999, 3) := by decide +kernel
theorem dX0_put_25 : decode cX0_put 25 = .ok (.invokestatic 77, 3) := by decide +kernel
theorem dX0_put_28 : decode cX0_put 28 = .ok (.ifCond .ne 5, 3) := by decide +kernel
theorem dX0_put_31 : decode cX0_put 31 = .ok (.iconst (-1), 1) := by decide +kernel
theorem dX0_put_32 : decode cX0_put 32 = .ok (.ireturn, 1) := by decide +kernel
theorem dX0_put_33 : decode cX0_put 33 = .ok (.iload_n 2, 1) := by decide +kernel
theorem dX0_put_34 : decode cX0_put 34 = .ok (.aload_n 0, 1) := by decide +kernel
theorem dX0_put_35 : decode cX0_put 35 = .ok (.getfield 126, 3) := by decide +kernel
theorem dX0_put_38 : decode cX0_put 38 = .ok (.if_icmp .ge 15, 3) := by decide +kernel
theorem dX0_put_41 : decode cX0_put 41 = .ok (.aload_n 0, 1) := by decide +kernel
theorem dX0_put_42 : decode cX0_put 42 = .ok (.dup, 1) := by decide +kernel
theorem dX0_put_43 : decode cX0_put 43 = .ok (.getfield 129, 3) := by decide +kernel
theorem dX0_put_46 : decode cX0_put 46 = .ok (.iconst 1, 1) := by decide +kernel
theorem dX0_put_47 : decode cX0_put 47 = .ok (.iadd, 1) := by decide +kernel
theorem dX0_put_48 : decode cX0_put 48 = .ok (.putfield 129, 3) := by decide +kernel
theorem dX0_put_51 : decode cX0_put 51 = .ok (.iconst 0, 1) := by decide +kernel
theorem dX0_put_52 : decode cX0_put 52 = .ok (.ireturn, 1) := by decide +kernel
theorem dX0_put_53 : decode cX0_put 53 = .ok (.aload_n 0, 1) := by decide +kernel
theorem dX0_put_54 : decode cX0_put 54 = .ok (.getfield 132, 3) := by decide +kernel
theorem dX0_put_57 : decode cX0_put 57 = .ok (.istore 4, 2) := by decide +kernel
theorem dX0_put_59 : decode cX0_put 59 = .ok (.iload 4, 2) := by decide +kernel
theorem dX0_put_61 : decode cX0_put 61 = .ok (.aload_n 0, 1) := by decide +kernel
theorem dX0_put_62 : decode cX0_put 62 = .ok (.getfield 107, 3) := by decide +kernel
theorem dX0_put_65 : decode cX0_put 65 = .ok (.if_icmp .le 22, 3) := by decide +kernel
theorem dX0_put_68 : decode cX0_put 68 = .ok (.aload_n 0, 1) := by decide +kernel
theorem dX0_put_69 : decode cX0_put 69 = .ok (.iload 4, 2) := by decide +kernel
theorem dX0_put_71 : decode cX0_put 71 = .ok (.iconst 1, 1) := by decide +kernel
theorem dX0_put_72 : decode cX0_put 72 = .ok (.isub, 1) := by decide +kernel
theorem dX0_put_73 : decode cX0_put 73 = .ok (.iload_n 2, 1) := by decide +kernel
theorem dX0_put_74 : decode cX0_put 74 = .ok (.iload_n 3, 1) := by decide +kernel
theorem dX0_put_75 : decode cX0_put 75 = .ok (.invokevirtual 135, 3) := by decide +kernel
theorem dX0_put_78 : decode cX0_put 78 = .ok (.ifCond .ne 9, 3) := by decide +kernel
theorem dX0_put_81 : decode cX0_put 81 = .ok (.iinc 4 (-1), 3) := by decide +kernel
theorem dX0_put_84 : decode cX0_put 84 = .ok (.goto (-25), 3) := by decide +kernel
theorem dX0_put_87 : decode cX0_put 87 = .ok (.iload 4, 2) := by decide +kernel
theorem dX0_put_89 : decode cX0_put 89 = .ok (.aload_n 0, 1) := by decide +kernel
theorem dX0_put_90 : decode cX0_put 90 = .ok (.getfield 132, 3) := by decide +kernel
theorem dX0_put_93 : decode cX0_put 93 = .ok (.if_icmp .ge 28, 3) := by decide +kernel
theorem dX0_put_96 : decode cX0_put 96 = .ok (.aload_n 0, 1) := by decide +kernel
theorem dX0_put_97 : decode cX0_put 97 = .ok (.getfield 16, 3) := by decide +kernel
theorem dX0_put_100 : decode cX0_put 100 = .ok (.iload 4, 2) := by decide +kernel
theorem dX0_put_102 : decode cX0_put 102 = .ok (.iaload, 1) := by decide +kernel
theorem dX0_put_103 : decode cX0_put 103 = .ok (.iload_n 2, 1) := by decide +kernel
theorem dX0_put_104 : decode cX0_put 104 = .ok (.if_icmp .ne 17, 3) := by decide +kernel
theorem dX0_put_107 : decode cX0_put 107 = .ok (.aload_n 0, 1) := by decide +kernel
theorem dX0_put_108 : decode cX0_put 108 = .ok (.getfield 19, 3) := by decide +kernel
theorem dX0_put_111 : decode cX0_put 111 = .ok (.iload 4, 2) := by decide +kernel
theorem dX0_put_113 : decode cX0_put 113 = .ok (.iaload, 1) := by decide +kernel
theorem dX0_put_114 : decode cX0_put 114 = .ok (.iload_n 3, 1) := by decide +kernel
theorem dX0_put_115 : decode cX0_put 115 = .ok (.if_icmp .ne 6, 3) := by decide +kernel
theorem dX0_put_118 : decode cX0_put 118 = .ok (.bipush (-2), 2) := by decide +kernel
theorem dX0_put_120 : decode cX0_put 120 = .ok (.ireturn, 1) := by decide +kernel
theorem dX0_put_121 : decode cX0_put 121 = .ok (.aload_n 0, 1) := by decide +kernel
theorem dX0_put_122 : decode cX0_put 122 = .ok (.getfield 132, 3) := by decide +kernel
theorem dX0_put_125 : decode cX0_put 125 = .ok (.aload_n 0, 1) := by decide +kernel
theorem dX0_put_126 : decode cX0_put 126 = .ok (.getfield 107, 3) := by decide +kernel
theorem dX0_put_129 : decode cX0_put 129 = .ok (.isub, 1) := by decide +kernel
theorem dX0_put_130 : decode cX0_put 130 = .ok (.bipush 100, 2) := by decide +kernel
theorem dX0_put_132 : decode cX0_put 132 = .ok (.if_icmp .eq 13, 3) := by decide +kernel
theorem dX0_put_135 : decode cX0_put 135 = .ok (.aload_n 0, 1) := by decide +kernel
theorem dX0_put_136 : decode cX0_put 136 = .ok (.getfield 132, 3) := by decide +kernel
theorem dX0_put_139 : decode cX0_put 139 = .ok (.sipush 1000, 3) := by decide +kernel
theorem dX0_put_142 : decode cX0_put 142 = .ok (.if_icmp .ne 6, 3) := by decide +kernel
theorem dX0_put_145 : decode cX0_put 145 = .ok (.bipush (-4), 2) := by decide +kernel
theorem dX0_put_147 : decode cX0_put 147 = .ok (.ireturn, 1) := by decide +kernel
theorem dX0_put_148 : decode cX0_put 148 = .ok (.aload_n 0, 1) := by decide +kernel
theorem dX0_put_149 : decode cX0_put 149 = .ok (.getfield 132, 3) := by decide +kernel
theorem dX0_put_152 : decode cX0_put 152 = .ok (.istore 5, 2) := by decide +kernel
theorem dX0_put_154 : decode cX0_put 154 = .ok (.iload 5, 2) := by decide +kernel
theorem dX0_put_156 : decode cX0_put 156 = .ok (.iload 4, 2) := by decide +kernel
theorem dX0_put_158 : decode cX0_put 158 = .ok (.if_icmp .le 19, 3) := by decide +kernel
theorem dX0_put_161 : decode cX0_put 161 = .ok (.aload_n 0, 1) := by decide +kernel
theorem dX0_put_162 : decode cX0_put 162 = .ok (.iload 5, 2) := by decide +kernel
theorem dX0_put_164 : decode cX0_put 164 = .ok (.iconst 1, 1) := by decide +kernel
theorem dX0_put_165 : decode cX0_put 165 = .ok (.isub, 1) := by decide +kernel
theorem dX0_put_166 : decode cX0_put 166 = .ok (.iload 5, 2) := by decide +kernel
theorem dX0_put_168 : decode cX0_put 168 = .ok (.invokevirtual 138, 3) := by decide +kernel
theorem dX0_put_171 : decode cX0_put 171 = .ok (.iinc 5 (-1), 3) := by decide +kernel
theorem dX0_put_174 : decode cX0_put 174 = .ok (.goto (-20), 3) := by decide +kernel
theorem dX0_put_177 : decode cX0_put 177 = .ok (.aload_n 0, 1) := by decide +kernel
theorem dX0_put_178 : decode cX0_put 178 = .ok (.getfield 13, 3) := by decide +kernel
theorem dX0_put_181 : decode cX0_put 181 = .ok (.iload 4, 2) := by decide +kernel
theorem dX0_put_183 : decode cX0_put 183 = .ok (.iload_n 1, 1) := by decide +kernel
theorem dX0_put_184 : decode cX0_put 184 = .ok (.iastore, 1) := by decide +kernel
theorem dX0_put_185 : decode cX0_put 185 = .ok (.aload_n 0, 1) := by decide +kernel
theorem dX0_put_186 : decode cX0_put 186 = .ok (.getfield 16, 3) := by decide +kernel
theorem dX0_put_189 : decode cX0_put 189 = .ok (.iload 4, 2) := by decide +kernel
theorem dX0_put_191 : decode cX0_put 191 = .ok (.iload_n 2, 1) := by decide +kernel
theorem dX0_put_192 : decode cX0_put 192 = .ok (.iastore, 1) := by decide +kernel
theorem dX0_put_193 : decode cX0_put 193 = .ok (.aload_n 0, 1) := by decide +kernel
theorem dX0_put_194 : decode cX0_put 194 = .ok (.getfield 19, 3) := by decide +kernel
theorem dX0_put_197 : decode cX0_put 197 = .ok (.iload 4, 2) := by decide +kernel
theorem dX0_put_199 : decode cX0_put 199 = .ok (.iload_n 3, 1) := by decide +kernel
theorem dX0_put_200 : decode cX0_put 200 = .ok (.iastore, 1) := by decide +kernel
theorem dX0_put_201 : decode cX0_put 201 = .ok (.aload_n 0, 1) := by decide +kernel
theorem dX0_put_202 : decode cX0_put 202 = .ok (.getfield 25, 3) := by decide +kernel
theorem dX0_put_205 : decode cX0_put 205 = .ok (.iconst 0, 1) := by decide +kernel
theorem dX0_put_206 : decode cX0_put 206 = .ok (.aload_n 0, 1) := by decide +kernel
theorem dX0_put_207 : decode cX0_put 207 = .ok (.getfield 22, 3) := by decide +kernel
theorem dX0_put_210 : decode cX0_put 210 = .ok (.iload 4, 2) := by decide +kernel
theorem dX0_put_212 : decode cX0_put 212 = .ok (.iconst 4, 1) := by decide +kernel
theorem dX0_put_213 : decode cX0_put 213 = .ok (.imul, 1) := by decide +kernel
theorem dX0_put_214 : decode cX0_put 214 = .ok (.iconst 4, 1) := by decide +kernel
theorem dX0_put_215 : decode cX0_put 215 = .ok (.invokestatic 142, 3) := by decide +kernel
theorem dX0_put_218 : decode cX0_put 218 = .ok (.aload_n 0, 1) := by decide +kernel
theorem dX0_put_219 : decode cX0_put 219 = .ok (.dup, 1) := by decide +kernel
theorem dX0_put_220 : decode cX0_put 220 = .ok (.getfield 132, 3) := by decide +kernel
theorem dX0_put_223 : decode cX0_put 223 = .ok (.iconst 1, 1) := by decide +kernel
theorem dX0_put_224 : decode cX0_put 224 = .ok (.iadd, 1) := by decide +kernel
theorem dX0_put_225 : decode cX0_put 225 = .ok (.putfield 132, 3) := by decide +kernel
theorem dX0_put_228 : decode cX0_put 228 = .ok (.iconst 1, 1) := by decide +kernel
theorem dX0_put_229 : decode cX0_put 229 = .ok (.ireturn, 1) := by decide +kernel
abbrev cX0_isAhead : ByteArray := prog_1_method_9_code
def yX0_isAhead : MethodName := ⟨RX0, "isAhead", "(III)Z"⟩
theorem dX0_isAhead_0 : decode cX0_isAhead 0 = .ok (.aload_n 0, 1) := by decide +kernel
theorem dX0_isAhead_1 : decode cX0_isAhead 1 = .ok (.getfield 16, 3) := by decide +kernel
theorem dX0_isAhead_4 : decode cX0_isAhead 4 = .ok (.iload_n 1, 1) := by decide +kernel
theorem dX0_isAhead_5 : decode cX0_isAhead 5 = .ok (.iaload, 1) := by decide +kernel
theorem dX0_isAhead_6 : decode cX0_isAhead 6 = .ok (.iload_n 2, 1) := by decide +kernel
theorem dX0_isAhead_7 : decode cX0_isAhead 7 = .ok (.if_icmp .lt 23, 3) := by decide +kernel
theorem dX0_isAhead_10 : decode cX0_isAhead 10 = .ok (.aload_n 0, 1) := by decide +kernel
theorem dX0_isAhead_11 : decode cX0_isAhead 11 = .ok (.getfield 16, 3) := by decide +kernel
theorem dX0_isAhead_14 : decode cX0_isAhead 14 = .ok (.iload_n 1, 1) := by decide +kernel
theorem dX0_isAhead_15 : decode cX0_isAhead 15 = .ok (.iaload, 1) := by decide +kernel
theorem dX0_isAhead_16 : decode cX0_isAhead 16 = .ok (.iload_n 2, 1) := by decide +kernel
theorem dX0_isAhead_17 : decode cX0_isAhead 17 = .ok (.if_icmp .ne 17, 3) := by decide +kernel
theorem dX0_isAhead_20 : decode cX0_isAhead 20 = .ok (.aload_n 0, 1) := by decide +kernel
theorem dX0_isAhead_21 : decode cX0_isAhead 21 = .ok (.getfield 19, 3) := by decide +kernel
theorem dX0_isAhead_24 : decode cX0_isAhead 24 = .ok (.iload_n 1, 1) := by decide +kernel
theorem dX0_isAhead_25 : decode cX0_isAhead 25 = .ok (.iaload, 1) := by decide +kernel
theorem dX0_isAhead_26 : decode cX0_isAhead 26 = .ok (.iload_n 3, 1) := by decide +kernel
theorem dX0_isAhead_27 : decode cX0_isAhead 27 = .ok (.if_icmp .ge 7, 3) := by decide +kernel
theorem dX0_isAhead_30 : decode cX0_isAhead 30 = .ok (.iconst 1, 1) := by decide +kernel
theorem dX0_isAhead_31 : decode cX0_isAhead 31 = .ok (.goto 4, 3) := by decide +kernel
theorem dX0_isAhead_34 : decode cX0_isAhead 34 = .ok (.iconst 0, 1) := by decide +kernel
theorem dX0_isAhead_35 : decode cX0_isAhead 35 = .ok (.ireturn, 1) := by decide +kernel
abbrev cX0_move : ByteArray := prog_1_method_11_code
def yX0_move : MethodName := ⟨RX0, "move", "(II)V"⟩
theorem dX0_move_0 : decode cX0_move 0 = .ok (.aload_n 0, 1) := by decide +kernel
theorem dX0_move_1 : decode cX0_move 1 = .ok (.getfield 13, 3) := by decide +kernel
theorem dX0_move_4 : decode cX0_move 4 = .ok (.iload_n 2, 1) := by decide +kernel
theorem dX0_move_5 : decode cX0_move 5 = .ok (.aload_n 0, 1) := by decide +kernel
theorem dX0_move_6 : decode cX0_move 6 = .ok (.getfield 13, 3) := by decide +kernel
theorem dX0_move_9 : decode cX0_move 9 = .ok (.iload_n 1, 1) := by decide +kernel
theorem dX0_move_10 : decode cX0_move 10 = .ok (.iaload, 1) := by decide +kernel
theorem dX0_move_11 : decode cX0_move 11 = .ok (.iastore, 1) := by decide +kernel
theorem dX0_move_12 : decode cX0_move 12 = .ok (.aload_n 0, 1) := by decide +kernel
theorem dX0_move_13 : decode cX0_move 13 = .ok (.getfield 16, 3) := by decide +kernel
theorem dX0_move_16 : decode cX0_move 16 = .ok (.iload_n 2, 1) := by decide +kernel
theorem dX0_move_17 : decode cX0_move 17 = .ok (.aload_n 0, 1) := by decide +kernel
theorem dX0_move_18 : decode cX0_move 18 = .ok (.getfield 16, 3) := by decide +kernel
theorem dX0_move_21 : decode cX0_move 21 = .ok (.iload_n 1, 1) := by decide +kernel
theorem dX0_move_22 : decode cX0_move 22 = .ok (.iaload, 1) := by decide +kernel
theorem dX0_move_23 : decode cX0_move 23 = .ok (.iastore, 1) := by decide +kernel
theorem dX0_move_24 : decode cX0_move 24 = .ok (.aload_n 0, 1) := by decide +kernel
theorem dX0_move_25 : decode cX0_move 25 = .ok (.getfield 19, 3) := by decide +kernel
theorem dX0_move_28 : decode cX0_move 28 = .ok (.iload_n 2, 1) := by decide +kernel
theorem dX0_move_29 : decode cX0_move 29 = .ok (.aload_n 0, 1) := by decide +kernel
theorem dX0_move_30 : decode cX0_move 30 = .ok (.getfield 19, 3) := by decide +kernel
theorem dX0_move_33 : decode cX0_move 33 = .ok (.iload_n 1, 1) := by decide +kernel
theorem dX0_move_34 : decode cX0_move 34 = .ok (.iaload, 1) := by decide +kernel
theorem dX0_move_35 : decode cX0_move 35 = .ok (.iastore, 1) := by decide +kernel
theorem dX0_move_36 : decode cX0_move 36 = .ok (.aload_n 0, 1) := by decide +kernel
theorem dX0_move_37 : decode cX0_move 37 = .ok (.getfield 22, 3) := by decide +kernel
theorem dX0_move_40 : decode cX0_move 40 = .ok (.iload_n 1, 1) := by decide +kernel
theorem dX0_move_41 : decode cX0_move 41 = .ok (.iconst 4, 1) := by decide +kernel
theorem dX0_move_42 : decode cX0_move 42 = .ok (.imul, 1) := by decide +kernel
theorem dX0_move_43 : decode cX0_move 43 = .ok (.aload_n 0, 1) := by decide +kernel
theorem dX0_move_44 : decode cX0_move 44 = .ok (.getfield 22, 3) := by decide +kernel
theorem dX0_move_47 : decode cX0_move 47 = .ok (.iload_n 2, 1) := by decide +kernel
theorem dX0_move_48 : decode cX0_move 48 = .ok (.iconst 4, 1) := by decide +kernel
theorem dX0_move_49 : decode cX0_move 49 = .ok (.imul, 1) := by decide +kernel
theorem dX0_move_50 : decode cX0_move 50 = .ok (.iconst 4, 1) := by decide +kernel
theorem dX0_move_51 : decode cX0_move 51 = .ok (.invokestatic 142, 3) := by decide +kernel
theorem dX0_move_54 : decode cX0_move 54 = .ok (.return_, 1) := by decide +kernel
abbrev cX0_fields : ByteArray := prog_1_method_12_code
def yX0_fields : MethodName := ⟨RX0, "fields", "(IIII)I"⟩
theorem dX0_fields_0 : decode cX0_fields 0 = .ok (.iload_n 1, 1) := by decide +kernel
theorem dX0_fields_1 : decode cX0_fields 1 = .ok (.sipush (-1000), 3) := by decide +kernel
theorem dX0_fields_4 : decode cX0_fields 4 = .ok (.sipush 1000, 3) := by decide +kernel
theorem dX0_fields_7 : decode cX0_fields 7 = .ok (.invokestatic 77, 3) := by decide +kernel
theorem dX0_fields_10 : decode cX0_fields 10 = .ok (.ifCond .eq 43, 3) := by decide +kernel
theorem dX0_fields_13 : decode cX0_fields 13 = .ok (.iload_n 2, 1) := by decide +kernel
theorem dX0_fields_14 : decode cX0_fields 14 = .ok (.sipush (-1000), 3) := by decide +kernel
theorem dX0_fields_17 : decode cX0_fields 17 = .ok (.sipush 1000, 3) := by decide +kernel
theorem dX0_fields_20 : decode cX0_fields 20 = .ok (.invokestatic 77, 3) := by decide +kernel
theorem dX0_fields_23 : decode cX0_fields 23 = .ok (.ifCond .eq 30, 3) := by decide +kernel
theorem dX0_fields_26 : decode cX0_fields 26 = .ok (.iload_n 3, 1) := by decide +kernel
theorem dX0_fields_27 : decode cX0_fields 27 = .ok (.sipush (-1000), 3) := by decide +kernel
theorem dX0_fields_30 : decode cX0_fields 30 = .ok (.sipush 1000, 3) := by decide +kernel
theorem dX0_fields_33 : decode cX0_fields 33 = .ok (.invokestatic 77, 3) := by decide +kernel
theorem dX0_fields_36 : decode cX0_fields 36 = .ok (.ifCond .eq 17, 3) := by decide +kernel
theorem dX0_fields_39 : decode cX0_fields 39 = .ok (.iload 4, 2) := by decide +kernel
theorem dX0_fields_41 : decode cX0_fields 41 = .ok (.sipush (-1000), 3) := by decide +kernel
theorem dX0_fields_44 : decode cX0_fields 44 = .ok (.sipush 1000, 3) := by decide +kernel
theorem dX0_fields_47 : decode cX0_fields 47 = .ok (.invokestatic 77, 3) := by decide +kernel
theorem dX0_fields_50 : decode cX0_fields 50 = .ok (.ifCond .ne 5, 3) := by decide +kernel
theorem dX0_fields_53 : decode cX0_fields 53 = .ok (.iconst (-1), 1) := by decide +kernel
theorem dX0_fields_54 : decode cX0_fields 54 = .ok (.ireturn, 1) := by decide +kernel
theorem dX0_fields_55 : decode cX0_fields 55 = .ok (.aload_n 0, 1) := by decide +kernel
theorem dX0_fields_56 : decode cX0_fields 56 = .ok (.getfield 25, 3) := by decide +kernel
theorem dX0_fields_59 : decode cX0_fields 59 = .ok (.iconst 0, 1) := by decide +kernel
theorem dX0_fields_60 : decode cX0_fields 60 = .ok (.iload_n 1, 1) := by decide +kernel
theorem dX0_fields_61 : decode cX0_fields 61 = .ok (.iastore, 1) := by decide +kernel
theorem dX0_fields_62 : decode cX0_fields 62 = .ok (.aload_n 0, 1) := by decide +kernel
theorem dX0_fields_63 : decode cX0_fields 63 = .ok (.getfield 25, 3) := by decide +kernel
theorem dX0_fields_66 : decode cX0_fields 66 = .ok (.iconst 1, 1) := by decide +kernel
theorem dX0_fields_67 : decode cX0_fields 67 = .ok (.iload_n 2, 1) := by decide +kernel
theorem dX0_fields_68 : decode cX0_fields 68 = .ok (.iastore, 1) := by decide +kernel
theorem dX0_fields_69 : decode cX0_fields 69 = .ok (.aload_n 0, 1) := by decide +kernel
theorem dX0_fields_70 : decode cX0_fields 70 = .ok (.getfield 25, 3) := by decide +kernel
theorem dX0_fields_73 : decode cX0_fields 73 = .ok (.iconst 2, 1) := by decide +kernel
theorem dX0_fields_74 : decode cX0_fields 74 = .ok (.iload_n 3, 1) := by decide +kernel
theorem dX0_fields_75 : decode cX0_fields 75 = .ok (.iastore, 1) := by decide +kernel
theorem dX0_fields_76 : decode cX0_fields 76 = .ok (.aload_n 0, 1) := by decide +kernel
theorem dX0_fields_77 : decode cX0_fields 77 = .ok (.getfield 25, 3) := by decide +kernel
theorem dX0_fields_80 : decode cX0_fields 80 = .ok (.iconst 3, 1) := by decide +kernel
theorem dX0_fields_81 : decode cX0_fields 81 = .ok (.iload 4, 2) := by decide +kernel
theorem dX0_fields_83 : decode cX0_fields 83 = .ok (.iastore, 1) := by decide +kernel
theorem dX0_fields_84 : decode cX0_fields 84 = .ok (.iconst 1, 1) := by decide +kernel
theorem dX0_fields_85 : decode cX0_fields 85 = .ok (.ireturn, 1) := by decide +kernel
abbrev cX0_mark : ByteArray := prog_1_method_13_code
def yX0_mark : MethodName := ⟨RX0, "mark", "(I)I"⟩
theorem dX0_mark_0 : decode cX0_mark 0 = .ok (.iload_n 1, 1) := by decide +kernel
theorem dX0_mark_1 : decode cX0_mark 1 = .ok (.iconst 0, 1) := by decide +kernel
theorem dX0_mark_2 : decode cX0_mark 2 = .ok (.ldc 148, 2) := by decide +kernel
theorem dX0_mark_4 : decode cX0_mark 4 = .ok (.invokestatic 77, 3) := by decide +kernel
theorem dX0_mark_7 : decode cX0_mark 7 = .ok (.ifCond .ne 5, 3) := by decide +kernel
theorem dX0_mark_10 : decode cX0_mark 10 = .ok (.iconst (-1), 1) := by decide +kernel
theorem dX0_mark_11 : decode cX0_mark 11 = .ok (.ireturn, 1) := by decide +kernel
theorem dX0_mark_12 : decode cX0_mark 12 = .ok (.iload_n 1, 1) := by decide +kernel
theorem dX0_mark_13 : decode cX0_mark 13 = .ok (.aload_n 0, 1) := by decide +kernel
theorem dX0_mark_14 : decode cX0_mark 14 = .ok (.getfield 126, 3) := by decide +kernel
theorem dX0_mark_17 : decode cX0_mark 17 = .ok (.if_icmp .ge 6, 3) := by decide +kernel
theorem dX0_mark_20 : decode cX0_mark 20 = .ok (.bipush (-5), 2) := by decide +kernel
theorem dX0_mark_22 : decode cX0_mark 22 = .ok (.ireturn, 1) := by decide +kernel
theorem dX0_mark_23 : decode cX0_mark 23 = .ok (.aload_n 0, 1) := by decide +kernel
theorem dX0_mark_24 : decode cX0_mark 24 = .ok (.iload_n 1, 1) := by decide +kernel
theorem dX0_mark_25 : decode cX0_mark 25 = .ok (.putfield 126, 3) := by decide +kernel
theorem dX0_mark_28 : decode cX0_mark 28 = .ok (.iconst 0, 1) := by decide +kernel
theorem dX0_mark_29 : decode cX0_mark 29 = .ok (.istore_n 2, 1) := by decide +kernel
theorem dX0_mark_30 : decode cX0_mark 30 = .ok (.aload_n 0, 1) := by decide +kernel
theorem dX0_mark_31 : decode cX0_mark 31 = .ok (.getfield 107, 3) := by decide +kernel
theorem dX0_mark_34 : decode cX0_mark 34 = .ok (.aload_n 0, 1) := by decide +kernel
theorem dX0_mark_35 : decode cX0_mark 35 = .ok (.getfield 132, 3) := by decide +kernel
theorem dX0_mark_38 : decode cX0_mark 38 = .ok (.if_icmp .ge 105, 3) := by decide +kernel
theorem dX0_mark_41 : decode cX0_mark 41 = .ok (.aload_n 0, 1) := by decide +kernel
theorem dX0_mark_42 : decode cX0_mark 42 = .ok (.getfield 16, 3) := by decide +kernel
theorem dX0_mark_45 : decode cX0_mark 45 = .ok (.aload_n 0, 1) := by decide +kernel
theorem dX0_mark_46 : decode cX0_mark 46 = .ok (.getfield 107, 3) := by decide +kernel
theorem dX0_mark_49 : decode cX0_mark 49 = .ok (.iaload, 1) := by decide +kernel
theorem dX0_mark_50 : decode cX0_mark 50 = .ok (.iload_n 1, 1) := by decide +kernel
theorem dX0_mark_51 : decode cX0_mark 51 = .ok (.if_icmp .ge 92, 3) := by decide +kernel
theorem dX0_mark_54 : decode cX0_mark 54 = .ok (.aload_n 0, 1) := by decide +kernel
theorem dX0_mark_55 : decode cX0_mark 55 = .ok (.dup, 1) := by decide +kernel
theorem dX0_mark_56 : decode cX0_mark 56 = .ok (.getfield 107, 3) := by decide +kernel
theorem dX0_mark_59 : decode cX0_mark 59 = .ok (.dup_x1, 1) := by decide +kernel
theorem dX0_mark_60 : decode cX0_mark 60 = .ok (.iconst 1, 1) := by decide +kernel
theorem dX0_mark_61 : decode cX0_mark 61 = .ok (.iadd, 1) := by decide +kernel
theorem dX0_mark_62 : decode cX0_mark 62 = .ok (.putfield 107, 3) := by decide +kernel
theorem dX0_mark_65 : decode cX0_mark 65 = .ok (.istore_n 3, 1) := by decide +kernel
theorem dX0_mark_66 : decode cX0_mark 66 = .ok (.iinc 2 1, 3) := by decide +kernel
theorem dX0_mark_69 : decode cX0_mark 69 = .ok (.aload_n 0, 1) := by decide +kernel
theorem dX0_mark_70 : decode cX0_mark 70 = .ok (.iconst 0, 1) := by decide +kernel
theorem dX0_mark_71 : decode cX0_mark 71 = .ok (.putfield 149, 3) := by decide +kernel
theorem dX0_mark_74 : decode cX0_mark 74 = .ok (.aload_n 0, 1) := by decide +kernel
theorem dX0_mark_75 : decode cX0_mark 75 = .ok (.getfield 149, 3) := by decide +kernel
theorem dX0_mark_78 : decode cX0_mark 78 = .ok (.aload_n 0, 1) := by decide +kernel
theorem dX0_mark_79 : decode cX0_mark 79 = .ok (.getfield 73, 3) := by decide +kernel
theorem dX0_mark_82 : decode cX0_mark 82 = .ok (.if_icmp .ge 58, 3) := by decide +kernel
theorem dX0_mark_85 : decode cX0_mark 85 = .ok (.aload_n 0, 1) := by decide +kernel
theorem dX0_mark_86 : decode cX0_mark 86 = .ok (.getfield 55, 3) := by decide +kernel
theorem dX0_mark_89 : decode cX0_mark 89 = .ok (.aload_n 0, 1) := by decide +kernel
theorem dX0_mark_90 : decode cX0_mark 90 = .ok (.getfield 149, 3) := by decide +kernel
theorem dX0_mark_93 : decode cX0_mark 93 = .ok (.aaload, 1) := by decide +kernel
theorem dX0_mark_94 : decode cX0_mark 94 = .ok (.astore 4, 2) := by decide +kernel
theorem dX0_mark_96 : decode cX0_mark 96 = .ok (.aload 4, 2) := by decide +kernel
theorem dX0_mark_98 : decode cX0_mark 98 = .ok (.getfield 93, 3) := by decide +kernel
theorem dX0_mark_101 : decode cX0_mark 101 = .ok (.ifCond .ne 6, 3) := by decide +kernel
theorem dX0_mark_104 : decode cX0_mark 104 = .ok (.goto 23, 3) := by decide +kernel
theorem dX0_mark_107 : decode cX0_mark 107 = .ok (.aload 4, 2) := by decide +kernel
theorem dX0_mark_109 : decode cX0_mark 109 = .ok (.iconst 1, 1) := by decide +kernel
theorem dX0_mark_110 : decode cX0_mark 110 = .ok (.putfield 81, 3) := by decide +kernel
theorem dX0_mark_113 : decode cX0_mark 113 = .ok (.aload 4, 2) := by decide +kernel
theorem dX0_mark_115 : decode cX0_mark 115 = .ok (.getfield 152, 3) := by decide +kernel
theorem dX0_mark_118 : decode cX0_mark 118 = .ok (.ifCond .ne 9, 3) := by decide +kernel
theorem dX0_mark_121 : decode cX0_mark 121 = .ok (.aload 4, 2) := by decide +kernel
theorem dX0_mark_123 : decode cX0_mark 123 = .ok (.iload_n 3, 1) := by decide +kernel
theorem dX0_mark_124 : decode cX0_mark 124 = .ok (.invokevirtual 155, 3) := by decide +kernel
theorem dX0_mark_127 : decode cX0_mark 127 = .ok (.aload_n 0, 1) := by decide +kernel
theorem dX0_mark_128 : decode cX0_mark 128 = .ok (.dup, 1) := by decide +kernel
theorem dX0_mark_129 : decode cX0_mark 129 = .ok (.getfield 149, 3) := by decide +kernel
theorem dX0_mark_132 : decode cX0_mark 132 = .ok (.iconst 1, 1) := by decide +kernel
theorem dX0_mark_133 : decode cX0_mark 133 = .ok (.iadd, 1) := by decide +kernel
theorem dX0_mark_134 : decode cX0_mark 134 = .ok (.putfield 149, 3) := by decide +kernel
theorem dX0_mark_137 : decode cX0_mark 137 = .ok (.goto (-63), 3) := by decide +kernel
theorem dX0_mark_140 : decode cX0_mark 140 = .ok (.goto (-110), 3) := by decide +kernel
theorem dX0_mark_143 : decode cX0_mark 143 = .ok (.iload_n 2, 1) := by decide +kernel
theorem dX0_mark_144 : decode cX0_mark 144 = .ok (.ireturn, 1) := by decide +kernel
abbrev cX0_isKind : ByteArray := prog_1_method_2_code
def yX0_isKind : MethodName := ⟨RX0, "isKind", "(II)Z"⟩
theorem dX0_isKind_0 : decode cX0_isKind 0 = .ok (.iload_n 1, 1) := by decide +kernel
theorem dX0_isKind_1 : decode cX0_isKind 1 = .ok (.istore_n 3, 1) := by decide +kernel
theorem dX0_isKind_2 : decode cX0_isKind 2 = .ok (.iload_n 3, 1) := by decide +kernel
theorem dX0_isKind_3 : decode cX0_isKind 3 = .ok (.iconst (-1), 1) := by decide +kernel
theorem dX0_isKind_4 : decode cX0_isKind 4 = .ok (.if_icmp .eq 18, 3) := by decide +kernel
theorem dX0_isKind_7 : decode cX0_isKind 7 = .ok (.iload_n 3, 1) := by decide +kernel
theorem dX0_isKind_8 : decode cX0_isKind 8 = .ok (.iload_n 2, 1) := by decide +kernel
theorem dX0_isKind_9 : decode cX0_isKind 9 = .ok (.if_icmp .eq 13, 3) := by decide +kernel
theorem dX0_isKind_12 : decode cX0_isKind 12 = .ok (.aload_n 0, 1) := by decide +kernel
theorem dX0_isKind_13 : decode cX0_isKind 13 = .ok (.getfield 3, 3) := by decide +kernel
theorem dX0_isKind_16 : decode cX0_isKind 16 = .ok (.iload_n 3, 1) := by decide +kernel
theorem dX0_isKind_17 : decode cX0_isKind 17 = .ok (.iaload, 1) := by decide +kernel
theorem dX0_isKind_18 : decode cX0_isKind 18 = .ok (.istore_n 3, 1) := by decide +kernel
theorem dX0_isKind_19 : decode cX0_isKind 19 = .ok (.goto (-17), 3) := by decide +kernel
theorem dX0_isKind_22 : decode cX0_isKind 22 = .ok (.iload_n 3, 1) := by decide +kernel
theorem dX0_isKind_23 : decode cX0_isKind 23 = .ok (.iload_n 2, 1) := by decide +kernel
theorem dX0_isKind_24 : decode cX0_isKind 24 = .ok (.if_icmp .ne 7, 3) := by decide +kernel
theorem dX0_isKind_27 : decode cX0_isKind 27 = .ok (.iconst 1, 1) := by decide +kernel
theorem dX0_isKind_28 : decode cX0_isKind 28 = .ok (.goto 4, 3) := by decide +kernel
theorem dX0_isKind_31 : decode cX0_isKind 31 = .ok (.iconst 0, 1) := by decide +kernel
theorem dX0_isKind_32 : decode cX0_isKind 32 = .ok (.ireturn, 1) := by decide +kernel
abbrev cX0_matches : ByteArray := prog_1_method_14_code
def yX0_matches : MethodName := ⟨RX0, "matches", "(I)I"⟩
theorem dX0_matches_0 : decode cX0_matches 0 = .ok (.iload_n 1, 1) := by decide +kernel
theorem dX0_matches_1 : decode cX0_matches 1 = .ok (.iconst (-1), 1) := by decide +kernel
theorem dX0_matches_2 : decode cX0_matches 2 = .ok (.if_icmp .ne 10, 3) := by decide +kernel
theorem dX0_matches_5 : decode cX0_matches 5 = .ok (.aload_n 0, 1) := by decide +kernel
theorem dX0_matches_6 : decode cX0_matches 6 = .ok (.getfield 159, 3) := by decide +kernel
theorem dX0_matches_9 : decode cX0_matches 9 = .ok (.goto 24, 3) := by decide +kernel
theorem dX0_matches_12 : decode cX0_matches 12 = .ok (.aload_n 0, 1) := by decide +kernel
theorem dX0_matches_13 : decode cX0_matches 13 = .ok (.iload_n 1, 1) := by decide +kernel
theorem dX0_matches_14 : decode cX0_matches 14 = .ok (.invokevirtual 99, 3) := by decide +kernel
theorem dX0_matches_17 : decode cX0_matches 17 = .ok (.ifCond .eq 15, 3) := by decide +kernel
theorem dX0_matches_20 : decode cX0_matches 20 = .ok (.aload_n 0, 1) := by decide +kernel
theorem dX0_matches_21 : decode cX0_matches 21 = .ok (.getfield 55, 3) := by decide +kernel
theorem dX0_matches_24 : decode cX0_matches 24 = .ok (.iload_n 1, 1) := by decide +kernel
theorem dX0_matches_25 : decode cX0_matches 25 = .ok (.aaload, 1) := by decide +kernel
theorem dX0_matches_26 : decode cX0_matches 26 = .ok (.getfield 162, 3) := by decide +kernel
theorem dX0_matches_29 : decode cX0_matches 29 = .ok (.goto 4, 3) := by decide +kernel
theorem dX0_matches_32 : decode cX0_matches 32 = .ok (.iconst (-1), 1) := by decide +kernel
theorem dX0_matches_33 : decode cX0_matches 33 = .ok (.ireturn, 1) := by decide +kernel
abbrev cX0_match : ByteArray := prog_1_method_16_code
def yX0_match : MethodName := ⟨RX0, "match", "(II)I"⟩
theorem dX0_match_0 : decode cX0_match 0 = .ok (.aload_n 0, 1) := by decide +kernel
theorem dX0_match_1 : decode cX0_match 1 = .ok (.iload_n 1, 1) := by decide +kernel
theorem dX0_match_2 : decode cX0_match 2 = .ok (.invokevirtual 171, 3) := by decide +kernel
theorem dX0_match_5 : decode cX0_match 5 = .ok (.ifCond .eq 12, 3) := by decide +kernel
theorem dX0_match_8 : decode cX0_match 8 = .ok (.iload_n 2, 1) := by decide +kernel
theorem dX0_match_9 : decode cX0_match 9 = .ok (.iconst 0, 1) := by decide +kernel
theorem dX0_match_10 : decode cX0_match 10 = .ok (.iconst 3, 1) := by decide +kernel
theorem dX0_match_11 : decode cX0_match 11 = .ok (.invokestatic 77, 3) := by decide +kernel
theorem dX0_match_14 : decode cX0_match 14 = .ok (.ifCond .ne 5, 3) := by decide +kernel
theorem dX0_match_17 : decode cX0_match 17 = .ok (.iconst (-1), 1) := by decide +kernel
theorem dX0_match_18 : decode cX0_match 18 = .ok (.ireturn, 1) := by decide +kernel
theorem dX0_match_19 : decode cX0_match 19 = .ok (.iload_n 2, 1) := by decide +kernel
theorem dX0_match_20 : decode cX0_match 20 = .ok (.ifCond .ne 12, 3) := by decide +kernel
theorem dX0_match_23 : decode cX0_match 23 = .ok (.aload_n 0, 1) := by decide +kernel
theorem dX0_match_24 : decode cX0_match 24 = .ok (.getfield 35, 3) := by decide +kernel
theorem dX0_match_27 : decode cX0_match 27 = .ok (.iload_n 1, 1) := by decide +kernel
theorem dX0_match_28 : decode cX0_match 28 = .ok (.iaload, 1) := by decide +kernel
theorem dX0_match_29 : decode cX0_match 29 = .ok (.goto 48, 3) := by decide +kernel
theorem dX0_match_32 : decode cX0_match 32 = .ok (.iload_n 2, 1) := by decide +kernel
theorem dX0_match_33 : decode cX0_match 33 = .ok (.iconst 1, 1) := by decide +kernel
theorem dX0_match_34 : decode cX0_match 34 = .ok (.if_icmp .ne 12, 3) := by decide +kernel
theorem dX0_match_37 : decode cX0_match 37 = .ok (.aload_n 0, 1) := by decide +kernel
theorem dX0_match_38 : decode cX0_match 38 = .ok (.getfield 38, 3) := by decide +kernel
theorem dX0_match_41 : decode cX0_match 41 = .ok (.iload_n 1, 1) := by decide +kernel
theorem dX0_match_42 : decode cX0_match 42 = .ok (.iaload, 1) := by decide +kernel
theorem dX0_match_43 : decode cX0_match 43 = .ok (.goto 34, 3) := by decide +kernel
theorem dX0_match_46 : decode cX0_match 46 = .ok (.iload_n 2, 1) := by decide +kernel
theorem dX0_match_47 : decode cX0_match 47 = .ok (.iconst 2, 1) := by decide +kernel
theorem dX0_match_48 : decode cX0_match 48 = .ok (.if_icmp .ne 14, 3) := by decide +kernel
theorem dX0_match_51 : decode cX0_match 51 = .ok (.aload_n 0, 1) := by decide +kernel
theorem dX0_match_52 : decode cX0_match 52 = .ok (.getfield 43, 3) := by decide +kernel
theorem dX0_match_55 : decode cX0_match 55 = .ok (.iload_n 1, 1) := by decide +kernel
theorem dX0_match_56 : decode cX0_match 56 = .ok (.aaload, 1) := by decide +kernel
theorem dX0_match_57 : decode cX0_match 57 = .ok (.iconst 0, 1) := by decide +kernel
theorem dX0_match_58 : decode cX0_match 58 = .ok (.saload, 1) := by decide +kernel
theorem dX0_match_59 : decode cX0_match 59 = .ok (.goto 18, 3) := by decide +kernel
theorem dX0_match_62 : decode cX0_match 62 = .ok (.aload_n 0, 1) := by decide +kernel
theorem dX0_match_63 : decode cX0_match 63 = .ok (.getfield 43, 3) := by decide +kernel
theorem dX0_match_66 : decode cX0_match 66 = .ok (.iload_n 1, 1) := by decide +kernel
theorem dX0_match_67 : decode cX0_match 67 = .ok (.aaload, 1) := by decide +kernel
theorem dX0_match_68 : decode cX0_match 68 = .ok (.aload_n 0, 1) := by decide +kernel
theorem dX0_match_69 : decode cX0_match 69 = .ok (.getfield 38, 3) := by decide +kernel
theorem dX0_match_72 : decode cX0_match 72 = .ok (.iload_n 1, 1) := by decide +kernel
theorem dX0_match_73 : decode cX0_match 73 = .ok (.iaload, 1) := by decide +kernel
theorem dX0_match_74 : decode cX0_match 74 = .ok (.iconst 1, 1) := by decide +kernel
theorem dX0_match_75 : decode cX0_match 75 = .ok (.isub, 1) := by decide +kernel
theorem dX0_match_76 : decode cX0_match 76 = .ok (.saload, 1) := by decide +kernel
theorem dX0_match_77 : decode cX0_match 77 = .ok (.ireturn, 1) := by decide +kernel
abbrev cX0_isMatch : ByteArray := prog_1_method_15_code
def yX0_isMatch : MethodName := ⟨RX0, "isMatch", "(I)Z"⟩
theorem dX0_isMatch_0 : decode cX0_isMatch 0 = .ok (.iload_n 1, 1) := by decide +kernel
theorem dX0_isMatch_1 : decode cX0_isMatch 1 = .ok (.iconst 0, 1) := by decide +kernel
theorem dX0_isMatch_2 : decode cX0_isMatch 2 = .ok (.aload_n 0, 1) := by decide +kernel
theorem dX0_isMatch_3 : decode cX0_isMatch 3 = .ok (.getfield 159, 3) := by decide +kernel
theorem dX0_isMatch_6 : decode cX0_isMatch 6 = .ok (.sipush 1000, 3) := by decide +kernel
theorem dX0_isMatch_9 : decode cX0_isMatch 9 = .ok (.invokestatic 165, 3) := by decide +kernel
theorem dX0_isMatch_12 : decode cX0_isMatch 12 = .ok (.iconst 1, 1) := by decide +kernel
theorem dX0_isMatch_13 : decode cX0_isMatch 13 = .ok (.isub, 1) := by decide +kernel
theorem dX0_isMatch_14 : decode cX0_isMatch 14 = .ok (.invokestatic 77, 3) := by decide +kernel
theorem dX0_isMatch_17 : decode cX0_isMatch 17 = .ok (.ireturn, 1) := by decide +kernel
abbrev cX0_member : ByteArray := prog_1_method_17_code
def yX0_member : MethodName := ⟨RX0, "member", "(III)I"⟩
theorem dX0_member_0 : decode cX0_member 0 = .ok (.aload_n 0, 1) := by decide +kernel
theorem dX0_member_1 : decode cX0_member 1 = .ok (.iload_n 1, 1) := by decide +kernel
theorem dX0_member_2 : decode cX0_member 2 = .ok (.invokevirtual 171, 3) := by decide +kernel
theorem dX0_member_5 : decode cX0_member 5 = .ok (.ifCond .eq 28, 3) := by decide +kernel
theorem dX0_member_8 : decode cX0_member 8 = .ok (.iload_n 2, 1) := by decide +kernel
theorem dX0_member_9 : decode cX0_member 9 = .ok (.iconst 0, 1) := by decide +kernel
theorem dX0_member_10 : decode cX0_member 10 = .ok (.aload_n 0, 1) := by decide +kernel
theorem dX0_member_11 : decode cX0_member 11 = .ok (.getfield 38, 3) := by decide +kernel
theorem dX0_member_14 : decode cX0_member 14 = .ok (.iload_n 1, 1) := by decide +kernel
theorem dX0_member_15 : decode cX0_member 15 = .ok (.iaload, 1) := by decide +kernel
theorem dX0_member_16 : decode cX0_member 16 = .ok (.iconst 1, 1) := by decide +kernel
theorem dX0_member_17 : decode cX0_member 17 = .ok (.isub, 1) := by decide +kernel
theorem dX0_member_18 : decode cX0_member 18 = .ok (.invokestatic 77, 3) := by decide +kernel
theorem dX0_member_21 : decode cX0_member 21 = .ok (.ifCond .eq 12, 3) := by decide +kernel
theorem dX0_member_24 : decode cX0_member 24 = .ok (.iload_n 3, 1) := by decide +kernel
theorem dX0_member_25 : decode cX0_member 25 = .ok (.iconst 0, 1) := by decide +kernel
theorem dX0_member_26 : decode cX0_member 26 = .ok (.iconst 1, 1) := by decide +kernel
theorem dX0_member_27 : decode cX0_member 27 = .ok (.invokestatic 77, 3) := by decide +kernel
theorem dX0_member_30 : decode cX0_member 30 = .ok (.ifCond .ne 5, 3) := by decide +kernel
theorem dX0_member_33 : decode cX0_member 33 = .ok (.iconst (-1), 1) := by decide +kernel
theorem dX0_member_34 : decode cX0_member 34 = .ok (.ireturn, 1) := by decide +kernel
theorem dX0_member_35 : decode cX0_member 35 = .ok (.iload_n 3, 1) := by decide +kernel
theorem dX0_member_36 : decode cX0_member 36 = .ok (.ifCond .ne 14, 3) := by decide +kernel
theorem dX0_member_39 : decode cX0_member 39 = .ok (.aload_n 0, 1) := by decide +kernel
theorem dX0_member_40 : decode cX0_member 40 = .ok (.getfield 43, 3) := by decide +kernel
theorem dX0_member_43 : decode cX0_member 43 = .ok (.iload_n 1, 1) := by decide +kernel
theorem dX0_member_44 : decode cX0_member 44 = .ok (.aaload, 1) := by decide +kernel
theorem dX0_member_45 : decode cX0_member 45 = .ok (.iload_n 2, 1) := by decide +kernel
theorem dX0_member_46 : decode cX0_member 46 = .ok (.saload, 1) := by decide +kernel
theorem dX0_member_47 : decode cX0_member 47 = .ok (.goto 11, 3) := by decide +kernel
theorem dX0_member_50 : decode cX0_member 50 = .ok (.aload_n 0, 1) := by decide +kernel
theorem dX0_member_51 : decode cX0_member 51 = .ok (.getfield 49, 3) := by decide +kernel
theorem dX0_member_54 : decode cX0_member 54 = .ok (.iload_n 1, 1) := by decide +kernel
theorem dX0_member_55 : decode cX0_member 55 = .ok (.aaload, 1) := by decide +kernel
theorem dX0_member_56 : decode cX0_member 56 = .ok (.iload_n 2, 1) := by decide +kernel
theorem dX0_member_57 : decode cX0_member 57 = .ok (.baload, 1) := by decide +kernel
theorem dX0_member_58 : decode cX0_member 58 = .ok (.ireturn, 1) := by decide +kernel
abbrev cX0_told : ByteArray := prog_1_method_19_code
def yX0_told : MethodName := ⟨RX0, "told", "(II)I"⟩
theorem dX0_told_0 : decode cX0_told 0 = .ok (.iload_n 1, 1) := by decide +kernel
theorem dX0_told_1 : decode cX0_told 1 = .ok (.iconst 0, 1) := by decide +kernel
theorem dX0_told_2 : decode cX0_told 2 = .ok (.aload_n 0, 1) := by decide +kernel
theorem dX0_told_3 : decode cX0_told 3 = .ok (.getfield 107, 3) := by decide +kernel
theorem dX0_told_6 : decode cX0_told 6 = .ok (.iconst 1, 1) := by decide +kernel
theorem dX0_told_7 : decode cX0_told 7 = .ok (.isub, 1) := by decide +kernel
theorem dX0_told_8 : decode cX0_told 8 = .ok (.invokestatic 77, 3) := by decide +kernel
theorem dX0_told_11 : decode cX0_told 11 = .ok (.ifCond .eq 13, 3) := by decide +kernel
theorem dX0_told_14 : decode cX0_told 14 = .ok (.iload_n 2, 1) := by decide +kernel
theorem dX0_told_15 : decode cX0_told 15 = .ok (.iconst 0, 1) := by decide +kernel
theorem dX0_told_16 : decode cX0_told 16 = .ok (.bipush 7, 2) := by decide +kernel
theorem dX0_told_18 : decode cX0_told 18 = .ok (.invokestatic 77, 3) := by decide +kernel
theorem dX0_told_21 : decode cX0_told 21 = .ok (.ifCond .ne 7, 3) := by decide +kernel
theorem dX0_told_24 : decode cX0_told 24 = .ok (.sipush (-2000), 3) := by decide +kernel
theorem dX0_told_27 : decode cX0_told 27 = .ok (.ireturn, 1) := by decide +kernel
theorem dX0_told_28 : decode cX0_told 28 = .ok (.iload_n 2, 1) := by decide +kernel
theorem dX0_told_29 : decode cX0_told 29 = .ok (.ifCond .ne 12, 3) := by decide +kernel
theorem dX0_told_32 : decode cX0_told 32 = .ok (.aload_n 0, 1) := by decide +kernel
theorem dX0_told_33 : decode cX0_told 33 = .ok (.getfield 13, 3) := by decide +kernel
theorem dX0_told_36 : decode cX0_told 36 = .ok (.iload_n 1, 1) := by decide +kernel
theorem dX0_told_37 : decode cX0_told 37 = .ok (.iaload, 1) := by decide +kernel
theorem dX0_told_38 : decode cX0_told 38 = .ok (.goto 57, 3) := by decide +kernel
theorem dX0_told_41 : decode cX0_told 41 = .ok (.iload_n 2, 1) := by decide +kernel
theorem dX0_told_42 : decode cX0_told 42 = .ok (.iconst 1, 1) := by decide +kernel
theorem dX0_told_43 : decode cX0_told 43 = .ok (.if_icmp .ne 12, 3) := by decide +kernel
theorem dX0_told_46 : decode cX0_told 46 = .ok (.aload_n 0, 1) := by decide +kernel
theorem dX0_told_47 : decode cX0_told 47 = .ok (.getfield 16, 3) := by decide +kernel
theorem dX0_told_50 : decode cX0_told 50 = .ok (.iload_n 1, 1) := by decide +kernel
theorem dX0_told_51 : decode cX0_told 51 = .ok (.iaload, 1) := by decide +kernel
theorem dX0_told_52 : decode cX0_told 52 = .ok (.goto 43, 3) := by decide +kernel
theorem dX0_told_55 : decode cX0_told 55 = .ok (.iload_n 2, 1) := by decide +kernel
theorem dX0_told_56 : decode cX0_told 56 = .ok (.iconst 2, 1) := by decide +kernel
theorem dX0_told_57 : decode cX0_told 57 = .ok (.if_icmp .ne 12, 3) := by decide +kernel
theorem dX0_told_60 : decode cX0_told 60 = .ok (.aload_n 0, 1) := by decide +kernel
theorem dX0_told_61 : decode cX0_told 61 = .ok (.getfield 19, 3) := by decide +kernel
theorem dX0_told_64 : decode cX0_told 64 = .ok (.iload_n 1, 1) := by decide +kernel
theorem dX0_told_65 : decode cX0_told 65 = .ok (.iaload, 1) := by decide +kernel
theorem dX0_told_66 : decode cX0_told 66 = .ok (.goto 29, 3) := by decide +kernel
theorem dX0_told_69 : decode cX0_told 69 = .ok (.iload_n 2, 1) := by decide +kernel
theorem dX0_told_70 : decode cX0_told 70 = .ok (.bipush 7, 2) := by decide +kernel
theorem dX0_told_72 : decode cX0_told 72 = .ok (.if_icmp .ge 18, 3) := by decide +kernel
theorem dX0_told_75 : decode cX0_told 75 = .ok (.aload_n 0, 1) := by decide +kernel
theorem dX0_told_76 : decode cX0_told 76 = .ok (.getfield 22, 3) := by decide +kernel
theorem dX0_told_79 : decode cX0_told 79 = .ok (.iload_n 1, 1) := by decide +kernel
theorem dX0_told_80 : decode cX0_told 80 = .ok (.iconst 4, 1) := by decide +kernel
theorem dX0_told_81 : decode cX0_told 81 = .ok (.imul, 1) := by decide +kernel
theorem dX0_told_82 : decode cX0_told 82 = .ok (.iload_n 2, 1) := by decide +kernel
theorem dX0_told_83 : decode cX0_told 83 = .ok (.iadd, 1) := by decide +kernel
theorem dX0_told_84 : decode cX0_told 84 = .ok (.iconst 3, 1) := by decide +kernel
theorem dX0_told_85 : decode cX0_told 85 = .ok (.isub, 1) := by decide +kernel
theorem dX0_told_86 : decode cX0_told 86 = .ok (.iaload, 1) := by decide +kernel
theorem dX0_told_87 : decode cX0_told 87 = .ok (.goto 8, 3) := by decide +kernel
theorem dX0_told_90 : decode cX0_told 90 = .ok (.aload_n 0, 1) := by decide +kernel
theorem dX0_told_91 : decode cX0_told 91 = .ok (.iload_n 1, 1) := by decide +kernel
theorem dX0_told_92 : decode cX0_told 92 = .ok (.invokevirtual 174, 3) := by decide +kernel
theorem dX0_told_95 : decode cX0_told 95 = .ok (.ireturn, 1) := by decide +kernel
abbrev cX0_matchesWith : ByteArray := prog_1_method_18_code
def yX0_matchesWith : MethodName := ⟨RX0, "matchesWith", "(I)I"⟩
theorem dX0_matchesWith_0 : decode cX0_matchesWith 0 = .ok (.iconst 0, 1) := by decide +kernel
theorem dX0_matchesWith_1 : decode cX0_matchesWith 1 = .ok (.istore_n 2, 1) := by decide +kernel
theorem dX0_matchesWith_2 : decode cX0_matchesWith 2 = .ok (.iconst 0, 1) := by decide +kernel
theorem dX0_matchesWith_3 : decode cX0_matchesWith 3 = .ok (.istore_n 3, 1) := by decide +kernel
theorem dX0_matchesWith_4 : decode cX0_matchesWith 4 = .ok (.iload_n 3, 1) := by decide +kernel
theorem dX0_matchesWith_5 : decode cX0_matchesWith 5 = .ok (.aload_n 0, 1) := by decide +kernel
theorem dX0_matchesWith_6 : decode cX0_matchesWith 6 = .ok (.getfield 159, 3) := by decide +kernel
theorem dX0_matchesWith_9 : decode cX0_matchesWith 9 = .ok (.sipush 1000, 3) := by decide +kernel
theorem dX0_matchesWith_12 : decode cX0_matchesWith 12 = .ok (.invokestatic 165, 3) := by decide +kernel
theorem dX0_matchesWith_15 : decode cX0_matchesWith 15 = .ok (.if_icmp .ge 68, 3) := by decide +kernel
theorem dX0_matchesWith_18 : decode cX0_matchesWith 18 = .ok (.iconst 0, 1) := by decide +kernel
theorem dX0_matchesWith_19 : decode cX0_matchesWith 19 = .ok (.istore 4, 2) := by decide +kernel
theorem dX0_matchesWith_21 : decode cX0_matchesWith 21 = .ok (.iconst 0, 1) := by decide +kernel
theorem dX0_matchesWith_22 : decode cX0_matchesWith 22 = .ok (.istore 5, 2) := by decide +kernel
theorem dX0_matchesWith_24 : decode cX0_matchesWith 24 = .ok (.iload 5, 2) := by decide +kernel
theorem dX0_matchesWith_26 : decode cX0_matchesWith 26 = .ok (.aload_n 0, 1) := by decide +kernel
theorem dX0_matchesWith_27 : decode cX0_matchesWith 27 = .ok (.getfield 38, 3) := by decide +kernel
theorem dX0_matchesWith_30 : decode cX0_matchesWith 30 = .ok (.iload_n 3, 1) := by decide +kernel
theorem dX0_matchesWith_31 : decode cX0_matchesWith 31 = .ok (.iaload, 1) := by decide +kernel
theorem dX0_matchesWith_32 : decode cX0_matchesWith 32 = .ok (.if_icmp .ge 32, 3) := by decide +kernel
theorem dX0_matchesWith_35 : decode cX0_matchesWith 35 = .ok (.iload 4, 2) := by decide +kernel
theorem dX0_matchesWith_37 : decode cX0_matchesWith 37 = .ok (.aload_n 0, 1) := by decide +kernel
theorem dX0_matchesWith_38 : decode cX0_matchesWith 38 = .ok (.getfield 43, 3) := by decide +kernel
theorem dX0_matchesWith_41 : decode cX0_matchesWith 41 = .ok (.iload_n 3, 1) := by decide +kernel
theorem dX0_matchesWith_42 : decode cX0_matchesWith 42 = .ok (.aaload, 1) := by decide +kernel
theorem dX0_matchesWith_43 : decode cX0_matchesWith 43 = .ok (.iload 5, 2) := by decide +kernel
theorem dX0_matchesWith_45 : decode cX0_matchesWith 45 = .ok (.saload, 1) := by decide +kernel
theorem dX0_matchesWith_46 : decode cX0_matchesWith 46 = .ok (.iload_n 1, 1) := by decide +kernel
theorem dX0_matchesWith_47 : decode cX0_matchesWith 47 = .ok (.if_icmp .ne 7, 3) := by decide +kernel
theorem dX0_matchesWith_50 : decode cX0_matchesWith 50 = .ok (.iconst 1, 1) := by decide +kernel
theorem dX0_matchesWith_51 : decode cX0_matchesWith 51 = .ok (.goto 4, 3) := by decide +kernel
theorem dX0_matchesWith_54 : decode cX0_matchesWith 54 = .ok (.iconst 0, 1) := by decide +kernel
theorem dX0_matchesWith_55 : decode cX0_matchesWith 55 = .ok (.ior, 1) := by decide +kernel
theorem dX0_matchesWith_56 : decode cX0_matchesWith 56 = .ok (.istore 4, 2) := by decide +kernel
theorem dX0_matchesWith_58 : decode cX0_matchesWith 58 = .ok (.iinc 5 1, 3) := by decide +kernel
theorem dX0_matchesWith_61 : decode cX0_matchesWith 61 = .ok (.goto (-37), 3) := by decide +kernel
theorem dX0_matchesWith_64 : decode cX0_matchesWith 64 = .ok (.iload_n 2, 1) := by decide +kernel
theorem dX0_matchesWith_65 : decode cX0_matchesWith 65 = .ok (.iload 4, 2) := by decide +kernel
theorem dX0_matchesWith_67 : decode cX0_matchesWith 67 = .ok (.ifCond .eq 7, 3) := by decide +kernel
theorem dX0_matchesWith_70 : decode cX0_matchesWith 70 = .ok (.iconst 1, 1) := by decide +kernel
theorem dX0_matchesWith_71 : decode cX0_matchesWith 71 = .ok (.goto 4, 3) := by decide +kernel
theorem dX0_matchesWith_74 : decode cX0_matchesWith 74 = .ok (.iconst 0, 1) := by decide +kernel
theorem dX0_matchesWith_75 : decode cX0_matchesWith 75 = .ok (.iadd, 1) := by decide +kernel
theorem dX0_matchesWith_76 : decode cX0_matchesWith 76 = .ok (.istore_n 2, 1) := by decide +kernel
theorem dX0_matchesWith_77 : decode cX0_matchesWith 77 = .ok (.iinc 3 1, 3) := by decide +kernel
theorem dX0_matchesWith_80 : decode cX0_matchesWith 80 = .ok (.goto (-76), 3) := by decide +kernel
theorem dX0_matchesWith_83 : decode cX0_matchesWith 83 = .ok (.iload_n 2, 1) := by decide +kernel
theorem dX0_matchesWith_84 : decode cX0_matchesWith 84 = .ok (.ireturn, 1) := by decide +kernel
abbrev cX0_about : ByteArray := prog_1_method_21_code
def yX0_about : MethodName := ⟨RX0, "about", "(II)I"⟩
theorem dX0_about_0 : decode cX0_about 0 = .ok (.aload_n 0, 1) := by decide +kernel
theorem dX0_about_1 : decode cX0_about 1 = .ok (.iload_n 1, 1) := by decide +kernel
theorem dX0_about_2 : decode cX0_about 2 = .ok (.invokevirtual 99, 3) := by decide +kernel
theorem dX0_about_5 : decode cX0_about 5 = .ok (.ifCond .eq 12, 3) := by decide +kernel
theorem dX0_about_8 : decode cX0_about 8 = .ok (.iload_n 2, 1) := by decide +kernel
theorem dX0_about_9 : decode cX0_about 9 = .ok (.iconst 0, 1) := by decide +kernel
theorem dX0_about_10 : decode cX0_about 10 = .ok (.iconst 5, 1) := by decide +kernel
theorem dX0_about_11 : decode cX0_about 11 = .ok (.invokestatic 77, 3) := by decide +kernel
theorem dX0_about_14 : decode cX0_about 14 = .ok (.ifCond .ne 5, 3) := by decide +kernel
theorem dX0_about_17 : decode cX0_about 17 = .ok (.iconst (-1), 1) := by decide +kernel
theorem dX0_about_18 : decode cX0_about 18 = .ok (.ireturn, 1) := by decide +kernel
theorem dX0_about_19 : decode cX0_about 19 = .ok (.aload_n 0, 1) := by decide +kernel
theorem dX0_about_20 : decode cX0_about 20 = .ok (.getfield 55, 3) := by decide +kernel
theorem dX0_about_23 : decode cX0_about 23 = .ok (.iload_n 1, 1) := by decide +kernel
theorem dX0_about_24 : decode cX0_about 24 = .ok (.aaload, 1) := by decide +kernel
theorem dX0_about_25 : decode cX0_about 25 = .ok (.astore_n 3, 1) := by decide +kernel
theorem dX0_about_26 : decode cX0_about 26 = .ok (.iconst 0, 1) := by decide +kernel
theorem dX0_about_27 : decode cX0_about 27 = .ok (.istore 4, 2) := by decide +kernel
theorem dX0_about_29 : decode cX0_about 29 = .ok (.iconst 0, 1) := by decide +kernel
theorem dX0_about_30 : decode cX0_about 30 = .ok (.istore 5, 2) := by decide +kernel
theorem dX0_about_32 : decode cX0_about 32 = .ok (.iload 5, 2) := by decide +kernel
theorem dX0_about_34 : decode cX0_about 34 = .ok (.aload_n 3, 1) := by decide +kernel
theorem dX0_about_35 : decode cX0_about 35 = .ok (.getfield 178, 3) := by decide +kernel
theorem dX0_about_38 : decode cX0_about 38 = .ok (.if_icmp .ge 29, 3) := by decide +kernel
theorem dX0_about_41 : decode cX0_about 41 = .ok (.iload 4, 2) := by decide +kernel
theorem dX0_about_43 : decode cX0_about 43 = .ok (.aload_n 3, 1) := by decide +kernel
theorem dX0_about_44 : decode cX0_about 44 = .ok (.getfield 190, 3) := by decide +kernel
theorem dX0_about_47 : decode cX0_about 47 = .ok (.iload 5, 2) := by decide +kernel
theorem dX0_about_49 : decode cX0_about 49 = .ok (.baload, 1) := by decide +kernel
theorem dX0_about_50 : decode cX0_about 50 = .ok (.ifCond .eq 7, 3) := by decide +kernel
theorem dX0_about_53 : decode cX0_about 53 = .ok (.iconst 1, 1) := by decide +kernel
theorem dX0_about_54 : decode cX0_about 54 = .ok (.goto 4, 3) := by decide +kernel
theorem dX0_about_57 : decode cX0_about 57 = .ok (.iconst 0, 1) := by decide +kernel
theorem dX0_about_58 : decode cX0_about 58 = .ok (.iadd, 1) := by decide +kernel
theorem dX0_about_59 : decode cX0_about 59 = .ok (.istore 4, 2) := by decide +kernel
theorem dX0_about_61 : decode cX0_about 61 = .ok (.iinc 5 1, 3) := by decide +kernel
theorem dX0_about_64 : decode cX0_about 64 = .ok (.goto (-32), 3) := by decide +kernel
theorem dX0_about_67 : decode cX0_about 67 = .ok (.iload_n 2, 1) := by decide +kernel
theorem dX0_about_68 : decode cX0_about 68 = .ok (.tableswitch 75 0 4 #[36, 41, 46, 49, 62], 36) := by decide +kernel
theorem dX0_about_104 : decode cX0_about 104 = .ok (.aload_n 3, 1) := by decide +kernel
theorem dX0_about_105 : decode cX0_about 105 = .ok (.getfield 93, 3) := by decide +kernel
theorem dX0_about_108 : decode cX0_about 108 = .ok (.ireturn, 1) := by decide +kernel
theorem dX0_about_109 : decode cX0_about 109 = .ok (.aload_n 3, 1) := by decide +kernel
theorem dX0_about_110 : decode cX0_about 110 = .ok (.getfield 178, 3) := by decide +kernel
theorem dX0_about_113 : decode cX0_about 113 = .ok (.ireturn, 1) := by decide +kernel
theorem dX0_about_114 : decode cX0_about 114 = .ok (.iload 4, 2) := by decide +kernel
theorem dX0_about_116 : decode cX0_about 116 = .ok (.ireturn, 1) := by decide +kernel
theorem dX0_about_117 : decode cX0_about 117 = .ok (.aload_n 3, 1) := by decide +kernel
theorem dX0_about_118 : decode cX0_about 118 = .ok (.getfield 152, 3) := by decide +kernel
theorem dX0_about_121 : decode cX0_about 121 = .ok (.ifCond .eq 7, 3) := by decide +kernel
theorem dX0_about_124 : decode cX0_about 124 = .ok (.iconst 1, 1) := by decide +kernel
theorem dX0_about_125 : decode cX0_about 125 = .ok (.goto 4, 3) := by decide +kernel
theorem dX0_about_128 : decode cX0_about 128 = .ok (.iconst 0, 1) := by decide +kernel
theorem dX0_about_129 : decode cX0_about 129 = .ok (.ireturn, 1) := by decide +kernel
theorem dX0_about_130 : decode cX0_about 130 = .ok (.aload_n 3, 1) := by decide +kernel
theorem dX0_about_131 : decode cX0_about 131 = .ok (.getfield 81, 3) := by decide +kernel
theorem dX0_about_134 : decode cX0_about 134 = .ok (.ifCond .eq 7, 3) := by decide +kernel
theorem dX0_about_137 : decode cX0_about 137 = .ok (.iconst 1, 1) := by decide +kernel
theorem dX0_about_138 : decode cX0_about 138 = .ok (.goto 4, 3) := by decide +kernel
theorem dX0_about_141 : decode cX0_about 141 = .ok (.iconst 0, 1) := by decide +kernel
theorem dX0_about_142 : decode cX0_about 142 = .ok (.ireturn, 1) := by decide +kernel
theorem dX0_about_143 : decode cX0_about 143 = .ok (.aload_n 0, 1) := by decide +kernel
theorem dX0_about_144 : decode cX0_about 144 = .ok (.iload_n 1, 1) := by decide +kernel
theorem dX0_about_145 : decode cX0_about 145 = .ok (.iload_n 1, 1) := by decide +kernel
theorem dX0_about_146 : decode cX0_about 146 = .ok (.iconst 1, 1) := by decide +kernel
theorem dX0_about_147 : decode cX0_about 147 = .ok (.iadd, 1) := by decide +kernel
theorem dX0_about_148 : decode cX0_about 148 = .ok (.invokevirtual 193, 3) := by decide +kernel
theorem dX0_about_151 : decode cX0_about 151 = .ok (.ireturn, 1) := by decide +kernel
abbrev cX0_keptBy : ByteArray := prog_1_method_20_code
def yX0_keptBy : MethodName := ⟨RX0, "keptBy", "(II)I"⟩
theorem dX0_keptBy_0 : decode cX0_keptBy 0 = .ok (.iconst 0, 1) := by decide +kernel
theorem dX0_keptBy_1 : decode cX0_keptBy 1 = .ok (.istore_n 3, 1) := by decide +kernel
theorem dX0_keptBy_2 : decode cX0_keptBy 2 = .ok (.iload_n 3, 1) := by decide +kernel
theorem dX0_keptBy_3 : decode cX0_keptBy 3 = .ok (.aload_n 0, 1) := by decide +kernel
theorem dX0_keptBy_4 : decode cX0_keptBy 4 = .ok (.getfield 107, 3) := by decide +kernel
theorem dX0_keptBy_7 : decode cX0_keptBy 7 = .ok (.if_icmp .ge 16, 3) := by decide +kernel
theorem dX0_keptBy_10 : decode cX0_keptBy 10 = .ok (.aload_n 0, 1) := by decide +kernel
theorem dX0_keptBy_11 : decode cX0_keptBy 11 = .ok (.getfield 68, 3) := by decide +kernel
theorem dX0_keptBy_14 : decode cX0_keptBy 14 = .ok (.iload_n 3, 1) := by decide +kernel
theorem dX0_keptBy_15 : decode cX0_keptBy 15 = .ok (.iconst 0, 1) := by decide +kernel
theorem dX0_keptBy_16 : decode cX0_keptBy 16 = .ok (.bastore, 1) := by decide +kernel
theorem dX0_keptBy_17 : decode cX0_keptBy 17 = .ok (.iinc 3 1, 3) := by decide +kernel
theorem dX0_keptBy_20 : decode cX0_keptBy 20 = .ok (.goto (-18), 3) := by decide +kernel
theorem dX0_keptBy_23 : decode cX0_keptBy 23 = .ok (.iconst 0, 1) := by decide +kernel
theorem dX0_keptBy_24 : decode cX0_keptBy 24 = .ok (.istore_n 3, 1) := by decide +kernel
theorem dX0_keptBy_25 : decode cX0_keptBy 25 = .ok (.iload_n 1, 1) := by decide +kernel
theorem dX0_keptBy_26 : decode cX0_keptBy 26 = .ok (.istore 4, 2) := by decide +kernel
theorem dX0_keptBy_28 : decode cX0_keptBy 28 = .ok (.iload 4, 2) := by decide +kernel
theorem dX0_keptBy_30 : decode cX0_keptBy 30 = .ok (.iload_n 2, 1) := by decide +kernel
theorem dX0_keptBy_31 : decode cX0_keptBy 31 = .ok (.if_icmp .ge 111, 3) := by decide +kernel
theorem dX0_keptBy_34 : decode cX0_keptBy 34 = .ok (.iconst 0, 1) := by decide +kernel
theorem dX0_keptBy_35 : decode cX0_keptBy 35 = .ok (.istore 5, 2) := by decide +kernel
theorem dX0_keptBy_37 : decode cX0_keptBy 37 = .ok (.iload 5, 2) := by decide +kernel
theorem dX0_keptBy_39 : decode cX0_keptBy 39 = .ok (.aload_n 0, 1) := by decide +kernel
theorem dX0_keptBy_40 : decode cX0_keptBy 40 = .ok (.getfield 55, 3) := by decide +kernel
theorem dX0_keptBy_43 : decode cX0_keptBy 43 = .ok (.iload 4, 2) := by decide +kernel
theorem dX0_keptBy_45 : decode cX0_keptBy 45 = .ok (.aaload, 1) := by decide +kernel
theorem dX0_keptBy_46 : decode cX0_keptBy 46 = .ok (.getfield 178, 3) := by decide +kernel
theorem dX0_keptBy_49 : decode cX0_keptBy 49 = .ok (.if_icmp .ge 87, 3) := by decide +kernel
theorem dX0_keptBy_52 : decode cX0_keptBy 52 = .ok (.aload_n 0, 1) := by decide +kernel
theorem dX0_keptBy_53 : decode cX0_keptBy 53 = .ok (.getfield 55, 3) := by decide +kernel
theorem dX0_keptBy_56 : decode cX0_keptBy 56 = .ok (.iload 4, 2) := by decide +kernel
theorem dX0_keptBy_58 : decode cX0_keptBy 58 = .ok (.aaload, 1) := by decide +kernel
theorem dX0_keptBy_59 : decode cX0_keptBy 59 = .ok (.getfield 181, 3) := by decide +kernel
theorem dX0_keptBy_62 : decode cX0_keptBy 62 = .ok (.iload 5, 2) := by decide +kernel
theorem dX0_keptBy_64 : decode cX0_keptBy 64 = .ok (.iaload, 1) := by decide +kernel
theorem dX0_keptBy_65 : decode cX0_keptBy 65 = .ok (.istore 6, 2) := by decide +kernel
theorem dX0_keptBy_67 : decode cX0_keptBy 67 = .ok (.iload 6, 2) := by decide +kernel
theorem dX0_keptBy_69 : decode cX0_keptBy 69 = .ok (.iconst (-1), 1) := by decide +kernel
theorem dX0_keptBy_70 : decode cX0_keptBy 70 = .ok (.if_icmp .eq 60, 3) := by decide +kernel
theorem dX0_keptBy_73 : decode cX0_keptBy 73 = .ok (.iload_n 3, 1) := by decide +kernel
theorem dX0_keptBy_74 : decode cX0_keptBy 74 = .ok (.aload_n 0, 1) := by decide +kernel
theorem dX0_keptBy_75 : decode cX0_keptBy 75 = .ok (.getfield 68, 3) := by decide +kernel
theorem dX0_keptBy_78 : decode cX0_keptBy 78 = .ok (.aload_n 0, 1) := by decide +kernel
theorem dX0_keptBy_79 : decode cX0_keptBy 79 = .ok (.getfield 31, 3) := by decide +kernel
theorem dX0_keptBy_82 : decode cX0_keptBy 82 = .ok (.getfield 184, 3) := by decide +kernel
theorem dX0_keptBy_85 : decode cX0_keptBy 85 = .ok (.iload 6, 2) := by decide +kernel
theorem dX0_keptBy_87 : decode cX0_keptBy 87 = .ok (.iaload, 1) := by decide +kernel
theorem dX0_keptBy_88 : decode cX0_keptBy 88 = .ok (.baload, 1) := by decide +kernel
theorem dX0_keptBy_89 : decode cX0_keptBy 89 = .ok (.ifCond .eq 7, 3) := by decide +kernel
theorem dX0_keptBy_92 : decode cX0_keptBy 92 = .ok (.iconst 0, 1) := by decide +kernel
theorem dX0_keptBy_93 : decode cX0_keptBy 93 = .ok (.goto 4, 3) := by decide +kernel
theorem dX0_keptBy_96 : decode cX0_keptBy 96 = .ok (.iconst 1, 1) := by decide +kernel
theorem dX0_keptBy_97 : decode cX0_keptBy 97 = .ok (.iadd, 1) := by decide +kernel
theorem dX0_keptBy_98 : decode cX0_keptBy 98 = .ok (.istore_n 3, 1) := by decide +kernel
theorem dX0_keptBy_99 : decode cX0_keptBy 99 = .ok (.aload_n 0, 1) := by decide +kernel
theorem dX0_keptBy_100 : decode cX0_keptBy 100 = .ok (.getfield 68, 3) := by decide +kernel
theorem dX0_keptBy_103 : decode cX0_keptBy 103 = .ok (.aload_n 0, 1) := by decide +kernel
theorem dX0_keptBy_104 : decode cX0_keptBy 104 = .ok (.getfield 31, 3) := by decide +kernel
theorem dX0_keptBy_107 : decode cX0_keptBy 107 = .ok (.getfield 184, 3) := by decide +kernel
theorem dX0_keptBy_110 : decode cX0_keptBy 110 = .ok (.iload 6, 2) := by decide +kernel
theorem dX0_keptBy_112 : decode cX0_keptBy 112 = .ok (.iaload, 1) := by decide +kernel
theorem dX0_keptBy_113 : decode cX0_keptBy 113 = .ok (.iconst 1, 1) := by decide +kernel
theorem dX0_keptBy_114 : decode cX0_keptBy 114 = .ok (.bastore, 1) := by decide +kernel
theorem dX0_keptBy_115 : decode cX0_keptBy 115 = .ok (.aload_n 0, 1) := by decide +kernel
theorem dX0_keptBy_116 : decode cX0_keptBy 116 = .ok (.getfield 31, 3) := by decide +kernel
theorem dX0_keptBy_119 : decode cX0_keptBy 119 = .ok (.getfield 187, 3) := by decide +kernel
theorem dX0_keptBy_122 : decode cX0_keptBy 122 = .ok (.iload 6, 2) := by decide +kernel
theorem dX0_keptBy_124 : decode cX0_keptBy 124 = .ok (.iaload, 1) := by decide +kernel
theorem dX0_keptBy_125 : decode cX0_keptBy 125 = .ok (.istore 6, 2) := by decide +kernel
theorem dX0_keptBy_127 : decode cX0_keptBy 127 = .ok (.goto (-60), 3) := by decide +kernel
theorem dX0_keptBy_130 : decode cX0_keptBy 130 = .ok (.iinc 5 1, 3) := by decide +kernel
theorem dX0_keptBy_133 : decode cX0_keptBy 133 = .ok (.goto (-96), 3) := by decide +kernel
theorem dX0_keptBy_136 : decode cX0_keptBy 136 = .ok (.iinc 4 1, 3) := by decide +kernel
theorem dX0_keptBy_139 : decode cX0_keptBy 139 = .ok (.goto (-111), 3) := by decide +kernel
theorem dX0_keptBy_142 : decode cX0_keptBy 142 = .ok (.iload_n 3, 1) := by decide +kernel
theorem dX0_keptBy_143 : decode cX0_keptBy 143 = .ok (.ireturn, 1) := by decide +kernel
abbrev cX0_run : ByteArray := prog_1_method_22_code
def yX0_run : MethodName := ⟨RX0, "run", "(IIII)I"⟩
theorem dX0_run_0 : decode cX0_run 0 = .ok (.aload_n 0, 1) := by decide +kernel
theorem dX0_run_1 : decode cX0_run 1 = .ok (.iload_n 1, 1) := by decide +kernel
theorem dX0_run_2 : decode cX0_run 2 = .ok (.invokevirtual 99, 3) := by decide +kernel
theorem dX0_run_5 : decode cX0_run 5 = .ok (.ifCond .eq 32, 3) := by decide +kernel
theorem dX0_run_8 : decode cX0_run 8 = .ok (.iload_n 2, 1) := by decide +kernel
theorem dX0_run_9 : decode cX0_run 9 = .ok (.iconst 0, 1) := by decide +kernel
theorem dX0_run_10 : decode cX0_run 10 = .ok (.aload_n 0, 1) := by decide +kernel
theorem dX0_run_11 : decode cX0_run 11 = .ok (.getfield 55, 3) := by decide +kernel
theorem dX0_run_14 : decode cX0_run 14 = .ok (.iload_n 1, 1) := by decide +kernel
theorem dX0_run_15 : decode cX0_run 15 = .ok (.aaload, 1) := by decide +kernel
theorem dX0_run_16 : decode cX0_run 16 = .ok (.getfield 178, 3) := by decide +kernel
theorem dX0_run_19 : decode cX0_run 19 = .ok (.iconst 1, 1) := by decide +kernel
theorem dX0_run_20 : decode cX0_run 20 = .ok (.isub, 1) := by decide +kernel
theorem dX0_run_21 : decode cX0_run 21 = .ok (.invokestatic 77, 3) := by decide +kernel
theorem dX0_run_24 : decode cX0_run 24 = .ok (.ifCond .eq 13, 3) := by decide +kernel
theorem dX0_run_27 : decode cX0_run 27 = .ok (.iload 4, 2) := by decide +kernel
theorem dX0_run_29 : decode cX0_run 29 = .ok (.iconst 0, 1) := by decide +kernel
theorem dX0_run_30 : decode cX0_run 30 = .ok (.iconst 1, 1) := by decide +kernel
theorem dX0_run_31 : decode cX0_run 31 = .ok (.invokestatic 77, 3) := by decide +kernel
theorem dX0_run_34 : decode cX0_run 34 = .ok (.ifCond .ne 5, 3) := by decide +kernel
theorem dX0_run_37 : decode cX0_run 37 = .ok (.iconst (-1), 1) := by decide +kernel
theorem dX0_run_38 : decode cX0_run 38 = .ok (.ireturn, 1) := by decide +kernel
theorem dX0_run_39 : decode cX0_run 39 = .ok (.aload_n 0, 1) := by decide +kernel
theorem dX0_run_40 : decode cX0_run 40 = .ok (.getfield 55, 3) := by decide +kernel
theorem dX0_run_43 : decode cX0_run 43 = .ok (.iload_n 1, 1) := by decide +kernel
theorem dX0_run_44 : decode cX0_run 44 = .ok (.aaload, 1) := by decide +kernel
theorem dX0_run_45 : decode cX0_run 45 = .ok (.getfield 181, 3) := by decide +kernel
theorem dX0_run_48 : decode cX0_run 48 = .ok (.iload_n 2, 1) := by decide +kernel
theorem dX0_run_49 : decode cX0_run 49 = .ok (.iaload, 1) := by decide +kernel
theorem dX0_run_50 : decode cX0_run 50 = .ok (.istore 5, 2) := by decide +kernel
theorem dX0_run_52 : decode cX0_run 52 = .ok (.iload_n 3, 1) := by decide +kernel
theorem dX0_run_53 : decode cX0_run 53 = .ok (.iconst 0, 1) := by decide +kernel
theorem dX0_run_54 : decode cX0_run 54 = .ok (.aload_n 0, 1) := by decide +kernel
theorem dX0_run_55 : decode cX0_run 55 = .ok (.getfield 31, 3) := by decide +kernel
theorem dX0_run_58 : decode cX0_run 58 = .ok (.iload 5, 2) := by decide +kernel
theorem dX0_run_60 : decode cX0_run 60 = .ok (.invokevirtual 196, 3) := by decide +kernel
theorem dX0_run_63 : decode cX0_run 63 = .ok (.iconst 1, 1) := by decide +kernel
theorem dX0_run_64 : decode cX0_run 64 = .ok (.isub, 1) := by decide +kernel
theorem dX0_run_65 : decode cX0_run 65 = .ok (.invokestatic 77, 3) := by decide +kernel
theorem dX0_run_68 : decode cX0_run 68 = .ok (.ifCond .ne 5, 3) := by decide +kernel
theorem dX0_run_71 : decode cX0_run 71 = .ok (.iconst (-1), 1) := by decide +kernel
theorem dX0_run_72 : decode cX0_run 72 = .ok (.ireturn, 1) := by decide +kernel
theorem dX0_run_73 : decode cX0_run 73 = .ok (.aload_n 0, 1) := by decide +kernel
theorem dX0_run_74 : decode cX0_run 74 = .ok (.getfield 31, 3) := by decide +kernel
theorem dX0_run_77 : decode cX0_run 77 = .ok (.iload 5, 2) := by decide +kernel
theorem dX0_run_79 : decode cX0_run 79 = .ok (.iload_n 3, 1) := by decide +kernel
theorem dX0_run_80 : decode cX0_run 80 = .ok (.invokevirtual 199, 3) := by decide +kernel
theorem dX0_run_83 : decode cX0_run 83 = .ok (.istore 6, 2) := by decide +kernel
theorem dX0_run_85 : decode cX0_run 85 = .ok (.iload 4, 2) := by decide +kernel
theorem dX0_run_87 : decode cX0_run 87 = .ok (.ifCond .ne 16, 3) := by decide +kernel
theorem dX0_run_90 : decode cX0_run 90 = .ok (.aload_n 0, 1) := by decide +kernel
theorem dX0_run_91 : decode cX0_run 91 = .ok (.getfield 31, 3) := by decide +kernel
theorem dX0_run_94 : decode cX0_run 94 = .ok (.getfield 184, 3) := by decide +kernel
theorem dX0_run_97 : decode cX0_run 97 = .ok (.iload 6, 2) := by decide +kernel
theorem dX0_run_99 : decode cX0_run 99 = .ok (.iaload, 1) := by decide +kernel
theorem dX0_run_100 : decode cX0_run 100 = .ok (.goto 13, 3) := by decide +kernel
theorem dX0_run_103 : decode cX0_run 103 = .ok (.aload_n 0, 1) := by decide +kernel
theorem dX0_run_104 : decode cX0_run 104 = .ok (.getfield 31, 3) := by decide +kernel
theorem dX0_run_107 : decode cX0_run 107 = .ok (.getfield 202, 3) := by decide +kernel
theorem dX0_run_110 : decode cX0_run 110 = .ok (.iload 6, 2) := by decide +kernel
theorem dX0_run_112 : decode cX0_run 112 = .ok (.iaload, 1) := by decide +kernel
theorem dX0_run_113 : decode cX0_run 113 = .ok (.ireturn, 1) := by decide +kernel
abbrev cX0_almost : ByteArray := prog_1_method_23_code
def yX0_almost : MethodName := ⟨RX0, "almost", "(II)I"⟩
theorem dX0_almost_0 : decode cX0_almost 0 = .ok (.aload_n 0, 1) := by decide +kernel
theorem dX0_almost_1 : decode cX0_almost 1 = .ok (.iload_n 1, 1) := by decide +kernel
theorem dX0_almost_2 : decode cX0_almost 2 = .ok (.invokevirtual 99, 3) := by decide +kernel
theorem dX0_almost_5 : decode cX0_almost 5 = .ok (.ifCond .eq 12, 3) := by decide +kernel
theorem dX0_almost_8 : decode cX0_almost 8 = .ok (.iload_n 2, 1) := by decide +kernel
theorem dX0_almost_9 : decode cX0_almost 9 = .ok (.iconst 0, 1) := by decide +kernel
theorem dX0_almost_10 : decode cX0_almost 10 = .ok (.iconst 5, 1) := by decide +kernel
theorem dX0_almost_11 : decode cX0_almost 11 = .ok (.invokestatic 77, 3) := by decide +kernel
theorem dX0_almost_14 : decode cX0_almost 14 = .ok (.ifCond .ne 5, 3) := by decide +kernel
theorem dX0_almost_17 : decode cX0_almost 17 = .ok (.iconst (-1), 1) := by decide +kernel
theorem dX0_almost_18 : decode cX0_almost 18 = .ok (.ireturn, 1) := by decide +kernel
theorem dX0_almost_19 : decode cX0_almost 19 = .ok (.iconst 0, 1) := by decide +kernel
theorem dX0_almost_20 : decode cX0_almost 20 = .ok (.istore_n 3, 1) := by decide +kernel
theorem dX0_almost_21 : decode cX0_almost 21 = .ok (.iconst 0, 1) := by decide +kernel
theorem dX0_almost_22 : decode cX0_almost 22 = .ok (.istore 4, 2) := by decide +kernel
theorem dX0_almost_24 : decode cX0_almost 24 = .ok (.iload 4, 2) := by decide +kernel
theorem dX0_almost_26 : decode cX0_almost 26 = .ok (.aload_n 0, 1) := by decide +kernel
theorem dX0_almost_27 : decode cX0_almost 27 = .ok (.getfield 55, 3) := by decide +kernel
theorem dX0_almost_30 : decode cX0_almost 30 = .ok (.iload_n 1, 1) := by decide +kernel
theorem dX0_almost_31 : decode cX0_almost 31 = .ok (.aaload, 1) := by decide +kernel
theorem dX0_almost_32 : decode cX0_almost 32 = .ok (.getfield 178, 3) := by decide +kernel
theorem dX0_almost_35 : decode cX0_almost 35 = .ok (.if_icmp .ge 42, 3) := by decide +kernel
theorem dX0_almost_38 : decode cX0_almost 38 = .ok (.iload_n 3, 1) := by decide +kernel
theorem dX0_almost_39 : decode cX0_almost 39 = .ok (.aload_n 0, 1) := by decide +kernel
theorem dX0_almost_40 : decode cX0_almost 40 = .ok (.getfield 55, 3) := by decide +kernel
theorem dX0_almost_43 : decode cX0_almost 43 = .ok (.iload_n 1, 1) := by decide +kernel
theorem dX0_almost_44 : decode cX0_almost 44 = .ok (.aaload, 1) := by decide +kernel
theorem dX0_almost_45 : decode cX0_almost 45 = .ok (.aload_n 0, 1) := by decide +kernel
theorem dX0_almost_46 : decode cX0_almost 46 = .ok (.getfield 55, 3) := by decide +kernel
theorem dX0_almost_49 : decode cX0_almost 49 = .ok (.iload_n 1, 1) := by decide +kernel
theorem dX0_almost_50 : decode cX0_almost 50 = .ok (.aaload, 1) := by decide +kernel
theorem dX0_almost_51 : decode cX0_almost 51 = .ok (.getfield 181, 3) := by decide +kernel
theorem dX0_almost_54 : decode cX0_almost 54 = .ok (.iload 4, 2) := by decide +kernel
theorem dX0_almost_56 : decode cX0_almost 56 = .ok (.iaload, 1) := by decide +kernel
theorem dX0_almost_57 : decode cX0_almost 57 = .ok (.invokevirtual 205, 3) := by decide +kernel
theorem dX0_almost_60 : decode cX0_almost 60 = .ok (.iload_n 2, 1) := by decide +kernel
theorem dX0_almost_61 : decode cX0_almost 61 = .ok (.if_icmp .gt 7, 3) := by decide +kernel
theorem dX0_almost_64 : decode cX0_almost 64 = .ok (.iconst 1, 1) := by decide +kernel
theorem dX0_almost_65 : decode cX0_almost 65 = .ok (.goto 4, 3) := by decide +kernel
theorem dX0_almost_68 : decode cX0_almost 68 = .ok (.iconst 0, 1) := by decide +kernel
theorem dX0_almost_69 : decode cX0_almost 69 = .ok (.iadd, 1) := by decide +kernel
theorem dX0_almost_70 : decode cX0_almost 70 = .ok (.istore_n 3, 1) := by decide +kernel
theorem dX0_almost_71 : decode cX0_almost 71 = .ok (.iinc 4 1, 3) := by decide +kernel
theorem dX0_almost_74 : decode cX0_almost 74 = .ok (.goto (-50), 3) := by decide +kernel
theorem dX0_almost_77 : decode cX0_almost 77 = .ok (.iload_n 3, 1) := by decide +kernel
theorem dX0_almost_78 : decode cX0_almost 78 = .ok (.ireturn, 1) := by decide +kernel
abbrev cX0_plain : ByteArray := prog_1_method_24_code
def yX0_plain : MethodName := ⟨RX0, "plain", "(I)I"⟩
theorem dX0_plain_0 : decode cX0_plain 0 = .ok (.aload_n 0, 1) := by decide +kernel
theorem dX0_plain_1 : decode cX0_plain 1 = .ok (.iload_n 1, 1) := by decide +kernel
theorem dX0_plain_2 : decode cX0_plain 2 = .ok (.invokevirtual 99, 3) := by decide +kernel
theorem dX0_plain_5 : decode cX0_plain 5 = .ok (.ifCond .eq 15, 3) := by decide +kernel
theorem dX0_plain_8 : decode cX0_plain 8 = .ok (.aload_n 0, 1) := by decide +kernel
theorem dX0_plain_9 : decode cX0_plain 9 = .ok (.getfield 55, 3) := by decide +kernel
theorem dX0_plain_12 : decode cX0_plain 12 = .ok (.iload_n 1, 1) := by decide +kernel
theorem dX0_plain_13 : decode cX0_plain 13 = .ok (.aaload, 1) := by decide +kernel
theorem dX0_plain_14 : decode cX0_plain 14 = .ok (.getfield 81, 3) := by decide +kernel
theorem dX0_plain_17 : decode cX0_plain 17 = .ok (.ifCond .ne 5, 3) := by decide +kernel
theorem dX0_plain_20 : decode cX0_plain 20 = .ok (.iconst (-1), 1) := by decide +kernel
theorem dX0_plain_21 : decode cX0_plain 21 = .ok (.ireturn, 1) := by decide +kernel
theorem dX0_plain_22 : decode cX0_plain 22 = .ok (.aload_n 0, 1) := by decide +kernel
theorem dX0_plain_23 : decode cX0_plain 23 = .ok (.getfield 107, 3) := by decide +kernel
theorem dX0_plain_26 : decode cX0_plain 26 = .ok (.aload_n 0, 1) := by decide +kernel
theorem dX0_plain_27 : decode cX0_plain 27 = .ok (.getfield 55, 3) := by decide +kernel
theorem dX0_plain_30 : decode cX0_plain 30 = .ok (.iload_n 1, 1) := by decide +kernel
theorem dX0_plain_31 : decode cX0_plain 31 = .ok (.aaload, 1) := by decide +kernel
theorem dX0_plain_32 : decode cX0_plain 32 = .ok (.getfield 110, 3) := by decide +kernel
theorem dX0_plain_35 : decode cX0_plain 35 = .ok (.isub, 1) := by decide +kernel
theorem dX0_plain_36 : decode cX0_plain 36 = .ok (.bipush 12, 2) := by decide +kernel
theorem dX0_plain_38 : decode cX0_plain 38 = .ok (.if_icmp .le 8, 3) := by decide +kernel
theorem dX0_plain_41 : decode cX0_plain 41 = .ok (.bipush (-6), 2) := by decide +kernel
theorem dX0_plain_43 : decode cX0_plain 43 = .ok (.goto 16, 3) := by decide +kernel
theorem dX0_plain_46 : decode cX0_plain 46 = .ok (.aload_n 0, 1) := by decide +kernel
theorem dX0_plain_47 : decode cX0_plain 47 = .ok (.getfield 64, 3) := by decide +kernel
theorem dX0_plain_50 : decode cX0_plain 50 = .ok (.aload_n 0, 1) := by decide +kernel
theorem dX0_plain_51 : decode cX0_plain 51 = .ok (.getfield 55, 3) := by decide +kernel
theorem dX0_plain_54 : decode cX0_plain 54 = .ok (.iload_n 1, 1) := by decide +kernel
theorem dX0_plain_55 : decode cX0_plain 55 = .ok (.aaload, 1) := by decide +kernel
theorem dX0_plain_56 : decode cX0_plain 56 = .ok (.invokevirtual 208, 3) := by decide +kernel
theorem dX0_plain_59 : decode cX0_plain 59 = .ok (.ireturn, 1) := by decide +kernel
abbrev cX0_count : ByteArray := prog_1_method_25_code
def yX0_count : MethodName := ⟨RX0, "count", "(I)I"⟩
theorem dX0_count_0 : decode cX0_count 0 = .ok (.iload_n 1, 1) := by decide +kernel
theorem dX0_count_1 : decode cX0_count 1 = .ok (.tableswitch 79 0 5 #[39, 44, 49, 59, 64, 69], 39) := by decide +kernel
theorem dX0_count_40 : decode cX0_count 40 = .ok (.aload_n 0, 1) := by decide +kernel
theorem dX0_count_41 : decode cX0_count 41 = .ok (.getfield 73, 3) := by decide +kernel
theorem dX0_count_44 : decode cX0_count 44 = .ok (.ireturn, 1) := by decide +kernel
theorem dX0_count_45 : decode cX0_count 45 = .ok (.aload_n 0, 1) := by decide +kernel
theorem dX0_count_46 : decode cX0_count 46 = .ok (.getfield 107, 3) := by decide +kernel
theorem dX0_count_49 : decode cX0_count 49 = .ok (.ireturn, 1) := by decide +kernel
theorem dX0_count_50 : decode cX0_count 50 = .ok (.aload_n 0, 1) := by decide +kernel
theorem dX0_count_51 : decode cX0_count 51 = .ok (.getfield 132, 3) := by decide +kernel
theorem dX0_count_54 : decode cX0_count 54 = .ok (.aload_n 0, 1) := by decide +kernel
theorem dX0_count_55 : decode cX0_count 55 = .ok (.getfield 107, 3) := by decide +kernel
theorem dX0_count_58 : decode cX0_count 58 = .ok (.isub, 1) := by decide +kernel
theorem dX0_count_59 : decode cX0_count 59 = .ok (.ireturn, 1) := by decide +kernel
theorem dX0_count_60 : decode cX0_count 60 = .ok (.aload_n 0, 1) := by decide +kernel
theorem dX0_count_61 : decode cX0_count 61 = .ok (.getfield 129, 3) := by decide +kernel
theorem dX0_count_64 : decode cX0_count 64 = .ok (.ireturn, 1) := by decide +kernel
theorem dX0_count_65 : decode cX0_count 65 = .ok (.aload_n 0, 1) := by decide +kernel
theorem dX0_count_66 : decode cX0_count 66 = .ok (.getfield 126, 3) := by decide +kernel
theorem dX0_count_69 : decode cX0_count 69 = .ok (.ireturn, 1) := by decide +kernel
theorem dX0_count_70 : decode cX0_count 70 = .ok (.aload_n 0, 1) := by decide +kernel
theorem dX0_count_71 : decode cX0_count 71 = .ok (.iconst 0, 1) := by decide +kernel
theorem dX0_count_72 : decode cX0_count 72 = .ok (.aload_n 0, 1) := by decide +kernel
theorem dX0_count_73 : decode cX0_count 73 = .ok (.getfield 73, 3) := by decide +kernel
theorem dX0_count_76 : decode cX0_count 76 = .ok (.invokevirtual 193, 3) := by decide +kernel
theorem dX0_count_79 : decode cX0_count 79 = .ok (.ireturn, 1) := by decide +kernel
theorem dX0_count_80 : decode cX0_count 80 = .ok (.iconst (-1), 1) := by decide +kernel
theorem dX0_count_81 : decode cX0_count 81 = .ok (.ireturn, 1) := by decide +kernel
abbrev cX0_is : ByteArray := prog_1_method_26_code
def yX0_is : MethodName := ⟨RX0, "is", "(II)I"⟩
theorem dX0_is_0 : decode cX0_is 0 = .ok (.iload_n 1, 1) := by decide +kernel
theorem dX0_is_1 : decode cX0_is 1 = .ok (.iconst 0, 1) := by decide +kernel
theorem dX0_is_2 : decode cX0_is 2 = .ok (.bipush 15, 2) := by decide +kernel
theorem dX0_is_4 : decode cX0_is 4 = .ok (.invokestatic 77, 3) := by decide +kernel
theorem dX0_is_7 : decode cX0_is 7 = .ok (.ifCond .eq 13, 3) := by decide +kernel
theorem dX0_is_10 : decode cX0_is 10 = .ok (.iload_n 2, 1) := by decide +kernel
theorem dX0_is_11 : decode cX0_is 11 = .ok (.iconst 0, 1) := by decide +kernel
theorem dX0_is_12 : decode cX0_is 12 = .ok (.bipush 15, 2) := by decide +kernel
theorem dX0_is_14 : decode cX0_is 14 = .ok (.invokestatic 77, 3) := by decide +kernel
theorem dX0_is_17 : decode cX0_is 17 = .ok (.ifCond .ne 7, 3) := by decide +kernel
theorem dX0_is_20 : decode cX0_is 20 = .ok (.iconst (-1), 1) := by decide +kernel
theorem dX0_is_21 : decode cX0_is 21 = .ok (.goto 17, 3) := by decide +kernel
theorem dX0_is_24 : decode cX0_is 24 = .ok (.aload_n 0, 1) := by decide +kernel
theorem dX0_is_25 : decode cX0_is 25 = .ok (.iload_n 1, 1) := by decide +kernel
theorem dX0_is_26 : decode cX0_is 26 = .ok (.iload_n 2, 1) := by decide +kernel
theorem dX0_is_27 : decode cX0_is 27 = .ok (.invokevirtual 212, 3) := by decide +kernel
theorem dX0_is_30 : decode cX0_is 30 = .ok (.ifCond .eq 7, 3) := by decide +kernel
theorem dX0_is_33 : decode cX0_is 33 = .ok (.iconst 1, 1) := by decide +kernel
theorem dX0_is_34 : decode cX0_is 34 = .ok (.goto 4, 3) := by decide +kernel
theorem dX0_is_37 : decode cX0_is 37 = .ok (.iconst 0, 1) := by decide +kernel
theorem dX0_is_38 : decode cX0_is 38 = .ok (.ireturn, 1) := by decide +kernel
theorem q45 : (Jvm.Cond.initialized "EventHunter") ∈ lw_all := lw_g (lw_at lw_m1 1 rfl) rfl
theorem q53 : (Jvm.Cond.instantiable "EventHunter" (21 : Nat)) ∈ lw_all := lw_g (lw_at lw_m1 9 rfl) rfl
theorem q55 : (Jvm.Cond.instanceMethod ({ cls := "EventHunter", name := "<init>", desc := "()V" } : Jvm.MethodName)) ∈ lw_all := lw_g (lw_at lw_m1 11 rfl) rfl
theorem q56 : (Jvm.Cond.code ({ cls := "EventHunter", name := "<init>", desc := "()V" } : Jvm.MethodName) prog_1_method_3_code (2 : Nat) (Option.none : Option Jvm.ClassFile.FieldType)) ∈ lw_all := lw_g (lw_at lw_m1 12 rfl) rfl
theorem q57 : (Jvm.Cond.methodLink "EventHunter" (7 : Nat) ({ cls := "java/lang/Object", name := "<init>", desc := "()V" } : Jvm.MethodName)) ∈ lw_all := lw_g (lw_at lw_m1 13 rfl) rfl
theorem q60 : (Jvm.Cond.classLink "EventHunter" (28 : Nat) "EventHunter$Web") ∈ lw_all := lw_g (lw_at lw_m1 16 rfl) rfl
theorem q62 : (Jvm.Cond.methodLinkNest "EventHunter" (30 : Nat) ({ cls := "EventHunter$Web", name := "<init>", desc := "()V" } : Jvm.MethodName) "EventHunter") ∈ lw_tbl := lw_at lw_m1 18 rfl
theorem q69 : (Jvm.Cond.fieldLinkNest "EventHunter" (184 : Nat) "EventHunter$Web" "event" "[I" "EventHunter") ∈ lw_tbl := lw_at lw_m1 25 rfl
theorem q72 : (Jvm.Cond.fieldLinkNest "EventHunter" (202 : Nat) "EventHunter$Web" "step" "[I" "EventHunter") ∈ lw_tbl := lw_at lw_m1 28 rfl
theorem q75 : (Jvm.Cond.fieldLinkNest "EventHunter" (187 : Nat) "EventHunter$Web" "before" "[I" "EventHunter") ∈ lw_tbl := lw_at lw_m1 31 rfl
theorem q93 : (Jvm.Cond.classLink "EventHunter" (41 : Nat) "[S") ∈ lw_all := lw_g (lw_at lw_m1 49 rfl) rfl
theorem q95 : (Jvm.Cond.classLink "EventHunter" (47 : Nat) "[B") ∈ lw_all := lw_g (lw_at lw_m1 51 rfl) rfl
theorem q97 : (Jvm.Cond.classLink "EventHunter" (53 : Nat) "EventHunter$Pattern") ∈ lw_all := lw_g (lw_at lw_m1 53 rfl) rfl
theorem q99 : (Jvm.Cond.classLink "EventHunter" (59 : Nat) "EventHunter$Plain") ∈ lw_all := lw_g (lw_at lw_m1 55 rfl) rfl
theorem q101 : (Jvm.Cond.methodLinkNest "EventHunter" (61 : Nat) ({ cls := "EventHunter$Plain", name := "<init>", desc := "(LEventHunter;)V" } : Jvm.MethodName) "EventHunter") ∈ lw_tbl := lw_at lw_m1 57 rfl
theorem q122 : (Jvm.Cond.methodLinkNest "EventHunter" (72 : Nat) ({ cls := "EventHunter$Pattern", name := "<init>", desc := "(LEventHunter;)V" } : Jvm.MethodName) "EventHunter") ∈ lw_tbl := lw_at lw_m1 78 rfl
theorem q126 : (Jvm.Cond.fieldLinkNest "EventHunter" (85 : Nat) "EventHunter$Pattern" "within" "I" "EventHunter") ∈ lw_tbl := lw_at lw_m1 82 rfl
theorem q129 : (Jvm.Cond.fieldLinkNest "EventHunter" (87 : Nat) "EventHunter$Pattern" "way" "I" "EventHunter") ∈ lw_tbl := lw_at lw_m1 85 rfl
theorem q132 : (Jvm.Cond.fieldLinkNest "EventHunter" (90 : Nat) "EventHunter$Pattern" "key" "I" "EventHunter") ∈ lw_tbl := lw_at lw_m1 88 rfl
theorem q135 : (Jvm.Cond.fieldLinkNest "EventHunter" (93 : Nat) "EventHunter$Pattern" "steps" "I" "EventHunter") ∈ lw_tbl := lw_at lw_m1 91 rfl
theorem q138 : (Jvm.Cond.fieldLinkNest "EventHunter" (96 : Nat) "EventHunter$Pattern" "sort" "[I" "EventHunter") ∈ lw_tbl := lw_at lw_m1 94 rfl
theorem q141 : (Jvm.Cond.fieldLinkNest "EventHunter" (113 : Nat) "EventHunter$Pattern" "of" "[I" "EventHunter") ∈ lw_tbl := lw_at lw_m1 97 rfl
theorem q144 : (Jvm.Cond.fieldLinkNest "EventHunter" (116 : Nat) "EventHunter$Pattern" "test" "[I" "EventHunter") ∈ lw_tbl := lw_at lw_m1 100 rfl
theorem q147 : (Jvm.Cond.fieldLinkNest "EventHunter" (119 : Nat) "EventHunter$Pattern" "by" "[I" "EventHunter") ∈ lw_tbl := lw_at lw_m1 103 rfl
theorem q150 : (Jvm.Cond.fieldLinkNest "EventHunter" (122 : Nat) "EventHunter$Pattern" "with" "[I" "EventHunter") ∈ lw_tbl := lw_at lw_m1 106 rfl
theorem q151 : (Jvm.Cond.fieldLinkNest "EventHunter" (81 : Nat) "EventHunter$Pattern" "isBegun" "Z" "EventHunter") ∈ lw_tbl := lw_at lw_m1 107 rfl
theorem q153 : (Jvm.Cond.fieldLinkNest "EventHunter" (152 : Nat) "EventHunter$Pattern" "isSpent" "Z" "EventHunter") ∈ lw_tbl := lw_at lw_m1 109 rfl
theorem q155 : (Jvm.Cond.fieldLinkNest "EventHunter" (110 : Nat) "EventHunter$Pattern" "since" "I" "EventHunter") ∈ lw_tbl := lw_at lw_m1 111 rfl
theorem q157 : (Jvm.Cond.fieldLinkNest "EventHunter" (162 : Nat) "EventHunter$Pattern" "told" "I" "EventHunter") ∈ lw_tbl := lw_at lw_m1 113 rfl
theorem q159 : (Jvm.Cond.fieldLinkNest "EventHunter" (181 : Nat) "EventHunter$Pattern" "run" "[I" "EventHunter") ∈ lw_tbl := lw_at lw_m1 115 rfl
theorem q161 : (Jvm.Cond.fieldLinkNest "EventHunter" (190 : Nat) "EventHunter$Pattern" "hurt" "[Z" "EventHunter") ∈ lw_tbl := lw_at lw_m1 117 rfl
theorem q163 : (Jvm.Cond.fieldLinkNest "EventHunter" (178 : Nat) "EventHunter$Pattern" "runs" "I" "EventHunter") ∈ lw_tbl := lw_at lw_m1 119 rfl
theorem q201 : (Jvm.Cond.fieldLink "EventHunter" (3 : Nat) "EventHunter" "parent" "[I") ∈ lw_all := lw_g (lw_at lw_m1 157 rfl) rfl
theorem q203 : (Jvm.Cond.fieldLink "EventHunter" (13 : Nat) "EventHunter" "kind" "[I") ∈ lw_all := lw_g (lw_at lw_m1 159 rfl) rfl
theorem q205 : (Jvm.Cond.fieldLink "EventHunter" (16 : Nat) "EventHunter" "minute" "[I") ∈ lw_all := lw_g (lw_at lw_m1 161 rfl) rfl
theorem q208 : (Jvm.Cond.fieldLink "EventHunter" (19 : Nat) "EventHunter" "number" "[I") ∈ lw_all := lw_g (lw_at lw_m1 164 rfl) rfl
theorem q210 : (Jvm.Cond.fieldLink "EventHunter" (22 : Nat) "EventHunter" "field" "[I") ∈ lw_all := lw_g (lw_at lw_m1 166 rfl) rfl
theorem q213 : (Jvm.Cond.fieldLink "EventHunter" (107 : Nat) "EventHunter" "taken" "I") ∈ lw_all := lw_g (lw_at lw_m1 169 rfl) rfl
theorem q214 : (Jvm.Cond.fieldLink "EventHunter" (132 : Nat) "EventHunter" "many" "I") ∈ lw_all := lw_g (lw_at lw_m1 170 rfl) rfl
theorem q215 : (Jvm.Cond.fieldLink "EventHunter" (129 : Nat) "EventHunter" "left" "I") ∈ lw_all := lw_g (lw_at lw_m1 171 rfl) rfl
theorem q216 : (Jvm.Cond.fieldLink "EventHunter" (126 : Nat) "EventHunter" "mark" "I") ∈ lw_all := lw_g (lw_at lw_m1 172 rfl) rfl
theorem q217 : (Jvm.Cond.fieldLink "EventHunter" (25 : Nat) "EventHunter" "fields" "[I") ∈ lw_all := lw_g (lw_at lw_m1 173 rfl) rfl
theorem q219 : (Jvm.Cond.fieldLink "EventHunter" (31 : Nat) "EventHunter" "web" "LEventHunter$Web;") ∈ lw_all := lw_g (lw_at lw_m1 175 rfl) rfl
theorem q220 : (Jvm.Cond.fieldLink "EventHunter" (35 : Nat) "EventHunter" "matchPattern" "[I") ∈ lw_all := lw_g (lw_at lw_m1 176 rfl) rfl
theorem q222 : (Jvm.Cond.fieldLink "EventHunter" (38 : Nat) "EventHunter" "matchMany" "[I") ∈ lw_all := lw_g (lw_at lw_m1 178 rfl) rfl
theorem q224 : (Jvm.Cond.fieldLink "EventHunter" (43 : Nat) "EventHunter" "matchEvent" "[[S") ∈ lw_all := lw_g (lw_at lw_m1 180 rfl) rfl
theorem q226 : (Jvm.Cond.fieldLink "EventHunter" (49 : Nat) "EventHunter" "matchStep" "[[B") ∈ lw_all := lw_g (lw_at lw_m1 182 rfl) rfl
theorem q229 : (Jvm.Cond.fieldLink "EventHunter" (159 : Nat) "EventHunter" "matches" "I") ∈ lw_all := lw_g (lw_at lw_m1 185 rfl) rfl
theorem q231 : (Jvm.Cond.fieldLink "EventHunter" (149 : Nat) "EventHunter" "here" "I") ∈ lw_all := lw_g (lw_at lw_m1 187 rfl) rfl
theorem q232 : (Jvm.Cond.fieldLink "EventHunter" (55 : Nat) "EventHunter" "patterns" "[LEventHunter$Pattern;") ∈ lw_all := lw_g (lw_at lw_m1 188 rfl) rfl
theorem q233 : (Jvm.Cond.fieldLink "EventHunter" (73 : Nat) "EventHunter" "patternMany" "I") ∈ lw_all := lw_g (lw_at lw_m1 189 rfl) rfl
theorem q234 : (Jvm.Cond.fieldLink "EventHunter" (64 : Nat) "EventHunter" "plain" "LEventHunter$Plain;") ∈ lw_all := lw_g (lw_at lw_m1 190 rfl) rfl
theorem q235 : (Jvm.Cond.fieldLink "EventHunter" (68 : Nat) "EventHunter" "has" "[Z") ∈ lw_all := lw_g (lw_at lw_m1 191 rfl) rfl
theorem q236 : (Jvm.Cond.laysFinal "EventHunter" "EventHunter" "parent" "[I") ∈ lw_all := lw_g (lw_at lw_m1 192 rfl) rfl
theorem q237 : (Jvm.Cond.soleField "EventHunter" "parent") ∈ lw_all := lw_g (lw_at lw_m1 193 rfl) rfl
theorem q238 : (Jvm.Cond.laysFinal "EventHunter" "EventHunter" "kind" "[I") ∈ lw_all := lw_g (lw_at lw_m1 194 rfl) rfl
theorem q239 : (Jvm.Cond.soleField "EventHunter" "kind") ∈ lw_all := lw_g (lw_at lw_m1 195 rfl) rfl
theorem q240 : (Jvm.Cond.laysFinal "EventHunter" "EventHunter" "minute" "[I") ∈ lw_all := lw_g (lw_at lw_m1 196 rfl) rfl
theorem q241 : (Jvm.Cond.soleField "EventHunter" "minute") ∈ lw_all := lw_g (lw_at lw_m1 197 rfl) rfl
theorem q242 : (Jvm.Cond.laysFinal "EventHunter" "EventHunter" "number" "[I") ∈ lw_all := lw_g (lw_at lw_m1 198 rfl) rfl
theorem q243 : (Jvm.Cond.soleField "EventHunter" "number") ∈ lw_all := lw_g (lw_at lw_m1 199 rfl) rfl
theorem q244 : (Jvm.Cond.laysFinal "EventHunter" "EventHunter" "field" "[I") ∈ lw_all := lw_g (lw_at lw_m1 200 rfl) rfl
theorem q245 : (Jvm.Cond.soleField "EventHunter" "field") ∈ lw_all := lw_g (lw_at lw_m1 201 rfl) rfl
theorem q246 : (Jvm.Cond.lays "EventHunter" "EventHunter" "taken" "I") ∈ lw_all := lw_g (lw_at lw_m1 202 rfl) rfl
theorem q247 : (Jvm.Cond.soleField "EventHunter" "taken") ∈ lw_all := lw_g (lw_at lw_m1 203 rfl) rfl
theorem q248 : (Jvm.Cond.lays "EventHunter" "EventHunter" "many" "I") ∈ lw_all := lw_g (lw_at lw_m1 204 rfl) rfl
theorem q249 : (Jvm.Cond.soleField "EventHunter" "many") ∈ lw_all := lw_g (lw_at lw_m1 205 rfl) rfl
theorem q250 : (Jvm.Cond.lays "EventHunter" "EventHunter" "left" "I") ∈ lw_all := lw_g (lw_at lw_m1 206 rfl) rfl
theorem q251 : (Jvm.Cond.soleField "EventHunter" "left") ∈ lw_all := lw_g (lw_at lw_m1 207 rfl) rfl
theorem q252 : (Jvm.Cond.lays "EventHunter" "EventHunter" "mark" "I") ∈ lw_all := lw_g (lw_at lw_m1 208 rfl) rfl
theorem q253 : (Jvm.Cond.soleField "EventHunter" "mark") ∈ lw_all := lw_g (lw_at lw_m1 209 rfl) rfl
theorem q254 : (Jvm.Cond.laysFinal "EventHunter" "EventHunter" "fields" "[I") ∈ lw_all := lw_g (lw_at lw_m1 210 rfl) rfl
theorem q255 : (Jvm.Cond.soleField "EventHunter" "fields") ∈ lw_all := lw_g (lw_at lw_m1 211 rfl) rfl
theorem q256 : (Jvm.Cond.laysFinal "EventHunter" "EventHunter" "web" "LEventHunter$Web;") ∈ lw_all := lw_g (lw_at lw_m1 212 rfl) rfl
theorem q257 : (Jvm.Cond.soleField "EventHunter" "web") ∈ lw_all := lw_g (lw_at lw_m1 213 rfl) rfl
theorem q258 : (Jvm.Cond.laysFinal "EventHunter" "EventHunter" "matchPattern" "[I") ∈ lw_all := lw_g (lw_at lw_m1 214 rfl) rfl
theorem q259 : (Jvm.Cond.soleField "EventHunter" "matchPattern") ∈ lw_all := lw_g (lw_at lw_m1 215 rfl) rfl
theorem q260 : (Jvm.Cond.laysFinal "EventHunter" "EventHunter" "matchMany" "[I") ∈ lw_all := lw_g (lw_at lw_m1 216 rfl) rfl
theorem q261 : (Jvm.Cond.soleField "EventHunter" "matchMany") ∈ lw_all := lw_g (lw_at lw_m1 217 rfl) rfl
theorem q262 : (Jvm.Cond.laysFinal "EventHunter" "EventHunter" "matchEvent" "[[S") ∈ lw_all := lw_g (lw_at lw_m1 218 rfl) rfl
theorem q263 : (Jvm.Cond.soleField "EventHunter" "matchEvent") ∈ lw_all := lw_g (lw_at lw_m1 219 rfl) rfl
theorem q264 : (Jvm.Cond.laysFinal "EventHunter" "EventHunter" "matchStep" "[[B") ∈ lw_all := lw_g (lw_at lw_m1 220 rfl) rfl
theorem q265 : (Jvm.Cond.soleField "EventHunter" "matchStep") ∈ lw_all := lw_g (lw_at lw_m1 221 rfl) rfl
theorem q266 : (Jvm.Cond.lays "EventHunter" "EventHunter" "matches" "I") ∈ lw_all := lw_g (lw_at lw_m1 222 rfl) rfl
theorem q267 : (Jvm.Cond.soleField "EventHunter" "matches") ∈ lw_all := lw_g (lw_at lw_m1 223 rfl) rfl
theorem q268 : (Jvm.Cond.lays "EventHunter" "EventHunter" "here" "I") ∈ lw_all := lw_g (lw_at lw_m1 224 rfl) rfl
theorem q269 : (Jvm.Cond.soleField "EventHunter" "here") ∈ lw_all := lw_g (lw_at lw_m1 225 rfl) rfl
theorem q270 : (Jvm.Cond.laysFinal "EventHunter" "EventHunter" "patterns" "[LEventHunter$Pattern;") ∈ lw_all := lw_g (lw_at lw_m1 226 rfl) rfl
theorem q271 : (Jvm.Cond.soleField "EventHunter" "patterns") ∈ lw_all := lw_g (lw_at lw_m1 227 rfl) rfl
theorem q272 : (Jvm.Cond.lays "EventHunter" "EventHunter" "patternMany" "I") ∈ lw_all := lw_g (lw_at lw_m1 228 rfl) rfl
theorem q273 : (Jvm.Cond.soleField "EventHunter" "patternMany") ∈ lw_all := lw_g (lw_at lw_m1 229 rfl) rfl
theorem q274 : (Jvm.Cond.laysFinal "EventHunter" "EventHunter" "plain" "LEventHunter$Plain;") ∈ lw_all := lw_g (lw_at lw_m1 230 rfl) rfl
theorem q275 : (Jvm.Cond.soleField "EventHunter" "plain") ∈ lw_all := lw_g (lw_at lw_m1 231 rfl) rfl
theorem q276 : (Jvm.Cond.laysFinal "EventHunter" "EventHunter" "has" "[Z") ∈ lw_all := lw_g (lw_at lw_m1 232 rfl) rfl
theorem q277 : (Jvm.Cond.soleField "EventHunter" "has") ∈ lw_all := lw_g (lw_at lw_m1 233 rfl) rfl
theorem q278 : (Jvm.Cond.superclass "EventHunter" "java/lang/Object") ∈ lw_all := lw_g (lw_at lw_m1 234 rfl) rfl
theorem q280 : (Jvm.Cond.instanceMethod ({ cls := "EventHunter", name := "parent", desc := "(II)I" } : Jvm.MethodName)) ∈ lw_all := lw_g (lw_at lw_m1 236 rfl) rfl
theorem q281 : (Jvm.Cond.selects "EventHunter" ({ cls := "EventHunter", name := "parent", desc := "(II)I" } : Jvm.MethodName) ({ cls := "EventHunter", name := "parent", desc := "(II)I" } : Jvm.MethodName)) ∈ lw_all := lw_g (lw_at lw_m1 237 rfl) rfl
theorem q282 : (Jvm.Cond.code ({ cls := "EventHunter", name := "parent", desc := "(II)I" } : Jvm.MethodName) prog_1_method_5_code (4 : Nat) (Option.some Jvm.ClassFile.FieldType.int)) ∈ lw_all := lw_g (lw_at lw_m1 238 rfl) rfl
theorem q283 : (Jvm.Cond.methodLink "EventHunter" (77 : Nat) ({ cls := "EventHunter", name := "within", desc := "(III)Z" } : Jvm.MethodName)) ∈ lw_all := lw_g (lw_at lw_m1 239 rfl) rfl
theorem q284 : (Jvm.Cond.static ({ cls := "EventHunter", name := "within", desc := "(III)Z" } : Jvm.MethodName)) ∈ lw_all := lw_g (lw_at lw_m2 0 rfl) rfl
theorem q285 : (Jvm.Cond.code ({ cls := "EventHunter", name := "within", desc := "(III)Z" } : Jvm.MethodName) prog_1_method_1_code (3 : Nat) (Option.some Jvm.ClassFile.FieldType.boolean)) ∈ lw_all := lw_g (lw_at lw_m2 1 rfl) rfl
theorem q287 : (Jvm.Cond.instanceMethod ({ cls := "EventHunter", name := "pattern", desc := "(III)I" } : Jvm.MethodName)) ∈ lw_all := lw_g (lw_at lw_m2 3 rfl) rfl
theorem q288 : (Jvm.Cond.selects "EventHunter" ({ cls := "EventHunter", name := "pattern", desc := "(III)I" } : Jvm.MethodName) ({ cls := "EventHunter", name := "pattern", desc := "(III)I" } : Jvm.MethodName)) ∈ lw_all := lw_g (lw_at lw_m2 4 rfl) rfl
theorem q289 : (Jvm.Cond.code ({ cls := "EventHunter", name := "pattern", desc := "(III)I" } : Jvm.MethodName) prog_1_method_6_code (5 : Nat) (Option.some Jvm.ClassFile.FieldType.int)) ∈ lw_all := lw_g (lw_at lw_m2 5 rfl) rfl
theorem q291 : (Jvm.Cond.instanceMethod ({ cls := "EventHunter", name := "step", desc := "(IIIIII)I" } : Jvm.MethodName)) ∈ lw_all := lw_g (lw_at lw_m2 7 rfl) rfl
theorem q292 : (Jvm.Cond.selects "EventHunter" ({ cls := "EventHunter", name := "step", desc := "(IIIIII)I" } : Jvm.MethodName) ({ cls := "EventHunter", name := "step", desc := "(IIIIII)I" } : Jvm.MethodName)) ∈ lw_all := lw_g (lw_at lw_m2 8 rfl) rfl
theorem q293 : (Jvm.Cond.code ({ cls := "EventHunter", name := "step", desc := "(IIIIII)I" } : Jvm.MethodName) prog_1_method_8_code (8 : Nat) (Option.some Jvm.ClassFile.FieldType.int)) ∈ lw_all := lw_g (lw_at lw_m2 9 rfl) rfl
theorem q294 : (Jvm.Cond.methodLink "EventHunter" (99 : Nat) ({ cls := "EventHunter", name := "isPattern", desc := "(I)Z" } : Jvm.MethodName)) ∈ lw_all := lw_g (lw_at lw_m2 10 rfl) rfl
theorem q295 : (Jvm.Cond.privateMethod ({ cls := "EventHunter", name := "isPattern", desc := "(I)Z" } : Jvm.MethodName)) ∈ lw_tbl := lw_at lw_m2 11 rfl
theorem q296 : (Jvm.Cond.instanceMethod ({ cls := "EventHunter", name := "isPattern", desc := "(I)Z" } : Jvm.MethodName)) ∈ lw_all := lw_g (lw_at lw_m2 12 rfl) rfl
theorem q297 : (Jvm.Cond.code ({ cls := "EventHunter", name := "isPattern", desc := "(I)Z" } : Jvm.MethodName) prog_1_method_4_code (2 : Nat) (Option.some Jvm.ClassFile.FieldType.boolean)) ∈ lw_all := lw_g (lw_at lw_m2 13 rfl) rfl
theorem q298 : (Jvm.Cond.methodLink "EventHunter" (103 : Nat) ({ cls := "EventHunter", name := "mayStand", desc := "(LEventHunter$Pattern;I)Z" } : Jvm.MethodName)) ∈ lw_all := lw_g (lw_at lw_m2 14 rfl) rfl
theorem q299 : (Jvm.Cond.static ({ cls := "EventHunter", name := "mayStand", desc := "(LEventHunter$Pattern;I)Z" } : Jvm.MethodName)) ∈ lw_all := lw_g (lw_at lw_m2 15 rfl) rfl
theorem q300 : (Jvm.Cond.code ({ cls := "EventHunter", name := "mayStand", desc := "(LEventHunter$Pattern;I)Z" } : Jvm.MethodName) prog_1_method_7_code (3 : Nat) (Option.some Jvm.ClassFile.FieldType.boolean)) ∈ lw_all := lw_g (lw_at lw_m2 16 rfl) rfl
theorem q302 : (Jvm.Cond.instanceMethod ({ cls := "EventHunter", name := "put", desc := "(III)I" } : Jvm.MethodName)) ∈ lw_all := lw_g (lw_at lw_m2 18 rfl) rfl
theorem q303 : (Jvm.Cond.selects "EventHunter" ({ cls := "EventHunter", name := "put", desc := "(III)I" } : Jvm.MethodName) ({ cls := "EventHunter", name := "put", desc := "(III)I" } : Jvm.MethodName)) ∈ lw_all := lw_g (lw_at lw_m2 19 rfl) rfl
theorem q304 : (Jvm.Cond.code ({ cls := "EventHunter", name := "put", desc := "(III)I" } : Jvm.MethodName) prog_1_method_10_code (6 : Nat) (Option.some Jvm.ClassFile.FieldType.int)) ∈ lw_all := lw_g (lw_at lw_m2 20 rfl) rfl
theorem q305 : (Jvm.Cond.constant "EventHunter" (125 : Nat) (100000 : Int32)) ∈ lw_all := lw_g (lw_at lw_m2 21 rfl) rfl
theorem q306 : (Jvm.Cond.methodLink "EventHunter" (135 : Nat) ({ cls := "EventHunter", name := "isAhead", desc := "(III)Z" } : Jvm.MethodName)) ∈ lw_all := lw_g (lw_at lw_m2 22 rfl) rfl
theorem q307 : (Jvm.Cond.privateMethod ({ cls := "EventHunter", name := "isAhead", desc := "(III)Z" } : Jvm.MethodName)) ∈ lw_tbl := lw_at lw_m2 23 rfl
theorem q308 : (Jvm.Cond.instanceMethod ({ cls := "EventHunter", name := "isAhead", desc := "(III)Z" } : Jvm.MethodName)) ∈ lw_all := lw_g (lw_at lw_m2 24 rfl) rfl
theorem q309 : (Jvm.Cond.code ({ cls := "EventHunter", name := "isAhead", desc := "(III)Z" } : Jvm.MethodName) prog_1_method_9_code (4 : Nat) (Option.some Jvm.ClassFile.FieldType.boolean)) ∈ lw_all := lw_g (lw_at lw_m2 25 rfl) rfl
theorem q310 : (Jvm.Cond.methodLink "EventHunter" (138 : Nat) ({ cls := "EventHunter", name := "move", desc := "(II)V" } : Jvm.MethodName)) ∈ lw_all := lw_g (lw_at lw_m2 26 rfl) rfl
theorem q311 : (Jvm.Cond.privateMethod ({ cls := "EventHunter", name := "move", desc := "(II)V" } : Jvm.MethodName)) ∈ lw_tbl := lw_at lw_m2 27 rfl
theorem q312 : (Jvm.Cond.instanceMethod ({ cls := "EventHunter", name := "move", desc := "(II)V" } : Jvm.MethodName)) ∈ lw_all := lw_g (lw_at lw_m2 28 rfl) rfl
theorem q313 : (Jvm.Cond.code ({ cls := "EventHunter", name := "move", desc := "(II)V" } : Jvm.MethodName) prog_1_method_11_code (3 : Nat) (Option.none : Option Jvm.ClassFile.FieldType)) ∈ lw_all := lw_g (lw_at lw_m2 29 rfl) rfl
theorem q314 : (Jvm.Cond.methodLink "EventHunter" (142 : Nat) ({ cls := "java/lang/System", name := "arraycopy", desc := "(Ljava/lang/Object;ILjava/lang/Object;II)V" } : Jvm.MethodName)) ∈ lw_all := lw_g (lw_at lw_m2 30 rfl) rfl
theorem q318 : (Jvm.Cond.instanceMethod ({ cls := "EventHunter", name := "fields", desc := "(IIII)I" } : Jvm.MethodName)) ∈ lw_all := lw_g (lw_at lw_m2 34 rfl) rfl
theorem q319 : (Jvm.Cond.selects "EventHunter" ({ cls := "EventHunter", name := "fields", desc := "(IIII)I" } : Jvm.MethodName) ({ cls := "EventHunter", name := "fields", desc := "(IIII)I" } : Jvm.MethodName)) ∈ lw_all := lw_g (lw_at lw_m2 35 rfl) rfl
theorem q320 : (Jvm.Cond.code ({ cls := "EventHunter", name := "fields", desc := "(IIII)I" } : Jvm.MethodName) prog_1_method_12_code (5 : Nat) (Option.some Jvm.ClassFile.FieldType.int)) ∈ lw_all := lw_g (lw_at lw_m2 36 rfl) rfl
theorem q322 : (Jvm.Cond.instanceMethod ({ cls := "EventHunter", name := "mark", desc := "(I)I" } : Jvm.MethodName)) ∈ lw_all := lw_g (lw_at lw_m2 38 rfl) rfl
theorem q323 : (Jvm.Cond.selects "EventHunter" ({ cls := "EventHunter", name := "mark", desc := "(I)I" } : Jvm.MethodName) ({ cls := "EventHunter", name := "mark", desc := "(I)I" } : Jvm.MethodName)) ∈ lw_all := lw_g (lw_at lw_m2 39 rfl) rfl
theorem q324 : (Jvm.Cond.code ({ cls := "EventHunter", name := "mark", desc := "(I)I" } : Jvm.MethodName) prog_1_method_13_code (5 : Nat) (Option.some Jvm.ClassFile.FieldType.int)) ∈ lw_all := lw_g (lw_at lw_m2 40 rfl) rfl
theorem q325 : (Jvm.Cond.constant "EventHunter" (148 : Nat) (200000 : Int32)) ∈ lw_all := lw_g (lw_at lw_m2 41 rfl) rfl
theorem q326 : (Jvm.Cond.methodLink "EventHunter" (155 : Nat) ({ cls := "EventHunter$Pattern", name := "come", desc := "(I)V" } : Jvm.MethodName)) ∈ lw_all := lw_g (lw_at lw_m2 42 rfl) rfl
theorem q359 : (Jvm.Cond.privateMethod ({ cls := "EventHunter", name := "isKind", desc := "(II)Z" } : Jvm.MethodName)) ∈ lw_tbl := lw_at lw_m2 75 rfl
theorem q360 : (Jvm.Cond.instanceMethod ({ cls := "EventHunter", name := "isKind", desc := "(II)Z" } : Jvm.MethodName)) ∈ lw_all := lw_g (lw_at lw_m2 76 rfl) rfl
theorem q361 : (Jvm.Cond.code ({ cls := "EventHunter", name := "isKind", desc := "(II)Z" } : Jvm.MethodName) prog_1_method_2_code (4 : Nat) (Option.some Jvm.ClassFile.FieldType.boolean)) ∈ lw_all := lw_g (lw_at lw_m2 77 rfl) rfl
theorem q405 : (Jvm.Cond.instanceMethod ({ cls := "EventHunter", name := "matches", desc := "(I)I" } : Jvm.MethodName)) ∈ lw_all := lw_g (lw_at lw_m2 121 rfl) rfl
theorem q406 : (Jvm.Cond.selects "EventHunter" ({ cls := "EventHunter", name := "matches", desc := "(I)I" } : Jvm.MethodName) ({ cls := "EventHunter", name := "matches", desc := "(I)I" } : Jvm.MethodName)) ∈ lw_all := lw_g (lw_at lw_m2 122 rfl) rfl
theorem q407 : (Jvm.Cond.code ({ cls := "EventHunter", name := "matches", desc := "(I)I" } : Jvm.MethodName) prog_1_method_14_code (2 : Nat) (Option.some Jvm.ClassFile.FieldType.int)) ∈ lw_all := lw_g (lw_at lw_m2 123 rfl) rfl
theorem q409 : (Jvm.Cond.instanceMethod ({ cls := "EventHunter", name := "match", desc := "(II)I" } : Jvm.MethodName)) ∈ lw_all := lw_g (lw_at lw_m2 125 rfl) rfl
theorem q410 : (Jvm.Cond.selects "EventHunter" ({ cls := "EventHunter", name := "match", desc := "(II)I" } : Jvm.MethodName) ({ cls := "EventHunter", name := "match", desc := "(II)I" } : Jvm.MethodName)) ∈ lw_all := lw_g (lw_at lw_m2 126 rfl) rfl
theorem q411 : (Jvm.Cond.code ({ cls := "EventHunter", name := "match", desc := "(II)I" } : Jvm.MethodName) prog_1_method_16_code (3 : Nat) (Option.some Jvm.ClassFile.FieldType.int)) ∈ lw_all := lw_g (lw_at lw_m2 127 rfl) rfl
theorem q412 : (Jvm.Cond.methodLink "EventHunter" (171 : Nat) ({ cls := "EventHunter", name := "isMatch", desc := "(I)Z" } : Jvm.MethodName)) ∈ lw_all := lw_g (lw_at lw_m2 128 rfl) rfl
theorem q413 : (Jvm.Cond.privateMethod ({ cls := "EventHunter", name := "isMatch", desc := "(I)Z" } : Jvm.MethodName)) ∈ lw_tbl := lw_at lw_m2 129 rfl
theorem q414 : (Jvm.Cond.instanceMethod ({ cls := "EventHunter", name := "isMatch", desc := "(I)Z" } : Jvm.MethodName)) ∈ lw_all := lw_g (lw_at lw_m2 130 rfl) rfl
theorem q415 : (Jvm.Cond.code ({ cls := "EventHunter", name := "isMatch", desc := "(I)Z" } : Jvm.MethodName) prog_1_method_15_code (2 : Nat) (Option.some Jvm.ClassFile.FieldType.boolean)) ∈ lw_all := lw_g (lw_at lw_m2 131 rfl) rfl
theorem q416 : (Jvm.Cond.methodLink "EventHunter" (165 : Nat) ({ cls := "java/lang/Math", name := "min", desc := "(II)I" } : Jvm.MethodName)) ∈ lw_all := lw_g (lw_at lw_m2 132 rfl) rfl
theorem q420 : (Jvm.Cond.instanceMethod ({ cls := "EventHunter", name := "member", desc := "(III)I" } : Jvm.MethodName)) ∈ lw_all := lw_g (lw_at lw_m2 136 rfl) rfl
theorem q421 : (Jvm.Cond.selects "EventHunter" ({ cls := "EventHunter", name := "member", desc := "(III)I" } : Jvm.MethodName) ({ cls := "EventHunter", name := "member", desc := "(III)I" } : Jvm.MethodName)) ∈ lw_all := lw_g (lw_at lw_m2 137 rfl) rfl
theorem q422 : (Jvm.Cond.code ({ cls := "EventHunter", name := "member", desc := "(III)I" } : Jvm.MethodName) prog_1_method_17_code (4 : Nat) (Option.some Jvm.ClassFile.FieldType.int)) ∈ lw_all := lw_g (lw_at lw_m2 138 rfl) rfl
theorem q424 : (Jvm.Cond.instanceMethod ({ cls := "EventHunter", name := "told", desc := "(II)I" } : Jvm.MethodName)) ∈ lw_all := lw_g (lw_at lw_m2 140 rfl) rfl
theorem q425 : (Jvm.Cond.selects "EventHunter" ({ cls := "EventHunter", name := "told", desc := "(II)I" } : Jvm.MethodName) ({ cls := "EventHunter", name := "told", desc := "(II)I" } : Jvm.MethodName)) ∈ lw_all := lw_g (lw_at lw_m2 141 rfl) rfl
theorem q426 : (Jvm.Cond.code ({ cls := "EventHunter", name := "told", desc := "(II)I" } : Jvm.MethodName) prog_1_method_19_code (3 : Nat) (Option.some Jvm.ClassFile.FieldType.int)) ∈ lw_all := lw_g (lw_at lw_m2 142 rfl) rfl
theorem q427 : (Jvm.Cond.methodLink "EventHunter" (174 : Nat) ({ cls := "EventHunter", name := "matchesWith", desc := "(I)I" } : Jvm.MethodName)) ∈ lw_all := lw_g (lw_at lw_m2 143 rfl) rfl
theorem q428 : (Jvm.Cond.privateMethod ({ cls := "EventHunter", name := "matchesWith", desc := "(I)I" } : Jvm.MethodName)) ∈ lw_tbl := lw_at lw_m2 144 rfl
theorem q429 : (Jvm.Cond.instanceMethod ({ cls := "EventHunter", name := "matchesWith", desc := "(I)I" } : Jvm.MethodName)) ∈ lw_all := lw_g (lw_at lw_m2 145 rfl) rfl
theorem q430 : (Jvm.Cond.code ({ cls := "EventHunter", name := "matchesWith", desc := "(I)I" } : Jvm.MethodName) prog_1_method_18_code (6 : Nat) (Option.some Jvm.ClassFile.FieldType.int)) ∈ lw_all := lw_g (lw_at lw_m2 146 rfl) rfl
theorem q432 : (Jvm.Cond.instanceMethod ({ cls := "EventHunter", name := "about", desc := "(II)I" } : Jvm.MethodName)) ∈ lw_all := lw_g (lw_at lw_m2 148 rfl) rfl
theorem q433 : (Jvm.Cond.selects "EventHunter" ({ cls := "EventHunter", name := "about", desc := "(II)I" } : Jvm.MethodName) ({ cls := "EventHunter", name := "about", desc := "(II)I" } : Jvm.MethodName)) ∈ lw_all := lw_g (lw_at lw_m2 149 rfl) rfl
theorem q434 : (Jvm.Cond.code ({ cls := "EventHunter", name := "about", desc := "(II)I" } : Jvm.MethodName) prog_1_method_21_code (6 : Nat) (Option.some Jvm.ClassFile.FieldType.int)) ∈ lw_all := lw_g (lw_at lw_m2 150 rfl) rfl
theorem q435 : (Jvm.Cond.methodLink "EventHunter" (193 : Nat) ({ cls := "EventHunter", name := "keptBy", desc := "(II)I" } : Jvm.MethodName)) ∈ lw_all := lw_g (lw_at lw_m2 151 rfl) rfl
theorem q436 : (Jvm.Cond.privateMethod ({ cls := "EventHunter", name := "keptBy", desc := "(II)I" } : Jvm.MethodName)) ∈ lw_tbl := lw_at lw_m2 152 rfl
theorem q437 : (Jvm.Cond.instanceMethod ({ cls := "EventHunter", name := "keptBy", desc := "(II)I" } : Jvm.MethodName)) ∈ lw_all := lw_g (lw_at lw_m2 153 rfl) rfl
theorem q438 : (Jvm.Cond.code ({ cls := "EventHunter", name := "keptBy", desc := "(II)I" } : Jvm.MethodName) prog_1_method_20_code (7 : Nat) (Option.some Jvm.ClassFile.FieldType.int)) ∈ lw_all := lw_g (lw_at lw_m2 154 rfl) rfl
theorem q440 : (Jvm.Cond.instanceMethod ({ cls := "EventHunter", name := "run", desc := "(IIII)I" } : Jvm.MethodName)) ∈ lw_all := lw_g (lw_at lw_m2 156 rfl) rfl
theorem q441 : (Jvm.Cond.selects "EventHunter" ({ cls := "EventHunter", name := "run", desc := "(IIII)I" } : Jvm.MethodName) ({ cls := "EventHunter", name := "run", desc := "(IIII)I" } : Jvm.MethodName)) ∈ lw_all := lw_g (lw_at lw_m2 157 rfl) rfl
theorem q442 : (Jvm.Cond.code ({ cls := "EventHunter", name := "run", desc := "(IIII)I" } : Jvm.MethodName) prog_1_method_22_code (7 : Nat) (Option.some Jvm.ClassFile.FieldType.int)) ∈ lw_all := lw_g (lw_at lw_m2 158 rfl) rfl
theorem q443 : (Jvm.Cond.methodLink "EventHunter" (196 : Nat) ({ cls := "EventHunter$Web", name := "length", desc := "(I)I" } : Jvm.MethodName)) ∈ lw_all := lw_g (lw_at lw_m2 159 rfl) rfl
theorem q444 : (Jvm.Cond.methodLink "EventHunter" (199 : Nat) ({ cls := "EventHunter$Web", name := "at", desc := "(II)I" } : Jvm.MethodName)) ∈ lw_all := lw_g (lw_at lw_m2 160 rfl) rfl
theorem q450 : (Jvm.Cond.instanceMethod ({ cls := "EventHunter", name := "almost", desc := "(II)I" } : Jvm.MethodName)) ∈ lw_all := lw_g (lw_at lw_m2 166 rfl) rfl
theorem q451 : (Jvm.Cond.selects "EventHunter" ({ cls := "EventHunter", name := "almost", desc := "(II)I" } : Jvm.MethodName) ({ cls := "EventHunter", name := "almost", desc := "(II)I" } : Jvm.MethodName)) ∈ lw_all := lw_g (lw_at lw_m2 167 rfl) rfl
theorem q452 : (Jvm.Cond.code ({ cls := "EventHunter", name := "almost", desc := "(II)I" } : Jvm.MethodName) prog_1_method_23_code (5 : Nat) (Option.some Jvm.ClassFile.FieldType.int)) ∈ lw_all := lw_g (lw_at lw_m2 168 rfl) rfl
theorem q453 : (Jvm.Cond.methodLink "EventHunter" (205 : Nat) ({ cls := "EventHunter$Pattern", name := "lacks", desc := "(I)I" } : Jvm.MethodName)) ∈ lw_all := lw_g (lw_at lw_m2 169 rfl) rfl
theorem q458 : (Jvm.Cond.instanceMethod ({ cls := "EventHunter", name := "plain", desc := "(I)I" } : Jvm.MethodName)) ∈ lw_all := lw_g (lw_at lw_m2 174 rfl) rfl
theorem q459 : (Jvm.Cond.selects "EventHunter" ({ cls := "EventHunter", name := "plain", desc := "(I)I" } : Jvm.MethodName) ({ cls := "EventHunter", name := "plain", desc := "(I)I" } : Jvm.MethodName)) ∈ lw_all := lw_g (lw_at lw_m2 175 rfl) rfl
theorem q460 : (Jvm.Cond.code ({ cls := "EventHunter", name := "plain", desc := "(I)I" } : Jvm.MethodName) prog_1_method_24_code (2 : Nat) (Option.some Jvm.ClassFile.FieldType.int)) ∈ lw_all := lw_g (lw_at lw_m2 176 rfl) rfl
theorem q461 : (Jvm.Cond.methodLink "EventHunter" (208 : Nat) ({ cls := "EventHunter$Plain", name := "count", desc := "(LEventHunter$Pattern;)I" } : Jvm.MethodName)) ∈ lw_all := lw_g (lw_at lw_m2 177 rfl) rfl
theorem q492 : (Jvm.Cond.instanceMethod ({ cls := "EventHunter", name := "count", desc := "(I)I" } : Jvm.MethodName)) ∈ lw_all := lw_g (lw_at lw_m2 208 rfl) rfl
theorem q493 : (Jvm.Cond.selects "EventHunter" ({ cls := "EventHunter", name := "count", desc := "(I)I" } : Jvm.MethodName) ({ cls := "EventHunter", name := "count", desc := "(I)I" } : Jvm.MethodName)) ∈ lw_all := lw_g (lw_at lw_m2 209 rfl) rfl
theorem q494 : (Jvm.Cond.code ({ cls := "EventHunter", name := "count", desc := "(I)I" } : Jvm.MethodName) prog_1_method_25_code (2 : Nat) (Option.some Jvm.ClassFile.FieldType.int)) ∈ lw_all := lw_g (lw_at lw_m2 210 rfl) rfl
theorem q496 : (Jvm.Cond.instanceMethod ({ cls := "EventHunter", name := "is", desc := "(II)I" } : Jvm.MethodName)) ∈ lw_all := lw_g (lw_at lw_m2 212 rfl) rfl
theorem q497 : (Jvm.Cond.selects "EventHunter" ({ cls := "EventHunter", name := "is", desc := "(II)I" } : Jvm.MethodName) ({ cls := "EventHunter", name := "is", desc := "(II)I" } : Jvm.MethodName)) ∈ lw_all := lw_g (lw_at lw_m2 213 rfl) rfl
theorem q498 : (Jvm.Cond.code ({ cls := "EventHunter", name := "is", desc := "(II)I" } : Jvm.MethodName) prog_1_method_26_code (3 : Nat) (Option.some Jvm.ClassFile.FieldType.int)) ∈ lw_all := lw_g (lw_at lw_m2 214 rfl) rfl
theorem q499 : (Jvm.Cond.methodLink "EventHunter" (212 : Nat) ({ cls := "EventHunter", name := "isKind", desc := "(II)Z" } : Jvm.MethodName)) ∈ lw_all := lw_g (lw_at lw_m2 215 rfl) rfl
theorem in_X0 : ∀ w ∈ wsX00, w ∈ lw_all := lw_in wsX00 [236, 238, 240, 242, 244, 246, 248, 250, 252, 254, 256, 258, 260, 262, 264, 266, 268, 270, 272, 274, 276] (by decide +kernel) (by decide +kernel)
