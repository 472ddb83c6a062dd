set_option maxRecDepth 100000
abbrev cX4_comes : ByteArray := prog_6_method_23_code
def yX4_comes : MethodName := ⟨RX4, "comes", "(II)V"⟩
theorem dX4_comes_0 : decode cX4_comes 0 = .ok (.iconst 0, 1) := by decide +kernel
theorem dX4_comes_1 : decode cX4_comes 1 = .ok (.istore_n 3, 1) := by decide +kernel
theorem dX4_comes_2 : decode cX4_comes 2 = .ok (.iload_n 3, 1) := by decide +kernel
theorem dX4_comes_3 : decode cX4_comes 3 = .ok (.aload_n 0, 1) := by decide +kernel
theorem dX4_comes_4 : decode cX4_comes 4 = .ok (.getfield 80, 3) := by decide +kernel
theorem dX4_comes_7 : decode cX4_comes 7 = .ok (.iload_n 1, 1) := by decide +kernel
theorem dX4_comes_8 : decode cX4_comes 8 = .ok (.iaload, 1) := by decide +kernel
theorem dX4_comes_9 : decode cX4_comes 9 = .ok (.if_icmp .ge 56, 3) := by decide +kernel
theorem dX4_comes_12 : decode cX4_comes 12 = .ok (.aload_n 0, 1) := by decide +kernel
theorem dX4_comes_13 : decode cX4_comes 13 = .ok (.getfield 96, 3) := by decide +kernel
theorem dX4_comes_16 : decode cX4_comes 16 = .ok (.iload_n 3, 1) := by decide +kernel
theorem dX4_comes_17 : decode cX4_comes 17 = .ok (.aload_n 0, 1) := by decide +kernel
theorem dX4_comes_18 : decode cX4_comes 18 = .ok (.getfield 31, 3) := by decide +kernel
theorem dX4_comes_21 : decode cX4_comes 21 = .ok (.iload_n 2, 1) := by decide +kernel
theorem dX4_comes_22 : decode cX4_comes 22 = .ok (.iaload, 1) := by decide +kernel
theorem dX4_comes_23 : decode cX4_comes 23 = .ok (.aload_n 0, 1) := by decide +kernel
theorem dX4_comes_24 : decode cX4_comes 24 = .ok (.getfield 31, 3) := by decide +kernel
theorem dX4_comes_27 : decode cX4_comes 27 = .ok (.aload_n 0, 1) := by decide +kernel
theorem dX4_comes_28 : decode cX4_comes 28 = .ok (.getfield 90, 3) := by decide +kernel
theorem dX4_comes_31 : decode cX4_comes 31 = .ok (.bipush 24, 2) := by decide +kernel
theorem dX4_comes_33 : decode cX4_comes 33 = .ok (.sipush 201, 3) := by decide +kernel
theorem dX4_comes_36 : decode cX4_comes 36 = .ok (.iload_n 1, 1) := by decide +kernel
theorem dX4_comes_37 : decode cX4_comes 37 = .ok (.imul, 1) := by decide +kernel
theorem dX4_comes_38 : decode cX4_comes 38 = .ok (.iload_n 3, 1) := by decide +kernel
theorem dX4_comes_39 : decode cX4_comes 39 = .ok (.iadd, 1) := by decide +kernel
theorem dX4_comes_40 : decode cX4_comes 40 = .ok (.imul, 1) := by decide +kernel
theorem dX4_comes_41 : decode cX4_comes 41 = .ok (.iaload, 1) := by decide +kernel
theorem dX4_comes_42 : decode cX4_comes 42 = .ok (.iaload, 1) := by decide +kernel
theorem dX4_comes_43 : decode cX4_comes 43 = .ok (.isub, 1) := by decide +kernel
theorem dX4_comes_44 : decode cX4_comes 44 = .ok (.aload_n 0, 1) := by decide +kernel
theorem dX4_comes_45 : decode cX4_comes 45 = .ok (.getfield 40, 3) := by decide +kernel
theorem dX4_comes_48 : decode cX4_comes 48 = .ok (.iload_n 1, 1) := by decide +kernel
theorem dX4_comes_49 : decode cX4_comes 49 = .ok (.iaload, 1) := by decide +kernel
theorem dX4_comes_50 : decode cX4_comes 50 = .ok (.if_icmp .le 7, 3) := by decide +kernel
theorem dX4_comes_53 : decode cX4_comes 53 = .ok (.iconst 1, 1) := by decide +kernel
theorem dX4_comes_54 : decode cX4_comes 54 = .ok (.goto 4, 3) := by decide +kernel
theorem dX4_comes_57 : decode cX4_comes 57 = .ok (.iconst 0, 1) := by decide +kernel
theorem dX4_comes_58 : decode cX4_comes 58 = .ok (.bastore, 1) := by decide +kernel
theorem dX4_comes_59 : decode cX4_comes 59 = .ok (.iinc 3 1, 3) := by decide +kernel
theorem dX4_comes_62 : decode cX4_comes 62 = .ok (.goto (-60), 3) := by decide +kernel
theorem dX4_comes_65 : decode cX4_comes 65 = .ok (.aload_n 0, 1) := by decide +kernel
theorem dX4_comes_66 : decode cX4_comes 66 = .ok (.iload_n 1, 1) := by decide +kernel
theorem dX4_comes_67 : decode cX4_comes 67 = .ok (.invokevirtual 201, 3) := by decide +kernel
theorem dX4_comes_70 : decode cX4_comes 70 = .ok (.aload_n 0, 1) := by decide +kernel
theorem dX4_comes_71 : decode cX4_comes 71 = .ok (.getfield 80, 3) := by decide +kernel
theorem dX4_comes_74 : decode cX4_comes 74 = .ok (.iload_n 1, 1) := by decide +kernel
theorem dX4_comes_75 : decode cX4_comes 75 = .ok (.iaload, 1) := by decide +kernel
theorem dX4_comes_76 : decode cX4_comes 76 = .ok (.istore_n 3, 1) := by decide +kernel
theorem dX4_comes_77 : decode cX4_comes 77 = .ok (.iconst 0, 1) := by decide +kernel
theorem dX4_comes_78 : decode cX4_comes 78 = .ok (.istore 4, 2) := by decide +kernel
theorem dX4_comes_80 : decode cX4_comes 80 = .ok (.iload 4, 2) := by decide +kernel
theorem dX4_comes_82 : decode cX4_comes 82 = .ok (.iload_n 3, 1) := by decide +kernel
theorem dX4_comes_83 : decode cX4_comes 83 = .ok (.if_icmp .ge 17, 3) := by decide +kernel
theorem dX4_comes_86 : decode cX4_comes 86 = .ok (.aload_n 0, 1) := by decide +kernel
theorem dX4_comes_87 : decode cX4_comes 87 = .ok (.getfield 96, 3) := by decide +kernel
theorem dX4_comes_90 : decode cX4_comes 90 = .ok (.iload 4, 2) := by decide +kernel
theorem dX4_comes_92 : decode cX4_comes 92 = .ok (.iconst 0, 1) := by decide +kernel
theorem dX4_comes_93 : decode cX4_comes 93 = .ok (.bastore, 1) := by decide +kernel
theorem dX4_comes_94 : decode cX4_comes 94 = .ok (.iinc 4 1, 3) := by decide +kernel
theorem dX4_comes_97 : decode cX4_comes 97 = .ok (.goto (-17), 3) := by decide +kernel
theorem dX4_comes_100 : decode cX4_comes 100 = .ok (.iconst 0, 1) := by decide +kernel
theorem dX4_comes_101 : decode cX4_comes 101 = .ok (.istore 4, 2) := by decide +kernel
theorem dX4_comes_103 : decode cX4_comes 103 = .ok (.iload 4, 2) := by decide +kernel
theorem dX4_comes_105 : decode cX4_comes 105 = .ok (.iload_n 3, 1) := by decide +kernel
theorem dX4_comes_106 : decode cX4_comes 106 = .ok (.if_icmp .ge 21, 3) := by decide +kernel
theorem dX4_comes_109 : decode cX4_comes 109 = .ok (.aload_n 0, 1) := by decide +kernel
theorem dX4_comes_110 : decode cX4_comes 110 = .ok (.iload_n 1, 1) := by decide +kernel
theorem dX4_comes_111 : decode cX4_comes 111 = .ok (.iload 4, 2) := by decide +kernel
theorem dX4_comes_113 : decode cX4_comes 113 = .ok (.iload_n 2, 1) := by decide +kernel
theorem dX4_comes_114 : decode cX4_comes 114 = .ok (.invokevirtual 204, 3) := by decide +kernel
theorem dX4_comes_117 : decode cX4_comes 117 = .ok (.ifCond .ne 4, 3) := by decide +kernel
theorem dX4_comes_120 : decode cX4_comes 120 = .ok (.return_, 1) := by decide +kernel
theorem dX4_comes_121 : decode cX4_comes 121 = .ok (.iinc 4 1, 3) := by decide +kernel
theorem dX4_comes_124 : decode cX4_comes 124 = .ok (.goto (-21), 3) := by decide +kernel
theorem dX4_comes_127 : decode cX4_comes 127 = .ok (.aload_n 0, 1) := by decide +kernel
theorem dX4_comes_128 : decode cX4_comes 128 = .ok (.iload_n 1, 1) := by decide +kernel
theorem dX4_comes_129 : decode cX4_comes 129 = .ok (.invokevirtual 201, 3) := by decide +kernel
theorem dX4_comes_132 : decode cX4_comes 132 = .ok (.aload_n 0, 1) := by decide +kernel
theorem dX4_comes_133 : decode cX4_comes 133 = .ok (.iconst 0, 1) := by decide +kernel
theorem dX4_comes_134 : decode cX4_comes 134 = .ok (.putfield 160, 3) := by decide +kernel
theorem dX4_comes_137 : decode cX4_comes 137 = .ok (.aload_n 0, 1) := by decide +kernel
theorem dX4_comes_138 : decode cX4_comes 138 = .ok (.iload_n 1, 1) := by decide +kernel
theorem dX4_comes_139 : decode cX4_comes 139 = .ok (.iconst 0, 1) := by decide +kernel
theorem dX4_comes_140 : decode cX4_comes 140 = .ok (.iload_n 2, 1) := by decide +kernel
theorem dX4_comes_141 : decode cX4_comes 141 = .ok (.invokevirtual 173, 3) := by decide +kernel
theorem dX4_comes_144 : decode cX4_comes 144 = .ok (.ifCond .ne 4, 3) := by decide +kernel
theorem dX4_comes_147 : decode cX4_comes 147 = .ok (.return_, 1) := by decide +kernel
theorem dX4_comes_148 : decode cX4_comes 148 = .ok (.aload_n 0, 1) := by decide +kernel
theorem dX4_comes_149 : decode cX4_comes 149 = .ok (.iload_n 2, 1) := by decide +kernel
theorem dX4_comes_150 : decode cX4_comes 150 = .ok (.iconst 0, 1) := by decide +kernel
theorem dX4_comes_151 : decode cX4_comes 151 = .ok (.invokevirtual 188, 3) := by decide +kernel
theorem dX4_comes_154 : decode cX4_comes 154 = .ok (.aload_n 0, 1) := by decide +kernel
theorem dX4_comes_155 : decode cX4_comes 155 = .ok (.iload_n 1, 1) := by decide +kernel
theorem dX4_comes_156 : decode cX4_comes 156 = .ok (.invokevirtual 198, 3) := by decide +kernel
theorem dX4_comes_159 : decode cX4_comes 159 = .ok (.ifCond .ne 4, 3) := by decide +kernel
theorem dX4_comes_162 : decode cX4_comes 162 = .ok (.return_, 1) := by decide +kernel
theorem dX4_comes_163 : decode cX4_comes 163 = .ok (.aload_n 0, 1) := by decide +kernel
theorem dX4_comes_164 : decode cX4_comes 164 = .ok (.iload_n 1, 1) := by decide +kernel
theorem dX4_comes_165 : decode cX4_comes 165 = .ok (.invokevirtual 191, 3) := by decide +kernel
theorem dX4_comes_168 : decode cX4_comes 168 = .ok (.ifCond .ne 4, 3) := by decide +kernel
theorem dX4_comes_171 : decode cX4_comes 171 = .ok (.return_, 1) := by decide +kernel
theorem dX4_comes_172 : decode cX4_comes 172 = .ok (.aload_n 0, 1) := by decide +kernel
theorem dX4_comes_173 : decode cX4_comes 173 = .ok (.iload_n 1, 1) := by decide +kernel
theorem dX4_comes_174 : decode cX4_comes 174 = .ok (.invokevirtual 194, 3) := by decide +kernel
theorem dX4_comes_177 : decode cX4_comes 177 = .ok (.aload_n 0, 1) := by decide +kernel
theorem dX4_comes_178 : decode cX4_comes 178 = .ok (.getfield 43, 3) := by decide +kernel
theorem dX4_comes_181 : decode cX4_comes 181 = .ok (.iload_n 1, 1) := by decide +kernel
theorem dX4_comes_182 : decode cX4_comes 182 = .ok (.iaload, 1) := by decide +kernel
theorem dX4_comes_183 : decode cX4_comes 183 = .ok (.iconst 1, 1) := by decide +kernel
theorem dX4_comes_184 : decode cX4_comes 184 = .ok (.if_icmp .ne 13, 3) := by decide +kernel
theorem dX4_comes_187 : decode cX4_comes 187 = .ok (.aload_n 0, 1) := by decide +kernel
theorem dX4_comes_188 : decode cX4_comes 188 = .ok (.getfield 80, 3) := by decide +kernel
theorem dX4_comes_191 : decode cX4_comes 191 = .ok (.iload_n 1, 1) := by decide +kernel
theorem dX4_comes_192 : decode cX4_comes 192 = .ok (.dup2, 1) := by decide +kernel
theorem dX4_comes_193 : decode cX4_comes 193 = .ok (.iaload, 1) := by decide +kernel
theorem dX4_comes_194 : decode cX4_comes 194 = .ok (.iconst 1, 1) := by decide +kernel
theorem dX4_comes_195 : decode cX4_comes 195 = .ok (.isub, 1) := by decide +kernel
theorem dX4_comes_196 : decode cX4_comes 196 = .ok (.iastore, 1) := by decide +kernel
theorem dX4_comes_197 : decode cX4_comes 197 = .ok (.return_, 1) := by decide +kernel
abbrev cX4_sweep : ByteArray := prog_6_method_21_code
def yX4_sweep : MethodName := ⟨RX4, "sweep", "(I)V"⟩
theorem dX4_sweep_0 : decode cX4_sweep 0 = .ok (.iconst 0, 1) := by decide +kernel
theorem dX4_sweep_1 : decode cX4_sweep 1 = .ok (.istore_n 2, 1) := by decide +kernel
theorem dX4_sweep_2 : decode cX4_sweep 2 = .ok (.iconst 0, 1) := by decide +kernel
theorem dX4_sweep_3 : decode cX4_sweep 3 = .ok (.istore_n 3, 1) := by decide +kernel
theorem dX4_sweep_4 : decode cX4_sweep 4 = .ok (.iload_n 3, 1) := by decide +kernel
theorem dX4_sweep_5 : decode cX4_sweep 5 = .ok (.aload_n 0, 1) := by decide +kernel
theorem dX4_sweep_6 : decode cX4_sweep 6 = .ok (.getfield 80, 3) := by decide +kernel
theorem dX4_sweep_9 : decode cX4_sweep 9 = .ok (.iload_n 1, 1) := by decide +kernel
theorem dX4_sweep_10 : decode cX4_sweep 10 = .ok (.iaload, 1) := by decide +kernel
theorem dX4_sweep_11 : decode cX4_sweep 11 = .ok (.if_icmp .ge 53, 3) := by decide +kernel
theorem dX4_sweep_14 : decode cX4_sweep 14 = .ok (.aload_n 0, 1) := by decide +kernel
theorem dX4_sweep_15 : decode cX4_sweep 15 = .ok (.getfield 96, 3) := by decide +kernel
theorem dX4_sweep_18 : decode cX4_sweep 18 = .ok (.iload_n 3, 1) := by decide +kernel
theorem dX4_sweep_19 : decode cX4_sweep 19 = .ok (.baload, 1) := by decide +kernel
theorem dX4_sweep_20 : decode cX4_sweep 20 = .ok (.ifCond .eq 6, 3) := by decide +kernel
theorem dX4_sweep_23 : decode cX4_sweep 23 = .ok (.goto 35, 3) := by decide +kernel
theorem dX4_sweep_26 : decode cX4_sweep 26 = .ok (.iload_n 2, 1) := by decide +kernel
theorem dX4_sweep_27 : decode cX4_sweep 27 = .ok (.iload_n 3, 1) := by decide +kernel
theorem dX4_sweep_28 : decode cX4_sweep 28 = .ok (.if_icmp .eq 27, 3) := by decide +kernel
theorem dX4_sweep_31 : decode cX4_sweep 31 = .ok (.aload_n 0, 1) := by decide +kernel
theorem dX4_sweep_32 : decode cX4_sweep 32 = .ok (.iload_n 1, 1) := by decide +kernel
theorem dX4_sweep_33 : decode cX4_sweep 33 = .ok (.iload_n 3, 1) := by decide +kernel
theorem dX4_sweep_34 : decode cX4_sweep 34 = .ok (.invokevirtual 181, 3) := by decide +kernel
theorem dX4_sweep_37 : decode cX4_sweep 37 = .ok (.aload_n 0, 1) := by decide +kernel
theorem dX4_sweep_38 : decode cX4_sweep 38 = .ok (.iload_n 1, 1) := by decide +kernel
theorem dX4_sweep_39 : decode cX4_sweep 39 = .ok (.iload_n 2, 1) := by decide +kernel
theorem dX4_sweep_40 : decode cX4_sweep 40 = .ok (.aload_n 0, 1) := by decide +kernel
theorem dX4_sweep_41 : decode cX4_sweep 41 = .ok (.getfield 86, 3) := by decide +kernel
theorem dX4_sweep_44 : decode cX4_sweep 44 = .ok (.sipush 201, 3) := by decide +kernel
theorem dX4_sweep_47 : decode cX4_sweep 47 = .ok (.iload_n 1, 1) := by decide +kernel
theorem dX4_sweep_48 : decode cX4_sweep 48 = .ok (.imul, 1) := by decide +kernel
theorem dX4_sweep_49 : decode cX4_sweep 49 = .ok (.iload_n 3, 1) := by decide +kernel
theorem dX4_sweep_50 : decode cX4_sweep 50 = .ok (.iadd, 1) := by decide +kernel
theorem dX4_sweep_51 : decode cX4_sweep 51 = .ok (.baload, 1) := by decide +kernel
theorem dX4_sweep_52 : decode cX4_sweep 52 = .ok (.invokevirtual 177, 3) := by decide +kernel
theorem dX4_sweep_55 : decode cX4_sweep 55 = .ok (.iinc 2 1, 3) := by decide +kernel
theorem dX4_sweep_58 : decode cX4_sweep 58 = .ok (.iinc 3 1, 3) := by decide +kernel
theorem dX4_sweep_61 : decode cX4_sweep 61 = .ok (.goto (-57), 3) := by decide +kernel
theorem dX4_sweep_64 : decode cX4_sweep 64 = .ok (.aload_n 0, 1) := by decide +kernel
theorem dX4_sweep_65 : decode cX4_sweep 65 = .ok (.getfield 80, 3) := by decide +kernel
theorem dX4_sweep_68 : decode cX4_sweep 68 = .ok (.iload_n 1, 1) := by decide +kernel
theorem dX4_sweep_69 : decode cX4_sweep 69 = .ok (.iload_n 2, 1) := by decide +kernel
theorem dX4_sweep_70 : decode cX4_sweep 70 = .ok (.iastore, 1) := by decide +kernel
theorem dX4_sweep_71 : decode cX4_sweep 71 = .ok (.return_, 1) := by decide +kernel
abbrev cX4_load : ByteArray := prog_6_method_14_code
def yX4_load : MethodName := ⟨RX4, "load", "(II)V"⟩
theorem dX4_load_0 : decode cX4_load 0 = .ok (.sipush 201, 3) := by decide +kernel
theorem dX4_load_3 : decode cX4_load 3 = .ok (.iload_n 1, 1) := by decide +kernel
theorem dX4_load_4 : decode cX4_load 4 = .ok (.imul, 1) := by decide +kernel
theorem dX4_load_5 : decode cX4_load 5 = .ok (.iload_n 2, 1) := by decide +kernel
theorem dX4_load_6 : decode cX4_load 6 = .ok (.iadd, 1) := by decide +kernel
theorem dX4_load_7 : decode cX4_load 7 = .ok (.istore_n 3, 1) := by decide +kernel
theorem dX4_load_8 : decode cX4_load 8 = .ok (.aload_n 0, 1) := by decide +kernel
theorem dX4_load_9 : decode cX4_load 9 = .ok (.aload_n 0, 1) := by decide +kernel
theorem dX4_load_10 : decode cX4_load 10 = .ok (.getfield 83, 3) := by decide +kernel
theorem dX4_load_13 : decode cX4_load 13 = .ok (.iload_n 3, 1) := by decide +kernel
theorem dX4_load_14 : decode cX4_load 14 = .ok (.iaload, 1) := by decide +kernel
theorem dX4_load_15 : decode cX4_load 15 = .ok (.putfield 160, 3) := by decide +kernel
theorem dX4_load_18 : decode cX4_load 18 = .ok (.iconst 0, 1) := by decide +kernel
theorem dX4_load_19 : decode cX4_load 19 = .ok (.istore 4, 2) := by decide +kernel
theorem dX4_load_21 : decode cX4_load 21 = .ok (.iload 4, 2) := by decide +kernel
theorem dX4_load_23 : decode cX4_load 23 = .ok (.aload_n 0, 1) := by decide +kernel
theorem dX4_load_24 : decode cX4_load 24 = .ok (.getfield 160, 3) := by decide +kernel
theorem dX4_load_27 : decode cX4_load 27 = .ok (.if_icmp .ge 47, 3) := by decide +kernel
theorem dX4_load_30 : decode cX4_load 30 = .ok (.aload_n 0, 1) := by decide +kernel
theorem dX4_load_31 : decode cX4_load 31 = .ok (.getfield 111, 3) := by decide +kernel
theorem dX4_load_34 : decode cX4_load 34 = .ok (.iload 4, 2) := by decide +kernel
theorem dX4_load_36 : decode cX4_load 36 = .ok (.aload_n 0, 1) := by decide +kernel
theorem dX4_load_37 : decode cX4_load 37 = .ok (.getfield 90, 3) := by decide +kernel
theorem dX4_load_40 : decode cX4_load 40 = .ok (.bipush 24, 2) := by decide +kernel
theorem dX4_load_42 : decode cX4_load 42 = .ok (.iload_n 3, 1) := by decide +kernel
theorem dX4_load_43 : decode cX4_load 43 = .ok (.imul, 1) := by decide +kernel
theorem dX4_load_44 : decode cX4_load 44 = .ok (.iload 4, 2) := by decide +kernel
theorem dX4_load_46 : decode cX4_load 46 = .ok (.iadd, 1) := by decide +kernel
theorem dX4_load_47 : decode cX4_load 47 = .ok (.iaload, 1) := by decide +kernel
theorem dX4_load_48 : decode cX4_load 48 = .ok (.iastore, 1) := by decide +kernel
theorem dX4_load_49 : decode cX4_load 49 = .ok (.aload_n 0, 1) := by decide +kernel
theorem dX4_load_50 : decode cX4_load 50 = .ok (.getfield 114, 3) := by decide +kernel
theorem dX4_load_53 : decode cX4_load 53 = .ok (.iload 4, 2) := by decide +kernel
theorem dX4_load_55 : decode cX4_load 55 = .ok (.aload_n 0, 1) := by decide +kernel
theorem dX4_load_56 : decode cX4_load 56 = .ok (.getfield 93, 3) := by decide +kernel
theorem dX4_load_59 : decode cX4_load 59 = .ok (.bipush 24, 2) := by decide +kernel
theorem dX4_load_61 : decode cX4_load 61 = .ok (.iload_n 3, 1) := by decide +kernel
theorem dX4_load_62 : decode cX4_load 62 = .ok (.imul, 1) := by decide +kernel
theorem dX4_load_63 : decode cX4_load 63 = .ok (.iload 4, 2) := by decide +kernel
theorem dX4_load_65 : decode cX4_load 65 = .ok (.iadd, 1) := by decide +kernel
theorem dX4_load_66 : decode cX4_load 66 = .ok (.iaload, 1) := by decide +kernel
theorem dX4_load_67 : decode cX4_load 67 = .ok (.iastore, 1) := by decide +kernel
theorem dX4_load_68 : decode cX4_load 68 = .ok (.iinc 4 1, 3) := by decide +kernel
theorem dX4_load_71 : decode cX4_load 71 = .ok (.goto (-50), 3) := by decide +kernel
theorem dX4_load_74 : decode cX4_load 74 = .ok (.return_, 1) := by decide +kernel
abbrev cX4_store : ByteArray := prog_6_method_15_code
def yX4_store : MethodName := ⟨RX4, "store", "(IIZ)V"⟩
theorem dX4_store_0 : decode cX4_store 0 = .ok (.sipush 201, 3) := by decide +kernel
theorem dX4_store_3 : decode cX4_store 3 = .ok (.iload_n 1, 1) := by decide +kernel
theorem dX4_store_4 : decode cX4_store 4 = .ok (.imul, 1) := by decide +kernel
theorem dX4_store_5 : decode cX4_store 5 = .ok (.iload_n 2, 1) := by decide +kernel
theorem dX4_store_6 : decode cX4_store 6 = .ok (.iadd, 1) := by decide +kernel
theorem dX4_store_7 : decode cX4_store 7 = .ok (.istore 4, 2) := by decide +kernel
theorem dX4_store_9 : decode cX4_store 9 = .ok (.aload_n 0, 1) := by decide +kernel
theorem dX4_store_10 : decode cX4_store 10 = .ok (.getfield 83, 3) := by decide +kernel
theorem dX4_store_13 : decode cX4_store 13 = .ok (.iload 4, 2) := by decide +kernel
theorem dX4_store_15 : decode cX4_store 15 = .ok (.aload_n 0, 1) := by decide +kernel
theorem dX4_store_16 : decode cX4_store 16 = .ok (.getfield 160, 3) := by decide +kernel
theorem dX4_store_19 : decode cX4_store 19 = .ok (.iastore, 1) := by decide +kernel
theorem dX4_store_20 : decode cX4_store 20 = .ok (.aload_n 0, 1) := by decide +kernel
theorem dX4_store_21 : decode cX4_store 21 = .ok (.getfield 86, 3) := by decide +kernel
theorem dX4_store_24 : decode cX4_store 24 = .ok (.iload 4, 2) := by decide +kernel
theorem dX4_store_26 : decode cX4_store 26 = .ok (.iload_n 3, 1) := by decide +kernel
theorem dX4_store_27 : decode cX4_store 27 = .ok (.bastore, 1) := by decide +kernel
theorem dX4_store_28 : decode cX4_store 28 = .ok (.iconst 0, 1) := by decide +kernel
theorem dX4_store_29 : decode cX4_store 29 = .ok (.istore 5, 2) := by decide +kernel
theorem dX4_store_31 : decode cX4_store 31 = .ok (.iload 5, 2) := by decide +kernel
theorem dX4_store_33 : decode cX4_store 33 = .ok (.aload_n 0, 1) := by decide +kernel
theorem dX4_store_34 : decode cX4_store 34 = .ok (.getfield 160, 3) := by decide +kernel
theorem dX4_store_37 : decode cX4_store 37 = .ok (.if_icmp .ge 49, 3) := by decide +kernel
theorem dX4_store_40 : decode cX4_store 40 = .ok (.aload_n 0, 1) := by decide +kernel
theorem dX4_store_41 : decode cX4_store 41 = .ok (.getfield 90, 3) := by decide +kernel
theorem dX4_store_44 : decode cX4_store 44 = .ok (.bipush 24, 2) := by decide +kernel
theorem dX4_store_46 : decode cX4_store 46 = .ok (.iload 4, 2) := by decide +kernel
theorem dX4_store_48 : decode cX4_store 48 = .ok (.imul, 1) := by decide +kernel
theorem dX4_store_49 : decode cX4_store 49 = .ok (.iload 5, 2) := by decide +kernel
theorem dX4_store_51 : decode cX4_store 51 = .ok (.iadd, 1) := by decide +kernel
theorem dX4_store_52 : decode cX4_store 52 = .ok (.aload_n 0, 1) := by decide +kernel
theorem dX4_store_53 : decode cX4_store 53 = .ok (.getfield 111, 3) := by decide +kernel
theorem dX4_store_56 : decode cX4_store 56 = .ok (.iload 5, 2) := by decide +kernel
theorem dX4_store_58 : decode cX4_store 58 = .ok (.iaload, 1) := by decide +kernel
theorem dX4_store_59 : decode cX4_store 59 = .ok (.iastore, 1) := by decide +kernel
theorem dX4_store_60 : decode cX4_store 60 = .ok (.aload_n 0, 1) := by decide +kernel
theorem dX4_store_61 : decode cX4_store 61 = .ok (.getfield 93, 3) := by decide +kernel
theorem dX4_store_64 : decode cX4_store 64 = .ok (.bipush 24, 2) := by decide +kernel
theorem dX4_store_66 : decode cX4_store 66 = .ok (.iload 4, 2) := by decide +kernel
theorem dX4_store_68 : decode cX4_store 68 = .ok (.imul, 1) := by decide +kernel
theorem dX4_store_69 : decode cX4_store 69 = .ok (.iload 5, 2) := by decide +kernel
theorem dX4_store_71 : decode cX4_store 71 = .ok (.iadd, 1) := by decide +kernel
theorem dX4_store_72 : decode cX4_store 72 = .ok (.aload_n 0, 1) := by decide +kernel
theorem dX4_store_73 : decode cX4_store 73 = .ok (.getfield 114, 3) := by decide +kernel
theorem dX4_store_76 : decode cX4_store 76 = .ok (.iload 5, 2) := by decide +kernel
theorem dX4_store_78 : decode cX4_store 78 = .ok (.iaload, 1) := by decide +kernel
theorem dX4_store_79 : decode cX4_store 79 = .ok (.iastore, 1) := by decide +kernel
theorem dX4_store_80 : decode cX4_store 80 = .ok (.iinc 5 1, 3) := by decide +kernel
theorem dX4_store_83 : decode cX4_store 83 = .ok (.goto (-52), 3) := by decide +kernel
theorem dX4_store_86 : decode cX4_store 86 = .ok (.return_, 1) := by decide +kernel
abbrev cX4_asks : ByteArray := prog_6_method_22_code
def yX4_asks : MethodName := ⟨RX4, "asks", "(III)Z"⟩
theorem dX4_asks_0 : decode cX4_asks 0 = .ok (.aload_n 0, 1) := by decide +kernel
theorem dX4_asks_1 : decode cX4_asks 1 = .ok (.iload_n 1, 1) := by decide +kernel
theorem dX4_asks_2 : decode cX4_asks 2 = .ok (.iload_n 2, 1) := by decide +kernel
theorem dX4_asks_3 : decode cX4_asks 3 = .ok (.invokevirtual 181, 3) := by decide +kernel
theorem dX4_asks_6 : decode cX4_asks 6 = .ok (.aload_n 0, 1) := by decide +kernel
theorem dX4_asks_7 : decode cX4_asks 7 = .ok (.getfield 46, 3) := by decide +kernel
theorem dX4_asks_10 : decode cX4_asks 10 = .ok (.iload_n 1, 1) := by decide +kernel
theorem dX4_asks_11 : decode cX4_asks 11 = .ok (.iaload, 1) := by decide +kernel
theorem dX4_asks_12 : decode cX4_asks 12 = .ok (.ifCond .lt 43, 3) := by decide +kernel
theorem dX4_asks_15 : decode cX4_asks 15 = .ok (.aload_n 0, 1) := by decide +kernel
theorem dX4_asks_16 : decode cX4_asks 16 = .ok (.getfield 37, 3) := by decide +kernel
theorem dX4_asks_19 : decode cX4_asks 19 = .ok (.iconst 4, 1) := by decide +kernel
theorem dX4_asks_20 : decode cX4_asks 20 = .ok (.aload_n 0, 1) := by decide +kernel
theorem dX4_asks_21 : decode cX4_asks 21 = .ok (.getfield 111, 3) := by decide +kernel
theorem dX4_asks_24 : decode cX4_asks 24 = .ok (.iconst 0, 1) := by decide +kernel
theorem dX4_asks_25 : decode cX4_asks 25 = .ok (.iaload, 1) := by decide +kernel
theorem dX4_asks_26 : decode cX4_asks 26 = .ok (.imul, 1) := by decide +kernel
theorem dX4_asks_27 : decode cX4_asks 27 = .ok (.aload_n 0, 1) := by decide +kernel
theorem dX4_asks_28 : decode cX4_asks 28 = .ok (.getfield 46, 3) := by decide +kernel
theorem dX4_asks_31 : decode cX4_asks 31 = .ok (.iload_n 1, 1) := by decide +kernel
theorem dX4_asks_32 : decode cX4_asks 32 = .ok (.iaload, 1) := by decide +kernel
theorem dX4_asks_33 : decode cX4_asks 33 = .ok (.iadd, 1) := by decide +kernel
theorem dX4_asks_34 : decode cX4_asks 34 = .ok (.iaload, 1) := by decide +kernel
theorem dX4_asks_35 : decode cX4_asks 35 = .ok (.aload_n 0, 1) := by decide +kernel
theorem dX4_asks_36 : decode cX4_asks 36 = .ok (.getfield 37, 3) := by decide +kernel
theorem dX4_asks_39 : decode cX4_asks 39 = .ok (.iconst 4, 1) := by decide +kernel
theorem dX4_asks_40 : decode cX4_asks 40 = .ok (.iload_n 3, 1) := by decide +kernel
theorem dX4_asks_41 : decode cX4_asks 41 = .ok (.imul, 1) := by decide +kernel
theorem dX4_asks_42 : decode cX4_asks 42 = .ok (.aload_n 0, 1) := by decide +kernel
theorem dX4_asks_43 : decode cX4_asks 43 = .ok (.getfield 46, 3) := by decide +kernel
theorem dX4_asks_46 : decode cX4_asks 46 = .ok (.iload_n 1, 1) := by decide +kernel
theorem dX4_asks_47 : decode cX4_asks 47 = .ok (.iaload, 1) := by decide +kernel
theorem dX4_asks_48 : decode cX4_asks 48 = .ok (.iadd, 1) := by decide +kernel
theorem dX4_asks_49 : decode cX4_asks 49 = .ok (.iaload, 1) := by decide +kernel
theorem dX4_asks_50 : decode cX4_asks 50 = .ok (.if_icmp .eq 5, 3) := by decide +kernel
theorem dX4_asks_53 : decode cX4_asks 53 = .ok (.iconst 1, 1) := by decide +kernel
theorem dX4_asks_54 : decode cX4_asks 54 = .ok (.ireturn, 1) := by decide +kernel
theorem dX4_asks_55 : decode cX4_asks 55 = .ok (.aload_n 0, 1) := by decide +kernel
theorem dX4_asks_56 : decode cX4_asks 56 = .ok (.getfield 86, 3) := by decide +kernel
theorem dX4_asks_59 : decode cX4_asks 59 = .ok (.sipush 201, 3) := by decide +kernel
theorem dX4_asks_62 : decode cX4_asks 62 = .ok (.iload_n 1, 1) := by decide +kernel
theorem dX4_asks_63 : decode cX4_asks 63 = .ok (.imul, 1) := by decide +kernel
theorem dX4_asks_64 : decode cX4_asks 64 = .ok (.iload_n 2, 1) := by decide +kernel
theorem dX4_asks_65 : decode cX4_asks 65 = .ok (.iadd, 1) := by decide +kernel
theorem dX4_asks_66 : decode cX4_asks 66 = .ok (.baload, 1) := by decide +kernel
theorem dX4_asks_67 : decode cX4_asks 67 = .ok (.istore 4, 2) := by decide +kernel
theorem dX4_asks_69 : decode cX4_asks 69 = .ok (.aload_n 0, 1) := by decide +kernel
theorem dX4_asks_70 : decode cX4_asks 70 = .ok (.iload_n 1, 1) := by decide +kernel
theorem dX4_asks_71 : decode cX4_asks 71 = .ok (.iload_n 3, 1) := by decide +kernel
theorem dX4_asks_72 : decode cX4_asks 72 = .ok (.iload 4, 2) := by decide +kernel
theorem dX4_asks_74 : decode cX4_asks 74 = .ok (.invokevirtual 185, 3) := by decide +kernel
theorem dX4_asks_77 : decode cX4_asks 77 = .ok (.aload_n 0, 1) := by decide +kernel
theorem dX4_asks_78 : decode cX4_asks 78 = .ok (.getfield 114, 3) := by decide +kernel
theorem dX4_asks_81 : decode cX4_asks 81 = .ok (.aload_n 0, 1) := by decide +kernel
theorem dX4_asks_82 : decode cX4_asks 82 = .ok (.getfield 160, 3) := by decide +kernel
theorem dX4_asks_85 : decode cX4_asks 85 = .ok (.iconst 1, 1) := by decide +kernel
theorem dX4_asks_86 : decode cX4_asks 86 = .ok (.isub, 1) := by decide +kernel
theorem dX4_asks_87 : decode cX4_asks 87 = .ok (.iaload, 1) := by decide +kernel
theorem dX4_asks_88 : decode cX4_asks 88 = .ok (.iconst 1, 1) := by decide +kernel
theorem dX4_asks_89 : decode cX4_asks 89 = .ok (.iadd, 1) := by decide +kernel
theorem dX4_asks_90 : decode cX4_asks 90 = .ok (.istore 5, 2) := by decide +kernel
theorem dX4_asks_92 : decode cX4_asks 92 = .ok (.iload 5, 2) := by decide +kernel
theorem dX4_asks_94 : decode cX4_asks 94 = .ok (.aload_n 0, 1) := by decide +kernel
theorem dX4_asks_95 : decode cX4_asks 95 = .ok (.iload_n 1, 1) := by decide +kernel
theorem dX4_asks_96 : decode cX4_asks 96 = .ok (.invokevirtual 163, 3) := by decide +kernel
theorem dX4_asks_99 : decode cX4_asks 99 = .ok (.if_icmp .ge 34, 3) := by decide +kernel
theorem dX4_asks_102 : decode cX4_asks 102 = .ok (.aload_n 0, 1) := by decide +kernel
theorem dX4_asks_103 : decode cX4_asks 103 = .ok (.getfield 65, 3) := by decide +kernel
theorem dX4_asks_106 : decode cX4_asks 106 = .ok (.bipush 6, 2) := by decide +kernel
theorem dX4_asks_108 : decode cX4_asks 108 = .ok (.iload_n 1, 1) := by decide +kernel
theorem dX4_asks_109 : decode cX4_asks 109 = .ok (.imul, 1) := by decide +kernel
theorem dX4_asks_110 : decode cX4_asks 110 = .ok (.iload 5, 2) := by decide +kernel
theorem dX4_asks_112 : decode cX4_asks 112 = .ok (.iadd, 1) := by decide +kernel
theorem dX4_asks_113 : decode cX4_asks 113 = .ok (.iaload, 1) := by decide +kernel
theorem dX4_asks_114 : decode cX4_asks 114 = .ok (.iconst 3, 1) := by decide +kernel
theorem dX4_asks_115 : decode cX4_asks 115 = .ok (.if_icmp .ne 18, 3) := by decide +kernel
theorem dX4_asks_118 : decode cX4_asks 118 = .ok (.aload_n 0, 1) := by decide +kernel
theorem dX4_asks_119 : decode cX4_asks 119 = .ok (.iload_n 1, 1) := by decide +kernel
theorem dX4_asks_120 : decode cX4_asks 120 = .ok (.iload 5, 2) := by decide +kernel
theorem dX4_asks_122 : decode cX4_asks 122 = .ok (.iload_n 3, 1) := by decide +kernel
theorem dX4_asks_123 : decode cX4_asks 123 = .ok (.invokevirtual 173, 3) := by decide +kernel
theorem dX4_asks_126 : decode cX4_asks 126 = .ok (.ifCond .eq 7, 3) := by decide +kernel
theorem dX4_asks_129 : decode cX4_asks 129 = .ok (.iconst 1, 1) := by decide +kernel
theorem dX4_asks_130 : decode cX4_asks 130 = .ok (.goto 4, 3) := by decide +kernel
theorem dX4_asks_133 : decode cX4_asks 133 = .ok (.iconst 0, 1) := by decide +kernel
theorem dX4_asks_134 : decode cX4_asks 134 = .ok (.istore 6, 2) := by decide +kernel
theorem dX4_asks_136 : decode cX4_asks 136 = .ok (.aload_n 0, 1) := by decide +kernel
theorem dX4_asks_137 : decode cX4_asks 137 = .ok (.getfield 43, 3) := by decide +kernel
theorem dX4_asks_140 : decode cX4_asks 140 = .ok (.iload_n 1, 1) := by decide +kernel
theorem dX4_asks_141 : decode cX4_asks 141 = .ok (.iaload, 1) := by decide +kernel
theorem dX4_asks_142 : decode cX4_asks 142 = .ok (.iconst 1, 1) := by decide +kernel
theorem dX4_asks_143 : decode cX4_asks 143 = .ok (.if_icmp .ne 71, 3) := by decide +kernel
theorem dX4_asks_146 : decode cX4_asks 146 = .ok (.aload_n 0, 1) := by decide +kernel
theorem dX4_asks_147 : decode cX4_asks 147 = .ok (.getfield 170, 3) := by decide +kernel
theorem dX4_asks_150 : decode cX4_asks 150 = .ok (.ifCond .le 44, 3) := by decide +kernel
theorem dX4_asks_153 : decode cX4_asks 153 = .ok (.aload_n 0, 1) := by decide +kernel
theorem dX4_asks_154 : decode cX4_asks 154 = .ok (.iload_n 3, 1) := by decide +kernel
theorem dX4_asks_155 : decode cX4_asks 155 = .ok (.aload_n 0, 1) := by decide +kernel
theorem dX4_asks_156 : decode cX4_asks 156 = .ok (.getfield 117, 3) := by decide +kernel
theorem dX4_asks_159 : decode cX4_asks 159 = .ok (.iconst 0, 1) := by decide +kernel
theorem dX4_asks_160 : decode cX4_asks 160 = .ok (.iaload, 1) := by decide +kernel
theorem dX4_asks_161 : decode cX4_asks 161 = .ok (.invokevirtual 188, 3) := by decide +kernel
theorem dX4_asks_164 : decode cX4_asks 164 = .ok (.aload_n 0, 1) := by decide +kernel
theorem dX4_asks_165 : decode cX4_asks 165 = .ok (.iload_n 1, 1) := by decide +kernel
theorem dX4_asks_166 : decode cX4_asks 166 = .ok (.iload_n 2, 1) := by decide +kernel
theorem dX4_asks_167 : decode cX4_asks 167 = .ok (.iconst 0, 1) := by decide +kernel
theorem dX4_asks_168 : decode cX4_asks 168 = .ok (.invokevirtual 177, 3) := by decide +kernel
theorem dX4_asks_171 : decode cX4_asks 171 = .ok (.aload_n 0, 1) := by decide +kernel
theorem dX4_asks_172 : decode cX4_asks 172 = .ok (.iload_n 1, 1) := by decide +kernel
theorem dX4_asks_173 : decode cX4_asks 173 = .ok (.invokevirtual 191, 3) := by decide +kernel
theorem dX4_asks_176 : decode cX4_asks 176 = .ok (.ifCond .eq 36, 3) := by decide +kernel
theorem dX4_asks_179 : decode cX4_asks 179 = .ok (.aload_n 0, 1) := by decide +kernel
theorem dX4_asks_180 : decode cX4_asks 180 = .ok (.iload_n 1, 1) := by decide +kernel
theorem dX4_asks_181 : decode cX4_asks 181 = .ok (.invokevirtual 194, 3) := by decide +kernel
theorem dX4_asks_184 : decode cX4_asks 184 = .ok (.aload_n 0, 1) := by decide +kernel
theorem dX4_asks_185 : decode cX4_asks 185 = .ok (.getfield 96, 3) := by decide +kernel
theorem dX4_asks_188 : decode cX4_asks 188 = .ok (.iload_n 2, 1) := by decide +kernel
theorem dX4_asks_189 : decode cX4_asks 189 = .ok (.iconst 1, 1) := by decide +kernel
theorem dX4_asks_190 : decode cX4_asks 190 = .ok (.bastore, 1) := by decide +kernel
theorem dX4_asks_191 : decode cX4_asks 191 = .ok (.goto 21, 3) := by decide +kernel
theorem dX4_asks_194 : decode cX4_asks 194 = .ok (.iload 6, 2) := by decide +kernel
theorem dX4_asks_196 : decode cX4_asks 196 = .ok (.ifCond .eq 16, 3) := by decide +kernel
theorem dX4_asks_199 : decode cX4_asks 199 = .ok (.aload_n 0, 1) := by decide +kernel
theorem dX4_asks_200 : decode cX4_asks 200 = .ok (.getfield 86, 3) := by decide +kernel
theorem dX4_asks_203 : decode cX4_asks 203 = .ok (.sipush 201, 3) := by decide +kernel
theorem dX4_asks_206 : decode cX4_asks 206 = .ok (.iload_n 1, 1) := by decide +kernel
theorem dX4_asks_207 : decode cX4_asks 207 = .ok (.imul, 1) := by decide +kernel
theorem dX4_asks_208 : decode cX4_asks 208 = .ok (.iload_n 2, 1) := by decide +kernel
theorem dX4_asks_209 : decode cX4_asks 209 = .ok (.iadd, 1) := by decide +kernel
theorem dX4_asks_210 : decode cX4_asks 210 = .ok (.iconst 1, 1) := by decide +kernel
theorem dX4_asks_211 : decode cX4_asks 211 = .ok (.bastore, 1) := by decide +kernel
theorem dX4_asks_212 : decode cX4_asks 212 = .ok (.iconst 1, 1) := by decide +kernel
theorem dX4_asks_213 : decode cX4_asks 213 = .ok (.ireturn, 1) := by decide +kernel
theorem dX4_asks_214 : decode cX4_asks 214 = .ok (.iconst 0, 1) := by decide +kernel
theorem dX4_asks_215 : decode cX4_asks 215 = .ok (.istore 7, 2) := by decide +kernel
theorem dX4_asks_217 : decode cX4_asks 217 = .ok (.iload 7, 2) := by decide +kernel
theorem dX4_asks_219 : decode cX4_asks 219 = .ok (.aload_n 0, 1) := by decide +kernel
theorem dX4_asks_220 : decode cX4_asks 220 = .ok (.getfield 170, 3) := by decide +kernel
theorem dX4_asks_223 : decode cX4_asks 223 = .ok (.if_icmp .ge 50, 3) := by decide +kernel
theorem dX4_asks_226 : decode cX4_asks 226 = .ok (.aload_n 0, 1) := by decide +kernel
theorem dX4_asks_227 : decode cX4_asks 227 = .ok (.iload_n 1, 1) := by decide +kernel
theorem dX4_asks_228 : decode cX4_asks 228 = .ok (.iload_n 2, 1) := by decide +kernel
theorem dX4_asks_229 : decode cX4_asks 229 = .ok (.invokevirtual 181, 3) := by decide +kernel
theorem dX4_asks_232 : decode cX4_asks 232 = .ok (.aload_n 0, 1) := by decide +kernel
theorem dX4_asks_233 : decode cX4_asks 233 = .ok (.iload_n 3, 1) := by decide +kernel
theorem dX4_asks_234 : decode cX4_asks 234 = .ok (.aload_n 0, 1) := by decide +kernel
theorem dX4_asks_235 : decode cX4_asks 235 = .ok (.getfield 117, 3) := by decide +kernel
theorem dX4_asks_238 : decode cX4_asks 238 = .ok (.iload 7, 2) := by decide +kernel
theorem dX4_asks_240 : decode cX4_asks 240 = .ok (.iaload, 1) := by decide +kernel
theorem dX4_asks_241 : decode cX4_asks 241 = .ok (.invokevirtual 188, 3) := by decide +kernel
theorem dX4_asks_244 : decode cX4_asks 244 = .ok (.aload_n 0, 1) := by decide +kernel
theorem dX4_asks_245 : decode cX4_asks 245 = .ok (.iload_n 1, 1) := by decide +kernel
theorem dX4_asks_246 : decode cX4_asks 246 = .ok (.invokevirtual 198, 3) := by decide +kernel
theorem dX4_asks_249 : decode cX4_asks 249 = .ok (.ifCond .ne 5, 3) := by decide +kernel
theorem dX4_asks_252 : decode cX4_asks 252 = .ok (.iconst 0, 1) := by decide +kernel
theorem dX4_asks_253 : decode cX4_asks 253 = .ok (.ireturn, 1) := by decide +kernel
theorem dX4_asks_254 : decode cX4_asks 254 = .ok (.aload_n 0, 1) := by decide +kernel
theorem dX4_asks_255 : decode cX4_asks 255 = .ok (.iload_n 1, 1) := by decide +kernel
theorem dX4_asks_256 : decode cX4_asks 256 = .ok (.invokevirtual 191, 3) := by decide +kernel
theorem dX4_asks_259 : decode cX4_asks 259 = .ok (.ifCond .eq 8, 3) := by decide +kernel
theorem dX4_asks_262 : decode cX4_asks 262 = .ok (.aload_n 0, 1) := by decide +kernel
theorem dX4_asks_263 : decode cX4_asks 263 = .ok (.iload_n 1, 1) := by decide +kernel
theorem dX4_asks_264 : decode cX4_asks 264 = .ok (.invokevirtual 194, 3) := by decide +kernel
theorem dX4_asks_267 : decode cX4_asks 267 = .ok (.iinc 7 1, 3) := by decide +kernel
theorem dX4_asks_270 : decode cX4_asks 270 = .ok (.goto (-53), 3) := by decide +kernel
theorem dX4_asks_273 : decode cX4_asks 273 = .ok (.iload 6, 2) := by decide +kernel
theorem dX4_asks_275 : decode cX4_asks 275 = .ok (.ifCond .eq 16, 3) := by decide +kernel
theorem dX4_asks_278 : decode cX4_asks 278 = .ok (.aload_n 0, 1) := by decide +kernel
theorem dX4_asks_279 : decode cX4_asks 279 = .ok (.getfield 86, 3) := by decide +kernel
theorem dX4_asks_282 : decode cX4_asks 282 = .ok (.sipush 201, 3) := by decide +kernel
theorem dX4_asks_285 : decode cX4_asks 285 = .ok (.iload_n 1, 1) := by decide +kernel
theorem dX4_asks_286 : decode cX4_asks 286 = .ok (.imul, 1) := by decide +kernel
theorem dX4_asks_287 : decode cX4_asks 287 = .ok (.iload_n 2, 1) := by decide +kernel
theorem dX4_asks_288 : decode cX4_asks 288 = .ok (.iadd, 1) := by decide +kernel
theorem dX4_asks_289 : decode cX4_asks 289 = .ok (.iconst 1, 1) := by decide +kernel
theorem dX4_asks_290 : decode cX4_asks 290 = .ok (.bastore, 1) := by decide +kernel
theorem dX4_asks_291 : decode cX4_asks 291 = .ok (.iconst 1, 1) := by decide +kernel
theorem dX4_asks_292 : decode cX4_asks 292 = .ok (.ireturn, 1) := by decide +kernel
abbrev cX4_findMoves : ByteArray := prog_6_method_19_code
def yX4_findMoves : MethodName := ⟨RX4, "findMoves", "(IIZ)V"⟩
theorem dX4_findMoves_0 : decode cX4_findMoves 0 = .ok (.aload_n 0, 1) := by decide +kernel
theorem dX4_findMoves_1 : decode cX4_findMoves 1 = .ok (.iconst 0, 1) := by decide +kernel
theorem dX4_findMoves_2 : decode cX4_findMoves 2 = .ok (.putfield 170, 3) := by decide +kernel
theorem dX4_findMoves_5 : decode cX4_findMoves 5 = .ok (.aload_n 0, 1) := by decide +kernel
theorem dX4_findMoves_6 : decode cX4_findMoves 6 = .ok (.getfield 114, 3) := by decide +kernel
theorem dX4_findMoves_9 : decode cX4_findMoves 9 = .ok (.aload_n 0, 1) := by decide +kernel
theorem dX4_findMoves_10 : decode cX4_findMoves 10 = .ok (.getfield 160, 3) := by decide +kernel
theorem dX4_findMoves_13 : decode cX4_findMoves 13 = .ok (.iconst 1, 1) := by decide +kernel
theorem dX4_findMoves_14 : decode cX4_findMoves 14 = .ok (.isub, 1) := by decide +kernel
theorem dX4_findMoves_15 : decode cX4_findMoves 15 = .ok (.iaload, 1) := by decide +kernel
theorem dX4_findMoves_16 : decode cX4_findMoves 16 = .ok (.istore 4, 2) := by decide +kernel
theorem dX4_findMoves_18 : decode cX4_findMoves 18 = .ok (.iconst 1, 1) := by decide +kernel
theorem dX4_findMoves_19 : decode cX4_findMoves 19 = .ok (.istore 5, 2) := by decide +kernel
theorem dX4_findMoves_21 : decode cX4_findMoves 21 = .ok (.iconst 0, 1) := by decide +kernel
theorem dX4_findMoves_22 : decode cX4_findMoves 22 = .ok (.istore 6, 2) := by decide +kernel
theorem dX4_findMoves_24 : decode cX4_findMoves 24 = .ok (.iload 4, 2) := by decide +kernel
theorem dX4_findMoves_26 : decode cX4_findMoves 26 = .ok (.iconst 1, 1) := by decide +kernel
theorem dX4_findMoves_27 : decode cX4_findMoves 27 = .ok (.iadd, 1) := by decide +kernel
theorem dX4_findMoves_28 : decode cX4_findMoves 28 = .ok (.istore 7, 2) := by decide +kernel
theorem dX4_findMoves_30 : decode cX4_findMoves 30 = .ok (.iload 7, 2) := by decide +kernel
theorem dX4_findMoves_32 : decode cX4_findMoves 32 = .ok (.aload_n 0, 1) := by decide +kernel
theorem dX4_findMoves_33 : decode cX4_findMoves 33 = .ok (.iload_n 1, 1) := by decide +kernel
theorem dX4_findMoves_34 : decode cX4_findMoves 34 = .ok (.invokevirtual 163, 3) := by decide +kernel
theorem dX4_findMoves_37 : decode cX4_findMoves 37 = .ok (.if_icmp .ge 112, 3) := by decide +kernel
theorem dX4_findMoves_40 : decode cX4_findMoves 40 = .ok (.iload 5, 2) := by decide +kernel
theorem dX4_findMoves_42 : decode cX4_findMoves 42 = .ok (.ifCond .eq 107, 3) := by decide +kernel
theorem dX4_findMoves_45 : decode cX4_findMoves 45 = .ok (.aload_n 0, 1) := by decide +kernel
theorem dX4_findMoves_46 : decode cX4_findMoves 46 = .ok (.getfield 65, 3) := by decide +kernel
theorem dX4_findMoves_49 : decode cX4_findMoves 49 = .ok (.bipush 6, 2) := by decide +kernel
theorem dX4_findMoves_51 : decode cX4_findMoves 51 = .ok (.iload_n 1, 1) := by decide +kernel
theorem dX4_findMoves_52 : decode cX4_findMoves 52 = .ok (.imul, 1) := by decide +kernel
theorem dX4_findMoves_53 : decode cX4_findMoves 53 = .ok (.iload 7, 2) := by decide +kernel
theorem dX4_findMoves_55 : decode cX4_findMoves 55 = .ok (.iadd, 1) := by decide +kernel
theorem dX4_findMoves_56 : decode cX4_findMoves 56 = .ok (.iaload, 1) := by decide +kernel
theorem dX4_findMoves_57 : decode cX4_findMoves 57 = .ok (.istore 8, 2) := by decide +kernel
theorem dX4_findMoves_59 : decode cX4_findMoves 59 = .ok (.iload 8, 2) := by decide +kernel
theorem dX4_findMoves_61 : decode cX4_findMoves 61 = .ok (.iconst 3, 1) := by decide +kernel
theorem dX4_findMoves_62 : decode cX4_findMoves 62 = .ok (.if_icmp .eq 44, 3) := by decide +kernel
theorem dX4_findMoves_65 : decode cX4_findMoves 65 = .ok (.iload 6, 2) := by decide +kernel
theorem dX4_findMoves_67 : decode cX4_findMoves 67 = .ok (.ifCond .eq 7, 3) := by decide +kernel
theorem dX4_findMoves_70 : decode cX4_findMoves 70 = .ok (.iload_n 3, 1) := by decide +kernel
theorem dX4_findMoves_71 : decode cX4_findMoves 71 = .ok (.ifCond .ne 35, 3) := by decide +kernel
theorem dX4_findMoves_74 : decode cX4_findMoves 74 = .ok (.aload_n 0, 1) := by decide +kernel
theorem dX4_findMoves_75 : decode cX4_findMoves 75 = .ok (.iload_n 1, 1) := by decide +kernel
theorem dX4_findMoves_76 : decode cX4_findMoves 76 = .ok (.iload 7, 2) := by decide +kernel
theorem dX4_findMoves_78 : decode cX4_findMoves 78 = .ok (.iload_n 2, 1) := by decide +kernel
theorem dX4_findMoves_79 : decode cX4_findMoves 79 = .ok (.invokevirtual 173, 3) := by decide +kernel
theorem dX4_findMoves_82 : decode cX4_findMoves 82 = .ok (.ifCond .eq 24, 3) := by decide +kernel
theorem dX4_findMoves_85 : decode cX4_findMoves 85 = .ok (.aload_n 0, 1) := by decide +kernel
theorem dX4_findMoves_86 : decode cX4_findMoves 86 = .ok (.getfield 117, 3) := by decide +kernel
theorem dX4_findMoves_89 : decode cX4_findMoves 89 = .ok (.aload_n 0, 1) := by decide +kernel
theorem dX4_findMoves_90 : decode cX4_findMoves 90 = .ok (.getfield 170, 3) := by decide +kernel
theorem dX4_findMoves_93 : decode cX4_findMoves 93 = .ok (.iload 7, 2) := by decide +kernel
theorem dX4_findMoves_95 : decode cX4_findMoves 95 = .ok (.iastore, 1) := by decide +kernel
theorem dX4_findMoves_96 : decode cX4_findMoves 96 = .ok (.aload_n 0, 1) := by decide +kernel
theorem dX4_findMoves_97 : decode cX4_findMoves 97 = .ok (.dup, 1) := by decide +kernel
theorem dX4_findMoves_98 : decode cX4_findMoves 98 = .ok (.getfield 170, 3) := by decide +kernel
theorem dX4_findMoves_101 : decode cX4_findMoves 101 = .ok (.iconst 1, 1) := by decide +kernel
theorem dX4_findMoves_102 : decode cX4_findMoves 102 = .ok (.iadd, 1) := by decide +kernel
theorem dX4_findMoves_103 : decode cX4_findMoves 103 = .ok (.putfield 170, 3) := by decide +kernel
theorem dX4_findMoves_106 : decode cX4_findMoves 106 = .ok (.iload 6, 2) := by decide +kernel
theorem dX4_findMoves_108 : decode cX4_findMoves 108 = .ok (.ifCond .ne 9, 3) := by decide +kernel
theorem dX4_findMoves_111 : decode cX4_findMoves 111 = .ok (.iload 8, 2) := by decide +kernel
theorem dX4_findMoves_113 : decode cX4_findMoves 113 = .ok (.iconst 3, 1) := by decide +kernel
theorem dX4_findMoves_114 : decode cX4_findMoves 114 = .ok (.if_icmp .ne 7, 3) := by decide +kernel
theorem dX4_findMoves_117 : decode cX4_findMoves 117 = .ok (.iconst 1, 1) := by decide +kernel
theorem dX4_findMoves_118 : decode cX4_findMoves 118 = .ok (.goto 4, 3) := by decide +kernel
theorem dX4_findMoves_121 : decode cX4_findMoves 121 = .ok (.iconst 0, 1) := by decide +kernel
theorem dX4_findMoves_122 : decode cX4_findMoves 122 = .ok (.istore 6, 2) := by decide +kernel
theorem dX4_findMoves_124 : decode cX4_findMoves 124 = .ok (.iload 8, 2) := by decide +kernel
theorem dX4_findMoves_126 : decode cX4_findMoves 126 = .ok (.iconst 2, 1) := by decide +kernel
theorem dX4_findMoves_127 : decode cX4_findMoves 127 = .ok (.if_icmp .eq 9, 3) := by decide +kernel
theorem dX4_findMoves_130 : decode cX4_findMoves 130 = .ok (.iload 8, 2) := by decide +kernel
theorem dX4_findMoves_132 : decode cX4_findMoves 132 = .ok (.iconst 3, 1) := by decide +kernel
theorem dX4_findMoves_133 : decode cX4_findMoves 133 = .ok (.if_icmp .ne 7, 3) := by decide +kernel
theorem dX4_findMoves_136 : decode cX4_findMoves 136 = .ok (.iconst 1, 1) := by decide +kernel
theorem dX4_findMoves_137 : decode cX4_findMoves 137 = .ok (.goto 4, 3) := by decide +kernel
theorem dX4_findMoves_140 : decode cX4_findMoves 140 = .ok (.iconst 0, 1) := by decide +kernel
theorem dX4_findMoves_141 : decode cX4_findMoves 141 = .ok (.istore 5, 2) := by decide +kernel
theorem dX4_findMoves_143 : decode cX4_findMoves 143 = .ok (.iinc 7 1, 3) := by decide +kernel
theorem dX4_findMoves_146 : decode cX4_findMoves 146 = .ok (.goto (-116), 3) := by decide +kernel
theorem dX4_findMoves_149 : decode cX4_findMoves 149 = .ok (.iconst 0, 1) := by decide +kernel
theorem dX4_findMoves_150 : decode cX4_findMoves 150 = .ok (.istore 7, 2) := by decide +kernel
theorem dX4_findMoves_152 : decode cX4_findMoves 152 = .ok (.iconst 0, 1) := by decide +kernel
theorem dX4_findMoves_153 : decode cX4_findMoves 153 = .ok (.istore 8, 2) := by decide +kernel
theorem dX4_findMoves_155 : decode cX4_findMoves 155 = .ok (.iload 8, 2) := by decide +kernel
theorem dX4_findMoves_157 : decode cX4_findMoves 157 = .ok (.aload_n 0, 1) := by decide +kernel
theorem dX4_findMoves_158 : decode cX4_findMoves 158 = .ok (.getfield 160, 3) := by decide +kernel
theorem dX4_findMoves_161 : decode cX4_findMoves 161 = .ok (.if_icmp .ge 31, 3) := by decide +kernel
theorem dX4_findMoves_164 : decode cX4_findMoves 164 = .ok (.iload 7, 2) := by decide +kernel
theorem dX4_findMoves_166 : decode cX4_findMoves 166 = .ok (.aload_n 0, 1) := by decide +kernel
theorem dX4_findMoves_167 : decode cX4_findMoves 167 = .ok (.getfield 114, 3) := by decide +kernel
theorem dX4_findMoves_170 : decode cX4_findMoves 170 = .ok (.iload 8, 2) := by decide +kernel
theorem dX4_findMoves_172 : decode cX4_findMoves 172 = .ok (.iaload, 1) := by decide +kernel
theorem dX4_findMoves_173 : decode cX4_findMoves 173 = .ok (.iload 4, 2) := by decide +kernel
theorem dX4_findMoves_175 : decode cX4_findMoves 175 = .ok (.if_icmp .ne 7, 3) := by decide +kernel
theorem dX4_findMoves_178 : decode cX4_findMoves 178 = .ok (.iconst 1, 1) := by decide +kernel
theorem dX4_findMoves_179 : decode cX4_findMoves 179 = .ok (.goto 4, 3) := by decide +kernel
theorem dX4_findMoves_182 : decode cX4_findMoves 182 = .ok (.iconst 0, 1) := by decide +kernel
theorem dX4_findMoves_183 : decode cX4_findMoves 183 = .ok (.iadd, 1) := by decide +kernel
theorem dX4_findMoves_184 : decode cX4_findMoves 184 = .ok (.istore 7, 2) := by decide +kernel
theorem dX4_findMoves_186 : decode cX4_findMoves 186 = .ok (.iinc 8 1, 3) := by decide +kernel
theorem dX4_findMoves_189 : decode cX4_findMoves 189 = .ok (.goto (-34), 3) := by decide +kernel
theorem dX4_findMoves_192 : decode cX4_findMoves 192 = .ok (.aload_n 0, 1) := by decide +kernel
theorem dX4_findMoves_193 : decode cX4_findMoves 193 = .ok (.getfield 65, 3) := by decide +kernel
theorem dX4_findMoves_196 : decode cX4_findMoves 196 = .ok (.bipush 6, 2) := by decide +kernel
theorem dX4_findMoves_198 : decode cX4_findMoves 198 = .ok (.iload_n 1, 1) := by decide +kernel
theorem dX4_findMoves_199 : decode cX4_findMoves 199 = .ok (.imul, 1) := by decide +kernel
theorem dX4_findMoves_200 : decode cX4_findMoves 200 = .ok (.iload 4, 2) := by decide +kernel
theorem dX4_findMoves_202 : decode cX4_findMoves 202 = .ok (.iadd, 1) := by decide +kernel
theorem dX4_findMoves_203 : decode cX4_findMoves 203 = .ok (.iaload, 1) := by decide +kernel
theorem dX4_findMoves_204 : decode cX4_findMoves 204 = .ok (.iconst 1, 1) := by decide +kernel
theorem dX4_findMoves_205 : decode cX4_findMoves 205 = .ok (.if_icmp .ne 41, 3) := by decide +kernel
theorem dX4_findMoves_208 : decode cX4_findMoves 208 = .ok (.iload 7, 2) := by decide +kernel
theorem dX4_findMoves_210 : decode cX4_findMoves 210 = .ok (.iconst 4, 1) := by decide +kernel
theorem dX4_findMoves_211 : decode cX4_findMoves 211 = .ok (.if_icmp .ge 35, 3) := by decide +kernel
theorem dX4_findMoves_214 : decode cX4_findMoves 214 = .ok (.aload_n 0, 1) := by decide +kernel
theorem dX4_findMoves_215 : decode cX4_findMoves 215 = .ok (.iload_n 1, 1) := by decide +kernel
theorem dX4_findMoves_216 : decode cX4_findMoves 216 = .ok (.iload 4, 2) := by decide +kernel
theorem dX4_findMoves_218 : decode cX4_findMoves 218 = .ok (.iload_n 2, 1) := by decide +kernel
theorem dX4_findMoves_219 : decode cX4_findMoves 219 = .ok (.invokevirtual 173, 3) := by decide +kernel
theorem dX4_findMoves_222 : decode cX4_findMoves 222 = .ok (.ifCond .eq 24, 3) := by decide +kernel
theorem dX4_findMoves_225 : decode cX4_findMoves 225 = .ok (.aload_n 0, 1) := by decide +kernel
theorem dX4_findMoves_226 : decode cX4_findMoves 226 = .ok (.getfield 117, 3) := by decide +kernel
theorem dX4_findMoves_229 : decode cX4_findMoves 229 = .ok (.aload_n 0, 1) := by decide +kernel
theorem dX4_findMoves_230 : decode cX4_findMoves 230 = .ok (.getfield 170, 3) := by decide +kernel
theorem dX4_findMoves_233 : decode cX4_findMoves 233 = .ok (.iload 4, 2) := by decide +kernel
theorem dX4_findMoves_235 : decode cX4_findMoves 235 = .ok (.iastore, 1) := by decide +kernel
theorem dX4_findMoves_236 : decode cX4_findMoves 236 = .ok (.aload_n 0, 1) := by decide +kernel
theorem dX4_findMoves_237 : decode cX4_findMoves 237 = .ok (.dup, 1) := by decide +kernel
theorem dX4_findMoves_238 : decode cX4_findMoves 238 = .ok (.getfield 170, 3) := by decide +kernel
theorem dX4_findMoves_241 : decode cX4_findMoves 241 = .ok (.iconst 1, 1) := by decide +kernel
theorem dX4_findMoves_242 : decode cX4_findMoves 242 = .ok (.iadd, 1) := by decide +kernel
theorem dX4_findMoves_243 : decode cX4_findMoves 243 = .ok (.putfield 170, 3) := by decide +kernel
theorem dX4_findMoves_246 : decode cX4_findMoves 246 = .ok (.return_, 1) := by decide +kernel
abbrev cX4_real : ByteArray := prog_6_method_12_code
def yX4_real : MethodName := ⟨RX4, "real", "(I)I"⟩
theorem dX4_real_0 : decode cX4_real 0 = .ok (.aload_n 0, 1) := by decide +kernel
theorem dX4_real_1 : decode cX4_real 1 = .ok (.getfield 49, 3) := by decide +kernel
theorem dX4_real_4 : decode cX4_real 4 = .ok (.iload_n 1, 1) := by decide +kernel
theorem dX4_real_5 : decode cX4_real 5 = .ok (.iaload, 1) := by decide +kernel
theorem dX4_real_6 : decode cX4_real 6 = .ok (.ifCond .le 36, 3) := by decide +kernel
theorem dX4_real_9 : decode cX4_real 9 = .ok (.aload_n 0, 1) := by decide +kernel
theorem dX4_real_10 : decode cX4_real 10 = .ok (.getfield 65, 3) := by decide +kernel
theorem dX4_real_13 : decode cX4_real 13 = .ok (.bipush 6, 2) := by decide +kernel
theorem dX4_real_15 : decode cX4_real 15 = .ok (.iload_n 1, 1) := by decide +kernel
theorem dX4_real_16 : decode cX4_real 16 = .ok (.imul, 1) := by decide +kernel
theorem dX4_real_17 : decode cX4_real 17 = .ok (.aload_n 0, 1) := by decide +kernel
theorem dX4_real_18 : decode cX4_real 18 = .ok (.getfield 49, 3) := by decide +kernel
theorem dX4_real_21 : decode cX4_real 21 = .ok (.iload_n 1, 1) := by decide +kernel
theorem dX4_real_22 : decode cX4_real 22 = .ok (.iaload, 1) := by decide +kernel
theorem dX4_real_23 : decode cX4_real 23 = .ok (.iadd, 1) := by decide +kernel
theorem dX4_real_24 : decode cX4_real 24 = .ok (.iconst 1, 1) := by decide +kernel
theorem dX4_real_25 : decode cX4_real 25 = .ok (.isub, 1) := by decide +kernel
theorem dX4_real_26 : decode cX4_real 26 = .ok (.iaload, 1) := by decide +kernel
theorem dX4_real_27 : decode cX4_real 27 = .ok (.iconst 3, 1) := by decide +kernel
theorem dX4_real_28 : decode cX4_real 28 = .ok (.if_icmp .ne 14, 3) := by decide +kernel
theorem dX4_real_31 : decode cX4_real 31 = .ok (.aload_n 0, 1) := by decide +kernel
theorem dX4_real_32 : decode cX4_real 32 = .ok (.getfield 49, 3) := by decide +kernel
theorem dX4_real_35 : decode cX4_real 35 = .ok (.iload_n 1, 1) := by decide +kernel
theorem dX4_real_36 : decode cX4_real 36 = .ok (.iaload, 1) := by decide +kernel
theorem dX4_real_37 : decode cX4_real 37 = .ok (.iconst 1, 1) := by decide +kernel
theorem dX4_real_38 : decode cX4_real 38 = .ok (.isub, 1) := by decide +kernel
theorem dX4_real_39 : decode cX4_real 39 = .ok (.goto 9, 3) := by decide +kernel
theorem dX4_real_42 : decode cX4_real 42 = .ok (.aload_n 0, 1) := by decide +kernel
theorem dX4_real_43 : decode cX4_real 43 = .ok (.getfield 49, 3) := by decide +kernel
theorem dX4_real_46 : decode cX4_real 46 = .ok (.iload_n 1, 1) := by decide +kernel
theorem dX4_real_47 : decode cX4_real 47 = .ok (.iaload, 1) := by decide +kernel
theorem dX4_real_48 : decode cX4_real 48 = .ok (.ireturn, 1) := by decide +kernel
abbrev cX4_fits : ByteArray := prog_6_method_13_code
def yX4_fits : MethodName := ⟨RX4, "fits", "(III)Z"⟩
theorem dX4_fits_0 : decode cX4_fits 0 = .ok (.bipush 6, 2) := by decide +kernel
theorem dX4_fits_2 : decode cX4_fits 2 = .ok (.iload_n 1, 1) := by decide +kernel
theorem dX4_fits_3 : decode cX4_fits 3 = .ok (.imul, 1) := by decide +kernel
theorem dX4_fits_4 : decode cX4_fits 4 = .ok (.iload_n 2, 1) := by decide +kernel
theorem dX4_fits_5 : decode cX4_fits 5 = .ok (.iadd, 1) := by decide +kernel
theorem dX4_fits_6 : decode cX4_fits 6 = .ok (.istore 4, 2) := by decide +kernel
theorem dX4_fits_8 : decode cX4_fits 8 = .ok (.aload_n 0, 1) := by decide +kernel
theorem dX4_fits_9 : decode cX4_fits 9 = .ok (.aload_n 0, 1) := by decide +kernel
theorem dX4_fits_10 : decode cX4_fits 10 = .ok (.getfield 28, 3) := by decide +kernel
theorem dX4_fits_13 : decode cX4_fits 13 = .ok (.iload_n 3, 1) := by decide +kernel
theorem dX4_fits_14 : decode cX4_fits 14 = .ok (.iaload, 1) := by decide +kernel
theorem dX4_fits_15 : decode cX4_fits 15 = .ok (.aload_n 0, 1) := by decide +kernel
theorem dX4_fits_16 : decode cX4_fits 16 = .ok (.getfield 68, 3) := by decide +kernel
theorem dX4_fits_19 : decode cX4_fits 19 = .ok (.iload 4, 2) := by decide +kernel
theorem dX4_fits_21 : decode cX4_fits 21 = .ok (.iaload, 1) := by decide +kernel
theorem dX4_fits_22 : decode cX4_fits 22 = .ok (.invokevirtual 157, 3) := by decide +kernel
theorem dX4_fits_25 : decode cX4_fits 25 = .ok (.ifCond .ne 5, 3) := by decide +kernel
theorem dX4_fits_28 : decode cX4_fits 28 = .ok (.iconst 0, 1) := by decide +kernel
theorem dX4_fits_29 : decode cX4_fits 29 = .ok (.ireturn, 1) := by decide +kernel
theorem dX4_fits_30 : decode cX4_fits 30 = .ok (.aload_n 0, 1) := by decide +kernel
theorem dX4_fits_31 : decode cX4_fits 31 = .ok (.getfield 71, 3) := by decide +kernel
theorem dX4_fits_34 : decode cX4_fits 34 = .ok (.iload 4, 2) := by decide +kernel
theorem dX4_fits_36 : decode cX4_fits 36 = .ok (.iaload, 1) := by decide +kernel
theorem dX4_fits_37 : decode cX4_fits 37 = .ok (.istore 5, 2) := by decide +kernel
theorem dX4_fits_39 : decode cX4_fits 39 = .ok (.iload 5, 2) := by decide +kernel
theorem dX4_fits_41 : decode cX4_fits 41 = .ok (.ifCond .ne 5, 3) := by decide +kernel
theorem dX4_fits_44 : decode cX4_fits 44 = .ok (.iconst 1, 1) := by decide +kernel
theorem dX4_fits_45 : decode cX4_fits 45 = .ok (.ireturn, 1) := by decide +kernel
theorem dX4_fits_46 : decode cX4_fits 46 = .ok (.aload_n 0, 1) := by decide +kernel
theorem dX4_fits_47 : decode cX4_fits 47 = .ok (.getfield 37, 3) := by decide +kernel
theorem dX4_fits_50 : decode cX4_fits 50 = .ok (.iconst 4, 1) := by decide +kernel
theorem dX4_fits_51 : decode cX4_fits 51 = .ok (.iload_n 3, 1) := by decide +kernel
theorem dX4_fits_52 : decode cX4_fits 52 = .ok (.imul, 1) := by decide +kernel
theorem dX4_fits_53 : decode cX4_fits 53 = .ok (.aload_n 0, 1) := by decide +kernel
theorem dX4_fits_54 : decode cX4_fits 54 = .ok (.getfield 74, 3) := by decide +kernel
theorem dX4_fits_57 : decode cX4_fits 57 = .ok (.iload 4, 2) := by decide +kernel
theorem dX4_fits_59 : decode cX4_fits 59 = .ok (.iaload, 1) := by decide +kernel
theorem dX4_fits_60 : decode cX4_fits 60 = .ok (.iadd, 1) := by decide +kernel
theorem dX4_fits_61 : decode cX4_fits 61 = .ok (.iaload, 1) := by decide +kernel
theorem dX4_fits_62 : decode cX4_fits 62 = .ok (.istore 6, 2) := by decide +kernel
theorem dX4_fits_64 : decode cX4_fits 64 = .ok (.aload_n 0, 1) := by decide +kernel
theorem dX4_fits_65 : decode cX4_fits 65 = .ok (.getfield 77, 3) := by decide +kernel
theorem dX4_fits_68 : decode cX4_fits 68 = .ok (.iload 4, 2) := by decide +kernel
theorem dX4_fits_70 : decode cX4_fits 70 = .ok (.iaload, 1) := by decide +kernel
theorem dX4_fits_71 : decode cX4_fits 71 = .ok (.istore 7, 2) := by decide +kernel
theorem dX4_fits_73 : decode cX4_fits 73 = .ok (.iload 5, 2) := by decide +kernel
theorem dX4_fits_75 : decode cX4_fits 75 = .ok (.iconst 3, 1) := by decide +kernel
theorem dX4_fits_76 : decode cX4_fits 76 = .ok (.if_icmp .le 81, 3) := by decide +kernel
theorem dX4_fits_79 : decode cX4_fits 79 = .ok (.iconst (-1), 1) := by decide +kernel
theorem dX4_fits_80 : decode cX4_fits 80 = .ok (.istore 8, 2) := by decide +kernel
theorem dX4_fits_82 : decode cX4_fits 82 = .ok (.iconst 0, 1) := by decide +kernel
theorem dX4_fits_83 : decode cX4_fits 83 = .ok (.istore 9, 2) := by decide +kernel
theorem dX4_fits_85 : decode cX4_fits 85 = .ok (.iload 9, 2) := by decide +kernel
theorem dX4_fits_87 : decode cX4_fits 87 = .ok (.aload_n 0, 1) := by decide +kernel
theorem dX4_fits_88 : decode cX4_fits 88 = .ok (.getfield 160, 3) := by decide +kernel
theorem dX4_fits_91 : decode cX4_fits 91 = .ok (.if_icmp .ge 40, 3) := by decide +kernel
theorem dX4_fits_94 : decode cX4_fits 94 = .ok (.aload_n 0, 1) := by decide +kernel
theorem dX4_fits_95 : decode cX4_fits 95 = .ok (.getfield 114, 3) := by decide +kernel
theorem dX4_fits_98 : decode cX4_fits 98 = .ok (.iload 9, 2) := by decide +kernel
theorem dX4_fits_100 : decode cX4_fits 100 = .ok (.iaload, 1) := by decide +kernel
theorem dX4_fits_101 : decode cX4_fits 101 = .ok (.aload_n 0, 1) := by decide +kernel
theorem dX4_fits_102 : decode cX4_fits 102 = .ok (.getfield 77, 3) := by decide +kernel
theorem dX4_fits_105 : decode cX4_fits 105 = .ok (.iload 4, 2) := by decide +kernel
theorem dX4_fits_107 : decode cX4_fits 107 = .ok (.iaload, 1) := by decide +kernel
theorem dX4_fits_108 : decode cX4_fits 108 = .ok (.if_icmp .ne 13, 3) := by decide +kernel
theorem dX4_fits_111 : decode cX4_fits 111 = .ok (.aload_n 0, 1) := by decide +kernel
theorem dX4_fits_112 : decode cX4_fits 112 = .ok (.getfield 111, 3) := by decide +kernel
theorem dX4_fits_115 : decode cX4_fits 115 = .ok (.iload 9, 2) := by decide +kernel
theorem dX4_fits_117 : decode cX4_fits 117 = .ok (.iaload, 1) := by decide +kernel
theorem dX4_fits_118 : decode cX4_fits 118 = .ok (.goto 5, 3) := by decide +kernel
theorem dX4_fits_121 : decode cX4_fits 121 = .ok (.iload 8, 2) := by decide +kernel
theorem dX4_fits_123 : decode cX4_fits 123 = .ok (.istore 8, 2) := by decide +kernel
theorem dX4_fits_125 : decode cX4_fits 125 = .ok (.iinc 9 1, 3) := by decide +kernel
theorem dX4_fits_128 : decode cX4_fits 128 = .ok (.goto (-43), 3) := by decide +kernel
theorem dX4_fits_131 : decode cX4_fits 131 = .ok (.iload 8, 2) := by decide +kernel
theorem dX4_fits_133 : decode cX4_fits 133 = .ok (.ifCond .ge 5, 3) := by decide +kernel
theorem dX4_fits_136 : decode cX4_fits 136 = .ok (.iconst 1, 1) := by decide +kernel
theorem dX4_fits_137 : decode cX4_fits 137 = .ok (.ireturn, 1) := by decide +kernel
theorem dX4_fits_138 : decode cX4_fits 138 = .ok (.aload_n 0, 1) := by decide +kernel
theorem dX4_fits_139 : decode cX4_fits 139 = .ok (.getfield 37, 3) := by decide +kernel
theorem dX4_fits_142 : decode cX4_fits 142 = .ok (.iconst 4, 1) := by decide +kernel
theorem dX4_fits_143 : decode cX4_fits 143 = .ok (.iload 8, 2) := by decide +kernel
theorem dX4_fits_145 : decode cX4_fits 145 = .ok (.imul, 1) := by decide +kernel
theorem dX4_fits_146 : decode cX4_fits 146 = .ok (.aload_n 0, 1) := by decide +kernel
theorem dX4_fits_147 : decode cX4_fits 147 = .ok (.getfield 74, 3) := by decide +kernel
theorem dX4_fits_150 : decode cX4_fits 150 = .ok (.iload 4, 2) := by decide +kernel
theorem dX4_fits_152 : decode cX4_fits 152 = .ok (.iaload, 1) := by decide +kernel
theorem dX4_fits_153 : decode cX4_fits 153 = .ok (.iadd, 1) := by decide +kernel
theorem dX4_fits_154 : decode cX4_fits 154 = .ok (.iaload, 1) := by decide +kernel
theorem dX4_fits_155 : decode cX4_fits 155 = .ok (.istore 7, 2) := by decide +kernel
theorem dX4_fits_157 : decode cX4_fits 157 = .ok (.iload 5, 2) := by decide +kernel
theorem dX4_fits_159 : decode cX4_fits 159 = .ok (.iconst 3, 1) := by decide +kernel
theorem dX4_fits_160 : decode cX4_fits 160 = .ok (.if_icmp .le 10, 3) := by decide +kernel
theorem dX4_fits_163 : decode cX4_fits 163 = .ok (.iload 5, 2) := by decide +kernel
theorem dX4_fits_165 : decode cX4_fits 165 = .ok (.iconst 3, 1) := by decide +kernel
theorem dX4_fits_166 : decode cX4_fits 166 = .ok (.isub, 1) := by decide +kernel
theorem dX4_fits_167 : decode cX4_fits 167 = .ok (.goto 5, 3) := by decide +kernel
theorem dX4_fits_170 : decode cX4_fits 170 = .ok (.iload 5, 2) := by decide +kernel
theorem dX4_fits_172 : decode cX4_fits 172 = .ok (.istore 8, 2) := by decide +kernel
theorem dX4_fits_174 : decode cX4_fits 174 = .ok (.iload 8, 2) := by decide +kernel
theorem dX4_fits_176 : decode cX4_fits 176 = .ok (.iconst 1, 1) := by decide +kernel
theorem dX4_fits_177 : decode cX4_fits 177 = .ok (.if_icmp .ne 18, 3) := by decide +kernel
theorem dX4_fits_180 : decode cX4_fits 180 = .ok (.iload 6, 2) := by decide +kernel
theorem dX4_fits_182 : decode cX4_fits 182 = .ok (.iload 7, 2) := by decide +kernel
theorem dX4_fits_184 : decode cX4_fits 184 = .ok (.if_icmp .ge 7, 3) := by decide +kernel
theorem dX4_fits_187 : decode cX4_fits 187 = .ok (.iconst 1, 1) := by decide +kernel
theorem dX4_fits_188 : decode cX4_fits 188 = .ok (.goto 40, 3) := by decide +kernel
theorem dX4_fits_191 : decode cX4_fits 191 = .ok (.iconst 0, 1) := by decide +kernel
theorem dX4_fits_192 : decode cX4_fits 192 = .ok (.goto 36, 3) := by decide +kernel
theorem dX4_fits_195 : decode cX4_fits 195 = .ok (.iload 8, 2) := by decide +kernel
theorem dX4_fits_197 : decode cX4_fits 197 = .ok (.iconst 2, 1) := by decide +kernel
theorem dX4_fits_198 : decode cX4_fits 198 = .ok (.if_icmp .ne 18, 3) := by decide +kernel
theorem dX4_fits_201 : decode cX4_fits 201 = .ok (.iload 6, 2) := by decide +kernel
theorem dX4_fits_203 : decode cX4_fits 203 = .ok (.iload 7, 2) := by decide +kernel
theorem dX4_fits_205 : decode cX4_fits 205 = .ok (.if_icmp .ne 7, 3) := by decide +kernel
theorem dX4_fits_208 : decode cX4_fits 208 = .ok (.iconst 1, 1) := by decide +kernel
theorem dX4_fits_209 : decode cX4_fits 209 = .ok (.goto 19, 3) := by decide +kernel
theorem dX4_fits_212 : decode cX4_fits 212 = .ok (.iconst 0, 1) := by decide +kernel
theorem dX4_fits_213 : decode cX4_fits 213 = .ok (.goto 15, 3) := by decide +kernel
theorem dX4_fits_216 : decode cX4_fits 216 = .ok (.iload 6, 2) := by decide +kernel
theorem dX4_fits_218 : decode cX4_fits 218 = .ok (.iload 7, 2) := by decide +kernel
theorem dX4_fits_220 : decode cX4_fits 220 = .ok (.if_icmp .le 7, 3) := by decide +kernel
theorem dX4_fits_223 : decode cX4_fits 223 = .ok (.iconst 1, 1) := by decide +kernel
theorem dX4_fits_224 : decode cX4_fits 224 = .ok (.goto 4, 3) := by decide +kernel
theorem dX4_fits_227 : decode cX4_fits 227 = .ok (.iconst 0, 1) := by decide +kernel
theorem dX4_fits_228 : decode cX4_fits 228 = .ok (.ireturn, 1) := by decide +kernel
abbrev cX4_isA : ByteArray := prog_6_method_4_code
def yX4_isA : MethodName := ⟨RX4, "isA", "(II)Z"⟩
theorem dX4_isA_0 : decode cX4_isA 0 = .ok (.iload_n 1, 1) := by decide +kernel
theorem dX4_isA_1 : decode cX4_isA 1 = .ok (.istore_n 3, 1) := by decide +kernel
theorem dX4_isA_2 : decode cX4_isA 2 = .ok (.iload_n 3, 1) := by decide +kernel
theorem dX4_isA_3 : decode cX4_isA 3 = .ok (.ifCond .lt 18, 3) := by decide +kernel
theorem dX4_isA_6 : decode cX4_isA 6 = .ok (.iload_n 3, 1) := by decide +kernel
theorem dX4_isA_7 : decode cX4_isA 7 = .ok (.iload_n 2, 1) := by decide +kernel
theorem dX4_isA_8 : decode cX4_isA 8 = .ok (.if_icmp .eq 13, 3) := by decide +kernel
theorem dX4_isA_11 : decode cX4_isA 11 = .ok (.aload_n 0, 1) := by decide +kernel
theorem dX4_isA_12 : decode cX4_isA 12 = .ok (.getfield 7, 3) := by decide +kernel
theorem dX4_isA_15 : decode cX4_isA 15 = .ok (.iload_n 3, 1) := by decide +kernel
theorem dX4_isA_16 : decode cX4_isA 16 = .ok (.iaload, 1) := by decide +kernel
theorem dX4_isA_17 : decode cX4_isA 17 = .ok (.istore_n 3, 1) := by decide +kernel
theorem dX4_isA_18 : decode cX4_isA 18 = .ok (.goto (-16), 3) := by decide +kernel
theorem dX4_isA_21 : decode cX4_isA 21 = .ok (.iload_n 3, 1) := by decide +kernel
theorem dX4_isA_22 : decode cX4_isA 22 = .ok (.ifCond .lt 7, 3) := by decide +kernel
theorem dX4_isA_25 : decode cX4_isA 25 = .ok (.iconst 1, 1) := by decide +kernel
theorem dX4_isA_26 : decode cX4_isA 26 = .ok (.goto 4, 3) := by decide +kernel
theorem dX4_isA_29 : decode cX4_isA 29 = .ok (.iconst 0, 1) := by decide +kernel
theorem dX4_isA_30 : decode cX4_isA 30 = .ok (.ireturn, 1) := by decide +kernel
abbrev cX4_add : ByteArray := prog_6_method_18_code
def yX4_add : MethodName := ⟨RX4, "add", "(II)V"⟩
theorem dX4_add_0 : decode cX4_add 0 = .ok (.aload_n 0, 1) := by decide +kernel
theorem dX4_add_1 : decode cX4_add 1 = .ok (.getfield 111, 3) := by decide +kernel
theorem dX4_add_4 : decode cX4_add 4 = .ok (.aload_n 0, 1) := by decide +kernel
theorem dX4_add_5 : decode cX4_add 5 = .ok (.getfield 160, 3) := by decide +kernel
theorem dX4_add_8 : decode cX4_add 8 = .ok (.iload_n 1, 1) := by decide +kernel
theorem dX4_add_9 : decode cX4_add 9 = .ok (.iastore, 1) := by decide +kernel
theorem dX4_add_10 : decode cX4_add 10 = .ok (.aload_n 0, 1) := by decide +kernel
theorem dX4_add_11 : decode cX4_add 11 = .ok (.getfield 114, 3) := by decide +kernel
theorem dX4_add_14 : decode cX4_add 14 = .ok (.aload_n 0, 1) := by decide +kernel
theorem dX4_add_15 : decode cX4_add 15 = .ok (.getfield 160, 3) := by decide +kernel
theorem dX4_add_18 : decode cX4_add 18 = .ok (.iload_n 2, 1) := by decide +kernel
theorem dX4_add_19 : decode cX4_add 19 = .ok (.iastore, 1) := by decide +kernel
theorem dX4_add_20 : decode cX4_add 20 = .ok (.aload_n 0, 1) := by decide +kernel
theorem dX4_add_21 : decode cX4_add 21 = .ok (.dup, 1) := by decide +kernel
theorem dX4_add_22 : decode cX4_add 22 = .ok (.getfield 160, 3) := by decide +kernel
theorem dX4_add_25 : decode cX4_add 25 = .ok (.iconst 1, 1) := by decide +kernel
theorem dX4_add_26 : decode cX4_add 26 = .ok (.iadd, 1) := by decide +kernel
theorem dX4_add_27 : decode cX4_add 27 = .ok (.putfield 160, 3) := by decide +kernel
theorem dX4_add_30 : decode cX4_add 30 = .ok (.return_, 1) := by decide +kernel
abbrev cX4_isWhole : ByteArray := prog_6_method_16_code
def yX4_isWhole : MethodName := ⟨RX4, "isWhole", "(I)Z"⟩
theorem dX4_isWhole_0 : decode cX4_isWhole 0 = .ok (.aload_n 0, 1) := by decide +kernel
theorem dX4_isWhole_1 : decode cX4_isWhole 1 = .ok (.getfield 114, 3) := by decide +kernel
theorem dX4_isWhole_4 : decode cX4_isWhole 4 = .ok (.aload_n 0, 1) := by decide +kernel
theorem dX4_isWhole_5 : decode cX4_isWhole 5 = .ok (.getfield 160, 3) := by decide +kernel
theorem dX4_isWhole_8 : decode cX4_isWhole 8 = .ok (.iconst 1, 1) := by decide +kernel
theorem dX4_isWhole_9 : decode cX4_isWhole 9 = .ok (.isub, 1) := by decide +kernel
theorem dX4_isWhole_10 : decode cX4_isWhole 10 = .ok (.iaload, 1) := by decide +kernel
theorem dX4_isWhole_11 : decode cX4_isWhole 11 = .ok (.iconst 1, 1) := by decide +kernel
theorem dX4_isWhole_12 : decode cX4_isWhole 12 = .ok (.iadd, 1) := by decide +kernel
theorem dX4_isWhole_13 : decode cX4_isWhole 13 = .ok (.istore_n 2, 1) := by decide +kernel
theorem dX4_isWhole_14 : decode cX4_isWhole 14 = .ok (.iload_n 2, 1) := by decide +kernel
theorem dX4_isWhole_15 : decode cX4_isWhole 15 = .ok (.aload_n 0, 1) := by decide +kernel
theorem dX4_isWhole_16 : decode cX4_isWhole 16 = .ok (.iload_n 1, 1) := by decide +kernel
theorem dX4_isWhole_17 : decode cX4_isWhole 17 = .ok (.invokevirtual 163, 3) := by decide +kernel
theorem dX4_isWhole_20 : decode cX4_isWhole 20 = .ok (.if_icmp .ge 26, 3) := by decide +kernel
theorem dX4_isWhole_23 : decode cX4_isWhole 23 = .ok (.aload_n 0, 1) := by decide +kernel
theorem dX4_isWhole_24 : decode cX4_isWhole 24 = .ok (.getfield 65, 3) := by decide +kernel
theorem dX4_isWhole_27 : decode cX4_isWhole 27 = .ok (.bipush 6, 2) := by decide +kernel
theorem dX4_isWhole_29 : decode cX4_isWhole 29 = .ok (.iload_n 1, 1) := by decide +kernel
theorem dX4_isWhole_30 : decode cX4_isWhole 30 = .ok (.imul, 1) := by decide +kernel
theorem dX4_isWhole_31 : decode cX4_isWhole 31 = .ok (.iload_n 2, 1) := by decide +kernel
theorem dX4_isWhole_32 : decode cX4_isWhole 32 = .ok (.iadd, 1) := by decide +kernel
theorem dX4_isWhole_33 : decode cX4_isWhole 33 = .ok (.iaload, 1) := by decide +kernel
theorem dX4_isWhole_34 : decode cX4_isWhole 34 = .ok (.iconst 2, 1) := by decide +kernel
theorem dX4_isWhole_35 : decode cX4_isWhole 35 = .ok (.if_icmp .eq 5, 3) := by decide +kernel
theorem dX4_isWhole_38 : decode cX4_isWhole 38 = .ok (.iconst 0, 1) := by decide +kernel
theorem dX4_isWhole_39 : decode cX4_isWhole 39 = .ok (.ireturn, 1) := by decide +kernel
theorem dX4_isWhole_40 : decode cX4_isWhole 40 = .ok (.iinc 2 1, 3) := by decide +kernel
theorem dX4_isWhole_43 : decode cX4_isWhole 43 = .ok (.goto (-29), 3) := by decide +kernel
theorem dX4_isWhole_46 : decode cX4_isWhole 46 = .ok (.iconst 1, 1) := by decide +kernel
theorem dX4_isWhole_47 : decode cX4_isWhole 47 = .ok (.ireturn, 1) := by decide +kernel
abbrev cX4_tell : ByteArray := prog_6_method_17_code
def yX4_tell : MethodName := ⟨RX4, "tell", "(I)V"⟩
theorem dX4_tell_0 : decode cX4_tell 0 = .ok (.aload_n 0, 1) := by decide +kernel
theorem dX4_tell_1 : decode cX4_tell 1 = .ok (.getfield 167, 3) := by decide +kernel
theorem dX4_tell_4 : decode cX4_tell 4 = .ok (.sipush 1000, 3) := by decide +kernel
theorem dX4_tell_7 : decode cX4_tell 7 = .ok (.if_icmp .ge 82, 3) := by decide +kernel
theorem dX4_tell_10 : decode cX4_tell 10 = .ok (.aload_n 0, 1) := by decide +kernel
theorem dX4_tell_11 : decode cX4_tell 11 = .ok (.getfield 99, 3) := by decide +kernel
theorem dX4_tell_14 : decode cX4_tell 14 = .ok (.aload_n 0, 1) := by decide +kernel
theorem dX4_tell_15 : decode cX4_tell 15 = .ok (.getfield 167, 3) := by decide +kernel
theorem dX4_tell_18 : decode cX4_tell 18 = .ok (.iload_n 1, 1) := by decide +kernel
theorem dX4_tell_19 : decode cX4_tell 19 = .ok (.iastore, 1) := by decide +kernel
theorem dX4_tell_20 : decode cX4_tell 20 = .ok (.aload_n 0, 1) := by decide +kernel
theorem dX4_tell_21 : decode cX4_tell 21 = .ok (.getfield 102, 3) := by decide +kernel
theorem dX4_tell_24 : decode cX4_tell 24 = .ok (.aload_n 0, 1) := by decide +kernel
theorem dX4_tell_25 : decode cX4_tell 25 = .ok (.getfield 167, 3) := by decide +kernel
theorem dX4_tell_28 : decode cX4_tell 28 = .ok (.aload_n 0, 1) := by decide +kernel
theorem dX4_tell_29 : decode cX4_tell 29 = .ok (.getfield 160, 3) := by decide +kernel
theorem dX4_tell_32 : decode cX4_tell 32 = .ok (.iastore, 1) := by decide +kernel
theorem dX4_tell_33 : decode cX4_tell 33 = .ok (.iconst 0, 1) := by decide +kernel
theorem dX4_tell_34 : decode cX4_tell 34 = .ok (.istore_n 2, 1) := by decide +kernel
theorem dX4_tell_35 : decode cX4_tell 35 = .ok (.iload_n 2, 1) := by decide +kernel
theorem dX4_tell_36 : decode cX4_tell 36 = .ok (.aload_n 0, 1) := by decide +kernel
theorem dX4_tell_37 : decode cX4_tell 37 = .ok (.getfield 160, 3) := by decide +kernel
theorem dX4_tell_40 : decode cX4_tell 40 = .ok (.if_icmp .ge 49, 3) := by decide +kernel
theorem dX4_tell_43 : decode cX4_tell 43 = .ok (.aload_n 0, 1) := by decide +kernel
theorem dX4_tell_44 : decode cX4_tell 44 = .ok (.getfield 105, 3) := by decide +kernel
theorem dX4_tell_47 : decode cX4_tell 47 = .ok (.bipush 24, 2) := by decide +kernel
theorem dX4_tell_49 : decode cX4_tell 49 = .ok (.aload_n 0, 1) := by decide +kernel
theorem dX4_tell_50 : decode cX4_tell 50 = .ok (.getfield 167, 3) := by decide +kernel
theorem dX4_tell_53 : decode cX4_tell 53 = .ok (.imul, 1) := by decide +kernel
theorem dX4_tell_54 : decode cX4_tell 54 = .ok (.iload_n 2, 1) := by decide +kernel
theorem dX4_tell_55 : decode cX4_tell 55 = .ok (.iadd, 1) := by decide +kernel
theorem dX4_tell_56 : decode cX4_tell 56 = .ok (.aload_n 0, 1) := by decide +kernel
theorem dX4_tell_57 : decode cX4_tell 57 = .ok (.getfield 111, 3) := by decide +kernel
theorem dX4_tell_60 : decode cX4_tell 60 = .ok (.iload_n 2, 1) := by decide +kernel
theorem dX4_tell_61 : decode cX4_tell 61 = .ok (.iaload, 1) := by decide +kernel
theorem dX4_tell_62 : decode cX4_tell 62 = .ok (.iastore, 1) := by decide +kernel
theorem dX4_tell_63 : decode cX4_tell 63 = .ok (.aload_n 0, 1) := by decide +kernel
theorem dX4_tell_64 : decode cX4_tell 64 = .ok (.getfield 108, 3) := by decide +kernel
theorem dX4_tell_67 : decode cX4_tell 67 = .ok (.bipush 24, 2) := by decide +kernel
theorem dX4_tell_69 : decode cX4_tell 69 = .ok (.aload_n 0, 1) := by decide +kernel
theorem dX4_tell_70 : decode cX4_tell 70 = .ok (.getfield 167, 3) := by decide +kernel
theorem dX4_tell_73 : decode cX4_tell 73 = .ok (.imul, 1) := by decide +kernel
theorem dX4_tell_74 : decode cX4_tell 74 = .ok (.iload_n 2, 1) := by decide +kernel
theorem dX4_tell_75 : decode cX4_tell 75 = .ok (.iadd, 1) := by decide +kernel
theorem dX4_tell_76 : decode cX4_tell 76 = .ok (.aload_n 0, 1) := by decide +kernel
theorem dX4_tell_77 : decode cX4_tell 77 = .ok (.getfield 114, 3) := by decide +kernel
theorem dX4_tell_80 : decode cX4_tell 80 = .ok (.iload_n 2, 1) := by decide +kernel
theorem dX4_tell_81 : decode cX4_tell 81 = .ok (.iaload, 1) := by decide +kernel
theorem dX4_tell_82 : decode cX4_tell 82 = .ok (.iastore, 1) := by decide +kernel
theorem dX4_tell_83 : decode cX4_tell 83 = .ok (.iinc 2 1, 3) := by decide +kernel
theorem dX4_tell_86 : decode cX4_tell 86 = .ok (.goto (-51), 3) := by decide +kernel
theorem dX4_tell_89 : decode cX4_tell 89 = .ok (.aload_n 0, 1) := by decide +kernel
theorem dX4_tell_90 : decode cX4_tell 90 = .ok (.dup, 1) := by decide +kernel
theorem dX4_tell_91 : decode cX4_tell 91 = .ok (.getfield 167, 3) := by decide +kernel
theorem dX4_tell_94 : decode cX4_tell 94 = .ok (.iconst 1, 1) := by decide +kernel
theorem dX4_tell_95 : decode cX4_tell 95 = .ok (.iadd, 1) := by decide +kernel
theorem dX4_tell_96 : decode cX4_tell 96 = .ok (.putfield 167, 3) := by decide +kernel
theorem dX4_tell_99 : decode cX4_tell 99 = .ok (.aload_n 0, 1) := by decide +kernel
theorem dX4_tell_100 : decode cX4_tell 100 = .ok (.getfield 62, 3) := by decide +kernel
theorem dX4_tell_103 : decode cX4_tell 103 = .ok (.iload_n 1, 1) := by decide +kernel
theorem dX4_tell_104 : decode cX4_tell 104 = .ok (.dup2, 1) := by decide +kernel
theorem dX4_tell_105 : decode cX4_tell 105 = .ok (.iaload, 1) := by decide +kernel
theorem dX4_tell_106 : decode cX4_tell 106 = .ok (.iconst 1, 1) := by decide +kernel
theorem dX4_tell_107 : decode cX4_tell 107 = .ok (.iadd, 1) := by decide +kernel
theorem dX4_tell_108 : decode cX4_tell 108 = .ok (.iastore, 1) := by decide +kernel
theorem dX4_tell_109 : decode cX4_tell 109 = .ok (.return_, 1) := by decide +kernel
abbrev cX4_make : ByteArray := prog_6_method_20_code
def yX4_make : MethodName := ⟨RX4, "make", "(I)Z"⟩
theorem dX4_make_0 : decode cX4_make 0 = .ok (.aload_n 0, 1) := by decide +kernel
theorem dX4_make_1 : decode cX4_make 1 = .ok (.getfield 80, 3) := by decide +kernel
theorem dX4_make_4 : decode cX4_make 4 = .ok (.iload_n 1, 1) := by decide +kernel
theorem dX4_make_5 : decode cX4_make 5 = .ok (.iaload, 1) := by decide +kernel
theorem dX4_make_6 : decode cX4_make 6 = .ok (.sipush 200, 3) := by decide +kernel
theorem dX4_make_9 : decode cX4_make 9 = .ok (.if_icmp .ne 19, 3) := by decide +kernel
theorem dX4_make_12 : decode cX4_make 12 = .ok (.aload_n 0, 1) := by decide +kernel
theorem dX4_make_13 : decode cX4_make 13 = .ok (.getfield 59, 3) := by decide +kernel
theorem dX4_make_16 : decode cX4_make 16 = .ok (.iload_n 1, 1) := by decide +kernel
theorem dX4_make_17 : decode cX4_make 17 = .ok (.iconst 1, 1) := by decide +kernel
theorem dX4_make_18 : decode cX4_make 18 = .ok (.bastore, 1) := by decide +kernel
theorem dX4_make_19 : decode cX4_make 19 = .ok (.aload_n 0, 1) := by decide +kernel
theorem dX4_make_20 : decode cX4_make 20 = .ok (.getfield 80, 3) := by decide +kernel
theorem dX4_make_23 : decode cX4_make 23 = .ok (.iload_n 1, 1) := by decide +kernel
theorem dX4_make_24 : decode cX4_make 24 = .ok (.iconst 0, 1) := by decide +kernel
theorem dX4_make_25 : decode cX4_make 25 = .ok (.iastore, 1) := by decide +kernel
theorem dX4_make_26 : decode cX4_make 26 = .ok (.iconst 0, 1) := by decide +kernel
theorem dX4_make_27 : decode cX4_make 27 = .ok (.ireturn, 1) := by decide +kernel
theorem dX4_make_28 : decode cX4_make 28 = .ok (.aload_n 0, 1) := by decide +kernel
theorem dX4_make_29 : decode cX4_make 29 = .ok (.iload_n 1, 1) := by decide +kernel
theorem dX4_make_30 : decode cX4_make 30 = .ok (.aload_n 0, 1) := by decide +kernel
theorem dX4_make_31 : decode cX4_make 31 = .ok (.getfield 80, 3) := by decide +kernel
theorem dX4_make_34 : decode cX4_make 34 = .ok (.iload_n 1, 1) := by decide +kernel
theorem dX4_make_35 : decode cX4_make 35 = .ok (.iaload, 1) := by decide +kernel
theorem dX4_make_36 : decode cX4_make 36 = .ok (.iconst 0, 1) := by decide +kernel
theorem dX4_make_37 : decode cX4_make 37 = .ok (.invokevirtual 177, 3) := by decide +kernel
theorem dX4_make_40 : decode cX4_make 40 = .ok (.aload_n 0, 1) := by decide +kernel
theorem dX4_make_41 : decode cX4_make 41 = .ok (.getfield 96, 3) := by decide +kernel
theorem dX4_make_44 : decode cX4_make 44 = .ok (.aload_n 0, 1) := by decide +kernel
theorem dX4_make_45 : decode cX4_make 45 = .ok (.getfield 80, 3) := by decide +kernel
theorem dX4_make_48 : decode cX4_make 48 = .ok (.iload_n 1, 1) := by decide +kernel
theorem dX4_make_49 : decode cX4_make 49 = .ok (.iaload, 1) := by decide +kernel
theorem dX4_make_50 : decode cX4_make 50 = .ok (.iconst 0, 1) := by decide +kernel
theorem dX4_make_51 : decode cX4_make 51 = .ok (.bastore, 1) := by decide +kernel
theorem dX4_make_52 : decode cX4_make 52 = .ok (.aload_n 0, 1) := by decide +kernel
theorem dX4_make_53 : decode cX4_make 53 = .ok (.getfield 80, 3) := by decide +kernel
theorem dX4_make_56 : decode cX4_make 56 = .ok (.iload_n 1, 1) := by decide +kernel
theorem dX4_make_57 : decode cX4_make 57 = .ok (.dup2, 1) := by decide +kernel
theorem dX4_make_58 : decode cX4_make 58 = .ok (.iaload, 1) := by decide +kernel
theorem dX4_make_59 : decode cX4_make 59 = .ok (.iconst 1, 1) := by decide +kernel
theorem dX4_make_60 : decode cX4_make 60 = .ok (.iadd, 1) := by decide +kernel
theorem dX4_make_61 : decode cX4_make 61 = .ok (.iastore, 1) := by decide +kernel
theorem dX4_make_62 : decode cX4_make 62 = .ok (.iconst 1, 1) := by decide +kernel
theorem dX4_make_63 : decode cX4_make 63 = .ok (.ireturn, 1) := by decide +kernel
abbrev cX4_matches : ByteArray := prog_6_method_28_code
def yX4_matches : MethodName := ⟨RX4, "matches", "(I)I"⟩
theorem dX4_matches_0 : decode cX4_matches 0 = .ok (.iload_n 1, 1) := by decide +kernel
theorem dX4_matches_1 : decode cX4_matches 1 = .ok (.iconst (-1), 1) := by decide +kernel
theorem dX4_matches_2 : decode cX4_matches 2 = .ok (.if_icmp .ne 10, 3) := by decide +kernel
theorem dX4_matches_5 : decode cX4_matches 5 = .ok (.aload_n 0, 1) := by decide +kernel
theorem dX4_matches_6 : decode cX4_matches 6 = .ok (.getfield 167, 3) := by decide +kernel
theorem dX4_matches_9 : decode cX4_matches 9 = .ok (.goto 21, 3) := by decide +kernel
theorem dX4_matches_12 : decode cX4_matches 12 = .ok (.aload_n 0, 1) := by decide +kernel
theorem dX4_matches_13 : decode cX4_matches 13 = .ok (.iload_n 1, 1) := by decide +kernel
theorem dX4_matches_14 : decode cX4_matches 14 = .ok (.invokevirtual 143, 3) := by decide +kernel
theorem dX4_matches_17 : decode cX4_matches 17 = .ok (.ifCond .eq 12, 3) := by decide +kernel
theorem dX4_matches_20 : decode cX4_matches 20 = .ok (.aload_n 0, 1) := by decide +kernel
theorem dX4_matches_21 : decode cX4_matches 21 = .ok (.getfield 62, 3) := by decide +kernel
theorem dX4_matches_24 : decode cX4_matches 24 = .ok (.iload_n 1, 1) := by decide +kernel
theorem dX4_matches_25 : decode cX4_matches 25 = .ok (.iaload, 1) := by decide +kernel
theorem dX4_matches_26 : decode cX4_matches 26 = .ok (.goto 4, 3) := by decide +kernel
theorem dX4_matches_29 : decode cX4_matches 29 = .ok (.iconst (-1), 1) := by decide +kernel
theorem dX4_matches_30 : decode cX4_matches 30 = .ok (.ireturn, 1) := by decide +kernel
