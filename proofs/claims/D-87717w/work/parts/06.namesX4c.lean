set_option maxRecDepth 100000
abbrev cX4_match : ByteArray := prog_6_method_30_code
def yX4_match : MethodName := ⟨RX4, "match", "(II)I"⟩
theorem dX4_match_0 : decode cX4_match 0 = .ok (.aload_n 0, 1) := by decide +kernel
theorem dX4_match_1 : decode cX4_match 1 = .ok (.iload_n 1, 1) := by decide +kernel
theorem dX4_match_2 : decode cX4_match 2 = .ok (.invokevirtual 224, 3) := by decide +kernel
theorem dX4_match_5 : decode cX4_match 5 = .ok (.ifCond .ne 5, 3) := by decide +kernel
theorem dX4_match_8 : decode cX4_match 8 = .ok (.iconst (-1), 1) := by decide +kernel
theorem dX4_match_9 : decode cX4_match 9 = .ok (.ireturn, 1) := by decide +kernel
theorem dX4_match_10 : decode cX4_match 10 = .ok (.iload_n 2, 1) := by decide +kernel
theorem dX4_match_11 : decode cX4_match 11 = .ok (.tableswitch 72 0 3 #[29, 36, 43, 53], 29) := by decide +kernel
theorem dX4_match_40 : decode cX4_match 40 = .ok (.aload_n 0, 1) := by decide +kernel
theorem dX4_match_41 : decode cX4_match 41 = .ok (.getfield 99, 3) := by decide +kernel
theorem dX4_match_44 : decode cX4_match 44 = .ok (.iload_n 1, 1) := by decide +kernel
theorem dX4_match_45 : decode cX4_match 45 = .ok (.iaload, 1) := by decide +kernel
theorem dX4_match_46 : decode cX4_match 46 = .ok (.ireturn, 1) := by decide +kernel
theorem dX4_match_47 : decode cX4_match 47 = .ok (.aload_n 0, 1) := by decide +kernel
theorem dX4_match_48 : decode cX4_match 48 = .ok (.getfield 102, 3) := by decide +kernel
theorem dX4_match_51 : decode cX4_match 51 = .ok (.iload_n 1, 1) := by decide +kernel
theorem dX4_match_52 : decode cX4_match 52 = .ok (.iaload, 1) := by decide +kernel
theorem dX4_match_53 : decode cX4_match 53 = .ok (.ireturn, 1) := by decide +kernel
theorem dX4_match_54 : decode cX4_match 54 = .ok (.aload_n 0, 1) := by decide +kernel
theorem dX4_match_55 : decode cX4_match 55 = .ok (.getfield 105, 3) := by decide +kernel
theorem dX4_match_58 : decode cX4_match 58 = .ok (.bipush 24, 2) := by decide +kernel
theorem dX4_match_60 : decode cX4_match 60 = .ok (.iload_n 1, 1) := by decide +kernel
theorem dX4_match_61 : decode cX4_match 61 = .ok (.imul, 1) := by decide +kernel
theorem dX4_match_62 : decode cX4_match 62 = .ok (.iaload, 1) := by decide +kernel
theorem dX4_match_63 : decode cX4_match 63 = .ok (.ireturn, 1) := by decide +kernel
theorem dX4_match_64 : decode cX4_match 64 = .ok (.aload_n 0, 1) := by decide +kernel
theorem dX4_match_65 : decode cX4_match 65 = .ok (.getfield 105, 3) := by decide +kernel
theorem dX4_match_68 : decode cX4_match 68 = .ok (.bipush 24, 2) := by decide +kernel
theorem dX4_match_70 : decode cX4_match 70 = .ok (.iload_n 1, 1) := by decide +kernel
theorem dX4_match_71 : decode cX4_match 71 = .ok (.imul, 1) := by decide +kernel
theorem dX4_match_72 : decode cX4_match 72 = .ok (.aload_n 0, 1) := by decide +kernel
theorem dX4_match_73 : decode cX4_match 73 = .ok (.getfield 102, 3) := by decide +kernel
theorem dX4_match_76 : decode cX4_match 76 = .ok (.iload_n 1, 1) := by decide +kernel
theorem dX4_match_77 : decode cX4_match 77 = .ok (.iaload, 1) := by decide +kernel
theorem dX4_match_78 : decode cX4_match 78 = .ok (.iadd, 1) := by decide +kernel
theorem dX4_match_79 : decode cX4_match 79 = .ok (.iconst 1, 1) := by decide +kernel
theorem dX4_match_80 : decode cX4_match 80 = .ok (.isub, 1) := by decide +kernel
theorem dX4_match_81 : decode cX4_match 81 = .ok (.iaload, 1) := by decide +kernel
theorem dX4_match_82 : decode cX4_match 82 = .ok (.ireturn, 1) := by decide +kernel
theorem dX4_match_83 : decode cX4_match 83 = .ok (.iconst (-1), 1) := by decide +kernel
theorem dX4_match_84 : decode cX4_match 84 = .ok (.ireturn, 1) := by decide +kernel
abbrev cX4_isMatch : ByteArray := prog_6_method_29_code
def yX4_isMatch : MethodName := ⟨RX4, "isMatch", "(I)Z"⟩
theorem dX4_isMatch_0 : decode cX4_isMatch 0 = .ok (.iload_n 1, 1) := by decide +kernel
theorem dX4_isMatch_1 : decode cX4_isMatch 1 = .ok (.ifCond .lt 22, 3) := by decide +kernel
theorem dX4_isMatch_4 : decode cX4_isMatch 4 = .ok (.iload_n 1, 1) := by decide +kernel
theorem dX4_isMatch_5 : decode cX4_isMatch 5 = .ok (.aload_n 0, 1) := by decide +kernel
theorem dX4_isMatch_6 : decode cX4_isMatch 6 = .ok (.getfield 167, 3) := by decide +kernel
theorem dX4_isMatch_9 : decode cX4_isMatch 9 = .ok (.if_icmp .ge 14, 3) := by decide +kernel
theorem dX4_isMatch_12 : decode cX4_isMatch 12 = .ok (.iload_n 1, 1) := by decide +kernel
theorem dX4_isMatch_13 : decode cX4_isMatch 13 = .ok (.sipush 1000, 3) := by decide +kernel
theorem dX4_isMatch_16 : decode cX4_isMatch 16 = .ok (.if_icmp .ge 7, 3) := by decide +kernel
theorem dX4_isMatch_19 : decode cX4_isMatch 19 = .ok (.iconst 1, 1) := by decide +kernel
theorem dX4_isMatch_20 : decode cX4_isMatch 20 = .ok (.goto 4, 3) := by decide +kernel
theorem dX4_isMatch_23 : decode cX4_isMatch 23 = .ok (.iconst 0, 1) := by decide +kernel
theorem dX4_isMatch_24 : decode cX4_isMatch 24 = .ok (.ireturn, 1) := by decide +kernel
abbrev cX4_member : ByteArray := prog_6_method_31_code
def yX4_member : MethodName := ⟨RX4, "member", "(III)I"⟩
theorem dX4_member_0 : decode cX4_member 0 = .ok (.aload_n 0, 1) := by decide +kernel
theorem dX4_member_1 : decode cX4_member 1 = .ok (.iload_n 1, 1) := by decide +kernel
theorem dX4_member_2 : decode cX4_member 2 = .ok (.invokevirtual 224, 3) := by decide +kernel
theorem dX4_member_5 : decode cX4_member 5 = .ok (.ifCond .eq 26, 3) := by decide +kernel
theorem dX4_member_8 : decode cX4_member 8 = .ok (.iload_n 2, 1) := by decide +kernel
theorem dX4_member_9 : decode cX4_member 9 = .ok (.ifCond .lt 22, 3) := by decide +kernel
theorem dX4_member_12 : decode cX4_member 12 = .ok (.iload_n 2, 1) := by decide +kernel
theorem dX4_member_13 : decode cX4_member 13 = .ok (.aload_n 0, 1) := by decide +kernel
theorem dX4_member_14 : decode cX4_member 14 = .ok (.getfield 102, 3) := by decide +kernel
theorem dX4_member_17 : decode cX4_member 17 = .ok (.iload_n 1, 1) := by decide +kernel
theorem dX4_member_18 : decode cX4_member 18 = .ok (.iaload, 1) := by decide +kernel
theorem dX4_member_19 : decode cX4_member 19 = .ok (.if_icmp .ge 12, 3) := by decide +kernel
theorem dX4_member_22 : decode cX4_member 22 = .ok (.iload_n 3, 1) := by decide +kernel
theorem dX4_member_23 : decode cX4_member 23 = .ok (.ifCond .lt 8, 3) := by decide +kernel
theorem dX4_member_26 : decode cX4_member 26 = .ok (.iload_n 3, 1) := by decide +kernel
theorem dX4_member_27 : decode cX4_member 27 = .ok (.iconst 1, 1) := by decide +kernel
theorem dX4_member_28 : decode cX4_member 28 = .ok (.if_icmp .le 5, 3) := by decide +kernel
theorem dX4_member_31 : decode cX4_member 31 = .ok (.iconst (-1), 1) := by decide +kernel
theorem dX4_member_32 : decode cX4_member 32 = .ok (.ireturn, 1) := by decide +kernel
theorem dX4_member_33 : decode cX4_member 33 = .ok (.iload_n 3, 1) := by decide +kernel
theorem dX4_member_34 : decode cX4_member 34 = .ok (.ifCond .ne 17, 3) := by decide +kernel
theorem dX4_member_37 : decode cX4_member 37 = .ok (.aload_n 0, 1) := by decide +kernel
theorem dX4_member_38 : decode cX4_member 38 = .ok (.getfield 105, 3) := by decide +kernel
theorem dX4_member_41 : decode cX4_member 41 = .ok (.bipush 24, 2) := by decide +kernel
theorem dX4_member_43 : decode cX4_member 43 = .ok (.iload_n 1, 1) := by decide +kernel
theorem dX4_member_44 : decode cX4_member 44 = .ok (.imul, 1) := by decide +kernel
theorem dX4_member_45 : decode cX4_member 45 = .ok (.iload_n 2, 1) := by decide +kernel
theorem dX4_member_46 : decode cX4_member 46 = .ok (.iadd, 1) := by decide +kernel
theorem dX4_member_47 : decode cX4_member 47 = .ok (.iaload, 1) := by decide +kernel
theorem dX4_member_48 : decode cX4_member 48 = .ok (.goto 14, 3) := by decide +kernel
theorem dX4_member_51 : decode cX4_member 51 = .ok (.aload_n 0, 1) := by decide +kernel
theorem dX4_member_52 : decode cX4_member 52 = .ok (.getfield 108, 3) := by decide +kernel
theorem dX4_member_55 : decode cX4_member 55 = .ok (.bipush 24, 2) := by decide +kernel
theorem dX4_member_57 : decode cX4_member 57 = .ok (.iload_n 1, 1) := by decide +kernel
theorem dX4_member_58 : decode cX4_member 58 = .ok (.imul, 1) := by decide +kernel
theorem dX4_member_59 : decode cX4_member 59 = .ok (.iload_n 2, 1) := by decide +kernel
theorem dX4_member_60 : decode cX4_member 60 = .ok (.iadd, 1) := by decide +kernel
theorem dX4_member_61 : decode cX4_member 61 = .ok (.iaload, 1) := by decide +kernel
theorem dX4_member_62 : decode cX4_member 62 = .ok (.ireturn, 1) := by decide +kernel
abbrev cX4_told : ByteArray := prog_6_method_33_code
def yX4_told : MethodName := ⟨RX4, "told", "(II)I"⟩
theorem dX4_told_0 : decode cX4_told 0 = .ok (.iload_n 1, 1) := by decide +kernel
theorem dX4_told_1 : decode cX4_told 1 = .ok (.ifCond .lt 21, 3) := by decide +kernel
theorem dX4_told_4 : decode cX4_told 4 = .ok (.iload_n 1, 1) := by decide +kernel
theorem dX4_told_5 : decode cX4_told 5 = .ok (.aload_n 0, 1) := by decide +kernel
theorem dX4_told_6 : decode cX4_told 6 = .ok (.getfield 154, 3) := by decide +kernel
theorem dX4_told_9 : decode cX4_told 9 = .ok (.if_icmp .ge 13, 3) := by decide +kernel
theorem dX4_told_12 : decode cX4_told 12 = .ok (.iload_n 2, 1) := by decide +kernel
theorem dX4_told_13 : decode cX4_told 13 = .ok (.ifCond .lt 9, 3) := by decide +kernel
theorem dX4_told_16 : decode cX4_told 16 = .ok (.iload_n 2, 1) := by decide +kernel
theorem dX4_told_17 : decode cX4_told 17 = .ok (.bipush 7, 2) := by decide +kernel
theorem dX4_told_19 : decode cX4_told 19 = .ok (.if_icmp .le 7, 3) := by decide +kernel
theorem dX4_told_22 : decode cX4_told 22 = .ok (.sipush (-2000), 3) := by decide +kernel
theorem dX4_told_25 : decode cX4_told 25 = .ok (.ireturn, 1) := by decide +kernel
theorem dX4_told_26 : decode cX4_told 26 = .ok (.iload_n 2, 1) := by decide +kernel
theorem dX4_told_27 : decode cX4_told 27 = .ok (.tableswitch 72 0 7 #[45, 52, 59, 72, 72, 72, 72, 66], 45) := by decide +kernel
theorem dX4_told_72 : decode cX4_told 72 = .ok (.aload_n 0, 1) := by decide +kernel
theorem dX4_told_73 : decode cX4_told 73 = .ok (.getfield 28, 3) := by decide +kernel
theorem dX4_told_76 : decode cX4_told 76 = .ok (.iload_n 1, 1) := by decide +kernel
theorem dX4_told_77 : decode cX4_told 77 = .ok (.iaload, 1) := by decide +kernel
theorem dX4_told_78 : decode cX4_told 78 = .ok (.ireturn, 1) := by decide +kernel
theorem dX4_told_79 : decode cX4_told 79 = .ok (.aload_n 0, 1) := by decide +kernel
theorem dX4_told_80 : decode cX4_told 80 = .ok (.getfield 31, 3) := by decide +kernel
theorem dX4_told_83 : decode cX4_told 83 = .ok (.iload_n 1, 1) := by decide +kernel
theorem dX4_told_84 : decode cX4_told 84 = .ok (.iaload, 1) := by decide +kernel
theorem dX4_told_85 : decode cX4_told 85 = .ok (.ireturn, 1) := by decide +kernel
theorem dX4_told_86 : decode cX4_told 86 = .ok (.aload_n 0, 1) := by decide +kernel
theorem dX4_told_87 : decode cX4_told 87 = .ok (.getfield 34, 3) := by decide +kernel
theorem dX4_told_90 : decode cX4_told 90 = .ok (.iload_n 1, 1) := by decide +kernel
theorem dX4_told_91 : decode cX4_told 91 = .ok (.iaload, 1) := by decide +kernel
theorem dX4_told_92 : decode cX4_told 92 = .ok (.ireturn, 1) := by decide +kernel
theorem dX4_told_93 : decode cX4_told 93 = .ok (.aload_n 0, 1) := by decide +kernel
theorem dX4_told_94 : decode cX4_told 94 = .ok (.iload_n 1, 1) := by decide +kernel
theorem dX4_told_95 : decode cX4_told 95 = .ok (.invokevirtual 227, 3) := by decide +kernel
theorem dX4_told_98 : decode cX4_told 98 = .ok (.ireturn, 1) := by decide +kernel
theorem dX4_told_99 : decode cX4_told 99 = .ok (.aload_n 0, 1) := by decide +kernel
theorem dX4_told_100 : decode cX4_told 100 = .ok (.getfield 37, 3) := by decide +kernel
theorem dX4_told_103 : decode cX4_told 103 = .ok (.iconst 4, 1) := by decide +kernel
theorem dX4_told_104 : decode cX4_told 104 = .ok (.iload_n 1, 1) := by decide +kernel
theorem dX4_told_105 : decode cX4_told 105 = .ok (.imul, 1) := by decide +kernel
theorem dX4_told_106 : decode cX4_told 106 = .ok (.iload_n 2, 1) := by decide +kernel
theorem dX4_told_107 : decode cX4_told 107 = .ok (.iadd, 1) := by decide +kernel
theorem dX4_told_108 : decode cX4_told 108 = .ok (.iconst 3, 1) := by decide +kernel
theorem dX4_told_109 : decode cX4_told 109 = .ok (.isub, 1) := by decide +kernel
theorem dX4_told_110 : decode cX4_told 110 = .ok (.iaload, 1) := by decide +kernel
theorem dX4_told_111 : decode cX4_told 111 = .ok (.ireturn, 1) := by decide +kernel
abbrev cX4_matchesWith : ByteArray := prog_6_method_32_code
def yX4_matchesWith : MethodName := ⟨RX4, "matchesWith", "(I)I"⟩
theorem dX4_matchesWith_0 : decode cX4_matchesWith 0 = .ok (.iconst 0, 1) := by decide +kernel
theorem dX4_matchesWith_1 : decode cX4_matchesWith 1 = .ok (.istore_n 2, 1) := by decide +kernel
theorem dX4_matchesWith_2 : decode cX4_matchesWith 2 = .ok (.iconst 0, 1) := by decide +kernel
theorem dX4_matchesWith_3 : decode cX4_matchesWith 3 = .ok (.istore_n 3, 1) := by decide +kernel
theorem dX4_matchesWith_4 : decode cX4_matchesWith 4 = .ok (.iload_n 3, 1) := by decide +kernel
theorem dX4_matchesWith_5 : decode cX4_matchesWith 5 = .ok (.aload_n 0, 1) := by decide +kernel
theorem dX4_matchesWith_6 : decode cX4_matchesWith 6 = .ok (.getfield 167, 3) := by decide +kernel
theorem dX4_matchesWith_9 : decode cX4_matchesWith 9 = .ok (.if_icmp .ge 80, 3) := by decide +kernel
theorem dX4_matchesWith_12 : decode cX4_matchesWith 12 = .ok (.iload_n 3, 1) := by decide +kernel
theorem dX4_matchesWith_13 : decode cX4_matchesWith 13 = .ok (.sipush 1000, 3) := by decide +kernel
theorem dX4_matchesWith_16 : decode cX4_matchesWith 16 = .ok (.if_icmp .ge 73, 3) := by decide +kernel
theorem dX4_matchesWith_19 : decode cX4_matchesWith 19 = .ok (.iconst 0, 1) := by decide +kernel
theorem dX4_matchesWith_20 : decode cX4_matchesWith 20 = .ok (.istore 4, 2) := by decide +kernel
theorem dX4_matchesWith_22 : decode cX4_matchesWith 22 = .ok (.iconst 0, 1) := by decide +kernel
theorem dX4_matchesWith_23 : decode cX4_matchesWith 23 = .ok (.istore 5, 2) := by decide +kernel
theorem dX4_matchesWith_25 : decode cX4_matchesWith 25 = .ok (.iload 5, 2) := by decide +kernel
theorem dX4_matchesWith_27 : decode cX4_matchesWith 27 = .ok (.aload_n 0, 1) := by decide +kernel
theorem dX4_matchesWith_28 : decode cX4_matchesWith 28 = .ok (.getfield 102, 3) := by decide +kernel
theorem dX4_matchesWith_31 : decode cX4_matchesWith 31 = .ok (.iload_n 3, 1) := by decide +kernel
theorem dX4_matchesWith_32 : decode cX4_matchesWith 32 = .ok (.iaload, 1) := by decide +kernel
theorem dX4_matchesWith_33 : decode cX4_matchesWith 33 = .ok (.if_icmp .ge 37, 3) := by decide +kernel
theorem dX4_matchesWith_36 : decode cX4_matchesWith 36 = .ok (.iload 4, 2) := by decide +kernel
theorem dX4_matchesWith_38 : decode cX4_matchesWith 38 = .ok (.ifCond .ne 19, 3) := by decide +kernel
theorem dX4_matchesWith_41 : decode cX4_matchesWith 41 = .ok (.aload_n 0, 1) := by decide +kernel
theorem dX4_matchesWith_42 : decode cX4_matchesWith 42 = .ok (.getfield 105, 3) := by decide +kernel
theorem dX4_matchesWith_45 : decode cX4_matchesWith 45 = .ok (.bipush 24, 2) := by decide +kernel
theorem dX4_matchesWith_47 : decode cX4_matchesWith 47 = .ok (.iload_n 3, 1) := by decide +kernel
theorem dX4_matchesWith_48 : decode cX4_matchesWith 48 = .ok (.imul, 1) := by decide +kernel
theorem dX4_matchesWith_49 : decode cX4_matchesWith 49 = .ok (.iload 5, 2) := by decide +kernel
theorem dX4_matchesWith_51 : decode cX4_matchesWith 51 = .ok (.iadd, 1) := by decide +kernel
theorem dX4_matchesWith_52 : decode cX4_matchesWith 52 = .ok (.iaload, 1) := by decide +kernel
theorem dX4_matchesWith_53 : decode cX4_matchesWith 53 = .ok (.iload_n 1, 1) := by decide +kernel
theorem dX4_matchesWith_54 : decode cX4_matchesWith 54 = .ok (.if_icmp .ne 7, 3) := by decide +kernel
theorem dX4_matchesWith_57 : decode cX4_matchesWith 57 = .ok (.iconst 1, 1) := by decide +kernel
theorem dX4_matchesWith_58 : decode cX4_matchesWith 58 = .ok (.goto 4, 3) := by decide +kernel
theorem dX4_matchesWith_61 : decode cX4_matchesWith 61 = .ok (.iconst 0, 1) := by decide +kernel
theorem dX4_matchesWith_62 : decode cX4_matchesWith 62 = .ok (.istore 4, 2) := by decide +kernel
theorem dX4_matchesWith_64 : decode cX4_matchesWith 64 = .ok (.iinc 5 1, 3) := by decide +kernel
theorem dX4_matchesWith_67 : decode cX4_matchesWith 67 = .ok (.goto (-42), 3) := by decide +kernel
theorem dX4_matchesWith_70 : decode cX4_matchesWith 70 = .ok (.iload_n 2, 1) := by decide +kernel
theorem dX4_matchesWith_71 : decode cX4_matchesWith 71 = .ok (.iload 4, 2) := by decide +kernel
theorem dX4_matchesWith_73 : decode cX4_matchesWith 73 = .ok (.ifCond .eq 7, 3) := by decide +kernel
theorem dX4_matchesWith_76 : decode cX4_matchesWith 76 = .ok (.iconst 1, 1) := by decide +kernel
theorem dX4_matchesWith_77 : decode cX4_matchesWith 77 = .ok (.goto 4, 3) := by decide +kernel
theorem dX4_matchesWith_80 : decode cX4_matchesWith 80 = .ok (.iconst 0, 1) := by decide +kernel
theorem dX4_matchesWith_81 : decode cX4_matchesWith 81 = .ok (.iadd, 1) := by decide +kernel
theorem dX4_matchesWith_82 : decode cX4_matchesWith 82 = .ok (.istore_n 2, 1) := by decide +kernel
theorem dX4_matchesWith_83 : decode cX4_matchesWith 83 = .ok (.iinc 3 1, 3) := by decide +kernel
theorem dX4_matchesWith_86 : decode cX4_matchesWith 86 = .ok (.goto (-82), 3) := by decide +kernel
theorem dX4_matchesWith_89 : decode cX4_matchesWith 89 = .ok (.iload_n 2, 1) := by decide +kernel
theorem dX4_matchesWith_90 : decode cX4_matchesWith 90 = .ok (.ireturn, 1) := by decide +kernel
abbrev cX4_about : ByteArray := prog_6_method_37_code
def yX4_about : MethodName := ⟨RX4, "about", "(II)I"⟩
theorem dX4_about_0 : decode cX4_about 0 = .ok (.aload_n 0, 1) := by decide +kernel
theorem dX4_about_1 : decode cX4_about 1 = .ok (.iload_n 1, 1) := by decide +kernel
theorem dX4_about_2 : decode cX4_about 2 = .ok (.invokevirtual 143, 3) := by decide +kernel
theorem dX4_about_5 : decode cX4_about 5 = .ok (.ifCond .eq 12, 3) := by decide +kernel
theorem dX4_about_8 : decode cX4_about 8 = .ok (.iload_n 2, 1) := by decide +kernel
theorem dX4_about_9 : decode cX4_about 9 = .ok (.ifCond .lt 8, 3) := by decide +kernel
theorem dX4_about_12 : decode cX4_about 12 = .ok (.iload_n 2, 1) := by decide +kernel
theorem dX4_about_13 : decode cX4_about 13 = .ok (.iconst 5, 1) := by decide +kernel
theorem dX4_about_14 : decode cX4_about 14 = .ok (.if_icmp .le 5, 3) := by decide +kernel
theorem dX4_about_17 : decode cX4_about 17 = .ok (.iconst (-1), 1) := by decide +kernel
theorem dX4_about_18 : decode cX4_about 18 = .ok (.ireturn, 1) := by decide +kernel
theorem dX4_about_19 : decode cX4_about 19 = .ok (.iconst 0, 1) := by decide +kernel
theorem dX4_about_20 : decode cX4_about 20 = .ok (.istore_n 3, 1) := by decide +kernel
theorem dX4_about_21 : decode cX4_about 21 = .ok (.iload_n 2, 1) := by decide +kernel
theorem dX4_about_22 : decode cX4_about 22 = .ok (.tableswitch 124 0 4 #[34, 41, 48, 94, 109], 34) := by decide +kernel
theorem dX4_about_56 : decode cX4_about 56 = .ok (.aload_n 0, 1) := by decide +kernel
theorem dX4_about_57 : decode cX4_about 57 = .ok (.getfield 49, 3) := by decide +kernel
theorem dX4_about_60 : decode cX4_about 60 = .ok (.iload_n 1, 1) := by decide +kernel
theorem dX4_about_61 : decode cX4_about 61 = .ok (.iaload, 1) := by decide +kernel
theorem dX4_about_62 : decode cX4_about 62 = .ok (.ireturn, 1) := by decide +kernel
theorem dX4_about_63 : decode cX4_about 63 = .ok (.aload_n 0, 1) := by decide +kernel
theorem dX4_about_64 : decode cX4_about 64 = .ok (.getfield 80, 3) := by decide +kernel
theorem dX4_about_67 : decode cX4_about 67 = .ok (.iload_n 1, 1) := by decide +kernel
theorem dX4_about_68 : decode cX4_about 68 = .ok (.iaload, 1) := by decide +kernel
theorem dX4_about_69 : decode cX4_about 69 = .ok (.ireturn, 1) := by decide +kernel
theorem dX4_about_70 : decode cX4_about 70 = .ok (.iconst 0, 1) := by decide +kernel
theorem dX4_about_71 : decode cX4_about 71 = .ok (.istore 4, 2) := by decide +kernel
theorem dX4_about_73 : decode cX4_about 73 = .ok (.iload 4, 2) := by decide +kernel
theorem dX4_about_75 : decode cX4_about 75 = .ok (.aload_n 0, 1) := by decide +kernel
theorem dX4_about_76 : decode cX4_about 76 = .ok (.getfield 80, 3) := by decide +kernel
theorem dX4_about_79 : decode cX4_about 79 = .ok (.iload_n 1, 1) := by decide +kernel
theorem dX4_about_80 : decode cX4_about 80 = .ok (.iaload, 1) := by decide +kernel
theorem dX4_about_81 : decode cX4_about 81 = .ok (.if_icmp .ge 33, 3) := by decide +kernel
theorem dX4_about_84 : decode cX4_about 84 = .ok (.iload_n 3, 1) := by decide +kernel
theorem dX4_about_85 : decode cX4_about 85 = .ok (.aload_n 0, 1) := by decide +kernel
theorem dX4_about_86 : decode cX4_about 86 = .ok (.getfield 86, 3) := by decide +kernel
theorem dX4_about_89 : decode cX4_about 89 = .ok (.sipush 201, 3) := by decide +kernel
theorem dX4_about_92 : decode cX4_about 92 = .ok (.iload_n 1, 1) := by decide +kernel
theorem dX4_about_93 : decode cX4_about 93 = .ok (.imul, 1) := by decide +kernel
theorem dX4_about_94 : decode cX4_about 94 = .ok (.iload 4, 2) := by decide +kernel
theorem dX4_about_96 : decode cX4_about 96 = .ok (.iadd, 1) := by decide +kernel
theorem dX4_about_97 : decode cX4_about 97 = .ok (.baload, 1) := by decide +kernel
theorem dX4_about_98 : decode cX4_about 98 = .ok (.ifCond .eq 7, 3) := by decide +kernel
theorem dX4_about_101 : decode cX4_about 101 = .ok (.iconst 1, 1) := by decide +kernel
theorem dX4_about_102 : decode cX4_about 102 = .ok (.goto 4, 3) := by decide +kernel
theorem dX4_about_105 : decode cX4_about 105 = .ok (.iconst 0, 1) := by decide +kernel
theorem dX4_about_106 : decode cX4_about 106 = .ok (.iadd, 1) := by decide +kernel
theorem dX4_about_107 : decode cX4_about 107 = .ok (.istore_n 3, 1) := by decide +kernel
theorem dX4_about_108 : decode cX4_about 108 = .ok (.iinc 4 1, 3) := by decide +kernel
theorem dX4_about_111 : decode cX4_about 111 = .ok (.goto (-38), 3) := by decide +kernel
theorem dX4_about_114 : decode cX4_about 114 = .ok (.iload_n 3, 1) := by decide +kernel
theorem dX4_about_115 : decode cX4_about 115 = .ok (.ireturn, 1) := by decide +kernel
theorem dX4_about_116 : decode cX4_about 116 = .ok (.aload_n 0, 1) := by decide +kernel
theorem dX4_about_117 : decode cX4_about 117 = .ok (.getfield 59, 3) := by decide +kernel
theorem dX4_about_120 : decode cX4_about 120 = .ok (.iload_n 1, 1) := by decide +kernel
theorem dX4_about_121 : decode cX4_about 121 = .ok (.baload, 1) := by decide +kernel
theorem dX4_about_122 : decode cX4_about 122 = .ok (.ifCond .eq 7, 3) := by decide +kernel
theorem dX4_about_125 : decode cX4_about 125 = .ok (.iconst 1, 1) := by decide +kernel
theorem dX4_about_126 : decode cX4_about 126 = .ok (.goto 4, 3) := by decide +kernel
theorem dX4_about_129 : decode cX4_about 129 = .ok (.iconst 0, 1) := by decide +kernel
theorem dX4_about_130 : decode cX4_about 130 = .ok (.ireturn, 1) := by decide +kernel
theorem dX4_about_131 : decode cX4_about 131 = .ok (.aload_n 0, 1) := by decide +kernel
theorem dX4_about_132 : decode cX4_about 132 = .ok (.getfield 55, 3) := by decide +kernel
theorem dX4_about_135 : decode cX4_about 135 = .ok (.iload_n 1, 1) := by decide +kernel
theorem dX4_about_136 : decode cX4_about 136 = .ok (.baload, 1) := by decide +kernel
theorem dX4_about_137 : decode cX4_about 137 = .ok (.ifCond .eq 7, 3) := by decide +kernel
theorem dX4_about_140 : decode cX4_about 140 = .ok (.iconst 1, 1) := by decide +kernel
theorem dX4_about_141 : decode cX4_about 141 = .ok (.goto 4, 3) := by decide +kernel
theorem dX4_about_144 : decode cX4_about 144 = .ok (.iconst 0, 1) := by decide +kernel
theorem dX4_about_145 : decode cX4_about 145 = .ok (.ireturn, 1) := by decide +kernel
theorem dX4_about_146 : decode cX4_about 146 = .ok (.aload_n 0, 1) := by decide +kernel
theorem dX4_about_147 : decode cX4_about 147 = .ok (.invokevirtual 230, 3) := by decide +kernel
theorem dX4_about_150 : decode cX4_about 150 = .ok (.aload_n 0, 1) := by decide +kernel
theorem dX4_about_151 : decode cX4_about 151 = .ok (.iload_n 1, 1) := by decide +kernel
theorem dX4_about_152 : decode cX4_about 152 = .ok (.invokevirtual 233, 3) := by decide +kernel
theorem dX4_about_155 : decode cX4_about 155 = .ok (.aload_n 0, 1) := by decide +kernel
theorem dX4_about_156 : decode cX4_about 156 = .ok (.invokevirtual 236, 3) := by decide +kernel
theorem dX4_about_159 : decode cX4_about 159 = .ok (.ireturn, 1) := by decide +kernel
abbrev cX4_holdNone : ByteArray := prog_6_method_36_code
def yX4_holdNone : MethodName := ⟨RX4, "holdNone", "()V"⟩
theorem dX4_holdNone_0 : decode cX4_holdNone 0 = .ok (.iconst 0, 1) := by decide +kernel
theorem dX4_holdNone_1 : decode cX4_holdNone 1 = .ok (.istore_n 1, 1) := by decide +kernel
theorem dX4_holdNone_2 : decode cX4_holdNone 2 = .ok (.iload_n 1, 1) := by decide +kernel
theorem dX4_holdNone_3 : decode cX4_holdNone 3 = .ok (.sipush 1000, 3) := by decide +kernel
theorem dX4_holdNone_6 : decode cX4_holdNone 6 = .ok (.if_icmp .ge 16, 3) := by decide +kernel
theorem dX4_holdNone_9 : decode cX4_holdNone 9 = .ok (.aload_n 0, 1) := by decide +kernel
theorem dX4_holdNone_10 : decode cX4_holdNone 10 = .ok (.getfield 120, 3) := by decide +kernel
theorem dX4_holdNone_13 : decode cX4_holdNone 13 = .ok (.iload_n 1, 1) := by decide +kernel
theorem dX4_holdNone_14 : decode cX4_holdNone 14 = .ok (.iconst 0, 1) := by decide +kernel
theorem dX4_holdNone_15 : decode cX4_holdNone 15 = .ok (.bastore, 1) := by decide +kernel
theorem dX4_holdNone_16 : decode cX4_holdNone 16 = .ok (.iinc 1 1, 3) := by decide +kernel
theorem dX4_holdNone_19 : decode cX4_holdNone 19 = .ok (.goto (-17), 3) := by decide +kernel
theorem dX4_holdNone_22 : decode cX4_holdNone 22 = .ok (.return_, 1) := by decide +kernel
abbrev cX4_hold : ByteArray := prog_6_method_34_code
def yX4_hold : MethodName := ⟨RX4, "hold", "(I)V"⟩
theorem dX4_hold_0 : decode cX4_hold 0 = .ok (.iconst 0, 1) := by decide +kernel
theorem dX4_hold_1 : decode cX4_hold 1 = .ok (.istore_n 2, 1) := by decide +kernel
theorem dX4_hold_2 : decode cX4_hold 2 = .ok (.iload_n 2, 1) := by decide +kernel
theorem dX4_hold_3 : decode cX4_hold 3 = .ok (.aload_n 0, 1) := by decide +kernel
theorem dX4_hold_4 : decode cX4_hold 4 = .ok (.getfield 80, 3) := by decide +kernel
theorem dX4_hold_7 : decode cX4_hold 7 = .ok (.iload_n 1, 1) := by decide +kernel
theorem dX4_hold_8 : decode cX4_hold 8 = .ok (.iaload, 1) := by decide +kernel
theorem dX4_hold_9 : decode cX4_hold 9 = .ok (.if_icmp .ge 56, 3) := by decide +kernel
theorem dX4_hold_12 : decode cX4_hold 12 = .ok (.iconst 0, 1) := by decide +kernel
theorem dX4_hold_13 : decode cX4_hold 13 = .ok (.istore_n 3, 1) := by decide +kernel
theorem dX4_hold_14 : decode cX4_hold 14 = .ok (.iload_n 3, 1) := by decide +kernel
theorem dX4_hold_15 : decode cX4_hold 15 = .ok (.aload_n 0, 1) := by decide +kernel
theorem dX4_hold_16 : decode cX4_hold 16 = .ok (.getfield 83, 3) := by decide +kernel
theorem dX4_hold_19 : decode cX4_hold 19 = .ok (.sipush 201, 3) := by decide +kernel
theorem dX4_hold_22 : decode cX4_hold 22 = .ok (.iload_n 1, 1) := by decide +kernel
theorem dX4_hold_23 : decode cX4_hold 23 = .ok (.imul, 1) := by decide +kernel
theorem dX4_hold_24 : decode cX4_hold 24 = .ok (.iload_n 2, 1) := by decide +kernel
theorem dX4_hold_25 : decode cX4_hold 25 = .ok (.iadd, 1) := by decide +kernel
theorem dX4_hold_26 : decode cX4_hold 26 = .ok (.iaload, 1) := by decide +kernel
theorem dX4_hold_27 : decode cX4_hold 27 = .ok (.if_icmp .ge 32, 3) := by decide +kernel
theorem dX4_hold_30 : decode cX4_hold 30 = .ok (.aload_n 0, 1) := by decide +kernel
theorem dX4_hold_31 : decode cX4_hold 31 = .ok (.getfield 120, 3) := by decide +kernel
theorem dX4_hold_34 : decode cX4_hold 34 = .ok (.aload_n 0, 1) := by decide +kernel
theorem dX4_hold_35 : decode cX4_hold 35 = .ok (.getfield 90, 3) := by decide +kernel
theorem dX4_hold_38 : decode cX4_hold 38 = .ok (.bipush 24, 2) := by decide +kernel
theorem dX4_hold_40 : decode cX4_hold 40 = .ok (.sipush 201, 3) := by decide +kernel
theorem dX4_hold_43 : decode cX4_hold 43 = .ok (.iload_n 1, 1) := by decide +kernel
theorem dX4_hold_44 : decode cX4_hold 44 = .ok (.imul, 1) := by decide +kernel
theorem dX4_hold_45 : decode cX4_hold 45 = .ok (.iload_n 2, 1) := by decide +kernel
theorem dX4_hold_46 : decode cX4_hold 46 = .ok (.iadd, 1) := by decide +kernel
theorem dX4_hold_47 : decode cX4_hold 47 = .ok (.imul, 1) := by decide +kernel
theorem dX4_hold_48 : decode cX4_hold 48 = .ok (.iload_n 3, 1) := by decide +kernel
theorem dX4_hold_49 : decode cX4_hold 49 = .ok (.iadd, 1) := by decide +kernel
theorem dX4_hold_50 : decode cX4_hold 50 = .ok (.iaload, 1) := by decide +kernel
theorem dX4_hold_51 : decode cX4_hold 51 = .ok (.iconst 1, 1) := by decide +kernel
theorem dX4_hold_52 : decode cX4_hold 52 = .ok (.bastore, 1) := by decide +kernel
theorem dX4_hold_53 : decode cX4_hold 53 = .ok (.iinc 3 1, 3) := by decide +kernel
theorem dX4_hold_56 : decode cX4_hold 56 = .ok (.goto (-42), 3) := by decide +kernel
theorem dX4_hold_59 : decode cX4_hold 59 = .ok (.iinc 2 1, 3) := by decide +kernel
theorem dX4_hold_62 : decode cX4_hold 62 = .ok (.goto (-60), 3) := by decide +kernel
theorem dX4_hold_65 : decode cX4_hold 65 = .ok (.return_, 1) := by decide +kernel
abbrev cX4_heldMany : ByteArray := prog_6_method_35_code
def yX4_heldMany : MethodName := ⟨RX4, "heldMany", "()I"⟩
theorem dX4_heldMany_0 : decode cX4_heldMany 0 = .ok (.iconst 0, 1) := by decide +kernel
theorem dX4_heldMany_1 : decode cX4_heldMany 1 = .ok (.istore_n 1, 1) := by decide +kernel
theorem dX4_heldMany_2 : decode cX4_heldMany 2 = .ok (.iconst 0, 1) := by decide +kernel
theorem dX4_heldMany_3 : decode cX4_heldMany 3 = .ok (.istore_n 2, 1) := by decide +kernel
theorem dX4_heldMany_4 : decode cX4_heldMany 4 = .ok (.iload_n 2, 1) := by decide +kernel
theorem dX4_heldMany_5 : decode cX4_heldMany 5 = .ok (.aload_n 0, 1) := by decide +kernel
theorem dX4_heldMany_6 : decode cX4_heldMany 6 = .ok (.getfield 154, 3) := by decide +kernel
theorem dX4_heldMany_9 : decode cX4_heldMany 9 = .ok (.if_icmp .ge 26, 3) := by decide +kernel
theorem dX4_heldMany_12 : decode cX4_heldMany 12 = .ok (.iload_n 1, 1) := by decide +kernel
theorem dX4_heldMany_13 : decode cX4_heldMany 13 = .ok (.aload_n 0, 1) := by decide +kernel
theorem dX4_heldMany_14 : decode cX4_heldMany 14 = .ok (.getfield 120, 3) := by decide +kernel
theorem dX4_heldMany_17 : decode cX4_heldMany 17 = .ok (.iload_n 2, 1) := by decide +kernel
theorem dX4_heldMany_18 : decode cX4_heldMany 18 = .ok (.baload, 1) := by decide +kernel
theorem dX4_heldMany_19 : decode cX4_heldMany 19 = .ok (.ifCond .eq 7, 3) := by decide +kernel
theorem dX4_heldMany_22 : decode cX4_heldMany 22 = .ok (.iconst 1, 1) := by decide +kernel
theorem dX4_heldMany_23 : decode cX4_heldMany 23 = .ok (.goto 4, 3) := by decide +kernel
theorem dX4_heldMany_26 : decode cX4_heldMany 26 = .ok (.iconst 0, 1) := by decide +kernel
theorem dX4_heldMany_27 : decode cX4_heldMany 27 = .ok (.iadd, 1) := by decide +kernel
theorem dX4_heldMany_28 : decode cX4_heldMany 28 = .ok (.istore_n 1, 1) := by decide +kernel
theorem dX4_heldMany_29 : decode cX4_heldMany 29 = .ok (.iinc 2 1, 3) := by decide +kernel
theorem dX4_heldMany_32 : decode cX4_heldMany 32 = .ok (.goto (-28), 3) := by decide +kernel
theorem dX4_heldMany_35 : decode cX4_heldMany 35 = .ok (.iload_n 1, 1) := by decide +kernel
theorem dX4_heldMany_36 : decode cX4_heldMany 36 = .ok (.ireturn, 1) := by decide +kernel
abbrev cX4_run : ByteArray := prog_6_method_38_code
def yX4_run : MethodName := ⟨RX4, "run", "(IIII)I"⟩
theorem dX4_run_0 : decode cX4_run 0 = .ok (.aload_n 0, 1) := by decide +kernel
theorem dX4_run_1 : decode cX4_run 1 = .ok (.iload_n 1, 1) := by decide +kernel
theorem dX4_run_2 : decode cX4_run 2 = .ok (.invokevirtual 143, 3) := by decide +kernel
theorem dX4_run_5 : decode cX4_run 5 = .ok (.ifCond .eq 48, 3) := by decide +kernel
theorem dX4_run_8 : decode cX4_run 8 = .ok (.iload_n 2, 1) := by decide +kernel
theorem dX4_run_9 : decode cX4_run 9 = .ok (.ifCond .lt 44, 3) := by decide +kernel
theorem dX4_run_12 : decode cX4_run 12 = .ok (.iload_n 2, 1) := by decide +kernel
theorem dX4_run_13 : decode cX4_run 13 = .ok (.aload_n 0, 1) := by decide +kernel
theorem dX4_run_14 : decode cX4_run 14 = .ok (.getfield 80, 3) := by decide +kernel
theorem dX4_run_17 : decode cX4_run 17 = .ok (.iload_n 1, 1) := by decide +kernel
theorem dX4_run_18 : decode cX4_run 18 = .ok (.iaload, 1) := by decide +kernel
theorem dX4_run_19 : decode cX4_run 19 = .ok (.if_icmp .ge 34, 3) := by decide +kernel
theorem dX4_run_22 : decode cX4_run 22 = .ok (.iload_n 3, 1) := by decide +kernel
theorem dX4_run_23 : decode cX4_run 23 = .ok (.ifCond .lt 30, 3) := by decide +kernel
theorem dX4_run_26 : decode cX4_run 26 = .ok (.iload_n 3, 1) := by decide +kernel
theorem dX4_run_27 : decode cX4_run 27 = .ok (.aload_n 0, 1) := by decide +kernel
theorem dX4_run_28 : decode cX4_run 28 = .ok (.getfield 83, 3) := by decide +kernel
theorem dX4_run_31 : decode cX4_run 31 = .ok (.sipush 201, 3) := by decide +kernel
theorem dX4_run_34 : decode cX4_run 34 = .ok (.iload_n 1, 1) := by decide +kernel
theorem dX4_run_35 : decode cX4_run 35 = .ok (.imul, 1) := by decide +kernel
theorem dX4_run_36 : decode cX4_run 36 = .ok (.iload_n 2, 1) := by decide +kernel
theorem dX4_run_37 : decode cX4_run 37 = .ok (.iadd, 1) := by decide +kernel
theorem dX4_run_38 : decode cX4_run 38 = .ok (.iaload, 1) := by decide +kernel
theorem dX4_run_39 : decode cX4_run 39 = .ok (.if_icmp .ge 14, 3) := by decide +kernel
theorem dX4_run_42 : decode cX4_run 42 = .ok (.iload 4, 2) := by decide +kernel
theorem dX4_run_44 : decode cX4_run 44 = .ok (.ifCond .lt 9, 3) := by decide +kernel
theorem dX4_run_47 : decode cX4_run 47 = .ok (.iload 4, 2) := by decide +kernel
theorem dX4_run_49 : decode cX4_run 49 = .ok (.iconst 1, 1) := by decide +kernel
theorem dX4_run_50 : decode cX4_run 50 = .ok (.if_icmp .le 5, 3) := by decide +kernel
theorem dX4_run_53 : decode cX4_run 53 = .ok (.iconst (-1), 1) := by decide +kernel
theorem dX4_run_54 : decode cX4_run 54 = .ok (.ireturn, 1) := by decide +kernel
theorem dX4_run_55 : decode cX4_run 55 = .ok (.bipush 24, 2) := by decide +kernel
theorem dX4_run_57 : decode cX4_run 57 = .ok (.sipush 201, 3) := by decide +kernel
theorem dX4_run_60 : decode cX4_run 60 = .ok (.iload_n 1, 1) := by decide +kernel
theorem dX4_run_61 : decode cX4_run 61 = .ok (.imul, 1) := by decide +kernel
theorem dX4_run_62 : decode cX4_run 62 = .ok (.iload_n 2, 1) := by decide +kernel
theorem dX4_run_63 : decode cX4_run 63 = .ok (.iadd, 1) := by decide +kernel
theorem dX4_run_64 : decode cX4_run 64 = .ok (.imul, 1) := by decide +kernel
theorem dX4_run_65 : decode cX4_run 65 = .ok (.iload_n 3, 1) := by decide +kernel
theorem dX4_run_66 : decode cX4_run 66 = .ok (.iadd, 1) := by decide +kernel
theorem dX4_run_67 : decode cX4_run 67 = .ok (.istore 5, 2) := by decide +kernel
theorem dX4_run_69 : decode cX4_run 69 = .ok (.iload 4, 2) := by decide +kernel
theorem dX4_run_71 : decode cX4_run 71 = .ok (.ifCond .ne 13, 3) := by decide +kernel
theorem dX4_run_74 : decode cX4_run 74 = .ok (.aload_n 0, 1) := by decide +kernel
theorem dX4_run_75 : decode cX4_run 75 = .ok (.getfield 90, 3) := by decide +kernel
theorem dX4_run_78 : decode cX4_run 78 = .ok (.iload 5, 2) := by decide +kernel
theorem dX4_run_80 : decode cX4_run 80 = .ok (.iaload, 1) := by decide +kernel
theorem dX4_run_81 : decode cX4_run 81 = .ok (.goto 10, 3) := by decide +kernel
theorem dX4_run_84 : decode cX4_run 84 = .ok (.aload_n 0, 1) := by decide +kernel
theorem dX4_run_85 : decode cX4_run 85 = .ok (.getfield 93, 3) := by decide +kernel
theorem dX4_run_88 : decode cX4_run 88 = .ok (.iload 5, 2) := by decide +kernel
theorem dX4_run_90 : decode cX4_run 90 = .ok (.iaload, 1) := by decide +kernel
theorem dX4_run_91 : decode cX4_run 91 = .ok (.ireturn, 1) := by decide +kernel
abbrev cX4_almost : ByteArray := prog_6_method_39_code
def yX4_almost : MethodName := ⟨RX4, "almost", "(II)I"⟩
theorem dX4_almost_0 : decode cX4_almost 0 = .ok (.aload_n 0, 1) := by decide +kernel
theorem dX4_almost_1 : decode cX4_almost 1 = .ok (.iload_n 1, 1) := by decide +kernel
theorem dX4_almost_2 : decode cX4_almost 2 = .ok (.invokevirtual 143, 3) := by decide +kernel
theorem dX4_almost_5 : decode cX4_almost 5 = .ok (.ifCond .eq 12, 3) := by decide +kernel
theorem dX4_almost_8 : decode cX4_almost 8 = .ok (.iload_n 2, 1) := by decide +kernel
theorem dX4_almost_9 : decode cX4_almost 9 = .ok (.ifCond .lt 8, 3) := by decide +kernel
theorem dX4_almost_12 : decode cX4_almost 12 = .ok (.iload_n 2, 1) := by decide +kernel
theorem dX4_almost_13 : decode cX4_almost 13 = .ok (.iconst 5, 1) := by decide +kernel
theorem dX4_almost_14 : decode cX4_almost 14 = .ok (.if_icmp .le 5, 3) := by decide +kernel
theorem dX4_almost_17 : decode cX4_almost 17 = .ok (.iconst (-1), 1) := by decide +kernel
theorem dX4_almost_18 : decode cX4_almost 18 = .ok (.ireturn, 1) := by decide +kernel
theorem dX4_almost_19 : decode cX4_almost 19 = .ok (.iconst 0, 1) := by decide +kernel
theorem dX4_almost_20 : decode cX4_almost 20 = .ok (.istore_n 3, 1) := by decide +kernel
theorem dX4_almost_21 : decode cX4_almost 21 = .ok (.iconst 0, 1) := by decide +kernel
theorem dX4_almost_22 : decode cX4_almost 22 = .ok (.istore 4, 2) := by decide +kernel
theorem dX4_almost_24 : decode cX4_almost 24 = .ok (.iload 4, 2) := by decide +kernel
theorem dX4_almost_26 : decode cX4_almost 26 = .ok (.aload_n 0, 1) := by decide +kernel
theorem dX4_almost_27 : decode cX4_almost 27 = .ok (.getfield 80, 3) := by decide +kernel
theorem dX4_almost_30 : decode cX4_almost 30 = .ok (.iload_n 1, 1) := by decide +kernel
theorem dX4_almost_31 : decode cX4_almost 31 = .ok (.iaload, 1) := by decide +kernel
theorem dX4_almost_32 : decode cX4_almost 32 = .ok (.if_icmp .ge 111, 3) := by decide +kernel
theorem dX4_almost_35 : decode cX4_almost 35 = .ok (.aload_n 0, 1) := by decide +kernel
theorem dX4_almost_36 : decode cX4_almost 36 = .ok (.getfield 93, 3) := by decide +kernel
theorem dX4_almost_39 : decode cX4_almost 39 = .ok (.bipush 24, 2) := by decide +kernel
theorem dX4_almost_41 : decode cX4_almost 41 = .ok (.sipush 201, 3) := by decide +kernel
theorem dX4_almost_44 : decode cX4_almost 44 = .ok (.iload_n 1, 1) := by decide +kernel
theorem dX4_almost_45 : decode cX4_almost 45 = .ok (.imul, 1) := by decide +kernel
theorem dX4_almost_46 : decode cX4_almost 46 = .ok (.iload 4, 2) := by decide +kernel
theorem dX4_almost_48 : decode cX4_almost 48 = .ok (.iadd, 1) := by decide +kernel
theorem dX4_almost_49 : decode cX4_almost 49 = .ok (.imul, 1) := by decide +kernel
theorem dX4_almost_50 : decode cX4_almost 50 = .ok (.aload_n 0, 1) := by decide +kernel
theorem dX4_almost_51 : decode cX4_almost 51 = .ok (.getfield 83, 3) := by decide +kernel
theorem dX4_almost_54 : decode cX4_almost 54 = .ok (.sipush 201, 3) := by decide +kernel
theorem dX4_almost_57 : decode cX4_almost 57 = .ok (.iload_n 1, 1) := by decide +kernel
theorem dX4_almost_58 : decode cX4_almost 58 = .ok (.imul, 1) := by decide +kernel
theorem dX4_almost_59 : decode cX4_almost 59 = .ok (.iload 4, 2) := by decide +kernel
theorem dX4_almost_61 : decode cX4_almost 61 = .ok (.iadd, 1) := by decide +kernel
theorem dX4_almost_62 : decode cX4_almost 62 = .ok (.iaload, 1) := by decide +kernel
theorem dX4_almost_63 : decode cX4_almost 63 = .ok (.iadd, 1) := by decide +kernel
theorem dX4_almost_64 : decode cX4_almost 64 = .ok (.iconst 1, 1) := by decide +kernel
theorem dX4_almost_65 : decode cX4_almost 65 = .ok (.isub, 1) := by decide +kernel
theorem dX4_almost_66 : decode cX4_almost 66 = .ok (.iaload, 1) := by decide +kernel
theorem dX4_almost_67 : decode cX4_almost 67 = .ok (.istore 5, 2) := by decide +kernel
theorem dX4_almost_69 : decode cX4_almost 69 = .ok (.iconst 0, 1) := by decide +kernel
theorem dX4_almost_70 : decode cX4_almost 70 = .ok (.istore 6, 2) := by decide +kernel
theorem dX4_almost_72 : decode cX4_almost 72 = .ok (.iload 5, 2) := by decide +kernel
theorem dX4_almost_74 : decode cX4_almost 74 = .ok (.iconst 1, 1) := by decide +kernel
theorem dX4_almost_75 : decode cX4_almost 75 = .ok (.iadd, 1) := by decide +kernel
theorem dX4_almost_76 : decode cX4_almost 76 = .ok (.istore 7, 2) := by decide +kernel
theorem dX4_almost_78 : decode cX4_almost 78 = .ok (.iload 7, 2) := by decide +kernel
theorem dX4_almost_80 : decode cX4_almost 80 = .ok (.aload_n 0, 1) := by decide +kernel
theorem dX4_almost_81 : decode cX4_almost 81 = .ok (.getfield 49, 3) := by decide +kernel
theorem dX4_almost_84 : decode cX4_almost 84 = .ok (.iload_n 1, 1) := by decide +kernel
theorem dX4_almost_85 : decode cX4_almost 85 = .ok (.iaload, 1) := by decide +kernel
theorem dX4_almost_86 : decode cX4_almost 86 = .ok (.if_icmp .ge 37, 3) := by decide +kernel
theorem dX4_almost_89 : decode cX4_almost 89 = .ok (.iload 6, 2) := by decide +kernel
theorem dX4_almost_91 : decode cX4_almost 91 = .ok (.aload_n 0, 1) := by decide +kernel
theorem dX4_almost_92 : decode cX4_almost 92 = .ok (.getfield 65, 3) := by decide +kernel
theorem dX4_almost_95 : decode cX4_almost 95 = .ok (.bipush 6, 2) := by decide +kernel
theorem dX4_almost_97 : decode cX4_almost 97 = .ok (.iload_n 1, 1) := by decide +kernel
theorem dX4_almost_98 : decode cX4_almost 98 = .ok (.imul, 1) := by decide +kernel
theorem dX4_almost_99 : decode cX4_almost 99 = .ok (.iload 7, 2) := by decide +kernel
theorem dX4_almost_101 : decode cX4_almost 101 = .ok (.iadd, 1) := by decide +kernel
theorem dX4_almost_102 : decode cX4_almost 102 = .ok (.iaload, 1) := by decide +kernel
theorem dX4_almost_103 : decode cX4_almost 103 = .ok (.invokestatic 140, 3) := by decide +kernel
theorem dX4_almost_106 : decode cX4_almost 106 = .ok (.ifCond .eq 7, 3) := by decide +kernel
theorem dX4_almost_109 : decode cX4_almost 109 = .ok (.iconst 1, 1) := by decide +kernel
theorem dX4_almost_110 : decode cX4_almost 110 = .ok (.goto 4, 3) := by decide +kernel
theorem dX4_almost_113 : decode cX4_almost 113 = .ok (.iconst 0, 1) := by decide +kernel
theorem dX4_almost_114 : decode cX4_almost 114 = .ok (.iadd, 1) := by decide +kernel
theorem dX4_almost_115 : decode cX4_almost 115 = .ok (.istore 6, 2) := by decide +kernel
theorem dX4_almost_117 : decode cX4_almost 117 = .ok (.iinc 7 1, 3) := by decide +kernel
theorem dX4_almost_120 : decode cX4_almost 120 = .ok (.goto (-42), 3) := by decide +kernel
theorem dX4_almost_123 : decode cX4_almost 123 = .ok (.iload_n 3, 1) := by decide +kernel
theorem dX4_almost_124 : decode cX4_almost 124 = .ok (.iload 6, 2) := by decide +kernel
theorem dX4_almost_126 : decode cX4_almost 126 = .ok (.iload_n 2, 1) := by decide +kernel
theorem dX4_almost_127 : decode cX4_almost 127 = .ok (.if_icmp .gt 7, 3) := by decide +kernel
theorem dX4_almost_130 : decode cX4_almost 130 = .ok (.iconst 1, 1) := by decide +kernel
theorem dX4_almost_131 : decode cX4_almost 131 = .ok (.goto 4, 3) := by decide +kernel
theorem dX4_almost_134 : decode cX4_almost 134 = .ok (.iconst 0, 1) := by decide +kernel
theorem dX4_almost_135 : decode cX4_almost 135 = .ok (.iadd, 1) := by decide +kernel
theorem dX4_almost_136 : decode cX4_almost 136 = .ok (.istore_n 3, 1) := by decide +kernel
theorem dX4_almost_137 : decode cX4_almost 137 = .ok (.iinc 4 1, 3) := by decide +kernel
theorem dX4_almost_140 : decode cX4_almost 140 = .ok (.goto (-116), 3) := by decide +kernel
theorem dX4_almost_143 : decode cX4_almost 143 = .ok (.iload_n 3, 1) := by decide +kernel
theorem dX4_almost_144 : decode cX4_almost 144 = .ok (.ireturn, 1) := by decide +kernel
abbrev cX4_plain : ByteArray := prog_6_method_40_code
def yX4_plain : MethodName := ⟨RX4, "plain", "(I)I"⟩
theorem dX4_plain_0 : decode cX4_plain 0 = .ok (.aload_n 0, 1) := by decide +kernel
theorem dX4_plain_1 : decode cX4_plain 1 = .ok (.iload_n 1, 1) := by decide +kernel
theorem dX4_plain_2 : decode cX4_plain 2 = .ok (.invokevirtual 143, 3) := by decide +kernel
theorem dX4_plain_5 : decode cX4_plain 5 = .ok (.ifCond .eq 12, 3) := by decide +kernel
theorem dX4_plain_8 : decode cX4_plain 8 = .ok (.aload_n 0, 1) := by decide +kernel
theorem dX4_plain_9 : decode cX4_plain 9 = .ok (.getfield 55, 3) := by decide +kernel
theorem dX4_plain_12 : decode cX4_plain 12 = .ok (.iload_n 1, 1) := by decide +kernel
theorem dX4_plain_13 : decode cX4_plain 13 = .ok (.baload, 1) := by decide +kernel
theorem dX4_plain_14 : decode cX4_plain 14 = .ok (.ifCond .ne 5, 3) := by decide +kernel
theorem dX4_plain_17 : decode cX4_plain 17 = .ok (.iconst (-1), 1) := by decide +kernel
theorem dX4_plain_18 : decode cX4_plain 18 = .ok (.ireturn, 1) := by decide +kernel
theorem dX4_plain_19 : decode cX4_plain 19 = .ok (.aload_n 0, 1) := by decide +kernel
theorem dX4_plain_20 : decode cX4_plain 20 = .ok (.getfield 154, 3) := by decide +kernel
theorem dX4_plain_23 : decode cX4_plain 23 = .ok (.aload_n 0, 1) := by decide +kernel
theorem dX4_plain_24 : decode cX4_plain 24 = .ok (.getfield 52, 3) := by decide +kernel
theorem dX4_plain_27 : decode cX4_plain 27 = .ok (.iload_n 1, 1) := by decide +kernel
theorem dX4_plain_28 : decode cX4_plain 28 = .ok (.iaload, 1) := by decide +kernel
theorem dX4_plain_29 : decode cX4_plain 29 = .ok (.isub, 1) := by decide +kernel
theorem dX4_plain_30 : decode cX4_plain 30 = .ok (.bipush 12, 2) := by decide +kernel
theorem dX4_plain_32 : decode cX4_plain 32 = .ok (.if_icmp .le 6, 3) := by decide +kernel
theorem dX4_plain_35 : decode cX4_plain 35 = .ok (.bipush (-6), 2) := by decide +kernel
theorem dX4_plain_37 : decode cX4_plain 37 = .ok (.ireturn, 1) := by decide +kernel
theorem dX4_plain_38 : decode cX4_plain 38 = .ok (.iconst 0, 1) := by decide +kernel
theorem dX4_plain_39 : decode cX4_plain 39 = .ok (.istore_n 2, 1) := by decide +kernel
theorem dX4_plain_40 : decode cX4_plain 40 = .ok (.iconst 0, 1) := by decide +kernel
theorem dX4_plain_41 : decode cX4_plain 41 = .ok (.istore_n 3, 1) := by decide +kernel
theorem dX4_plain_42 : decode cX4_plain 42 = .ok (.aload_n 0, 1) := by decide +kernel
theorem dX4_plain_43 : decode cX4_plain 43 = .ok (.getfield 123, 3) := by decide +kernel
theorem dX4_plain_46 : decode cX4_plain 46 = .ok (.iconst 0, 1) := by decide +kernel
theorem dX4_plain_47 : decode cX4_plain 47 = .ok (.aload_n 0, 1) := by decide +kernel
theorem dX4_plain_48 : decode cX4_plain 48 = .ok (.getfield 52, 3) := by decide +kernel
theorem dX4_plain_51 : decode cX4_plain 51 = .ok (.iload_n 1, 1) := by decide +kernel
theorem dX4_plain_52 : decode cX4_plain 52 = .ok (.iaload, 1) := by decide +kernel
theorem dX4_plain_53 : decode cX4_plain 53 = .ok (.iastore, 1) := by decide +kernel
theorem dX4_plain_54 : decode cX4_plain 54 = .ok (.aload_n 0, 1) := by decide +kernel
theorem dX4_plain_55 : decode cX4_plain 55 = .ok (.getfield 126, 3) := by decide +kernel
theorem dX4_plain_58 : decode cX4_plain 58 = .ok (.iconst 0, 1) := by decide +kernel
theorem dX4_plain_59 : decode cX4_plain 59 = .ok (.iconst (-1), 1) := by decide +kernel
theorem dX4_plain_60 : decode cX4_plain 60 = .ok (.iastore, 1) := by decide +kernel
theorem dX4_plain_61 : decode cX4_plain 61 = .ok (.aload_n 0, 1) := by decide +kernel
theorem dX4_plain_62 : decode cX4_plain 62 = .ok (.iconst 0, 1) := by decide +kernel
theorem dX4_plain_63 : decode cX4_plain 63 = .ok (.putfield 160, 3) := by decide +kernel
theorem dX4_plain_66 : decode cX4_plain 66 = .ok (.iload_n 3, 1) := by decide +kernel
theorem dX4_plain_67 : decode cX4_plain 67 = .ok (.ifCond .lt 79, 3) := by decide +kernel
theorem dX4_plain_70 : decode cX4_plain 70 = .ok (.aload_n 0, 1) := by decide +kernel
theorem dX4_plain_71 : decode cX4_plain 71 = .ok (.iload_n 3, 1) := by decide +kernel
theorem dX4_plain_72 : decode cX4_plain 72 = .ok (.putfield 160, 3) := by decide +kernel
theorem dX4_plain_75 : decode cX4_plain 75 = .ok (.aload_n 0, 1) := by decide +kernel
theorem dX4_plain_76 : decode cX4_plain 76 = .ok (.iload_n 1, 1) := by decide +kernel
theorem dX4_plain_77 : decode cX4_plain 77 = .ok (.iload_n 3, 1) := by decide +kernel
theorem dX4_plain_78 : decode cX4_plain 78 = .ok (.invokevirtual 240, 3) := by decide +kernel
theorem dX4_plain_81 : decode cX4_plain 81 = .ok (.ifCond .ne 9, 3) := by decide +kernel
theorem dX4_plain_84 : decode cX4_plain 84 = .ok (.iinc 3 (-1), 3) := by decide +kernel
theorem dX4_plain_87 : decode cX4_plain 87 = .ok (.goto (-21), 3) := by decide +kernel
theorem dX4_plain_90 : decode cX4_plain 90 = .ok (.aload_n 0, 1) := by decide +kernel
theorem dX4_plain_91 : decode cX4_plain 91 = .ok (.aload_n 0, 1) := by decide +kernel
theorem dX4_plain_92 : decode cX4_plain 92 = .ok (.getfield 123, 3) := by decide +kernel
theorem dX4_plain_95 : decode cX4_plain 95 = .ok (.iload_n 3, 1) := by decide +kernel
theorem dX4_plain_96 : decode cX4_plain 96 = .ok (.iaload, 1) := by decide +kernel
theorem dX4_plain_97 : decode cX4_plain 97 = .ok (.aload_n 0, 1) := by decide +kernel
theorem dX4_plain_98 : decode cX4_plain 98 = .ok (.getfield 126, 3) := by decide +kernel
theorem dX4_plain_101 : decode cX4_plain 101 = .ok (.iload_n 3, 1) := by decide +kernel
theorem dX4_plain_102 : decode cX4_plain 102 = .ok (.iaload, 1) := by decide +kernel
theorem dX4_plain_103 : decode cX4_plain 103 = .ok (.invokevirtual 188, 3) := by decide +kernel
theorem dX4_plain_106 : decode cX4_plain 106 = .ok (.aload_n 0, 1) := by decide +kernel
theorem dX4_plain_107 : decode cX4_plain 107 = .ok (.iload_n 1, 1) := by decide +kernel
theorem dX4_plain_108 : decode cX4_plain 108 = .ok (.invokevirtual 191, 3) := by decide +kernel
theorem dX4_plain_111 : decode cX4_plain 111 = .ok (.ifCond .eq 6, 3) := by decide +kernel
theorem dX4_plain_114 : decode cX4_plain 114 = .ok (.iinc 2 1, 3) := by decide +kernel
theorem dX4_plain_117 : decode cX4_plain 117 = .ok (.iinc 3 1, 3) := by decide +kernel
theorem dX4_plain_120 : decode cX4_plain 120 = .ok (.aload_n 0, 1) := by decide +kernel
theorem dX4_plain_121 : decode cX4_plain 121 = .ok (.getfield 123, 3) := by decide +kernel
theorem dX4_plain_124 : decode cX4_plain 124 = .ok (.iload_n 3, 1) := by decide +kernel
theorem dX4_plain_125 : decode cX4_plain 125 = .ok (.aload_n 0, 1) := by decide +kernel
theorem dX4_plain_126 : decode cX4_plain 126 = .ok (.getfield 123, 3) := by decide +kernel
theorem dX4_plain_129 : decode cX4_plain 129 = .ok (.iload_n 3, 1) := by decide +kernel
theorem dX4_plain_130 : decode cX4_plain 130 = .ok (.iconst 1, 1) := by decide +kernel
theorem dX4_plain_131 : decode cX4_plain 131 = .ok (.isub, 1) := by decide +kernel
theorem dX4_plain_132 : decode cX4_plain 132 = .ok (.iaload, 1) := by decide +kernel
theorem dX4_plain_133 : decode cX4_plain 133 = .ok (.iconst 1, 1) := by decide +kernel
theorem dX4_plain_134 : decode cX4_plain 134 = .ok (.iadd, 1) := by decide +kernel
theorem dX4_plain_135 : decode cX4_plain 135 = .ok (.iastore, 1) := by decide +kernel
theorem dX4_plain_136 : decode cX4_plain 136 = .ok (.aload_n 0, 1) := by decide +kernel
theorem dX4_plain_137 : decode cX4_plain 137 = .ok (.getfield 126, 3) := by decide +kernel
theorem dX4_plain_140 : decode cX4_plain 140 = .ok (.iload_n 3, 1) := by decide +kernel
theorem dX4_plain_141 : decode cX4_plain 141 = .ok (.iconst (-1), 1) := by decide +kernel
theorem dX4_plain_142 : decode cX4_plain 142 = .ok (.iastore, 1) := by decide +kernel
theorem dX4_plain_143 : decode cX4_plain 143 = .ok (.goto (-77), 3) := by decide +kernel
theorem dX4_plain_146 : decode cX4_plain 146 = .ok (.iload_n 2, 1) := by decide +kernel
theorem dX4_plain_147 : decode cX4_plain 147 = .ok (.ireturn, 1) := by decide +kernel
abbrev cX4_nextTry : ByteArray := prog_6_method_41_code
def yX4_nextTry : MethodName := ⟨RX4, "nextTry", "(II)Z"⟩
theorem dX4_nextTry_0 : decode cX4_nextTry 0 = .ok (.aload_n 0, 1) := by decide +kernel
theorem dX4_nextTry_1 : decode cX4_nextTry 1 = .ok (.getfield 123, 3) := by decide +kernel
theorem dX4_nextTry_4 : decode cX4_nextTry 4 = .ok (.iload_n 2, 1) := by decide +kernel
theorem dX4_nextTry_5 : decode cX4_nextTry 5 = .ok (.iaload, 1) := by decide +kernel
theorem dX4_nextTry_6 : decode cX4_nextTry 6 = .ok (.istore_n 3, 1) := by decide +kernel
theorem dX4_nextTry_7 : decode cX4_nextTry 7 = .ok (.aload_n 0, 1) := by decide +kernel
theorem dX4_nextTry_8 : decode cX4_nextTry 8 = .ok (.getfield 126, 3) := by decide +kernel
theorem dX4_nextTry_11 : decode cX4_nextTry 11 = .ok (.iload_n 2, 1) := by decide +kernel
theorem dX4_nextTry_12 : decode cX4_nextTry 12 = .ok (.iaload, 1) := by decide +kernel
theorem dX4_nextTry_13 : decode cX4_nextTry 13 = .ok (.iconst 1, 1) := by decide +kernel
theorem dX4_nextTry_14 : decode cX4_nextTry 14 = .ok (.iadd, 1) := by decide +kernel
theorem dX4_nextTry_15 : decode cX4_nextTry 15 = .ok (.istore 4, 2) := by decide +kernel
theorem dX4_nextTry_17 : decode cX4_nextTry 17 = .ok (.iload_n 3, 1) := by decide +kernel
theorem dX4_nextTry_18 : decode cX4_nextTry 18 = .ok (.aload_n 0, 1) := by decide +kernel
theorem dX4_nextTry_19 : decode cX4_nextTry 19 = .ok (.getfield 154, 3) := by decide +kernel
theorem dX4_nextTry_22 : decode cX4_nextTry 22 = .ok (.if_icmp .ge 57, 3) := by decide +kernel
theorem dX4_nextTry_25 : decode cX4_nextTry 25 = .ok (.iload 4, 2) := by decide +kernel
theorem dX4_nextTry_27 : decode cX4_nextTry 27 = .ok (.aload_n 0, 1) := by decide +kernel
theorem dX4_nextTry_28 : decode cX4_nextTry 28 = .ok (.iload_n 1, 1) := by decide +kernel
theorem dX4_nextTry_29 : decode cX4_nextTry 29 = .ok (.invokevirtual 163, 3) := by decide +kernel
theorem dX4_nextTry_32 : decode cX4_nextTry 32 = .ok (.if_icmp .ge 38, 3) := by decide +kernel
theorem dX4_nextTry_35 : decode cX4_nextTry 35 = .ok (.aload_n 0, 1) := by decide +kernel
theorem dX4_nextTry_36 : decode cX4_nextTry 36 = .ok (.iload_n 1, 1) := by decide +kernel
theorem dX4_nextTry_37 : decode cX4_nextTry 37 = .ok (.iload_n 2, 1) := by decide +kernel
theorem dX4_nextTry_38 : decode cX4_nextTry 38 = .ok (.iload_n 3, 1) := by decide +kernel
theorem dX4_nextTry_39 : decode cX4_nextTry 39 = .ok (.iload 4, 2) := by decide +kernel
theorem dX4_nextTry_41 : decode cX4_nextTry 41 = .ok (.invokevirtual 243, 3) := by decide +kernel
theorem dX4_nextTry_44 : decode cX4_nextTry 44 = .ok (.ifCond .eq 20, 3) := by decide +kernel
theorem dX4_nextTry_47 : decode cX4_nextTry 47 = .ok (.aload_n 0, 1) := by decide +kernel
theorem dX4_nextTry_48 : decode cX4_nextTry 48 = .ok (.getfield 123, 3) := by decide +kernel
theorem dX4_nextTry_51 : decode cX4_nextTry 51 = .ok (.iload_n 2, 1) := by decide +kernel
theorem dX4_nextTry_52 : decode cX4_nextTry 52 = .ok (.iload_n 3, 1) := by decide +kernel
theorem dX4_nextTry_53 : decode cX4_nextTry 53 = .ok (.iastore, 1) := by decide +kernel
theorem dX4_nextTry_54 : decode cX4_nextTry 54 = .ok (.aload_n 0, 1) := by decide +kernel
theorem dX4_nextTry_55 : decode cX4_nextTry 55 = .ok (.getfield 126, 3) := by decide +kernel
theorem dX4_nextTry_58 : decode cX4_nextTry 58 = .ok (.iload_n 2, 1) := by decide +kernel
theorem dX4_nextTry_59 : decode cX4_nextTry 59 = .ok (.iload 4, 2) := by decide +kernel
theorem dX4_nextTry_61 : decode cX4_nextTry 61 = .ok (.iastore, 1) := by decide +kernel
theorem dX4_nextTry_62 : decode cX4_nextTry 62 = .ok (.iconst 1, 1) := by decide +kernel
theorem dX4_nextTry_63 : decode cX4_nextTry 63 = .ok (.ireturn, 1) := by decide +kernel
theorem dX4_nextTry_64 : decode cX4_nextTry 64 = .ok (.iinc 4 1, 3) := by decide +kernel
theorem dX4_nextTry_67 : decode cX4_nextTry 67 = .ok (.goto (-42), 3) := by decide +kernel
theorem dX4_nextTry_70 : decode cX4_nextTry 70 = .ok (.iinc 3 1, 3) := by decide +kernel
theorem dX4_nextTry_73 : decode cX4_nextTry 73 = .ok (.iconst 0, 1) := by decide +kernel
theorem dX4_nextTry_74 : decode cX4_nextTry 74 = .ok (.istore 4, 2) := by decide +kernel
theorem dX4_nextTry_76 : decode cX4_nextTry 76 = .ok (.goto (-59), 3) := by decide +kernel
theorem dX4_nextTry_79 : decode cX4_nextTry 79 = .ok (.iconst 0, 1) := by decide +kernel
theorem dX4_nextTry_80 : decode cX4_nextTry 80 = .ok (.ireturn, 1) := by decide +kernel
abbrev cX4_may : ByteArray := prog_6_method_42_code
def yX4_may : MethodName := ⟨RX4, "may", "(IIII)Z"⟩
theorem dX4_may_0 : decode cX4_may 0 = .ok (.aload_n 0, 1) := by decide +kernel
theorem dX4_may_1 : decode cX4_may 1 = .ok (.getfield 65, 3) := by decide +kernel
theorem dX4_may_4 : decode cX4_may 4 = .ok (.bipush 6, 2) := by decide +kernel
theorem dX4_may_6 : decode cX4_may 6 = .ok (.iload_n 1, 1) := by decide +kernel
theorem dX4_may_7 : decode cX4_may 7 = .ok (.imul, 1) := by decide +kernel
theorem dX4_may_8 : decode cX4_may 8 = .ok (.iload 4, 2) := by decide +kernel
theorem dX4_may_10 : decode cX4_may 10 = .ok (.iadd, 1) := by decide +kernel
theorem dX4_may_11 : decode cX4_may 11 = .ok (.iaload, 1) := by decide +kernel
theorem dX4_may_12 : decode cX4_may 12 = .ok (.istore 5, 2) := by decide +kernel
theorem dX4_may_14 : decode cX4_may 14 = .ok (.iload 5, 2) := by decide +kernel
theorem dX4_may_16 : decode cX4_may 16 = .ok (.iconst 3, 1) := by decide +kernel
theorem dX4_may_17 : decode cX4_may 17 = .ok (.if_icmp .eq 14, 3) := by decide +kernel
theorem dX4_may_20 : decode cX4_may 20 = .ok (.aload_n 0, 1) := by decide +kernel
theorem dX4_may_21 : decode cX4_may 21 = .ok (.iload_n 1, 1) := by decide +kernel
theorem dX4_may_22 : decode cX4_may 22 = .ok (.iload 4, 2) := by decide +kernel
theorem dX4_may_24 : decode cX4_may 24 = .ok (.iload_n 3, 1) := by decide +kernel
theorem dX4_may_25 : decode cX4_may 25 = .ok (.invokevirtual 173, 3) := by decide +kernel
theorem dX4_may_28 : decode cX4_may 28 = .ok (.ifCond .ne 5, 3) := by decide +kernel
theorem dX4_may_31 : decode cX4_may 31 = .ok (.iconst 0, 1) := by decide +kernel
theorem dX4_may_32 : decode cX4_may 32 = .ok (.ireturn, 1) := by decide +kernel
theorem dX4_may_33 : decode cX4_may 33 = .ok (.iload_n 2, 1) := by decide +kernel
theorem dX4_may_34 : decode cX4_may 34 = .ok (.ifCond .ne 14, 3) := by decide +kernel
theorem dX4_may_37 : decode cX4_may 37 = .ok (.iload 4, 2) := by decide +kernel
theorem dX4_may_39 : decode cX4_may 39 = .ok (.ifCond .ne 7, 3) := by decide +kernel
theorem dX4_may_42 : decode cX4_may 42 = .ok (.iconst 1, 1) := by decide +kernel
theorem dX4_may_43 : decode cX4_may 43 = .ok (.goto 4, 3) := by decide +kernel
theorem dX4_may_46 : decode cX4_may 46 = .ok (.iconst 0, 1) := by decide +kernel
theorem dX4_may_47 : decode cX4_may 47 = .ok (.ireturn, 1) := by decide +kernel
theorem dX4_may_48 : decode cX4_may 48 = .ok (.aload_n 0, 1) := by decide +kernel
theorem dX4_may_49 : decode cX4_may 49 = .ok (.getfield 46, 3) := by decide +kernel
theorem dX4_may_52 : decode cX4_may 52 = .ok (.iload_n 1, 1) := by decide +kernel
theorem dX4_may_53 : decode cX4_may 53 = .ok (.iaload, 1) := by decide +kernel
theorem dX4_may_54 : decode cX4_may 54 = .ok (.ifCond .lt 43, 3) := by decide +kernel
theorem dX4_may_57 : decode cX4_may 57 = .ok (.aload_n 0, 1) := by decide +kernel
theorem dX4_may_58 : decode cX4_may 58 = .ok (.getfield 37, 3) := by decide +kernel
theorem dX4_may_61 : decode cX4_may 61 = .ok (.iconst 4, 1) := by decide +kernel
theorem dX4_may_62 : decode cX4_may 62 = .ok (.aload_n 0, 1) := by decide +kernel
theorem dX4_may_63 : decode cX4_may 63 = .ok (.getfield 111, 3) := by decide +kernel
theorem dX4_may_66 : decode cX4_may 66 = .ok (.iconst 0, 1) := by decide +kernel
theorem dX4_may_67 : decode cX4_may 67 = .ok (.iaload, 1) := by decide +kernel
theorem dX4_may_68 : decode cX4_may 68 = .ok (.imul, 1) := by decide +kernel
theorem dX4_may_69 : decode cX4_may 69 = .ok (.aload_n 0, 1) := by decide +kernel
theorem dX4_may_70 : decode cX4_may 70 = .ok (.getfield 46, 3) := by decide +kernel
theorem dX4_may_73 : decode cX4_may 73 = .ok (.iload_n 1, 1) := by decide +kernel
theorem dX4_may_74 : decode cX4_may 74 = .ok (.iaload, 1) := by decide +kernel
theorem dX4_may_75 : decode cX4_may 75 = .ok (.iadd, 1) := by decide +kernel
theorem dX4_may_76 : decode cX4_may 76 = .ok (.iaload, 1) := by decide +kernel
theorem dX4_may_77 : decode cX4_may 77 = .ok (.aload_n 0, 1) := by decide +kernel
theorem dX4_may_78 : decode cX4_may 78 = .ok (.getfield 37, 3) := by decide +kernel
theorem dX4_may_81 : decode cX4_may 81 = .ok (.iconst 4, 1) := by decide +kernel
theorem dX4_may_82 : decode cX4_may 82 = .ok (.iload_n 3, 1) := by decide +kernel
theorem dX4_may_83 : decode cX4_may 83 = .ok (.imul, 1) := by decide +kernel
theorem dX4_may_84 : decode cX4_may 84 = .ok (.aload_n 0, 1) := by decide +kernel
theorem dX4_may_85 : decode cX4_may 85 = .ok (.getfield 46, 3) := by decide +kernel
theorem dX4_may_88 : decode cX4_may 88 = .ok (.iload_n 1, 1) := by decide +kernel
theorem dX4_may_89 : decode cX4_may 89 = .ok (.iaload, 1) := by decide +kernel
theorem dX4_may_90 : decode cX4_may 90 = .ok (.iadd, 1) := by decide +kernel
theorem dX4_may_91 : decode cX4_may 91 = .ok (.iaload, 1) := by decide +kernel
theorem dX4_may_92 : decode cX4_may 92 = .ok (.if_icmp .eq 5, 3) := by decide +kernel
theorem dX4_may_95 : decode cX4_may 95 = .ok (.iconst 0, 1) := by decide +kernel
theorem dX4_may_96 : decode cX4_may 96 = .ok (.ireturn, 1) := by decide +kernel
theorem dX4_may_97 : decode cX4_may 97 = .ok (.aload_n 0, 1) := by decide +kernel
theorem dX4_may_98 : decode cX4_may 98 = .ok (.getfield 31, 3) := by decide +kernel
theorem dX4_may_101 : decode cX4_may 101 = .ok (.iload_n 3, 1) := by decide +kernel
theorem dX4_may_102 : decode cX4_may 102 = .ok (.iaload, 1) := by decide +kernel
theorem dX4_may_103 : decode cX4_may 103 = .ok (.aload_n 0, 1) := by decide +kernel
theorem dX4_may_104 : decode cX4_may 104 = .ok (.getfield 31, 3) := by decide +kernel
theorem dX4_may_107 : decode cX4_may 107 = .ok (.aload_n 0, 1) := by decide +kernel
theorem dX4_may_108 : decode cX4_may 108 = .ok (.getfield 111, 3) := by decide +kernel
theorem dX4_may_111 : decode cX4_may 111 = .ok (.iconst 0, 1) := by decide +kernel
theorem dX4_may_112 : decode cX4_may 112 = .ok (.iaload, 1) := by decide +kernel
theorem dX4_may_113 : decode cX4_may 113 = .ok (.iaload, 1) := by decide +kernel
theorem dX4_may_114 : decode cX4_may 114 = .ok (.isub, 1) := by decide +kernel
theorem dX4_may_115 : decode cX4_may 115 = .ok (.aload_n 0, 1) := by decide +kernel
theorem dX4_may_116 : decode cX4_may 116 = .ok (.getfield 40, 3) := by decide +kernel
theorem dX4_may_119 : decode cX4_may 119 = .ok (.iload_n 1, 1) := by decide +kernel
theorem dX4_may_120 : decode cX4_may 120 = .ok (.iaload, 1) := by decide +kernel
theorem dX4_may_121 : decode cX4_may 121 = .ok (.if_icmp .le 5, 3) := by decide +kernel
theorem dX4_may_124 : decode cX4_may 124 = .ok (.iconst 0, 1) := by decide +kernel
theorem dX4_may_125 : decode cX4_may 125 = .ok (.ireturn, 1) := by decide +kernel
theorem dX4_may_126 : decode cX4_may 126 = .ok (.aload_n 0, 1) := by decide +kernel
theorem dX4_may_127 : decode cX4_may 127 = .ok (.getfield 114, 3) := by decide +kernel
theorem dX4_may_130 : decode cX4_may 130 = .ok (.iload_n 2, 1) := by decide +kernel
theorem dX4_may_131 : decode cX4_may 131 = .ok (.iconst 1, 1) := by decide +kernel
theorem dX4_may_132 : decode cX4_may 132 = .ok (.isub, 1) := by decide +kernel
theorem dX4_may_133 : decode cX4_may 133 = .ok (.iaload, 1) := by decide +kernel
theorem dX4_may_134 : decode cX4_may 134 = .ok (.istore 6, 2) := by decide +kernel
theorem dX4_may_136 : decode cX4_may 136 = .ok (.iload 4, 2) := by decide +kernel
theorem dX4_may_138 : decode cX4_may 138 = .ok (.iload 6, 2) := by decide +kernel
theorem dX4_may_140 : decode cX4_may 140 = .ok (.if_icmp .ge 5, 3) := by decide +kernel
theorem dX4_may_143 : decode cX4_may 143 = .ok (.iconst 0, 1) := by decide +kernel
theorem dX4_may_144 : decode cX4_may 144 = .ok (.ireturn, 1) := by decide +kernel
theorem dX4_may_145 : decode cX4_may 145 = .ok (.iload 4, 2) := by decide +kernel
theorem dX4_may_147 : decode cX4_may 147 = .ok (.iload 6, 2) := by decide +kernel
theorem dX4_may_149 : decode cX4_may 149 = .ok (.if_icmp .ne 61, 3) := by decide +kernel
theorem dX4_may_152 : decode cX4_may 152 = .ok (.iconst 0, 1) := by decide +kernel
theorem dX4_may_153 : decode cX4_may 153 = .ok (.istore 7, 2) := by decide +kernel
theorem dX4_may_155 : decode cX4_may 155 = .ok (.iconst 0, 1) := by decide +kernel
theorem dX4_may_156 : decode cX4_may 156 = .ok (.istore 8, 2) := by decide +kernel
theorem dX4_may_158 : decode cX4_may 158 = .ok (.iload 8, 2) := by decide +kernel
theorem dX4_may_160 : decode cX4_may 160 = .ok (.iload_n 2, 1) := by decide +kernel
theorem dX4_may_161 : decode cX4_may 161 = .ok (.if_icmp .ge 31, 3) := by decide +kernel
theorem dX4_may_164 : decode cX4_may 164 = .ok (.iload 7, 2) := by decide +kernel
theorem dX4_may_166 : decode cX4_may 166 = .ok (.aload_n 0, 1) := by decide +kernel
theorem dX4_may_167 : decode cX4_may 167 = .ok (.getfield 114, 3) := by decide +kernel
theorem dX4_may_170 : decode cX4_may 170 = .ok (.iload 8, 2) := by decide +kernel
theorem dX4_may_172 : decode cX4_may 172 = .ok (.iaload, 1) := by decide +kernel
theorem dX4_may_173 : decode cX4_may 173 = .ok (.iload 6, 2) := by decide +kernel
theorem dX4_may_175 : decode cX4_may 175 = .ok (.if_icmp .ne 7, 3) := by decide +kernel
theorem dX4_may_178 : decode cX4_may 178 = .ok (.iconst 1, 1) := by decide +kernel
theorem dX4_may_179 : decode cX4_may 179 = .ok (.goto 4, 3) := by decide +kernel
theorem dX4_may_182 : decode cX4_may 182 = .ok (.iconst 0, 1) := by decide +kernel
theorem dX4_may_183 : decode cX4_may 183 = .ok (.iadd, 1) := by decide +kernel
theorem dX4_may_184 : decode cX4_may 184 = .ok (.istore 7, 2) := by decide +kernel
theorem dX4_may_186 : decode cX4_may 186 = .ok (.iinc 8 1, 3) := by decide +kernel
theorem dX4_may_189 : decode cX4_may 189 = .ok (.goto (-31), 3) := by decide +kernel
theorem dX4_may_192 : decode cX4_may 192 = .ok (.iload 5, 2) := by decide +kernel
theorem dX4_may_194 : decode cX4_may 194 = .ok (.iconst 1, 1) := by decide +kernel
theorem dX4_may_195 : decode cX4_may 195 = .ok (.if_icmp .ne 13, 3) := by decide +kernel
theorem dX4_may_198 : decode cX4_may 198 = .ok (.iload 7, 2) := by decide +kernel
theorem dX4_may_200 : decode cX4_may 200 = .ok (.iconst 4, 1) := by decide +kernel
theorem dX4_may_201 : decode cX4_may 201 = .ok (.if_icmp .ge 7, 3) := by decide +kernel
theorem dX4_may_204 : decode cX4_may 204 = .ok (.iconst 1, 1) := by decide +kernel
theorem dX4_may_205 : decode cX4_may 205 = .ok (.goto 4, 3) := by decide +kernel
theorem dX4_may_208 : decode cX4_may 208 = .ok (.iconst 0, 1) := by decide +kernel
theorem dX4_may_209 : decode cX4_may 209 = .ok (.ireturn, 1) := by decide +kernel
theorem dX4_may_210 : decode cX4_may 210 = .ok (.iload 6, 2) := by decide +kernel
theorem dX4_may_212 : decode cX4_may 212 = .ok (.iconst 1, 1) := by decide +kernel
theorem dX4_may_213 : decode cX4_may 213 = .ok (.iadd, 1) := by decide +kernel
theorem dX4_may_214 : decode cX4_may 214 = .ok (.istore 7, 2) := by decide +kernel
theorem dX4_may_216 : decode cX4_may 216 = .ok (.iload 7, 2) := by decide +kernel
theorem dX4_may_218 : decode cX4_may 218 = .ok (.iload 4, 2) := by decide +kernel
theorem dX4_may_220 : decode cX4_may 220 = .ok (.if_icmp .ge 29, 3) := by decide +kernel
theorem dX4_may_223 : decode cX4_may 223 = .ok (.aload_n 0, 1) := by decide +kernel
theorem dX4_may_224 : decode cX4_may 224 = .ok (.getfield 65, 3) := by decide +kernel
theorem dX4_may_227 : decode cX4_may 227 = .ok (.bipush 6, 2) := by decide +kernel
theorem dX4_may_229 : decode cX4_may 229 = .ok (.iload_n 1, 1) := by decide +kernel
theorem dX4_may_230 : decode cX4_may 230 = .ok (.imul, 1) := by decide +kernel
theorem dX4_may_231 : decode cX4_may 231 = .ok (.iload 7, 2) := by decide +kernel
theorem dX4_may_233 : decode cX4_may 233 = .ok (.iadd, 1) := by decide +kernel
theorem dX4_may_234 : decode cX4_may 234 = .ok (.iaload, 1) := by decide +kernel
theorem dX4_may_235 : decode cX4_may 235 = .ok (.invokestatic 140, 3) := by decide +kernel
theorem dX4_may_238 : decode cX4_may 238 = .ok (.ifCond .eq 5, 3) := by decide +kernel
theorem dX4_may_241 : decode cX4_may 241 = .ok (.iconst 0, 1) := by decide +kernel
theorem dX4_may_242 : decode cX4_may 242 = .ok (.ireturn, 1) := by decide +kernel
theorem dX4_may_243 : decode cX4_may 243 = .ok (.iinc 7 1, 3) := by decide +kernel
theorem dX4_may_246 : decode cX4_may 246 = .ok (.goto (-30), 3) := by decide +kernel
theorem dX4_may_249 : decode cX4_may 249 = .ok (.aload_n 0, 1) := by decide +kernel
theorem dX4_may_250 : decode cX4_may 250 = .ok (.getfield 65, 3) := by decide +kernel
theorem dX4_may_253 : decode cX4_may 253 = .ok (.bipush 6, 2) := by decide +kernel
theorem dX4_may_255 : decode cX4_may 255 = .ok (.iload_n 1, 1) := by decide +kernel
theorem dX4_may_256 : decode cX4_may 256 = .ok (.imul, 1) := by decide +kernel
theorem dX4_may_257 : decode cX4_may 257 = .ok (.iload 4, 2) := by decide +kernel
theorem dX4_may_259 : decode cX4_may 259 = .ok (.iadd, 1) := by decide +kernel
theorem dX4_may_260 : decode cX4_may 260 = .ok (.iconst 1, 1) := by decide +kernel
theorem dX4_may_261 : decode cX4_may 261 = .ok (.isub, 1) := by decide +kernel
theorem dX4_may_262 : decode cX4_may 262 = .ok (.iaload, 1) := by decide +kernel
theorem dX4_may_263 : decode cX4_may 263 = .ok (.iconst 3, 1) := by decide +kernel
theorem dX4_may_264 : decode cX4_may 264 = .ok (.if_icmp .ne 24, 3) := by decide +kernel
theorem dX4_may_267 : decode cX4_may 267 = .ok (.aload_n 0, 1) := by decide +kernel
theorem dX4_may_268 : decode cX4_may 268 = .ok (.iload_n 1, 1) := by decide +kernel
theorem dX4_may_269 : decode cX4_may 269 = .ok (.iload 4, 2) := by decide +kernel
theorem dX4_may_271 : decode cX4_may 271 = .ok (.iconst 1, 1) := by decide +kernel
theorem dX4_may_272 : decode cX4_may 272 = .ok (.isub, 1) := by decide +kernel
theorem dX4_may_273 : decode cX4_may 273 = .ok (.aload_n 0, 1) := by decide +kernel
theorem dX4_may_274 : decode cX4_may 274 = .ok (.getfield 111, 3) := by decide +kernel
theorem dX4_may_277 : decode cX4_may 277 = .ok (.iload_n 2, 1) := by decide +kernel
theorem dX4_may_278 : decode cX4_may 278 = .ok (.iconst 1, 1) := by decide +kernel
theorem dX4_may_279 : decode cX4_may 279 = .ok (.isub, 1) := by decide +kernel
theorem dX4_may_280 : decode cX4_may 280 = .ok (.iaload, 1) := by decide +kernel
theorem dX4_may_281 : decode cX4_may 281 = .ok (.iload_n 3, 1) := by decide +kernel
theorem dX4_may_282 : decode cX4_may 282 = .ok (.invokevirtual 246, 3) := by decide +kernel
theorem dX4_may_285 : decode cX4_may 285 = .ok (.ifCond .ne 7, 3) := by decide +kernel
theorem dX4_may_288 : decode cX4_may 288 = .ok (.iconst 1, 1) := by decide +kernel
theorem dX4_may_289 : decode cX4_may 289 = .ok (.goto 4, 3) := by decide +kernel
theorem dX4_may_292 : decode cX4_may 292 = .ok (.iconst 0, 1) := by decide +kernel
theorem dX4_may_293 : decode cX4_may 293 = .ok (.ireturn, 1) := by decide +kernel
abbrev cX4_isBroken : ByteArray := prog_6_method_43_code
def yX4_isBroken : MethodName := ⟨RX4, "isBroken", "(IIII)Z"⟩
theorem dX4_isBroken_0 : decode cX4_isBroken 0 = .ok (.iload_n 3, 1) := by decide +kernel
theorem dX4_isBroken_1 : decode cX4_isBroken 1 = .ok (.iconst 1, 1) := by decide +kernel
theorem dX4_isBroken_2 : decode cX4_isBroken 2 = .ok (.iadd, 1) := by decide +kernel
theorem dX4_isBroken_3 : decode cX4_isBroken 3 = .ok (.istore 5, 2) := by decide +kernel
theorem dX4_isBroken_5 : decode cX4_isBroken 5 = .ok (.iload 5, 2) := by decide +kernel
theorem dX4_isBroken_7 : decode cX4_isBroken 7 = .ok (.iload 4, 2) := by decide +kernel
theorem dX4_isBroken_9 : decode cX4_isBroken 9 = .ok (.if_icmp .ge 82, 3) := by decide +kernel
theorem dX4_isBroken_12 : decode cX4_isBroken 12 = .ok (.aload_n 0, 1) := by decide +kernel
theorem dX4_isBroken_13 : decode cX4_isBroken 13 = .ok (.getfield 46, 3) := by decide +kernel
theorem dX4_isBroken_16 : decode cX4_isBroken 16 = .ok (.iload_n 1, 1) := by decide +kernel
theorem dX4_isBroken_17 : decode cX4_isBroken 17 = .ok (.iaload, 1) := by decide +kernel
theorem dX4_isBroken_18 : decode cX4_isBroken 18 = .ok (.ifCond .lt 42, 3) := by decide +kernel
theorem dX4_isBroken_21 : decode cX4_isBroken 21 = .ok (.aload_n 0, 1) := by decide +kernel
theorem dX4_isBroken_22 : decode cX4_isBroken 22 = .ok (.getfield 37, 3) := by decide +kernel
theorem dX4_isBroken_25 : decode cX4_isBroken 25 = .ok (.iconst 4, 1) := by decide +kernel
theorem dX4_isBroken_26 : decode cX4_isBroken 26 = .ok (.aload_n 0, 1) := by decide +kernel
theorem dX4_isBroken_27 : decode cX4_isBroken 27 = .ok (.getfield 111, 3) := by decide +kernel
theorem dX4_isBroken_30 : decode cX4_isBroken 30 = .ok (.iconst 0, 1) := by decide +kernel
theorem dX4_isBroken_31 : decode cX4_isBroken 31 = .ok (.iaload, 1) := by decide +kernel
theorem dX4_isBroken_32 : decode cX4_isBroken 32 = .ok (.imul, 1) := by decide +kernel
theorem dX4_isBroken_33 : decode cX4_isBroken 33 = .ok (.aload_n 0, 1) := by decide +kernel
theorem dX4_isBroken_34 : decode cX4_isBroken 34 = .ok (.getfield 46, 3) := by decide +kernel
theorem dX4_isBroken_37 : decode cX4_isBroken 37 = .ok (.iload_n 1, 1) := by decide +kernel
theorem dX4_isBroken_38 : decode cX4_isBroken 38 = .ok (.iaload, 1) := by decide +kernel
theorem dX4_isBroken_39 : decode cX4_isBroken 39 = .ok (.iadd, 1) := by decide +kernel
theorem dX4_isBroken_40 : decode cX4_isBroken 40 = .ok (.iaload, 1) := by decide +kernel
theorem dX4_isBroken_41 : decode cX4_isBroken 41 = .ok (.aload_n 0, 1) := by decide +kernel
theorem dX4_isBroken_42 : decode cX4_isBroken 42 = .ok (.getfield 37, 3) := by decide +kernel
theorem dX4_isBroken_45 : decode cX4_isBroken 45 = .ok (.iconst 4, 1) := by decide +kernel
theorem dX4_isBroken_46 : decode cX4_isBroken 46 = .ok (.iload 5, 2) := by decide +kernel
theorem dX4_isBroken_48 : decode cX4_isBroken 48 = .ok (.imul, 1) := by decide +kernel
theorem dX4_isBroken_49 : decode cX4_isBroken 49 = .ok (.aload_n 0, 1) := by decide +kernel
theorem dX4_isBroken_50 : decode cX4_isBroken 50 = .ok (.getfield 46, 3) := by decide +kernel
theorem dX4_isBroken_53 : decode cX4_isBroken 53 = .ok (.iload_n 1, 1) := by decide +kernel
theorem dX4_isBroken_54 : decode cX4_isBroken 54 = .ok (.iaload, 1) := by decide +kernel
theorem dX4_isBroken_55 : decode cX4_isBroken 55 = .ok (.iadd, 1) := by decide +kernel
theorem dX4_isBroken_56 : decode cX4_isBroken 56 = .ok (.iaload, 1) := by decide +kernel
theorem dX4_isBroken_57 : decode cX4_isBroken 57 = .ok (.if_icmp .ne 7, 3) := by decide +kernel
theorem dX4_isBroken_60 : decode cX4_isBroken 60 = .ok (.iconst 1, 1) := by decide +kernel
theorem dX4_isBroken_61 : decode cX4_isBroken 61 = .ok (.goto 4, 3) := by decide +kernel
theorem dX4_isBroken_64 : decode cX4_isBroken 64 = .ok (.iconst 0, 1) := by decide +kernel
theorem dX4_isBroken_65 : decode cX4_isBroken 65 = .ok (.istore 6, 2) := by decide +kernel
theorem dX4_isBroken_67 : decode cX4_isBroken 67 = .ok (.iload 6, 2) := by decide +kernel
theorem dX4_isBroken_69 : decode cX4_isBroken 69 = .ok (.ifCond .eq 16, 3) := by decide +kernel
theorem dX4_isBroken_72 : decode cX4_isBroken 72 = .ok (.aload_n 0, 1) := by decide +kernel
theorem dX4_isBroken_73 : decode cX4_isBroken 73 = .ok (.iload_n 1, 1) := by decide +kernel
theorem dX4_isBroken_74 : decode cX4_isBroken 74 = .ok (.iload_n 2, 1) := by decide +kernel
theorem dX4_isBroken_75 : decode cX4_isBroken 75 = .ok (.iload 5, 2) := by decide +kernel
theorem dX4_isBroken_77 : decode cX4_isBroken 77 = .ok (.invokevirtual 173, 3) := by decide +kernel
theorem dX4_isBroken_80 : decode cX4_isBroken 80 = .ok (.ifCond .eq 5, 3) := by decide +kernel
theorem dX4_isBroken_83 : decode cX4_isBroken 83 = .ok (.iconst 1, 1) := by decide +kernel
theorem dX4_isBroken_84 : decode cX4_isBroken 84 = .ok (.ireturn, 1) := by decide +kernel
theorem dX4_isBroken_85 : decode cX4_isBroken 85 = .ok (.iinc 5 1, 3) := by decide +kernel
theorem dX4_isBroken_88 : decode cX4_isBroken 88 = .ok (.goto (-83), 3) := by decide +kernel
theorem dX4_isBroken_91 : decode cX4_isBroken 91 = .ok (.iconst 0, 1) := by decide +kernel
theorem dX4_isBroken_92 : decode cX4_isBroken 92 = .ok (.ireturn, 1) := by decide +kernel
abbrev cX4_count : ByteArray := prog_6_method_44_code
def yX4_count : MethodName := ⟨RX4, "count", "(I)I"⟩
theorem dX4_count_0 : decode cX4_count 0 = .ok (.iload_n 1, 1) := by decide +kernel
theorem dX4_count_1 : decode cX4_count 1 = .ok (.tableswitch 94 0 5 #[39, 44, 49, 54, 59, 64], 39) := by decide +kernel
theorem dX4_count_40 : decode cX4_count 40 = .ok (.aload_n 0, 1) := by decide +kernel
theorem dX4_count_41 : decode cX4_count 41 = .ok (.getfield 133, 3) := by decide +kernel
theorem dX4_count_44 : decode cX4_count 44 = .ok (.ireturn, 1) := by decide +kernel
theorem dX4_count_45 : decode cX4_count 45 = .ok (.aload_n 0, 1) := by decide +kernel
theorem dX4_count_46 : decode cX4_count 46 = .ok (.getfield 154, 3) := by decide +kernel
theorem dX4_count_49 : decode cX4_count 49 = .ok (.ireturn, 1) := by decide +kernel
theorem dX4_count_50 : decode cX4_count 50 = .ok (.aload_n 0, 1) := by decide +kernel
theorem dX4_count_51 : decode cX4_count 51 = .ok (.getfield 208, 3) := by decide +kernel
theorem dX4_count_54 : decode cX4_count 54 = .ok (.ireturn, 1) := by decide +kernel
theorem dX4_count_55 : decode cX4_count 55 = .ok (.aload_n 0, 1) := by decide +kernel
theorem dX4_count_56 : decode cX4_count 56 = .ok (.getfield 214, 3) := by decide +kernel
theorem dX4_count_59 : decode cX4_count 59 = .ok (.ireturn, 1) := by decide +kernel
theorem dX4_count_60 : decode cX4_count 60 = .ok (.aload_n 0, 1) := by decide +kernel
theorem dX4_count_61 : decode cX4_count 61 = .ok (.getfield 211, 3) := by decide +kernel
theorem dX4_count_64 : decode cX4_count 64 = .ok (.ireturn, 1) := by decide +kernel
theorem dX4_count_65 : decode cX4_count 65 = .ok (.aload_n 0, 1) := by decide +kernel
theorem dX4_count_66 : decode cX4_count 66 = .ok (.invokevirtual 230, 3) := by decide +kernel
theorem dX4_count_69 : decode cX4_count 69 = .ok (.iconst 0, 1) := by decide +kernel
theorem dX4_count_70 : decode cX4_count 70 = .ok (.istore_n 2, 1) := by decide +kernel
theorem dX4_count_71 : decode cX4_count 71 = .ok (.iload_n 2, 1) := by decide +kernel
theorem dX4_count_72 : decode cX4_count 72 = .ok (.aload_n 0, 1) := by decide +kernel
theorem dX4_count_73 : decode cX4_count 73 = .ok (.getfield 133, 3) := by decide +kernel
theorem dX4_count_76 : decode cX4_count 76 = .ok (.if_icmp .ge 14, 3) := by decide +kernel
theorem dX4_count_79 : decode cX4_count 79 = .ok (.aload_n 0, 1) := by decide +kernel
theorem dX4_count_80 : decode cX4_count 80 = .ok (.iload_n 2, 1) := by decide +kernel
theorem dX4_count_81 : decode cX4_count 81 = .ok (.invokevirtual 233, 3) := by decide +kernel
theorem dX4_count_84 : decode cX4_count 84 = .ok (.iinc 2 1, 3) := by decide +kernel
theorem dX4_count_87 : decode cX4_count 87 = .ok (.goto (-16), 3) := by decide +kernel
theorem dX4_count_90 : decode cX4_count 90 = .ok (.aload_n 0, 1) := by decide +kernel
theorem dX4_count_91 : decode cX4_count 91 = .ok (.invokevirtual 236, 3) := by decide +kernel
theorem dX4_count_94 : decode cX4_count 94 = .ok (.ireturn, 1) := by decide +kernel
theorem dX4_count_95 : decode cX4_count 95 = .ok (.iconst (-1), 1) := by decide +kernel
theorem dX4_count_96 : decode cX4_count 96 = .ok (.ireturn, 1) := by decide +kernel
abbrev cX4_is : ByteArray := prog_6_method_45_code
def yX4_is : MethodName := ⟨RX4, "is", "(II)I"⟩
theorem dX4_is_0 : decode cX4_is 0 = .ok (.iload_n 1, 1) := by decide +kernel
theorem dX4_is_1 : decode cX4_is 1 = .ok (.invokestatic 136, 3) := by decide +kernel
theorem dX4_is_4 : decode cX4_is 4 = .ok (.ifCond .eq 10, 3) := by decide +kernel
theorem dX4_is_7 : decode cX4_is 7 = .ok (.iload_n 2, 1) := by decide +kernel
theorem dX4_is_8 : decode cX4_is 8 = .ok (.invokestatic 136, 3) := by decide +kernel
theorem dX4_is_11 : decode cX4_is 11 = .ok (.ifCond .ne 7, 3) := by decide +kernel
theorem dX4_is_14 : decode cX4_is 14 = .ok (.iconst (-1), 1) := by decide +kernel
theorem dX4_is_15 : decode cX4_is 15 = .ok (.goto 17, 3) := by decide +kernel
theorem dX4_is_18 : decode cX4_is 18 = .ok (.aload_n 0, 1) := by decide +kernel
theorem dX4_is_19 : decode cX4_is 19 = .ok (.iload_n 1, 1) := by decide +kernel
theorem dX4_is_20 : decode cX4_is 20 = .ok (.iload_n 2, 1) := by decide +kernel
theorem dX4_is_21 : decode cX4_is 21 = .ok (.invokevirtual 157, 3) := by decide +kernel
theorem dX4_is_24 : decode cX4_is 24 = .ok (.ifCond .eq 7, 3) := by decide +kernel
theorem dX4_is_27 : decode cX4_is 27 = .ok (.iconst 1, 1) := by decide +kernel
theorem dX4_is_28 : decode cX4_is 28 = .ok (.goto 4, 3) := by decide +kernel
theorem dX4_is_31 : decode cX4_is 31 = .ok (.iconst 0, 1) := by decide +kernel
theorem dX4_is_32 : decode cX4_is 32 = .ok (.ireturn, 1) := by decide +kernel
theorem q49 : (Jvm.Cond.initialized "EventHunterModel") ∈ lw_all := lw_g (lw_at lw_m1 5 rfl) rfl
theorem q501 : (Jvm.Cond.instantiable "EventHunterModel" (48 : Nat)) ∈ lw_all := lw_g (lw_at lw_m2 217 rfl) rfl
theorem q503 : (Jvm.Cond.instanceMethod ({ cls := "EventHunterModel", name := "<init>", desc := "()V" } : Jvm.MethodName)) ∈ lw_all := lw_g (lw_at lw_m2 219 rfl) rfl
theorem q504 : (Jvm.Cond.code ({ cls := "EventHunterModel", name := "<init>", desc := "()V" } : Jvm.MethodName) prog_6_method_1_code (1 : Nat) (Option.none : Option Jvm.ClassFile.FieldType)) ∈ lw_all := lw_g (lw_at lw_m2 220 rfl) rfl
theorem q505 : (Jvm.Cond.methodLink "EventHunterModel" (1 : Nat) ({ cls := "java/lang/Object", name := "<init>", desc := "()V" } : Jvm.MethodName)) ∈ lw_all := lw_g (lw_at lw_m2 221 rfl) rfl
theorem q506 : (Jvm.Cond.constant "EventHunterModel" (89 : Nat) (38592 : Int32)) ∈ lw_all := lw_g (lw_at lw_m2 222 rfl) rfl
theorem q507 : (Jvm.Cond.fieldLink "EventHunterModel" (7 : Nat) "EventHunterModel" "parent" "[I") ∈ lw_all := lw_g (lw_at lw_m2 223 rfl) rfl
theorem q508 : (Jvm.Cond.fieldLink "EventHunterModel" (13 : Nat) "EventHunterModel" "now" "[I") ∈ lw_all := lw_g (lw_at lw_m2 224 rfl) rfl
theorem q509 : (Jvm.Cond.fieldLink "EventHunterModel" (208 : Nat) "EventHunterModel" "waiting" "I") ∈ lw_all := lw_g (lw_at lw_m2 225 rfl) rfl
theorem q510 : (Jvm.Cond.fieldLink "EventHunterModel" (16 : Nat) "EventHunterModel" "waitKind" "[I") ∈ lw_all := lw_g (lw_at lw_m2 226 rfl) rfl
theorem q511 : (Jvm.Cond.fieldLink "EventHunterModel" (19 : Nat) "EventHunterModel" "waitMinute" "[I") ∈ lw_all := lw_g (lw_at lw_m2 227 rfl) rfl
theorem q512 : (Jvm.Cond.fieldLink "EventHunterModel" (22 : Nat) "EventHunterModel" "waitNumber" "[I") ∈ lw_all := lw_g (lw_at lw_m2 228 rfl) rfl
theorem q513 : (Jvm.Cond.fieldLink "EventHunterModel" (25 : Nat) "EventHunterModel" "waitField" "[I") ∈ lw_all := lw_g (lw_at lw_m2 229 rfl) rfl
theorem q514 : (Jvm.Cond.fieldLink "EventHunterModel" (154 : Nat) "EventHunterModel" "events" "I") ∈ lw_all := lw_g (lw_at lw_m2 230 rfl) rfl
theorem q515 : (Jvm.Cond.fieldLink "EventHunterModel" (28 : Nat) "EventHunterModel" "kindOf" "[I") ∈ lw_all := lw_g (lw_at lw_m2 231 rfl) rfl
theorem q516 : (Jvm.Cond.fieldLink "EventHunterModel" (31 : Nat) "EventHunterModel" "minuteOf" "[I") ∈ lw_all := lw_g (lw_at lw_m2 232 rfl) rfl
theorem q517 : (Jvm.Cond.fieldLink "EventHunterModel" (34 : Nat) "EventHunterModel" "numberOf" "[I") ∈ lw_all := lw_g (lw_at lw_m2 233 rfl) rfl
theorem q518 : (Jvm.Cond.fieldLink "EventHunterModel" (37 : Nat) "EventHunterModel" "fieldOf" "[I") ∈ lw_all := lw_g (lw_at lw_m2 234 rfl) rfl
theorem q519 : (Jvm.Cond.fieldLink "EventHunterModel" (211 : Nat) "EventHunterModel" "mark" "I") ∈ lw_all := lw_g (lw_at lw_m2 235 rfl) rfl
theorem q520 : (Jvm.Cond.fieldLink "EventHunterModel" (214 : Nat) "EventHunterModel" "left" "I") ∈ lw_all := lw_g (lw_at lw_m2 236 rfl) rfl
theorem q521 : (Jvm.Cond.fieldLink "EventHunterModel" (133 : Nat) "EventHunterModel" "patterns" "I") ∈ lw_all := lw_g (lw_at lw_m2 237 rfl) rfl
theorem q522 : (Jvm.Cond.fieldLink "EventHunterModel" (40 : Nat) "EventHunterModel" "within" "[I") ∈ lw_all := lw_g (lw_at lw_m2 238 rfl) rfl
theorem q523 : (Jvm.Cond.fieldLink "EventHunterModel" (43 : Nat) "EventHunterModel" "way" "[I") ∈ lw_all := lw_g (lw_at lw_m2 239 rfl) rfl
theorem q524 : (Jvm.Cond.fieldLink "EventHunterModel" (46 : Nat) "EventHunterModel" "key" "[I") ∈ lw_all := lw_g (lw_at lw_m3 0 rfl) rfl
theorem q525 : (Jvm.Cond.fieldLink "EventHunterModel" (49 : Nat) "EventHunterModel" "steps" "[I") ∈ lw_all := lw_g (lw_at lw_m3 1 rfl) rfl
theorem q526 : (Jvm.Cond.fieldLink "EventHunterModel" (52 : Nat) "EventHunterModel" "since" "[I") ∈ lw_all := lw_g (lw_at lw_m3 2 rfl) rfl
theorem q527 : (Jvm.Cond.fieldLink "EventHunterModel" (55 : Nat) "EventHunterModel" "begun" "[Z") ∈ lw_all := lw_g (lw_at lw_m3 3 rfl) rfl
theorem q528 : (Jvm.Cond.fieldLink "EventHunterModel" (59 : Nat) "EventHunterModel" "spent" "[Z") ∈ lw_all := lw_g (lw_at lw_m3 4 rfl) rfl
theorem q529 : (Jvm.Cond.fieldLink "EventHunterModel" (62 : Nat) "EventHunterModel" "told" "[I") ∈ lw_all := lw_g (lw_at lw_m3 5 rfl) rfl
theorem q530 : (Jvm.Cond.fieldLink "EventHunterModel" (65 : Nat) "EventHunterModel" "stepSort" "[I") ∈ lw_all := lw_g (lw_at lw_m3 6 rfl) rfl
theorem q531 : (Jvm.Cond.fieldLink "EventHunterModel" (68 : Nat) "EventHunterModel" "stepKind" "[I") ∈ lw_all := lw_g (lw_at lw_m3 7 rfl) rfl
theorem q532 : (Jvm.Cond.fieldLink "EventHunterModel" (71 : Nat) "EventHunterModel" "stepTest" "[I") ∈ lw_all := lw_g (lw_at lw_m3 8 rfl) rfl
theorem q533 : (Jvm.Cond.fieldLink "EventHunterModel" (74 : Nat) "EventHunterModel" "stepField" "[I") ∈ lw_all := lw_g (lw_at lw_m3 9 rfl) rfl
theorem q534 : (Jvm.Cond.fieldLink "EventHunterModel" (77 : Nat) "EventHunterModel" "stepThan" "[I") ∈ lw_all := lw_g (lw_at lw_m3 10 rfl) rfl
theorem q535 : (Jvm.Cond.fieldLink "EventHunterModel" (80 : Nat) "EventHunterModel" "runs" "[I") ∈ lw_all := lw_g (lw_at lw_m3 11 rfl) rfl
theorem q536 : (Jvm.Cond.fieldLink "EventHunterModel" (83 : Nat) "EventHunterModel" "length" "[I") ∈ lw_all := lw_g (lw_at lw_m3 12 rfl) rfl
theorem q537 : (Jvm.Cond.fieldLink "EventHunterModel" (86 : Nat) "EventHunterModel" "hurt" "[Z") ∈ lw_all := lw_g (lw_at lw_m3 13 rfl) rfl
theorem q538 : (Jvm.Cond.fieldLink "EventHunterModel" (90 : Nat) "EventHunterModel" "runEvent" "[I") ∈ lw_all := lw_g (lw_at lw_m3 14 rfl) rfl
theorem q539 : (Jvm.Cond.fieldLink "EventHunterModel" (93 : Nat) "EventHunterModel" "runStep" "[I") ∈ lw_all := lw_g (lw_at lw_m3 15 rfl) rfl
theorem q540 : (Jvm.Cond.fieldLink "EventHunterModel" (96 : Nat) "EventHunterModel" "gone" "[Z") ∈ lw_all := lw_g (lw_at lw_m3 16 rfl) rfl
theorem q541 : (Jvm.Cond.fieldLink "EventHunterModel" (167 : Nat) "EventHunterModel" "matches" "I") ∈ lw_all := lw_g (lw_at lw_m3 17 rfl) rfl
theorem q542 : (Jvm.Cond.fieldLink "EventHunterModel" (99 : Nat) "EventHunterModel" "matchPattern" "[I") ∈ lw_all := lw_g (lw_at lw_m3 18 rfl) rfl
theorem q543 : (Jvm.Cond.fieldLink "EventHunterModel" (102 : Nat) "EventHunterModel" "matchLength" "[I") ∈ lw_all := lw_g (lw_at lw_m3 19 rfl) rfl
theorem q544 : (Jvm.Cond.fieldLink "EventHunterModel" (105 : Nat) "EventHunterModel" "matchEvent" "[I") ∈ lw_all := lw_g (lw_at lw_m3 20 rfl) rfl
theorem q545 : (Jvm.Cond.fieldLink "EventHunterModel" (108 : Nat) "EventHunterModel" "matchStep" "[I") ∈ lw_all := lw_g (lw_at lw_m3 21 rfl) rfl
theorem q546 : (Jvm.Cond.fieldLink "EventHunterModel" (111 : Nat) "EventHunterModel" "rowEvent" "[I") ∈ lw_all := lw_g (lw_at lw_m3 22 rfl) rfl
theorem q547 : (Jvm.Cond.fieldLink "EventHunterModel" (114 : Nat) "EventHunterModel" "rowStep" "[I") ∈ lw_all := lw_g (lw_at lw_m3 23 rfl) rfl
theorem q548 : (Jvm.Cond.fieldLink "EventHunterModel" (160 : Nat) "EventHunterModel" "rowMany" "I") ∈ lw_all := lw_g (lw_at lw_m3 24 rfl) rfl
theorem q549 : (Jvm.Cond.fieldLink "EventHunterModel" (117 : Nat) "EventHunterModel" "move" "[I") ∈ lw_all := lw_g (lw_at lw_m3 25 rfl) rfl
theorem q550 : (Jvm.Cond.fieldLink "EventHunterModel" (170 : Nat) "EventHunterModel" "moves" "I") ∈ lw_all := lw_g (lw_at lw_m3 26 rfl) rfl
theorem q551 : (Jvm.Cond.fieldLink "EventHunterModel" (120 : Nat) "EventHunterModel" "held" "[Z") ∈ lw_all := lw_g (lw_at lw_m3 27 rfl) rfl
theorem q552 : (Jvm.Cond.fieldLink "EventHunterModel" (123 : Nat) "EventHunterModel" "triedEvent" "[I") ∈ lw_all := lw_g (lw_at lw_m3 28 rfl) rfl
theorem q553 : (Jvm.Cond.fieldLink "EventHunterModel" (126 : Nat) "EventHunterModel" "triedStep" "[I") ∈ lw_all := lw_g (lw_at lw_m3 29 rfl) rfl
theorem q554 : (Jvm.Cond.lays "EventHunterModel" "EventHunterModel" "code" "I") ∈ lw_all := lw_g (lw_at lw_m3 30 rfl) rfl
theorem q555 : (Jvm.Cond.soleField "EventHunterModel" "code") ∈ lw_all := lw_g (lw_at lw_m3 31 rfl) rfl
theorem q556 : (Jvm.Cond.laysFinal "EventHunterModel" "EventHunterModel" "parent" "[I") ∈ lw_all := lw_g (lw_at lw_m3 32 rfl) rfl
theorem q557 : (Jvm.Cond.soleField "EventHunterModel" "parent") ∈ lw_all := lw_g (lw_at lw_m3 33 rfl) rfl
theorem q558 : (Jvm.Cond.laysFinal "EventHunterModel" "EventHunterModel" "now" "[I") ∈ lw_all := lw_g (lw_at lw_m3 34 rfl) rfl
theorem q559 : (Jvm.Cond.soleField "EventHunterModel" "now") ∈ lw_all := lw_g (lw_at lw_m3 35 rfl) rfl
theorem q560 : (Jvm.Cond.lays "EventHunterModel" "EventHunterModel" "waiting" "I") ∈ lw_all := lw_g (lw_at lw_m3 36 rfl) rfl
theorem q561 : (Jvm.Cond.soleField "EventHunterModel" "waiting") ∈ lw_all := lw_g (lw_at lw_m3 37 rfl) rfl
theorem q562 : (Jvm.Cond.laysFinal "EventHunterModel" "EventHunterModel" "waitKind" "[I") ∈ lw_all := lw_g (lw_at lw_m3 38 rfl) rfl
theorem q563 : (Jvm.Cond.soleField "EventHunterModel" "waitKind") ∈ lw_all := lw_g (lw_at lw_m3 39 rfl) rfl
theorem q564 : (Jvm.Cond.laysFinal "EventHunterModel" "EventHunterModel" "waitMinute" "[I") ∈ lw_all := lw_g (lw_at lw_m3 40 rfl) rfl
theorem q565 : (Jvm.Cond.soleField "EventHunterModel" "waitMinute") ∈ lw_all := lw_g (lw_at lw_m3 41 rfl) rfl
theorem q566 : (Jvm.Cond.laysFinal "EventHunterModel" "EventHunterModel" "waitNumber" "[I") ∈ lw_all := lw_g (lw_at lw_m3 42 rfl) rfl
theorem q567 : (Jvm.Cond.soleField "EventHunterModel" "waitNumber") ∈ lw_all := lw_g (lw_at lw_m3 43 rfl) rfl
theorem q568 : (Jvm.Cond.laysFinal "EventHunterModel" "EventHunterModel" "waitField" "[I") ∈ lw_all := lw_g (lw_at lw_m3 44 rfl) rfl
theorem q569 : (Jvm.Cond.soleField "EventHunterModel" "waitField") ∈ lw_all := lw_g (lw_at lw_m3 45 rfl) rfl
theorem q570 : (Jvm.Cond.lays "EventHunterModel" "EventHunterModel" "events" "I") ∈ lw_all := lw_g (lw_at lw_m3 46 rfl) rfl
theorem q571 : (Jvm.Cond.soleField "EventHunterModel" "events") ∈ lw_all := lw_g (lw_at lw_m3 47 rfl) rfl
theorem q572 : (Jvm.Cond.laysFinal "EventHunterModel" "EventHunterModel" "kindOf" "[I") ∈ lw_all := lw_g (lw_at lw_m3 48 rfl) rfl
theorem q573 : (Jvm.Cond.soleField "EventHunterModel" "kindOf") ∈ lw_all := lw_g (lw_at lw_m3 49 rfl) rfl
theorem q574 : (Jvm.Cond.laysFinal "EventHunterModel" "EventHunterModel" "minuteOf" "[I") ∈ lw_all := lw_g (lw_at lw_m3 50 rfl) rfl
theorem q575 : (Jvm.Cond.soleField "EventHunterModel" "minuteOf") ∈ lw_all := lw_g (lw_at lw_m3 51 rfl) rfl
theorem q576 : (Jvm.Cond.laysFinal "EventHunterModel" "EventHunterModel" "numberOf" "[I") ∈ lw_all := lw_g (lw_at lw_m3 52 rfl) rfl
theorem q577 : (Jvm.Cond.soleField "EventHunterModel" "numberOf") ∈ lw_all := lw_g (lw_at lw_m3 53 rfl) rfl
theorem q578 : (Jvm.Cond.laysFinal "EventHunterModel" "EventHunterModel" "fieldOf" "[I") ∈ lw_all := lw_g (lw_at lw_m3 54 rfl) rfl
theorem q579 : (Jvm.Cond.soleField "EventHunterModel" "fieldOf") ∈ lw_all := lw_g (lw_at lw_m3 55 rfl) rfl
theorem q580 : (Jvm.Cond.lays "EventHunterModel" "EventHunterModel" "mark" "I") ∈ lw_all := lw_g (lw_at lw_m3 56 rfl) rfl
theorem q581 : (Jvm.Cond.soleField "EventHunterModel" "mark") ∈ lw_all := lw_g (lw_at lw_m3 57 rfl) rfl
theorem q582 : (Jvm.Cond.lays "EventHunterModel" "EventHunterModel" "left" "I") ∈ lw_all := lw_g (lw_at lw_m3 58 rfl) rfl
theorem q583 : (Jvm.Cond.soleField "EventHunterModel" "left") ∈ lw_all := lw_g (lw_at lw_m3 59 rfl) rfl
theorem q584 : (Jvm.Cond.lays "EventHunterModel" "EventHunterModel" "patterns" "I") ∈ lw_all := lw_g (lw_at lw_m3 60 rfl) rfl
theorem q585 : (Jvm.Cond.soleField "EventHunterModel" "patterns") ∈ lw_all := lw_g (lw_at lw_m3 61 rfl) rfl
theorem q586 : (Jvm.Cond.laysFinal "EventHunterModel" "EventHunterModel" "within" "[I") ∈ lw_all := lw_g (lw_at lw_m3 62 rfl) rfl
theorem q587 : (Jvm.Cond.soleField "EventHunterModel" "within") ∈ lw_all := lw_g (lw_at lw_m3 63 rfl) rfl
theorem q588 : (Jvm.Cond.laysFinal "EventHunterModel" "EventHunterModel" "way" "[I") ∈ lw_all := lw_g (lw_at lw_m3 64 rfl) rfl
theorem q589 : (Jvm.Cond.soleField "EventHunterModel" "way") ∈ lw_all := lw_g (lw_at lw_m3 65 rfl) rfl
theorem q590 : (Jvm.Cond.laysFinal "EventHunterModel" "EventHunterModel" "key" "[I") ∈ lw_all := lw_g (lw_at lw_m3 66 rfl) rfl
theorem q591 : (Jvm.Cond.soleField "EventHunterModel" "key") ∈ lw_all := lw_g (lw_at lw_m3 67 rfl) rfl
theorem q592 : (Jvm.Cond.laysFinal "EventHunterModel" "EventHunterModel" "steps" "[I") ∈ lw_all := lw_g (lw_at lw_m3 68 rfl) rfl
theorem q593 : (Jvm.Cond.soleField "EventHunterModel" "steps") ∈ lw_all := lw_g (lw_at lw_m3 69 rfl) rfl
theorem q594 : (Jvm.Cond.laysFinal "EventHunterModel" "EventHunterModel" "since" "[I") ∈ lw_all := lw_g (lw_at lw_m3 70 rfl) rfl
theorem q595 : (Jvm.Cond.soleField "EventHunterModel" "since") ∈ lw_all := lw_g (lw_at lw_m3 71 rfl) rfl
theorem q596 : (Jvm.Cond.laysFinal "EventHunterModel" "EventHunterModel" "begun" "[Z") ∈ lw_all := lw_g (lw_at lw_m3 72 rfl) rfl
theorem q597 : (Jvm.Cond.soleField "EventHunterModel" "begun") ∈ lw_all := lw_g (lw_at lw_m3 73 rfl) rfl
theorem q598 : (Jvm.Cond.laysFinal "EventHunterModel" "EventHunterModel" "spent" "[Z") ∈ lw_all := lw_g (lw_at lw_m3 74 rfl) rfl
theorem q599 : (Jvm.Cond.soleField "EventHunterModel" "spent") ∈ lw_all := lw_g (lw_at lw_m3 75 rfl) rfl
theorem q600 : (Jvm.Cond.laysFinal "EventHunterModel" "EventHunterModel" "told" "[I") ∈ lw_all := lw_g (lw_at lw_m3 76 rfl) rfl
theorem q601 : (Jvm.Cond.soleField "EventHunterModel" "told") ∈ lw_all := lw_g (lw_at lw_m3 77 rfl) rfl
theorem q602 : (Jvm.Cond.laysFinal "EventHunterModel" "EventHunterModel" "stepSort" "[I") ∈ lw_all := lw_g (lw_at lw_m3 78 rfl) rfl
theorem q603 : (Jvm.Cond.soleField "EventHunterModel" "stepSort") ∈ lw_all := lw_g (lw_at lw_m3 79 rfl) rfl
theorem q604 : (Jvm.Cond.laysFinal "EventHunterModel" "EventHunterModel" "stepKind" "[I") ∈ lw_all := lw_g (lw_at lw_m3 80 rfl) rfl
theorem q605 : (Jvm.Cond.soleField "EventHunterModel" "stepKind") ∈ lw_all := lw_g (lw_at lw_m3 81 rfl) rfl
theorem q606 : (Jvm.Cond.laysFinal "EventHunterModel" "EventHunterModel" "stepTest" "[I") ∈ lw_all := lw_g (lw_at lw_m3 82 rfl) rfl
theorem q607 : (Jvm.Cond.soleField "EventHunterModel" "stepTest") ∈ lw_all := lw_g (lw_at lw_m3 83 rfl) rfl
theorem q608 : (Jvm.Cond.laysFinal "EventHunterModel" "EventHunterModel" "stepField" "[I") ∈ lw_all := lw_g (lw_at lw_m3 84 rfl) rfl
theorem q609 : (Jvm.Cond.soleField "EventHunterModel" "stepField") ∈ lw_all := lw_g (lw_at lw_m3 85 rfl) rfl
theorem q610 : (Jvm.Cond.laysFinal "EventHunterModel" "EventHunterModel" "stepThan" "[I") ∈ lw_all := lw_g (lw_at lw_m3 86 rfl) rfl
theorem q611 : (Jvm.Cond.soleField "EventHunterModel" "stepThan") ∈ lw_all := lw_g (lw_at lw_m3 87 rfl) rfl
theorem q612 : (Jvm.Cond.laysFinal "EventHunterModel" "EventHunterModel" "runs" "[I") ∈ lw_all := lw_g (lw_at lw_m3 88 rfl) rfl
theorem q613 : (Jvm.Cond.soleField "EventHunterModel" "runs") ∈ lw_all := lw_g (lw_at lw_m3 89 rfl) rfl
theorem q614 : (Jvm.Cond.laysFinal "EventHunterModel" "EventHunterModel" "length" "[I") ∈ lw_all := lw_g (lw_at lw_m3 90 rfl) rfl
theorem q615 : (Jvm.Cond.soleField "EventHunterModel" "length") ∈ lw_all := lw_g (lw_at lw_m3 91 rfl) rfl
theorem q616 : (Jvm.Cond.laysFinal "EventHunterModel" "EventHunterModel" "hurt" "[Z") ∈ lw_all := lw_g (lw_at lw_m3 92 rfl) rfl
theorem q617 : (Jvm.Cond.soleField "EventHunterModel" "hurt") ∈ lw_all := lw_g (lw_at lw_m3 93 rfl) rfl
theorem q618 : (Jvm.Cond.laysFinal "EventHunterModel" "EventHunterModel" "runEvent" "[I") ∈ lw_all := lw_g (lw_at lw_m3 94 rfl) rfl
theorem q619 : (Jvm.Cond.soleField "EventHunterModel" "runEvent") ∈ lw_all := lw_g (lw_at lw_m3 95 rfl) rfl
theorem q620 : (Jvm.Cond.laysFinal "EventHunterModel" "EventHunterModel" "runStep" "[I") ∈ lw_all := lw_g (lw_at lw_m3 96 rfl) rfl
theorem q621 : (Jvm.Cond.soleField "EventHunterModel" "runStep") ∈ lw_all := lw_g (lw_at lw_m3 97 rfl) rfl
theorem q622 : (Jvm.Cond.laysFinal "EventHunterModel" "EventHunterModel" "gone" "[Z") ∈ lw_all := lw_g (lw_at lw_m3 98 rfl) rfl
theorem q623 : (Jvm.Cond.soleField "EventHunterModel" "gone") ∈ lw_all := lw_g (lw_at lw_m3 99 rfl) rfl
theorem q624 : (Jvm.Cond.lays "EventHunterModel" "EventHunterModel" "matches" "I") ∈ lw_all := lw_g (lw_at lw_m3 100 rfl) rfl
theorem q625 : (Jvm.Cond.soleField "EventHunterModel" "matches") ∈ lw_all := lw_g (lw_at lw_m3 101 rfl) rfl
theorem q626 : (Jvm.Cond.laysFinal "EventHunterModel" "EventHunterModel" "matchPattern" "[I") ∈ lw_all := lw_g (lw_at lw_m3 102 rfl) rfl
theorem q627 : (Jvm.Cond.soleField "EventHunterModel" "matchPattern") ∈ lw_all := lw_g (lw_at lw_m3 103 rfl) rfl
theorem q628 : (Jvm.Cond.laysFinal "EventHunterModel" "EventHunterModel" "matchLength" "[I") ∈ lw_all := lw_g (lw_at lw_m3 104 rfl) rfl
theorem q629 : (Jvm.Cond.soleField "EventHunterModel" "matchLength") ∈ lw_all := lw_g (lw_at lw_m3 105 rfl) rfl
theorem q630 : (Jvm.Cond.laysFinal "EventHunterModel" "EventHunterModel" "matchEvent" "[I") ∈ lw_all := lw_g (lw_at lw_m3 106 rfl) rfl
theorem q631 : (Jvm.Cond.soleField "EventHunterModel" "matchEvent") ∈ lw_all := lw_g (lw_at lw_m3 107 rfl) rfl
theorem q632 : (Jvm.Cond.laysFinal "EventHunterModel" "EventHunterModel" "matchStep" "[I") ∈ lw_all := lw_g (lw_at lw_m3 108 rfl) rfl
theorem q633 : (Jvm.Cond.soleField "EventHunterModel" "matchStep") ∈ lw_all := lw_g (lw_at lw_m3 109 rfl) rfl
theorem q634 : (Jvm.Cond.laysFinal "EventHunterModel" "EventHunterModel" "rowEvent" "[I") ∈ lw_all := lw_g (lw_at lw_m3 110 rfl) rfl
theorem q635 : (Jvm.Cond.soleField "EventHunterModel" "rowEvent") ∈ lw_all := lw_g (lw_at lw_m3 111 rfl) rfl
theorem q636 : (Jvm.Cond.laysFinal "EventHunterModel" "EventHunterModel" "rowStep" "[I") ∈ lw_all := lw_g (lw_at lw_m3 112 rfl) rfl
theorem q637 : (Jvm.Cond.soleField "EventHunterModel" "rowStep") ∈ lw_all := lw_g (lw_at lw_m3 113 rfl) rfl
theorem q638 : (Jvm.Cond.lays "EventHunterModel" "EventHunterModel" "rowMany" "I") ∈ lw_all := lw_g (lw_at lw_m3 114 rfl) rfl
theorem q639 : (Jvm.Cond.soleField "EventHunterModel" "rowMany") ∈ lw_all := lw_g (lw_at lw_m3 115 rfl) rfl
theorem q640 : (Jvm.Cond.laysFinal "EventHunterModel" "EventHunterModel" "move" "[I") ∈ lw_all := lw_g (lw_at lw_m3 116 rfl) rfl
theorem q641 : (Jvm.Cond.soleField "EventHunterModel" "move") ∈ lw_all := lw_g (lw_at lw_m3 117 rfl) rfl
theorem q642 : (Jvm.Cond.lays "EventHunterModel" "EventHunterModel" "moves" "I") ∈ lw_all := lw_g (lw_at lw_m3 118 rfl) rfl
theorem q643 : (Jvm.Cond.soleField "EventHunterModel" "moves") ∈ lw_all := lw_g (lw_at lw_m3 119 rfl) rfl
theorem q644 : (Jvm.Cond.laysFinal "EventHunterModel" "EventHunterModel" "held" "[Z") ∈ lw_all := lw_g (lw_at lw_m3 120 rfl) rfl
theorem q645 : (Jvm.Cond.soleField "EventHunterModel" "held") ∈ lw_all := lw_g (lw_at lw_m3 121 rfl) rfl
theorem q646 : (Jvm.Cond.laysFinal "EventHunterModel" "EventHunterModel" "triedEvent" "[I") ∈ lw_all := lw_g (lw_at lw_m3 122 rfl) rfl
theorem q647 : (Jvm.Cond.soleField "EventHunterModel" "triedEvent") ∈ lw_all := lw_g (lw_at lw_m3 123 rfl) rfl
theorem q648 : (Jvm.Cond.laysFinal "EventHunterModel" "EventHunterModel" "triedStep" "[I") ∈ lw_all := lw_g (lw_at lw_m3 124 rfl) rfl
theorem q649 : (Jvm.Cond.soleField "EventHunterModel" "triedStep") ∈ lw_all := lw_g (lw_at lw_m3 125 rfl) rfl
theorem q650 : (Jvm.Cond.superclass "EventHunterModel" "java/lang/Object") ∈ lw_all := lw_g (lw_at lw_m3 126 rfl) rfl
theorem q652 : (Jvm.Cond.instanceMethod ({ cls := "EventHunterModel", name := "parent", desc := "(II)I" } : Jvm.MethodName)) ∈ lw_all := lw_g (lw_at lw_m3 128 rfl) rfl
theorem q653 : (Jvm.Cond.selects "EventHunterModel" ({ cls := "EventHunterModel", name := "parent", desc := "(II)I" } : Jvm.MethodName) ({ cls := "EventHunterModel", name := "parent", desc := "(II)I" } : Jvm.MethodName)) ∈ lw_all := lw_g (lw_at lw_m3 129 rfl) rfl
theorem q654 : (Jvm.Cond.code ({ cls := "EventHunterModel", name := "parent", desc := "(II)I" } : Jvm.MethodName) prog_6_method_6_code (4 : Nat) (Option.some Jvm.ClassFile.FieldType.int)) ∈ lw_all := lw_g (lw_at lw_m3 130 rfl) rfl
theorem q655 : (Jvm.Cond.methodLink "EventHunterModel" (136 : Nat) ({ cls := "EventHunterModel", name := "isKind", desc := "(I)Z" } : Jvm.MethodName)) ∈ lw_all := lw_g (lw_at lw_m3 131 rfl) rfl
theorem q656 : (Jvm.Cond.static ({ cls := "EventHunterModel", name := "isKind", desc := "(I)Z" } : Jvm.MethodName)) ∈ lw_all := lw_g (lw_at lw_m3 132 rfl) rfl
theorem q657 : (Jvm.Cond.code ({ cls := "EventHunterModel", name := "isKind", desc := "(I)Z" } : Jvm.MethodName) prog_6_method_3_code (1 : Nat) (Option.some Jvm.ClassFile.FieldType.boolean)) ∈ lw_all := lw_g (lw_at lw_m3 133 rfl) rfl
theorem q659 : (Jvm.Cond.instanceMethod ({ cls := "EventHunterModel", name := "pattern", desc := "(III)I" } : Jvm.MethodName)) ∈ lw_all := lw_g (lw_at lw_m3 135 rfl) rfl
theorem q660 : (Jvm.Cond.selects "EventHunterModel" ({ cls := "EventHunterModel", name := "pattern", desc := "(III)I" } : Jvm.MethodName) ({ cls := "EventHunterModel", name := "pattern", desc := "(III)I" } : Jvm.MethodName)) ∈ lw_all := lw_g (lw_at lw_m3 136 rfl) rfl
theorem q661 : (Jvm.Cond.code ({ cls := "EventHunterModel", name := "pattern", desc := "(III)I" } : Jvm.MethodName) prog_6_method_7_code (5 : Nat) (Option.some Jvm.ClassFile.FieldType.int)) ∈ lw_all := lw_g (lw_at lw_m3 137 rfl) rfl
theorem q663 : (Jvm.Cond.instanceMethod ({ cls := "EventHunterModel", name := "step", desc := "(IIIIII)I" } : Jvm.MethodName)) ∈ lw_all := lw_g (lw_at lw_m3 139 rfl) rfl
theorem q664 : (Jvm.Cond.selects "EventHunterModel" ({ cls := "EventHunterModel", name := "step", desc := "(IIIIII)I" } : Jvm.MethodName) ({ cls := "EventHunterModel", name := "step", desc := "(IIIIII)I" } : Jvm.MethodName)) ∈ lw_all := lw_g (lw_at lw_m3 140 rfl) rfl
theorem q665 : (Jvm.Cond.code ({ cls := "EventHunterModel", name := "step", desc := "(IIIIII)I" } : Jvm.MethodName) prog_6_method_11_code (8 : Nat) (Option.some Jvm.ClassFile.FieldType.int)) ∈ lw_all := lw_g (lw_at lw_m3 141 rfl) rfl
theorem q666 : (Jvm.Cond.methodLink "EventHunterModel" (143 : Nat) ({ cls := "EventHunterModel", name := "isPattern", desc := "(I)Z" } : Jvm.MethodName)) ∈ lw_all := lw_g (lw_at lw_m3 142 rfl) rfl
theorem q667 : (Jvm.Cond.privateMethod ({ cls := "EventHunterModel", name := "isPattern", desc := "(I)Z" } : Jvm.MethodName)) ∈ lw_tbl := lw_at lw_m3 143 rfl
theorem q668 : (Jvm.Cond.instanceMethod ({ cls := "EventHunterModel", name := "isPattern", desc := "(I)Z" } : Jvm.MethodName)) ∈ lw_all := lw_g (lw_at lw_m3 144 rfl) rfl
theorem q669 : (Jvm.Cond.code ({ cls := "EventHunterModel", name := "isPattern", desc := "(I)Z" } : Jvm.MethodName) prog_6_method_5_code (2 : Nat) (Option.some Jvm.ClassFile.FieldType.boolean)) ∈ lw_all := lw_g (lw_at lw_m3 145 rfl) rfl
theorem q670 : (Jvm.Cond.methodLink "EventHunterModel" (146 : Nat) ({ cls := "EventHunterModel", name := "isTest", desc := "(IIII)Z" } : Jvm.MethodName)) ∈ lw_all := lw_g (lw_at lw_m3 146 rfl) rfl
theorem q671 : (Jvm.Cond.static ({ cls := "EventHunterModel", name := "isTest", desc := "(IIII)Z" } : Jvm.MethodName)) ∈ lw_all := lw_g (lw_at lw_m3 147 rfl) rfl
theorem q672 : (Jvm.Cond.code ({ cls := "EventHunterModel", name := "isTest", desc := "(IIII)Z" } : Jvm.MethodName) prog_6_method_10_code (4 : Nat) (Option.some Jvm.ClassFile.FieldType.boolean)) ∈ lw_all := lw_g (lw_at lw_m3 148 rfl) rfl
theorem q673 : (Jvm.Cond.methodLink "EventHunterModel" (150 : Nat) ({ cls := "EventHunterModel", name := "mayStand", desc := "(II)Z" } : Jvm.MethodName)) ∈ lw_all := lw_g (lw_at lw_m3 149 rfl) rfl
theorem q674 : (Jvm.Cond.privateMethod ({ cls := "EventHunterModel", name := "mayStand", desc := "(II)Z" } : Jvm.MethodName)) ∈ lw_tbl := lw_at lw_m3 150 rfl
theorem q675 : (Jvm.Cond.instanceMethod ({ cls := "EventHunterModel", name := "mayStand", desc := "(II)Z" } : Jvm.MethodName)) ∈ lw_all := lw_g (lw_at lw_m3 151 rfl) rfl
theorem q676 : (Jvm.Cond.code ({ cls := "EventHunterModel", name := "mayStand", desc := "(II)Z" } : Jvm.MethodName) prog_6_method_9_code (4 : Nat) (Option.some Jvm.ClassFile.FieldType.boolean)) ∈ lw_all := lw_g (lw_at lw_m3 152 rfl) rfl
theorem q677 : (Jvm.Cond.methodLink "EventHunterModel" (140 : Nat) ({ cls := "EventHunterModel", name := "isSure", desc := "(I)Z" } : Jvm.MethodName)) ∈ lw_all := lw_g (lw_at lw_m3 153 rfl) rfl
theorem q678 : (Jvm.Cond.static ({ cls := "EventHunterModel", name := "isSure", desc := "(I)Z" } : Jvm.MethodName)) ∈ lw_all := lw_g (lw_at lw_m3 154 rfl) rfl
theorem q679 : (Jvm.Cond.code ({ cls := "EventHunterModel", name := "isSure", desc := "(I)Z" } : Jvm.MethodName) prog_6_method_8_code (1 : Nat) (Option.some Jvm.ClassFile.FieldType.boolean)) ∈ lw_all := lw_g (lw_at lw_m3 155 rfl) rfl
theorem q681 : (Jvm.Cond.instanceMethod ({ cls := "EventHunterModel", name := "fields", desc := "(IIII)I" } : Jvm.MethodName)) ∈ lw_all := lw_g (lw_at lw_m3 157 rfl) rfl
theorem q682 : (Jvm.Cond.selects "EventHunterModel" ({ cls := "EventHunterModel", name := "fields", desc := "(IIII)I" } : Jvm.MethodName) ({ cls := "EventHunterModel", name := "fields", desc := "(IIII)I" } : Jvm.MethodName)) ∈ lw_all := lw_g (lw_at lw_m3 158 rfl) rfl
theorem q683 : (Jvm.Cond.code ({ cls := "EventHunterModel", name := "fields", desc := "(IIII)I" } : Jvm.MethodName) prog_6_method_24_code (6 : Nat) (Option.some Jvm.ClassFile.FieldType.int)) ∈ lw_all := lw_g (lw_at lw_m3 159 rfl) rfl
theorem q685 : (Jvm.Cond.instanceMethod ({ cls := "EventHunterModel", name := "put", desc := "(III)I" } : Jvm.MethodName)) ∈ lw_all := lw_g (lw_at lw_m3 161 rfl) rfl
theorem q686 : (Jvm.Cond.selects "EventHunterModel" ({ cls := "EventHunterModel", name := "put", desc := "(III)I" } : Jvm.MethodName) ({ cls := "EventHunterModel", name := "put", desc := "(III)I" } : Jvm.MethodName)) ∈ lw_all := lw_g (lw_at lw_m3 162 rfl) rfl
theorem q687 : (Jvm.Cond.code ({ cls := "EventHunterModel", name := "put", desc := "(III)I" } : Jvm.MethodName) prog_6_method_25_code (6 : Nat) (Option.some Jvm.ClassFile.FieldType.int)) ∈ lw_all := lw_g (lw_at lw_m3 163 rfl) rfl
theorem q688 : (Jvm.Cond.constant "EventHunterModel" (207 : Nat) (100000 : Int32)) ∈ lw_all := lw_g (lw_at lw_m3 164 rfl) rfl
theorem q689 : (Jvm.Cond.methodLink "EventHunterModel" (217 : Nat) ({ cls := "EventHunterModel", name := "moveWaiting", desc := "(II)V" } : Jvm.MethodName)) ∈ lw_all := lw_g (lw_at lw_m3 165 rfl) rfl
theorem q690 : (Jvm.Cond.privateMethod ({ cls := "EventHunterModel", name := "moveWaiting", desc := "(II)V" } : Jvm.MethodName)) ∈ lw_tbl := lw_at lw_m3 166 rfl
theorem q691 : (Jvm.Cond.instanceMethod ({ cls := "EventHunterModel", name := "moveWaiting", desc := "(II)V" } : Jvm.MethodName)) ∈ lw_all := lw_g (lw_at lw_m3 167 rfl) rfl
theorem q692 : (Jvm.Cond.code ({ cls := "EventHunterModel", name := "moveWaiting", desc := "(II)V" } : Jvm.MethodName) prog_6_method_26_code (4 : Nat) (Option.none : Option Jvm.ClassFile.FieldType)) ∈ lw_all := lw_g (lw_at lw_m3 168 rfl) rfl
theorem q694 : (Jvm.Cond.instanceMethod ({ cls := "EventHunterModel", name := "mark", desc := "(I)I" } : Jvm.MethodName)) ∈ lw_all := lw_g (lw_at lw_m3 170 rfl) rfl
theorem q695 : (Jvm.Cond.selects "EventHunterModel" ({ cls := "EventHunterModel", name := "mark", desc := "(I)I" } : Jvm.MethodName) ({ cls := "EventHunterModel", name := "mark", desc := "(I)I" } : Jvm.MethodName)) ∈ lw_all := lw_g (lw_at lw_m3 171 rfl) rfl
theorem q696 : (Jvm.Cond.code ({ cls := "EventHunterModel", name := "mark", desc := "(I)I" } : Jvm.MethodName) prog_6_method_27_code (5 : Nat) (Option.some Jvm.ClassFile.FieldType.int)) ∈ lw_all := lw_g (lw_at lw_m3 172 rfl) rfl
theorem q697 : (Jvm.Cond.constant "EventHunterModel" (220 : Nat) (200000 : Int32)) ∈ lw_all := lw_g (lw_at lw_m3 173 rfl) rfl
theorem q698 : (Jvm.Cond.methodLink "EventHunterModel" (221 : Nat) ({ cls := "EventHunterModel", name := "comes", desc := "(II)V" } : Jvm.MethodName)) ∈ lw_all := lw_g (lw_at lw_m3 174 rfl) rfl
theorem q699 : (Jvm.Cond.privateMethod ({ cls := "EventHunterModel", name := "comes", desc := "(II)V" } : Jvm.MethodName)) ∈ lw_tbl := lw_at lw_m3 175 rfl
theorem q700 : (Jvm.Cond.instanceMethod ({ cls := "EventHunterModel", name := "comes", desc := "(II)V" } : Jvm.MethodName)) ∈ lw_all := lw_g (lw_at lw_m3 176 rfl) rfl
theorem q701 : (Jvm.Cond.code ({ cls := "EventHunterModel", name := "comes", desc := "(II)V" } : Jvm.MethodName) prog_6_method_23_code (5 : Nat) (Option.none : Option Jvm.ClassFile.FieldType)) ∈ lw_all := lw_g (lw_at lw_m3 177 rfl) rfl
theorem q702 : (Jvm.Cond.methodLink "EventHunterModel" (201 : Nat) ({ cls := "EventHunterModel", name := "sweep", desc := "(I)V" } : Jvm.MethodName)) ∈ lw_all := lw_g (lw_at lw_m3 178 rfl) rfl
theorem q703 : (Jvm.Cond.privateMethod ({ cls := "EventHunterModel", name := "sweep", desc := "(I)V" } : Jvm.MethodName)) ∈ lw_tbl := lw_at lw_m3 179 rfl
theorem q704 : (Jvm.Cond.instanceMethod ({ cls := "EventHunterModel", name := "sweep", desc := "(I)V" } : Jvm.MethodName)) ∈ lw_all := lw_g (lw_at lw_m3 180 rfl) rfl
theorem q705 : (Jvm.Cond.code ({ cls := "EventHunterModel", name := "sweep", desc := "(I)V" } : Jvm.MethodName) prog_6_method_21_code (4 : Nat) (Option.none : Option Jvm.ClassFile.FieldType)) ∈ lw_all := lw_g (lw_at lw_m3 181 rfl) rfl
theorem q706 : (Jvm.Cond.methodLink "EventHunterModel" (181 : Nat) ({ cls := "EventHunterModel", name := "load", desc := "(II)V" } : Jvm.MethodName)) ∈ lw_all := lw_g (lw_at lw_m3 182 rfl) rfl
theorem q707 : (Jvm.Cond.privateMethod ({ cls := "EventHunterModel", name := "load", desc := "(II)V" } : Jvm.MethodName)) ∈ lw_tbl := lw_at lw_m3 183 rfl
theorem q708 : (Jvm.Cond.instanceMethod ({ cls := "EventHunterModel", name := "load", desc := "(II)V" } : Jvm.MethodName)) ∈ lw_all := lw_g (lw_at lw_m3 184 rfl) rfl
theorem q709 : (Jvm.Cond.code ({ cls := "EventHunterModel", name := "load", desc := "(II)V" } : Jvm.MethodName) prog_6_method_14_code (5 : Nat) (Option.none : Option Jvm.ClassFile.FieldType)) ∈ lw_all := lw_g (lw_at lw_m3 185 rfl) rfl
theorem q710 : (Jvm.Cond.methodLink "EventHunterModel" (177 : Nat) ({ cls := "EventHunterModel", name := "store", desc := "(IIZ)V" } : Jvm.MethodName)) ∈ lw_all := lw_g (lw_at lw_m3 186 rfl) rfl
theorem q711 : (Jvm.Cond.privateMethod ({ cls := "EventHunterModel", name := "store", desc := "(IIZ)V" } : Jvm.MethodName)) ∈ lw_tbl := lw_at lw_m3 187 rfl
theorem q712 : (Jvm.Cond.instanceMethod ({ cls := "EventHunterModel", name := "store", desc := "(IIZ)V" } : Jvm.MethodName)) ∈ lw_all := lw_g (lw_at lw_m3 188 rfl) rfl
theorem q713 : (Jvm.Cond.code ({ cls := "EventHunterModel", name := "store", desc := "(IIZ)V" } : Jvm.MethodName) prog_6_method_15_code (6 : Nat) (Option.none : Option Jvm.ClassFile.FieldType)) ∈ lw_all := lw_g (lw_at lw_m3 189 rfl) rfl
theorem q714 : (Jvm.Cond.methodLink "EventHunterModel" (204 : Nat) ({ cls := "EventHunterModel", name := "asks", desc := "(III)Z" } : Jvm.MethodName)) ∈ lw_all := lw_g (lw_at lw_m3 190 rfl) rfl
theorem q715 : (Jvm.Cond.privateMethod ({ cls := "EventHunterModel", name := "asks", desc := "(III)Z" } : Jvm.MethodName)) ∈ lw_tbl := lw_at lw_m3 191 rfl
theorem q716 : (Jvm.Cond.instanceMethod ({ cls := "EventHunterModel", name := "asks", desc := "(III)Z" } : Jvm.MethodName)) ∈ lw_all := lw_g (lw_at lw_m3 192 rfl) rfl
theorem q717 : (Jvm.Cond.code ({ cls := "EventHunterModel", name := "asks", desc := "(III)Z" } : Jvm.MethodName) prog_6_method_22_code (8 : Nat) (Option.some Jvm.ClassFile.FieldType.boolean)) ∈ lw_all := lw_g (lw_at lw_m3 193 rfl) rfl
theorem q718 : (Jvm.Cond.methodLink "EventHunterModel" (185 : Nat) ({ cls := "EventHunterModel", name := "findMoves", desc := "(IIZ)V" } : Jvm.MethodName)) ∈ lw_all := lw_g (lw_at lw_m3 194 rfl) rfl
theorem q719 : (Jvm.Cond.privateMethod ({ cls := "EventHunterModel", name := "findMoves", desc := "(IIZ)V" } : Jvm.MethodName)) ∈ lw_tbl := lw_at lw_m3 195 rfl
theorem q720 : (Jvm.Cond.instanceMethod ({ cls := "EventHunterModel", name := "findMoves", desc := "(IIZ)V" } : Jvm.MethodName)) ∈ lw_all := lw_g (lw_at lw_m3 196 rfl) rfl
theorem q721 : (Jvm.Cond.code ({ cls := "EventHunterModel", name := "findMoves", desc := "(IIZ)V" } : Jvm.MethodName) prog_6_method_19_code (9 : Nat) (Option.none : Option Jvm.ClassFile.FieldType)) ∈ lw_all := lw_g (lw_at lw_m3 197 rfl) rfl
theorem q722 : (Jvm.Cond.methodLink "EventHunterModel" (163 : Nat) ({ cls := "EventHunterModel", name := "real", desc := "(I)I" } : Jvm.MethodName)) ∈ lw_all := lw_g (lw_at lw_m3 198 rfl) rfl
theorem q723 : (Jvm.Cond.privateMethod ({ cls := "EventHunterModel", name := "real", desc := "(I)I" } : Jvm.MethodName)) ∈ lw_tbl := lw_at lw_m3 199 rfl
theorem q724 : (Jvm.Cond.instanceMethod ({ cls := "EventHunterModel", name := "real", desc := "(I)I" } : Jvm.MethodName)) ∈ lw_all := lw_g (lw_at lw_m3 200 rfl) rfl
theorem q725 : (Jvm.Cond.code ({ cls := "EventHunterModel", name := "real", desc := "(I)I" } : Jvm.MethodName) prog_6_method_12_code (2 : Nat) (Option.some Jvm.ClassFile.FieldType.int)) ∈ lw_all := lw_g (lw_at lw_m3 201 rfl) rfl
theorem q726 : (Jvm.Cond.methodLink "EventHunterModel" (173 : Nat) ({ cls := "EventHunterModel", name := "fits", desc := "(III)Z" } : Jvm.MethodName)) ∈ lw_all := lw_g (lw_at lw_m3 202 rfl) rfl
theorem q727 : (Jvm.Cond.privateMethod ({ cls := "EventHunterModel", name := "fits", desc := "(III)Z" } : Jvm.MethodName)) ∈ lw_tbl := lw_at lw_m3 203 rfl
theorem q728 : (Jvm.Cond.instanceMethod ({ cls := "EventHunterModel", name := "fits", desc := "(III)Z" } : Jvm.MethodName)) ∈ lw_all := lw_g (lw_at lw_m3 204 rfl) rfl
theorem q729 : (Jvm.Cond.code ({ cls := "EventHunterModel", name := "fits", desc := "(III)Z" } : Jvm.MethodName) prog_6_method_13_code (10 : Nat) (Option.some Jvm.ClassFile.FieldType.boolean)) ∈ lw_all := lw_g (lw_at lw_m3 205 rfl) rfl
theorem q730 : (Jvm.Cond.methodLink "EventHunterModel" (157 : Nat) ({ cls := "EventHunterModel", name := "isA", desc := "(II)Z" } : Jvm.MethodName)) ∈ lw_all := lw_g (lw_at lw_m3 206 rfl) rfl
theorem q731 : (Jvm.Cond.privateMethod ({ cls := "EventHunterModel", name := "isA", desc := "(II)Z" } : Jvm.MethodName)) ∈ lw_tbl := lw_at lw_m3 207 rfl
theorem q732 : (Jvm.Cond.instanceMethod ({ cls := "EventHunterModel", name := "isA", desc := "(II)Z" } : Jvm.MethodName)) ∈ lw_all := lw_g (lw_at lw_m3 208 rfl) rfl
theorem q733 : (Jvm.Cond.code ({ cls := "EventHunterModel", name := "isA", desc := "(II)Z" } : Jvm.MethodName) prog_6_method_4_code (4 : Nat) (Option.some Jvm.ClassFile.FieldType.boolean)) ∈ lw_all := lw_g (lw_at lw_m3 209 rfl) rfl
theorem q734 : (Jvm.Cond.methodLink "EventHunterModel" (188 : Nat) ({ cls := "EventHunterModel", name := "add", desc := "(II)V" } : Jvm.MethodName)) ∈ lw_all := lw_g (lw_at lw_m3 210 rfl) rfl
theorem q735 : (Jvm.Cond.privateMethod ({ cls := "EventHunterModel", name := "add", desc := "(II)V" } : Jvm.MethodName)) ∈ lw_tbl := lw_at lw_m3 211 rfl
theorem q736 : (Jvm.Cond.instanceMethod ({ cls := "EventHunterModel", name := "add", desc := "(II)V" } : Jvm.MethodName)) ∈ lw_all := lw_g (lw_at lw_m3 212 rfl) rfl
theorem q737 : (Jvm.Cond.code ({ cls := "EventHunterModel", name := "add", desc := "(II)V" } : Jvm.MethodName) prog_6_method_18_code (3 : Nat) (Option.none : Option Jvm.ClassFile.FieldType)) ∈ lw_all := lw_g (lw_at lw_m3 213 rfl) rfl
theorem q738 : (Jvm.Cond.methodLink "EventHunterModel" (191 : Nat) ({ cls := "EventHunterModel", name := "isWhole", desc := "(I)Z" } : Jvm.MethodName)) ∈ lw_all := lw_g (lw_at lw_m3 214 rfl) rfl
theorem q739 : (Jvm.Cond.privateMethod ({ cls := "EventHunterModel", name := "isWhole", desc := "(I)Z" } : Jvm.MethodName)) ∈ lw_tbl := lw_at lw_m3 215 rfl
theorem q740 : (Jvm.Cond.instanceMethod ({ cls := "EventHunterModel", name := "isWhole", desc := "(I)Z" } : Jvm.MethodName)) ∈ lw_all := lw_g (lw_at lw_m3 216 rfl) rfl
theorem q741 : (Jvm.Cond.code ({ cls := "EventHunterModel", name := "isWhole", desc := "(I)Z" } : Jvm.MethodName) prog_6_method_16_code (3 : Nat) (Option.some Jvm.ClassFile.FieldType.boolean)) ∈ lw_all := lw_g (lw_at lw_m3 217 rfl) rfl
theorem q742 : (Jvm.Cond.methodLink "EventHunterModel" (194 : Nat) ({ cls := "EventHunterModel", name := "tell", desc := "(I)V" } : Jvm.MethodName)) ∈ lw_all := lw_g (lw_at lw_m3 218 rfl) rfl
theorem q743 : (Jvm.Cond.privateMethod ({ cls := "EventHunterModel", name := "tell", desc := "(I)V" } : Jvm.MethodName)) ∈ lw_tbl := lw_at lw_m3 219 rfl
theorem q744 : (Jvm.Cond.instanceMethod ({ cls := "EventHunterModel", name := "tell", desc := "(I)V" } : Jvm.MethodName)) ∈ lw_all := lw_g (lw_at lw_m3 220 rfl) rfl
theorem q745 : (Jvm.Cond.code ({ cls := "EventHunterModel", name := "tell", desc := "(I)V" } : Jvm.MethodName) prog_6_method_17_code (3 : Nat) (Option.none : Option Jvm.ClassFile.FieldType)) ∈ lw_all := lw_g (lw_at lw_m3 221 rfl) rfl
theorem q746 : (Jvm.Cond.methodLink "EventHunterModel" (198 : Nat) ({ cls := "EventHunterModel", name := "make", desc := "(I)Z" } : Jvm.MethodName)) ∈ lw_all := lw_g (lw_at lw_m3 222 rfl) rfl
theorem q747 : (Jvm.Cond.privateMethod ({ cls := "EventHunterModel", name := "make", desc := "(I)Z" } : Jvm.MethodName)) ∈ lw_tbl := lw_at lw_m3 223 rfl
theorem q748 : (Jvm.Cond.instanceMethod ({ cls := "EventHunterModel", name := "make", desc := "(I)Z" } : Jvm.MethodName)) ∈ lw_all := lw_g (lw_at lw_m3 224 rfl) rfl
theorem q749 : (Jvm.Cond.code ({ cls := "EventHunterModel", name := "make", desc := "(I)Z" } : Jvm.MethodName) prog_6_method_20_code (2 : Nat) (Option.some Jvm.ClassFile.FieldType.boolean)) ∈ lw_all := lw_g (lw_at lw_m3 225 rfl) rfl
theorem q751 : (Jvm.Cond.instanceMethod ({ cls := "EventHunterModel", name := "matches", desc := "(I)I" } : Jvm.MethodName)) ∈ lw_all := lw_g (lw_at lw_m3 227 rfl) rfl
theorem q752 : (Jvm.Cond.selects "EventHunterModel" ({ cls := "EventHunterModel", name := "matches", desc := "(I)I" } : Jvm.MethodName) ({ cls := "EventHunterModel", name := "matches", desc := "(I)I" } : Jvm.MethodName)) ∈ lw_all := lw_g (lw_at lw_m3 228 rfl) rfl
theorem q753 : (Jvm.Cond.code ({ cls := "EventHunterModel", name := "matches", desc := "(I)I" } : Jvm.MethodName) prog_6_method_28_code (2 : Nat) (Option.some Jvm.ClassFile.FieldType.int)) ∈ lw_all := lw_g (lw_at lw_m3 229 rfl) rfl
theorem q755 : (Jvm.Cond.instanceMethod ({ cls := "EventHunterModel", name := "match", desc := "(II)I" } : Jvm.MethodName)) ∈ lw_all := lw_g (lw_at lw_m3 231 rfl) rfl
theorem q756 : (Jvm.Cond.selects "EventHunterModel" ({ cls := "EventHunterModel", name := "match", desc := "(II)I" } : Jvm.MethodName) ({ cls := "EventHunterModel", name := "match", desc := "(II)I" } : Jvm.MethodName)) ∈ lw_all := lw_g (lw_at lw_m3 232 rfl) rfl
theorem q757 : (Jvm.Cond.code ({ cls := "EventHunterModel", name := "match", desc := "(II)I" } : Jvm.MethodName) prog_6_method_30_code (3 : Nat) (Option.some Jvm.ClassFile.FieldType.int)) ∈ lw_all := lw_g (lw_at lw_m3 233 rfl) rfl
theorem q758 : (Jvm.Cond.methodLink "EventHunterModel" (224 : Nat) ({ cls := "EventHunterModel", name := "isMatch", desc := "(I)Z" } : Jvm.MethodName)) ∈ lw_all := lw_g (lw_at lw_m3 234 rfl) rfl
theorem q759 : (Jvm.Cond.privateMethod ({ cls := "EventHunterModel", name := "isMatch", desc := "(I)Z" } : Jvm.MethodName)) ∈ lw_tbl := lw_at lw_m3 235 rfl
theorem q760 : (Jvm.Cond.instanceMethod ({ cls := "EventHunterModel", name := "isMatch", desc := "(I)Z" } : Jvm.MethodName)) ∈ lw_all := lw_g (lw_at lw_m3 236 rfl) rfl
theorem q761 : (Jvm.Cond.code ({ cls := "EventHunterModel", name := "isMatch", desc := "(I)Z" } : Jvm.MethodName) prog_6_method_29_code (2 : Nat) (Option.some Jvm.ClassFile.FieldType.boolean)) ∈ lw_all := lw_g (lw_at lw_m3 237 rfl) rfl
theorem q763 : (Jvm.Cond.instanceMethod ({ cls := "EventHunterModel", name := "member", desc := "(III)I" } : Jvm.MethodName)) ∈ lw_all := lw_g (lw_at lw_m3 239 rfl) rfl
theorem q764 : (Jvm.Cond.selects "EventHunterModel" ({ cls := "EventHunterModel", name := "member", desc := "(III)I" } : Jvm.MethodName) ({ cls := "EventHunterModel", name := "member", desc := "(III)I" } : Jvm.MethodName)) ∈ lw_all := lw_g (lw_at lw_m4 0 rfl) rfl
theorem q765 : (Jvm.Cond.code ({ cls := "EventHunterModel", name := "member", desc := "(III)I" } : Jvm.MethodName) prog_6_method_31_code (4 : Nat) (Option.some Jvm.ClassFile.FieldType.int)) ∈ lw_all := lw_g (lw_at lw_m4 1 rfl) rfl
theorem q767 : (Jvm.Cond.instanceMethod ({ cls := "EventHunterModel", name := "told", desc := "(II)I" } : Jvm.MethodName)) ∈ lw_all := lw_g (lw_at lw_m4 3 rfl) rfl
theorem q768 : (Jvm.Cond.selects "EventHunterModel" ({ cls := "EventHunterModel", name := "told", desc := "(II)I" } : Jvm.MethodName) ({ cls := "EventHunterModel", name := "told", desc := "(II)I" } : Jvm.MethodName)) ∈ lw_all := lw_g (lw_at lw_m4 4 rfl) rfl
theorem q769 : (Jvm.Cond.code ({ cls := "EventHunterModel", name := "told", desc := "(II)I" } : Jvm.MethodName) prog_6_method_33_code (3 : Nat) (Option.some Jvm.ClassFile.FieldType.int)) ∈ lw_all := lw_g (lw_at lw_m4 5 rfl) rfl
theorem q770 : (Jvm.Cond.methodLink "EventHunterModel" (227 : Nat) ({ cls := "EventHunterModel", name := "matchesWith", desc := "(I)I" } : Jvm.MethodName)) ∈ lw_all := lw_g (lw_at lw_m4 6 rfl) rfl
theorem q771 : (Jvm.Cond.privateMethod ({ cls := "EventHunterModel", name := "matchesWith", desc := "(I)I" } : Jvm.MethodName)) ∈ lw_tbl := lw_at lw_m4 7 rfl
theorem q772 : (Jvm.Cond.instanceMethod ({ cls := "EventHunterModel", name := "matchesWith", desc := "(I)I" } : Jvm.MethodName)) ∈ lw_all := lw_g (lw_at lw_m4 8 rfl) rfl
theorem q773 : (Jvm.Cond.code ({ cls := "EventHunterModel", name := "matchesWith", desc := "(I)I" } : Jvm.MethodName) prog_6_method_32_code (6 : Nat) (Option.some Jvm.ClassFile.FieldType.int)) ∈ lw_all := lw_g (lw_at lw_m4 9 rfl) rfl
theorem q775 : (Jvm.Cond.instanceMethod ({ cls := "EventHunterModel", name := "about", desc := "(II)I" } : Jvm.MethodName)) ∈ lw_all := lw_g (lw_at lw_m4 11 rfl) rfl
theorem q776 : (Jvm.Cond.selects "EventHunterModel" ({ cls := "EventHunterModel", name := "about", desc := "(II)I" } : Jvm.MethodName) ({ cls := "EventHunterModel", name := "about", desc := "(II)I" } : Jvm.MethodName)) ∈ lw_all := lw_g (lw_at lw_m4 12 rfl) rfl
theorem q777 : (Jvm.Cond.code ({ cls := "EventHunterModel", name := "about", desc := "(II)I" } : Jvm.MethodName) prog_6_method_37_code (5 : Nat) (Option.some Jvm.ClassFile.FieldType.int)) ∈ lw_all := lw_g (lw_at lw_m4 13 rfl) rfl
theorem q778 : (Jvm.Cond.methodLink "EventHunterModel" (230 : Nat) ({ cls := "EventHunterModel", name := "holdNone", desc := "()V" } : Jvm.MethodName)) ∈ lw_all := lw_g (lw_at lw_m4 14 rfl) rfl
theorem q779 : (Jvm.Cond.privateMethod ({ cls := "EventHunterModel", name := "holdNone", desc := "()V" } : Jvm.MethodName)) ∈ lw_tbl := lw_at lw_m4 15 rfl
theorem q780 : (Jvm.Cond.instanceMethod ({ cls := "EventHunterModel", name := "holdNone", desc := "()V" } : Jvm.MethodName)) ∈ lw_all := lw_g (lw_at lw_m4 16 rfl) rfl
theorem q781 : (Jvm.Cond.code ({ cls := "EventHunterModel", name := "holdNone", desc := "()V" } : Jvm.MethodName) prog_6_method_36_code (2 : Nat) (Option.none : Option Jvm.ClassFile.FieldType)) ∈ lw_all := lw_g (lw_at lw_m4 17 rfl) rfl
theorem q782 : (Jvm.Cond.methodLink "EventHunterModel" (233 : Nat) ({ cls := "EventHunterModel", name := "hold", desc := "(I)V" } : Jvm.MethodName)) ∈ lw_all := lw_g (lw_at lw_m4 18 rfl) rfl
theorem q783 : (Jvm.Cond.privateMethod ({ cls := "EventHunterModel", name := "hold", desc := "(I)V" } : Jvm.MethodName)) ∈ lw_tbl := lw_at lw_m4 19 rfl
theorem q784 : (Jvm.Cond.instanceMethod ({ cls := "EventHunterModel", name := "hold", desc := "(I)V" } : Jvm.MethodName)) ∈ lw_all := lw_g (lw_at lw_m4 20 rfl) rfl
theorem q785 : (Jvm.Cond.code ({ cls := "EventHunterModel", name := "hold", desc := "(I)V" } : Jvm.MethodName) prog_6_method_34_code (4 : Nat) (Option.none : Option Jvm.ClassFile.FieldType)) ∈ lw_all := lw_g (lw_at lw_m4 21 rfl) rfl
theorem q786 : (Jvm.Cond.methodLink "EventHunterModel" (236 : Nat) ({ cls := "EventHunterModel", name := "heldMany", desc := "()I" } : Jvm.MethodName)) ∈ lw_all := lw_g (lw_at lw_m4 22 rfl) rfl
theorem q787 : (Jvm.Cond.privateMethod ({ cls := "EventHunterModel", name := "heldMany", desc := "()I" } : Jvm.MethodName)) ∈ lw_tbl := lw_at lw_m4 23 rfl
theorem q788 : (Jvm.Cond.instanceMethod ({ cls := "EventHunterModel", name := "heldMany", desc := "()I" } : Jvm.MethodName)) ∈ lw_all := lw_g (lw_at lw_m4 24 rfl) rfl
theorem q789 : (Jvm.Cond.code ({ cls := "EventHunterModel", name := "heldMany", desc := "()I" } : Jvm.MethodName) prog_6_method_35_code (3 : Nat) (Option.some Jvm.ClassFile.FieldType.int)) ∈ lw_all := lw_g (lw_at lw_m4 25 rfl) rfl
theorem q791 : (Jvm.Cond.instanceMethod ({ cls := "EventHunterModel", name := "run", desc := "(IIII)I" } : Jvm.MethodName)) ∈ lw_all := lw_g (lw_at lw_m4 27 rfl) rfl
theorem q792 : (Jvm.Cond.selects "EventHunterModel" ({ cls := "EventHunterModel", name := "run", desc := "(IIII)I" } : Jvm.MethodName) ({ cls := "EventHunterModel", name := "run", desc := "(IIII)I" } : Jvm.MethodName)) ∈ lw_all := lw_g (lw_at lw_m4 28 rfl) rfl
theorem q793 : (Jvm.Cond.code ({ cls := "EventHunterModel", name := "run", desc := "(IIII)I" } : Jvm.MethodName) prog_6_method_38_code (6 : Nat) (Option.some Jvm.ClassFile.FieldType.int)) ∈ lw_all := lw_g (lw_at lw_m4 29 rfl) rfl
theorem q795 : (Jvm.Cond.instanceMethod ({ cls := "EventHunterModel", name := "almost", desc := "(II)I" } : Jvm.MethodName)) ∈ lw_all := lw_g (lw_at lw_m4 31 rfl) rfl
theorem q796 : (Jvm.Cond.selects "EventHunterModel" ({ cls := "EventHunterModel", name := "almost", desc := "(II)I" } : Jvm.MethodName) ({ cls := "EventHunterModel", name := "almost", desc := "(II)I" } : Jvm.MethodName)) ∈ lw_all := lw_g (lw_at lw_m4 32 rfl) rfl
theorem q797 : (Jvm.Cond.code ({ cls := "EventHunterModel", name := "almost", desc := "(II)I" } : Jvm.MethodName) prog_6_method_39_code (8 : Nat) (Option.some Jvm.ClassFile.FieldType.int)) ∈ lw_all := lw_g (lw_at lw_m4 33 rfl) rfl
theorem q799 : (Jvm.Cond.instanceMethod ({ cls := "EventHunterModel", name := "plain", desc := "(I)I" } : Jvm.MethodName)) ∈ lw_all := lw_g (lw_at lw_m4 35 rfl) rfl
theorem q800 : (Jvm.Cond.selects "EventHunterModel" ({ cls := "EventHunterModel", name := "plain", desc := "(I)I" } : Jvm.MethodName) ({ cls := "EventHunterModel", name := "plain", desc := "(I)I" } : Jvm.MethodName)) ∈ lw_all := lw_g (lw_at lw_m4 36 rfl) rfl
theorem q801 : (Jvm.Cond.code ({ cls := "EventHunterModel", name := "plain", desc := "(I)I" } : Jvm.MethodName) prog_6_method_40_code (4 : Nat) (Option.some Jvm.ClassFile.FieldType.int)) ∈ lw_all := lw_g (lw_at lw_m4 37 rfl) rfl
theorem q802 : (Jvm.Cond.methodLink "EventHunterModel" (240 : Nat) ({ cls := "EventHunterModel", name := "nextTry", desc := "(II)Z" } : Jvm.MethodName)) ∈ lw_all := lw_g (lw_at lw_m4 38 rfl) rfl
theorem q803 : (Jvm.Cond.privateMethod ({ cls := "EventHunterModel", name := "nextTry", desc := "(II)Z" } : Jvm.MethodName)) ∈ lw_tbl := lw_at lw_m4 39 rfl
theorem q804 : (Jvm.Cond.instanceMethod ({ cls := "EventHunterModel", name := "nextTry", desc := "(II)Z" } : Jvm.MethodName)) ∈ lw_all := lw_g (lw_at lw_m4 40 rfl) rfl
theorem q805 : (Jvm.Cond.code ({ cls := "EventHunterModel", name := "nextTry", desc := "(II)Z" } : Jvm.MethodName) prog_6_method_41_code (5 : Nat) (Option.some Jvm.ClassFile.FieldType.boolean)) ∈ lw_all := lw_g (lw_at lw_m4 41 rfl) rfl
theorem q806 : (Jvm.Cond.methodLink "EventHunterModel" (243 : Nat) ({ cls := "EventHunterModel", name := "may", desc := "(IIII)Z" } : Jvm.MethodName)) ∈ lw_all := lw_g (lw_at lw_m4 42 rfl) rfl
theorem q807 : (Jvm.Cond.privateMethod ({ cls := "EventHunterModel", name := "may", desc := "(IIII)Z" } : Jvm.MethodName)) ∈ lw_tbl := lw_at lw_m4 43 rfl
theorem q808 : (Jvm.Cond.instanceMethod ({ cls := "EventHunterModel", name := "may", desc := "(IIII)Z" } : Jvm.MethodName)) ∈ lw_all := lw_g (lw_at lw_m4 44 rfl) rfl
theorem q809 : (Jvm.Cond.code ({ cls := "EventHunterModel", name := "may", desc := "(IIII)Z" } : Jvm.MethodName) prog_6_method_42_code (9 : Nat) (Option.some Jvm.ClassFile.FieldType.boolean)) ∈ lw_all := lw_g (lw_at lw_m4 45 rfl) rfl
theorem q810 : (Jvm.Cond.methodLink "EventHunterModel" (246 : Nat) ({ cls := "EventHunterModel", name := "isBroken", desc := "(IIII)Z" } : Jvm.MethodName)) ∈ lw_all := lw_g (lw_at lw_m4 46 rfl) rfl
theorem q811 : (Jvm.Cond.privateMethod ({ cls := "EventHunterModel", name := "isBroken", desc := "(IIII)Z" } : Jvm.MethodName)) ∈ lw_tbl := lw_at lw_m4 47 rfl
theorem q812 : (Jvm.Cond.instanceMethod ({ cls := "EventHunterModel", name := "isBroken", desc := "(IIII)Z" } : Jvm.MethodName)) ∈ lw_all := lw_g (lw_at lw_m4 48 rfl) rfl
theorem q813 : (Jvm.Cond.code ({ cls := "EventHunterModel", name := "isBroken", desc := "(IIII)Z" } : Jvm.MethodName) prog_6_method_43_code (7 : Nat) (Option.some Jvm.ClassFile.FieldType.boolean)) ∈ lw_all := lw_g (lw_at lw_m4 49 rfl) rfl
theorem q815 : (Jvm.Cond.instanceMethod ({ cls := "EventHunterModel", name := "count", desc := "(I)I" } : Jvm.MethodName)) ∈ lw_all := lw_g (lw_at lw_m4 51 rfl) rfl
theorem q816 : (Jvm.Cond.selects "EventHunterModel" ({ cls := "EventHunterModel", name := "count", desc := "(I)I" } : Jvm.MethodName) ({ cls := "EventHunterModel", name := "count", desc := "(I)I" } : Jvm.MethodName)) ∈ lw_all := lw_g (lw_at lw_m4 52 rfl) rfl
theorem q817 : (Jvm.Cond.code ({ cls := "EventHunterModel", name := "count", desc := "(I)I" } : Jvm.MethodName) prog_6_method_44_code (3 : Nat) (Option.some Jvm.ClassFile.FieldType.int)) ∈ lw_all := lw_g (lw_at lw_m4 53 rfl) rfl
theorem q819 : (Jvm.Cond.instanceMethod ({ cls := "EventHunterModel", name := "is", desc := "(II)I" } : Jvm.MethodName)) ∈ lw_all := lw_g (lw_at lw_m4 55 rfl) rfl
theorem q820 : (Jvm.Cond.selects "EventHunterModel" ({ cls := "EventHunterModel", name := "is", desc := "(II)I" } : Jvm.MethodName) ({ cls := "EventHunterModel", name := "is", desc := "(II)I" } : Jvm.MethodName)) ∈ lw_all := lw_g (lw_at lw_m4 56 rfl) rfl
theorem q821 : (Jvm.Cond.code ({ cls := "EventHunterModel", name := "is", desc := "(II)I" } : Jvm.MethodName) prog_6_method_45_code (3 : Nat) (Option.some Jvm.ClassFile.FieldType.int)) ∈ lw_all := lw_g (lw_at lw_m4 57 rfl) rfl
theorem in_X4 : ∀ w ∈ wsX40, w ∈ lw_all := lw_in wsX40 [554, 556, 558, 560, 562, 564, 566, 568, 570, 572, 574, 576, 578, 580, 582, 584, 586, 588, 590, 592, 594, 596, 598, 600, 602, 604, 606, 608, 610, 612, 614, 616, 618, 620, 622, 624, 626, 628, 630, 632, 634, 636, 638, 640, 642, 644, 646, 648] (by decide +kernel) (by decide +kernel)

