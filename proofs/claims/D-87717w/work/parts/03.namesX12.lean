/-! EventHunter$Web -/
set_option maxRecDepth 100000
def RX1 : String := "EventHunter$Web"
def TX1 : u_T := fun k => match k with
  | 0 => ("EventHunter$Web", "event", "[I", true)
  | 1 => ("EventHunter$Web", "step", "[I", true)
  | 2 => ("EventHunter$Web", "before", "[I", true)
  | 3 => ("EventHunter$Web", "uses", "[I", true)
  | 4 => ("EventHunter$Web", "free", "I", false)
  | _ => ("EventHunter$Web", "fresh", "I", false)
def tyX1 : Nat → FieldType := fun k => match k with
  | 0 => .array .int
  | 1 => .array .int
  | 2 => .array .int
  | 3 => .array .int
  | 4 => .int
  | _ => .int
abbrev wsX10 : List Cond := u_ws RX1 TX1 6
theorem nmX1 : ∀ a, a < 6 → ∀ b, b < 6 → a ≠ b → (TX1 a).2.1 ≠ (TX1 b).2.1 := by decide +kernel
theorem tyX1_ok : ∀ k, k < 6 → parseFieldDescriptor (TX1 k).2.2.1 = some (tyX1 k) := by decide +kernel
abbrev cX1_init : ByteArray := prog_4_method_1_code
def yX1_init : MethodName := ⟨RX1, "<init>", "()V"⟩
theorem dX1_init_0 : decode cX1_init 0 = .ok (.aload_n 0, 1) := by decide +kernel
theorem dX1_init_1 : decode cX1_init 1 = .ok (.invokespecial 3, 3) := by decide +kernel
theorem dX1_init_4 : decode cX1_init 4 = .ok (.aload_n 0, 1) := by decide +kernel
theorem dX1_init_5 : decode cX1_init 5 = .ok (.ldc 9, 2) := by decide +kernel
theorem dX1_init_7 : decode cX1_init 7 = .ok (.newarray .int, 2) := by decide +kernel
theorem dX1_init_9 : decode cX1_init 9 = .ok (.putfield 10, 3) := by decide +kernel
theorem dX1_init_12 : decode cX1_init 12 = .ok (.aload_n 0, 1) := by decide +kernel
theorem dX1_init_13 : decode cX1_init 13 = .ok (.ldc 9, 2) := by decide +kernel
theorem dX1_init_15 : decode cX1_init 15 = .ok (.newarray .int, 2) := by decide +kernel
theorem dX1_init_17 : decode cX1_init 17 = .ok (.putfield 16, 3) := by decide +kernel
theorem dX1_init_20 : decode cX1_init 20 = .ok (.aload_n 0, 1) := by decide +kernel
theorem dX1_init_21 : decode cX1_init 21 = .ok (.ldc 9, 2) := by decide +kernel
theorem dX1_init_23 : decode cX1_init 23 = .ok (.newarray .int, 2) := by decide +kernel
theorem dX1_init_25 : decode cX1_init 25 = .ok (.putfield 19, 3) := by decide +kernel
theorem dX1_init_28 : decode cX1_init 28 = .ok (.aload_n 0, 1) := by decide +kernel
theorem dX1_init_29 : decode cX1_init 29 = .ok (.ldc 9, 2) := by decide +kernel
theorem dX1_init_31 : decode cX1_init 31 = .ok (.newarray .int, 2) := by decide +kernel
theorem dX1_init_33 : decode cX1_init 33 = .ok (.putfield 22, 3) := by decide +kernel
theorem dX1_init_36 : decode cX1_init 36 = .ok (.aload_n 0, 1) := by decide +kernel
theorem dX1_init_37 : decode cX1_init 37 = .ok (.iconst (-1), 1) := by decide +kernel
theorem dX1_init_38 : decode cX1_init 38 = .ok (.putfield 25, 3) := by decide +kernel
theorem dX1_init_41 : decode cX1_init 41 = .ok (.return_, 1) := by decide +kernel
abbrev cX1_first : ByteArray := prog_4_method_4_code
def yX1_first : MethodName := ⟨RX1, "first", "(I)I"⟩
theorem dX1_first_0 : decode cX1_first 0 = .ok (.iload_n 1, 1) := by decide +kernel
theorem dX1_first_1 : decode cX1_first 1 = .ok (.istore_n 2, 1) := by decide +kernel
theorem dX1_first_2 : decode cX1_first 2 = .ok (.aload_n 0, 1) := by decide +kernel
theorem dX1_first_3 : decode cX1_first 3 = .ok (.getfield 19, 3) := by decide +kernel
theorem dX1_first_6 : decode cX1_first 6 = .ok (.iload_n 2, 1) := by decide +kernel
theorem dX1_first_7 : decode cX1_first 7 = .ok (.iaload, 1) := by decide +kernel
theorem dX1_first_8 : decode cX1_first 8 = .ok (.iconst (-1), 1) := by decide +kernel
theorem dX1_first_9 : decode cX1_first 9 = .ok (.if_icmp .eq 13, 3) := by decide +kernel
theorem dX1_first_12 : decode cX1_first 12 = .ok (.aload_n 0, 1) := by decide +kernel
theorem dX1_first_13 : decode cX1_first 13 = .ok (.getfield 19, 3) := by decide +kernel
theorem dX1_first_16 : decode cX1_first 16 = .ok (.iload_n 2, 1) := by decide +kernel
theorem dX1_first_17 : decode cX1_first 17 = .ok (.iaload, 1) := by decide +kernel
theorem dX1_first_18 : decode cX1_first 18 = .ok (.istore_n 2, 1) := by decide +kernel
theorem dX1_first_19 : decode cX1_first 19 = .ok (.goto (-17), 3) := by decide +kernel
theorem dX1_first_22 : decode cX1_first 22 = .ok (.aload_n 0, 1) := by decide +kernel
theorem dX1_first_23 : decode cX1_first 23 = .ok (.getfield 10, 3) := by decide +kernel
theorem dX1_first_26 : decode cX1_first 26 = .ok (.iload_n 2, 1) := by decide +kernel
theorem dX1_first_27 : decode cX1_first 27 = .ok (.iaload, 1) := by decide +kernel
theorem dX1_first_28 : decode cX1_first 28 = .ok (.ireturn, 1) := by decide +kernel
abbrev cX1_leave : ByteArray := prog_4_method_3_code
def yX1_leave : MethodName := ⟨RX1, "leave", "(I)V"⟩
theorem dX1_leave_0 : decode cX1_leave 0 = .ok (.iload_n 1, 1) := by decide +kernel
theorem dX1_leave_1 : decode cX1_leave 1 = .ok (.istore_n 2, 1) := by decide +kernel
theorem dX1_leave_2 : decode cX1_leave 2 = .ok (.iload_n 2, 1) := by decide +kernel
theorem dX1_leave_3 : decode cX1_leave 3 = .ok (.iconst (-1), 1) := by decide +kernel
theorem dX1_leave_4 : decode cX1_leave 4 = .ok (.if_icmp .eq 44, 3) := by decide +kernel
theorem dX1_leave_7 : decode cX1_leave 7 = .ok (.aload_n 0, 1) := by decide +kernel
theorem dX1_leave_8 : decode cX1_leave 8 = .ok (.getfield 22, 3) := by decide +kernel
theorem dX1_leave_11 : decode cX1_leave 11 = .ok (.iload_n 2, 1) := by decide +kernel
theorem dX1_leave_12 : decode cX1_leave 12 = .ok (.dup2, 1) := by decide +kernel
theorem dX1_leave_13 : decode cX1_leave 13 = .ok (.iaload, 1) := by decide +kernel
theorem dX1_leave_14 : decode cX1_leave 14 = .ok (.iconst 1, 1) := by decide +kernel
theorem dX1_leave_15 : decode cX1_leave 15 = .ok (.isub, 1) := by decide +kernel
theorem dX1_leave_16 : decode cX1_leave 16 = .ok (.dup_x2, 1) := by decide +kernel
theorem dX1_leave_17 : decode cX1_leave 17 = .ok (.iastore, 1) := by decide +kernel
theorem dX1_leave_18 : decode cX1_leave 18 = .ok (.ifCond .ne 30, 3) := by decide +kernel
theorem dX1_leave_21 : decode cX1_leave 21 = .ok (.aload_n 0, 1) := by decide +kernel
theorem dX1_leave_22 : decode cX1_leave 22 = .ok (.getfield 19, 3) := by decide +kernel
theorem dX1_leave_25 : decode cX1_leave 25 = .ok (.iload_n 2, 1) := by decide +kernel
theorem dX1_leave_26 : decode cX1_leave 26 = .ok (.iaload, 1) := by decide +kernel
theorem dX1_leave_27 : decode cX1_leave 27 = .ok (.istore_n 3, 1) := by decide +kernel
theorem dX1_leave_28 : decode cX1_leave 28 = .ok (.aload_n 0, 1) := by decide +kernel
theorem dX1_leave_29 : decode cX1_leave 29 = .ok (.getfield 19, 3) := by decide +kernel
theorem dX1_leave_32 : decode cX1_leave 32 = .ok (.iload_n 2, 1) := by decide +kernel
theorem dX1_leave_33 : decode cX1_leave 33 = .ok (.aload_n 0, 1) := by decide +kernel
theorem dX1_leave_34 : decode cX1_leave 34 = .ok (.getfield 25, 3) := by decide +kernel
theorem dX1_leave_37 : decode cX1_leave 37 = .ok (.iastore, 1) := by decide +kernel
theorem dX1_leave_38 : decode cX1_leave 38 = .ok (.aload_n 0, 1) := by decide +kernel
theorem dX1_leave_39 : decode cX1_leave 39 = .ok (.iload_n 2, 1) := by decide +kernel
theorem dX1_leave_40 : decode cX1_leave 40 = .ok (.putfield 25, 3) := by decide +kernel
theorem dX1_leave_43 : decode cX1_leave 43 = .ok (.iload_n 3, 1) := by decide +kernel
theorem dX1_leave_44 : decode cX1_leave 44 = .ok (.istore_n 2, 1) := by decide +kernel
theorem dX1_leave_45 : decode cX1_leave 45 = .ok (.goto (-43), 3) := by decide +kernel
theorem dX1_leave_48 : decode cX1_leave 48 = .ok (.return_, 1) := by decide +kernel
abbrev cX1_last : ByteArray := prog_4_method_6_code
def yX1_last : MethodName := ⟨RX1, "last", "(II)I"⟩
theorem dX1_last_0 : decode cX1_last 0 = .ok (.iload_n 1, 1) := by decide +kernel
theorem dX1_last_1 : decode cX1_last 1 = .ok (.istore_n 3, 1) := by decide +kernel
theorem dX1_last_2 : decode cX1_last 2 = .ok (.iload_n 3, 1) := by decide +kernel
theorem dX1_last_3 : decode cX1_last 3 = .ok (.iconst (-1), 1) := by decide +kernel
theorem dX1_last_4 : decode cX1_last 4 = .ok (.if_icmp .eq 23, 3) := by decide +kernel
theorem dX1_last_7 : decode cX1_last 7 = .ok (.aload_n 0, 1) := by decide +kernel
theorem dX1_last_8 : decode cX1_last 8 = .ok (.getfield 16, 3) := by decide +kernel
theorem dX1_last_11 : decode cX1_last 11 = .ok (.iload_n 3, 1) := by decide +kernel
theorem dX1_last_12 : decode cX1_last 12 = .ok (.iaload, 1) := by decide +kernel
theorem dX1_last_13 : decode cX1_last 13 = .ok (.iload_n 2, 1) := by decide +kernel
theorem dX1_last_14 : decode cX1_last 14 = .ok (.if_icmp .eq 13, 3) := by decide +kernel
theorem dX1_last_17 : decode cX1_last 17 = .ok (.aload_n 0, 1) := by decide +kernel
theorem dX1_last_18 : decode cX1_last 18 = .ok (.getfield 19, 3) := by decide +kernel
theorem dX1_last_21 : decode cX1_last 21 = .ok (.iload_n 3, 1) := by decide +kernel
theorem dX1_last_22 : decode cX1_last 22 = .ok (.iaload, 1) := by decide +kernel
theorem dX1_last_23 : decode cX1_last 23 = .ok (.istore_n 3, 1) := by decide +kernel
theorem dX1_last_24 : decode cX1_last 24 = .ok (.goto (-22), 3) := by decide +kernel
theorem dX1_last_27 : decode cX1_last 27 = .ok (.iload_n 3, 1) := by decide +kernel
theorem dX1_last_28 : decode cX1_last 28 = .ok (.iconst (-1), 1) := by decide +kernel
theorem dX1_last_29 : decode cX1_last 29 = .ok (.if_icmp .ne 7, 3) := by decide +kernel
theorem dX1_last_32 : decode cX1_last 32 = .ok (.iconst (-1), 1) := by decide +kernel
theorem dX1_last_33 : decode cX1_last 33 = .ok (.goto 9, 3) := by decide +kernel
theorem dX1_last_36 : decode cX1_last 36 = .ok (.aload_n 0, 1) := by decide +kernel
theorem dX1_last_37 : decode cX1_last 37 = .ok (.getfield 10, 3) := by decide +kernel
theorem dX1_last_40 : decode cX1_last 40 = .ok (.iload_n 3, 1) := by decide +kernel
theorem dX1_last_41 : decode cX1_last 41 = .ok (.iaload, 1) := by decide +kernel
theorem dX1_last_42 : decode cX1_last 42 = .ok (.ireturn, 1) := by decide +kernel
abbrev cX1_count : ByteArray := prog_4_method_5_code
def yX1_count : MethodName := ⟨RX1, "count", "(I)I"⟩
theorem dX1_count_0 : decode cX1_count 0 = .ok (.iconst 0, 1) := by decide +kernel
theorem dX1_count_1 : decode cX1_count 1 = .ok (.istore_n 2, 1) := by decide +kernel
theorem dX1_count_2 : decode cX1_count 2 = .ok (.iload_n 1, 1) := by decide +kernel
theorem dX1_count_3 : decode cX1_count 3 = .ok (.istore_n 3, 1) := by decide +kernel
theorem dX1_count_4 : decode cX1_count 4 = .ok (.iload_n 3, 1) := by decide +kernel
theorem dX1_count_5 : decode cX1_count 5 = .ok (.iconst (-1), 1) := by decide +kernel
theorem dX1_count_6 : decode cX1_count 6 = .ok (.if_icmp .eq 31, 3) := by decide +kernel
theorem dX1_count_9 : decode cX1_count 9 = .ok (.aload_n 0, 1) := by decide +kernel
theorem dX1_count_10 : decode cX1_count 10 = .ok (.getfield 16, 3) := by decide +kernel
theorem dX1_count_13 : decode cX1_count 13 = .ok (.iload_n 3, 1) := by decide +kernel
theorem dX1_count_14 : decode cX1_count 14 = .ok (.iaload, 1) := by decide +kernel
theorem dX1_count_15 : decode cX1_count 15 = .ok (.aload_n 0, 1) := by decide +kernel
theorem dX1_count_16 : decode cX1_count 16 = .ok (.getfield 16, 3) := by decide +kernel
theorem dX1_count_19 : decode cX1_count 19 = .ok (.iload_n 1, 1) := by decide +kernel
theorem dX1_count_20 : decode cX1_count 20 = .ok (.iaload, 1) := by decide +kernel
theorem dX1_count_21 : decode cX1_count 21 = .ok (.if_icmp .ne 16, 3) := by decide +kernel
theorem dX1_count_24 : decode cX1_count 24 = .ok (.iinc 2 1, 3) := by decide +kernel
theorem dX1_count_27 : decode cX1_count 27 = .ok (.aload_n 0, 1) := by decide +kernel
theorem dX1_count_28 : decode cX1_count 28 = .ok (.getfield 19, 3) := by decide +kernel
theorem dX1_count_31 : decode cX1_count 31 = .ok (.iload_n 3, 1) := by decide +kernel
theorem dX1_count_32 : decode cX1_count 32 = .ok (.iaload, 1) := by decide +kernel
theorem dX1_count_33 : decode cX1_count 33 = .ok (.istore_n 3, 1) := by decide +kernel
theorem dX1_count_34 : decode cX1_count 34 = .ok (.goto (-30), 3) := by decide +kernel
theorem dX1_count_37 : decode cX1_count 37 = .ok (.iload_n 2, 1) := by decide +kernel
theorem dX1_count_38 : decode cX1_count 38 = .ok (.ireturn, 1) := by decide +kernel
abbrev cX1_take : ByteArray := prog_4_method_2_code
def yX1_take : MethodName := ⟨RX1, "take", "(III)I"⟩
theorem dX1_take_0 : decode cX1_take 0 = .ok (.aload_n 0, 1) := by decide +kernel
theorem dX1_take_1 : decode cX1_take 1 = .ok (.getfield 25, 3) := by decide +kernel
theorem dX1_take_4 : decode cX1_take 4 = .ok (.istore 4, 2) := by decide +kernel
theorem dX1_take_6 : decode cX1_take 6 = .ok (.iload 4, 2) := by decide +kernel
theorem dX1_take_8 : decode cX1_take 8 = .ok (.iconst (-1), 1) := by decide +kernel
theorem dX1_take_9 : decode cX1_take 9 = .ok (.if_icmp .ne 19, 3) := by decide +kernel
theorem dX1_take_12 : decode cX1_take 12 = .ok (.aload_n 0, 1) := by decide +kernel
theorem dX1_take_13 : decode cX1_take 13 = .ok (.dup, 1) := by decide +kernel
theorem dX1_take_14 : decode cX1_take 14 = .ok (.getfield 29, 3) := by decide +kernel
theorem dX1_take_17 : decode cX1_take 17 = .ok (.dup_x1, 1) := by decide +kernel
theorem dX1_take_18 : decode cX1_take 18 = .ok (.iconst 1, 1) := by decide +kernel
theorem dX1_take_19 : decode cX1_take 19 = .ok (.iadd, 1) := by decide +kernel
theorem dX1_take_20 : decode cX1_take 20 = .ok (.putfield 29, 3) := by decide +kernel
theorem dX1_take_23 : decode cX1_take 23 = .ok (.istore 4, 2) := by decide +kernel
theorem dX1_take_25 : decode cX1_take 25 = .ok (.goto 14, 3) := by decide +kernel
theorem dX1_take_28 : decode cX1_take 28 = .ok (.aload_n 0, 1) := by decide +kernel
theorem dX1_take_29 : decode cX1_take 29 = .ok (.aload_n 0, 1) := by decide +kernel
theorem dX1_take_30 : decode cX1_take 30 = .ok (.getfield 19, 3) := by decide +kernel
theorem dX1_take_33 : decode cX1_take 33 = .ok (.iload 4, 2) := by decide +kernel
theorem dX1_take_35 : decode cX1_take 35 = .ok (.iaload, 1) := by decide +kernel
theorem dX1_take_36 : decode cX1_take 36 = .ok (.putfield 25, 3) := by decide +kernel
theorem dX1_take_39 : decode cX1_take 39 = .ok (.aload_n 0, 1) := by decide +kernel
theorem dX1_take_40 : decode cX1_take 40 = .ok (.getfield 10, 3) := by decide +kernel
theorem dX1_take_43 : decode cX1_take 43 = .ok (.iload 4, 2) := by decide +kernel
theorem dX1_take_45 : decode cX1_take 45 = .ok (.iload_n 1, 1) := by decide +kernel
theorem dX1_take_46 : decode cX1_take 46 = .ok (.iastore, 1) := by decide +kernel
theorem dX1_take_47 : decode cX1_take 47 = .ok (.aload_n 0, 1) := by decide +kernel
theorem dX1_take_48 : decode cX1_take 48 = .ok (.getfield 16, 3) := by decide +kernel
theorem dX1_take_51 : decode cX1_take 51 = .ok (.iload 4, 2) := by decide +kernel
theorem dX1_take_53 : decode cX1_take 53 = .ok (.iload_n 2, 1) := by decide +kernel
theorem dX1_take_54 : decode cX1_take 54 = .ok (.iastore, 1) := by decide +kernel
theorem dX1_take_55 : decode cX1_take 55 = .ok (.aload_n 0, 1) := by decide +kernel
theorem dX1_take_56 : decode cX1_take 56 = .ok (.getfield 19, 3) := by decide +kernel
theorem dX1_take_59 : decode cX1_take 59 = .ok (.iload 4, 2) := by decide +kernel
theorem dX1_take_61 : decode cX1_take 61 = .ok (.iload_n 3, 1) := by decide +kernel
theorem dX1_take_62 : decode cX1_take 62 = .ok (.iastore, 1) := by decide +kernel
theorem dX1_take_63 : decode cX1_take 63 = .ok (.aload_n 0, 1) := by decide +kernel
theorem dX1_take_64 : decode cX1_take 64 = .ok (.getfield 22, 3) := by decide +kernel
theorem dX1_take_67 : decode cX1_take 67 = .ok (.iload 4, 2) := by decide +kernel
theorem dX1_take_69 : decode cX1_take 69 = .ok (.iconst 1, 1) := by decide +kernel
theorem dX1_take_70 : decode cX1_take 70 = .ok (.iastore, 1) := by decide +kernel
theorem dX1_take_71 : decode cX1_take 71 = .ok (.iload_n 3, 1) := by decide +kernel
theorem dX1_take_72 : decode cX1_take 72 = .ok (.iconst (-1), 1) := by decide +kernel
theorem dX1_take_73 : decode cX1_take 73 = .ok (.if_icmp .eq 13, 3) := by decide +kernel
theorem dX1_take_76 : decode cX1_take 76 = .ok (.aload_n 0, 1) := by decide +kernel
theorem dX1_take_77 : decode cX1_take 77 = .ok (.getfield 22, 3) := by decide +kernel
theorem dX1_take_80 : decode cX1_take 80 = .ok (.iload_n 3, 1) := by decide +kernel
theorem dX1_take_81 : decode cX1_take 81 = .ok (.dup2, 1) := by decide +kernel
theorem dX1_take_82 : decode cX1_take 82 = .ok (.iaload, 1) := by decide +kernel
theorem dX1_take_83 : decode cX1_take 83 = .ok (.iconst 1, 1) := by decide +kernel
theorem dX1_take_84 : decode cX1_take 84 = .ok (.iadd, 1) := by decide +kernel
theorem dX1_take_85 : decode cX1_take 85 = .ok (.iastore, 1) := by decide +kernel
theorem dX1_take_86 : decode cX1_take 86 = .ok (.iload 4, 2) := by decide +kernel
theorem dX1_take_88 : decode cX1_take 88 = .ok (.ireturn, 1) := by decide +kernel
abbrev cX1_length : ByteArray := prog_4_method_7_code
def yX1_length : MethodName := ⟨RX1, "length", "(I)I"⟩
theorem dX1_length_0 : decode cX1_length 0 = .ok (.iconst 0, 1) := by decide +kernel
theorem dX1_length_1 : decode cX1_length 1 = .ok (.istore_n 2, 1) := by decide +kernel
theorem dX1_length_2 : decode cX1_length 2 = .ok (.iload_n 1, 1) := by decide +kernel
theorem dX1_length_3 : decode cX1_length 3 = .ok (.istore_n 3, 1) := by decide +kernel
theorem dX1_length_4 : decode cX1_length 4 = .ok (.iload_n 3, 1) := by decide +kernel
theorem dX1_length_5 : decode cX1_length 5 = .ok (.iconst (-1), 1) := by decide +kernel
theorem dX1_length_6 : decode cX1_length 6 = .ok (.if_icmp .eq 16, 3) := by decide +kernel
theorem dX1_length_9 : decode cX1_length 9 = .ok (.iinc 2 1, 3) := by decide +kernel
theorem dX1_length_12 : decode cX1_length 12 = .ok (.aload_n 0, 1) := by decide +kernel
theorem dX1_length_13 : decode cX1_length 13 = .ok (.getfield 19, 3) := by decide +kernel
theorem dX1_length_16 : decode cX1_length 16 = .ok (.iload_n 3, 1) := by decide +kernel
theorem dX1_length_17 : decode cX1_length 17 = .ok (.iaload, 1) := by decide +kernel
theorem dX1_length_18 : decode cX1_length 18 = .ok (.istore_n 3, 1) := by decide +kernel
theorem dX1_length_19 : decode cX1_length 19 = .ok (.goto (-15), 3) := by decide +kernel
theorem dX1_length_22 : decode cX1_length 22 = .ok (.iload_n 2, 1) := by decide +kernel
theorem dX1_length_23 : decode cX1_length 23 = .ok (.ireturn, 1) := by decide +kernel
abbrev cX1_at : ByteArray := prog_4_method_8_code
def yX1_at : MethodName := ⟨RX1, "at", "(II)I"⟩
theorem dX1_at_0 : decode cX1_at 0 = .ok (.iload_n 1, 1) := by decide +kernel
theorem dX1_at_1 : decode cX1_at 1 = .ok (.istore_n 3, 1) := by decide +kernel
theorem dX1_at_2 : decode cX1_at 2 = .ok (.aload_n 0, 1) := by decide +kernel
theorem dX1_at_3 : decode cX1_at 3 = .ok (.iload_n 1, 1) := by decide +kernel
theorem dX1_at_4 : decode cX1_at 4 = .ok (.invokevirtual 32, 3) := by decide +kernel
theorem dX1_at_7 : decode cX1_at 7 = .ok (.iconst 1, 1) := by decide +kernel
theorem dX1_at_8 : decode cX1_at 8 = .ok (.isub, 1) := by decide +kernel
theorem dX1_at_9 : decode cX1_at 9 = .ok (.istore 4, 2) := by decide +kernel
theorem dX1_at_11 : decode cX1_at 11 = .ok (.iload 4, 2) := by decide +kernel
theorem dX1_at_13 : decode cX1_at 13 = .ok (.iload_n 2, 1) := by decide +kernel
theorem dX1_at_14 : decode cX1_at 14 = .ok (.if_icmp .le 16, 3) := by decide +kernel
theorem dX1_at_17 : decode cX1_at 17 = .ok (.aload_n 0, 1) := by decide +kernel
theorem dX1_at_18 : decode cX1_at 18 = .ok (.getfield 19, 3) := by decide +kernel
theorem dX1_at_21 : decode cX1_at 21 = .ok (.iload_n 3, 1) := by decide +kernel
theorem dX1_at_22 : decode cX1_at 22 = .ok (.iaload, 1) := by decide +kernel
theorem dX1_at_23 : decode cX1_at 23 = .ok (.istore_n 3, 1) := by decide +kernel
theorem dX1_at_24 : decode cX1_at 24 = .ok (.iinc 4 (-1), 3) := by decide +kernel
theorem dX1_at_27 : decode cX1_at 27 = .ok (.goto (-16), 3) := by decide +kernel
theorem dX1_at_30 : decode cX1_at 30 = .ok (.iload_n 3, 1) := by decide +kernel
theorem dX1_at_31 : decode cX1_at 31 = .ok (.ireturn, 1) := by decide +kernel
theorem q46 : (Jvm.Cond.initialized "EventHunter$Web") ∈ lw_all := lw_g (lw_at lw_m1 2 rfl) rfl
theorem q61 : (Jvm.Cond.instantiable "EventHunter$Web" (6 : Nat)) ∈ lw_all := lw_g (lw_at lw_m1 17 rfl) rfl
theorem q63 : (Jvm.Cond.instanceMethod ({ cls := "EventHunter$Web", name := "<init>", desc := "()V" } : Jvm.MethodName)) ∈ lw_all := lw_g (lw_at lw_m1 19 rfl) rfl
theorem q64 : (Jvm.Cond.code ({ cls := "EventHunter$Web", name := "<init>", desc := "()V" } : Jvm.MethodName) prog_4_method_1_code (1 : Nat) (Option.none : Option Jvm.ClassFile.FieldType)) ∈ lw_all := lw_g (lw_at lw_m1 20 rfl) rfl
theorem q65 : (Jvm.Cond.methodLink "EventHunter$Web" (3 : Nat) ({ cls := "java/lang/Object", name := "<init>", desc := "()V" } : Jvm.MethodName)) ∈ lw_all := lw_g (lw_at lw_m1 21 rfl) rfl
theorem q66 : (Jvm.Cond.constant "EventHunter$Web" (9 : Nat) (38424 : Int32)) ∈ lw_all := lw_g (lw_at lw_m1 22 rfl) rfl
theorem q67 : (Jvm.Cond.fieldLink "EventHunter$Web" (10 : Nat) "EventHunter$Web" "event" "[I") ∈ lw_all := lw_g (lw_at lw_m1 23 rfl) rfl
theorem q70 : (Jvm.Cond.fieldLink "EventHunter$Web" (16 : Nat) "EventHunter$Web" "step" "[I") ∈ lw_all := lw_g (lw_at lw_m1 26 rfl) rfl
theorem q73 : (Jvm.Cond.fieldLink "EventHunter$Web" (19 : Nat) "EventHunter$Web" "before" "[I") ∈ lw_all := lw_g (lw_at lw_m1 29 rfl) rfl
theorem q76 : (Jvm.Cond.fieldLink "EventHunter$Web" (22 : Nat) "EventHunter$Web" "uses" "[I") ∈ lw_all := lw_g (lw_at lw_m1 32 rfl) rfl
theorem q77 : (Jvm.Cond.fieldLink "EventHunter$Web" (25 : Nat) "EventHunter$Web" "free" "I") ∈ lw_all := lw_g (lw_at lw_m1 33 rfl) rfl
theorem q78 : (Jvm.Cond.fieldLink "EventHunter$Web" (29 : Nat) "EventHunter$Web" "fresh" "I") ∈ lw_all := lw_g (lw_at lw_m1 34 rfl) rfl
theorem q79 : (Jvm.Cond.laysFinal "EventHunter$Web" "EventHunter$Web" "event" "[I") ∈ lw_all := lw_g (lw_at lw_m1 35 rfl) rfl
theorem q80 : (Jvm.Cond.soleField "EventHunter$Web" "event") ∈ lw_all := lw_g (lw_at lw_m1 36 rfl) rfl
theorem q81 : (Jvm.Cond.laysFinal "EventHunter$Web" "EventHunter$Web" "step" "[I") ∈ lw_all := lw_g (lw_at lw_m1 37 rfl) rfl
theorem q82 : (Jvm.Cond.soleField "EventHunter$Web" "step") ∈ lw_all := lw_g (lw_at lw_m1 38 rfl) rfl
theorem q83 : (Jvm.Cond.laysFinal "EventHunter$Web" "EventHunter$Web" "before" "[I") ∈ lw_all := lw_g (lw_at lw_m1 39 rfl) rfl
theorem q84 : (Jvm.Cond.soleField "EventHunter$Web" "before") ∈ lw_all := lw_g (lw_at lw_m1 40 rfl) rfl
theorem q85 : (Jvm.Cond.laysFinal "EventHunter$Web" "EventHunter$Web" "uses" "[I") ∈ lw_all := lw_g (lw_at lw_m1 41 rfl) rfl
theorem q86 : (Jvm.Cond.soleField "EventHunter$Web" "uses") ∈ lw_all := lw_g (lw_at lw_m1 42 rfl) rfl
theorem q87 : (Jvm.Cond.lays "EventHunter$Web" "EventHunter$Web" "free" "I") ∈ lw_all := lw_g (lw_at lw_m1 43 rfl) rfl
theorem q88 : (Jvm.Cond.soleField "EventHunter$Web" "free") ∈ lw_all := lw_g (lw_at lw_m1 44 rfl) rfl
theorem q89 : (Jvm.Cond.lays "EventHunter$Web" "EventHunter$Web" "fresh" "I") ∈ lw_all := lw_g (lw_at lw_m1 45 rfl) rfl
theorem q90 : (Jvm.Cond.soleField "EventHunter$Web" "fresh") ∈ lw_all := lw_g (lw_at lw_m1 46 rfl) rfl
theorem q91 : (Jvm.Cond.superclass "EventHunter$Web" "java/lang/Object") ∈ lw_all := lw_g (lw_at lw_m1 47 rfl) rfl
theorem q335 : (Jvm.Cond.instanceMethod ({ cls := "EventHunter$Web", name := "first", desc := "(I)I" } : Jvm.MethodName)) ∈ lw_all := lw_g (lw_at lw_m2 51 rfl) rfl
theorem q336 : (Jvm.Cond.selects "EventHunter$Web" ({ cls := "EventHunter$Web", name := "first", desc := "(I)I" } : Jvm.MethodName) ({ cls := "EventHunter$Web", name := "first", desc := "(I)I" } : Jvm.MethodName)) ∈ lw_all := lw_g (lw_at lw_m2 52 rfl) rfl
theorem q337 : (Jvm.Cond.code ({ cls := "EventHunter$Web", name := "first", desc := "(I)I" } : Jvm.MethodName) prog_4_method_4_code (3 : Nat) (Option.some Jvm.ClassFile.FieldType.int)) ∈ lw_all := lw_g (lw_at lw_m2 53 rfl) rfl
theorem q339 : (Jvm.Cond.instanceMethod ({ cls := "EventHunter$Web", name := "leave", desc := "(I)V" } : Jvm.MethodName)) ∈ lw_all := lw_g (lw_at lw_m2 55 rfl) rfl
theorem q340 : (Jvm.Cond.selects "EventHunter$Web" ({ cls := "EventHunter$Web", name := "leave", desc := "(I)V" } : Jvm.MethodName) ({ cls := "EventHunter$Web", name := "leave", desc := "(I)V" } : Jvm.MethodName)) ∈ lw_all := lw_g (lw_at lw_m2 56 rfl) rfl
theorem q341 : (Jvm.Cond.code ({ cls := "EventHunter$Web", name := "leave", desc := "(I)V" } : Jvm.MethodName) prog_4_method_3_code (4 : Nat) (Option.none : Option Jvm.ClassFile.FieldType)) ∈ lw_all := lw_g (lw_at lw_m2 57 rfl) rfl
theorem q363 : (Jvm.Cond.instanceMethod ({ cls := "EventHunter$Web", name := "last", desc := "(II)I" } : Jvm.MethodName)) ∈ lw_all := lw_g (lw_at lw_m2 79 rfl) rfl
theorem q364 : (Jvm.Cond.selects "EventHunter$Web" ({ cls := "EventHunter$Web", name := "last", desc := "(II)I" } : Jvm.MethodName) ({ cls := "EventHunter$Web", name := "last", desc := "(II)I" } : Jvm.MethodName)) ∈ lw_all := lw_g (lw_at lw_m2 80 rfl) rfl
theorem q365 : (Jvm.Cond.code ({ cls := "EventHunter$Web", name := "last", desc := "(II)I" } : Jvm.MethodName) prog_4_method_6_code (4 : Nat) (Option.some Jvm.ClassFile.FieldType.int)) ∈ lw_all := lw_g (lw_at lw_m2 81 rfl) rfl
theorem q367 : (Jvm.Cond.instanceMethod ({ cls := "EventHunter$Web", name := "count", desc := "(I)I" } : Jvm.MethodName)) ∈ lw_all := lw_g (lw_at lw_m2 83 rfl) rfl
theorem q368 : (Jvm.Cond.selects "EventHunter$Web" ({ cls := "EventHunter$Web", name := "count", desc := "(I)I" } : Jvm.MethodName) ({ cls := "EventHunter$Web", name := "count", desc := "(I)I" } : Jvm.MethodName)) ∈ lw_all := lw_g (lw_at lw_m2 84 rfl) rfl
theorem q369 : (Jvm.Cond.code ({ cls := "EventHunter$Web", name := "count", desc := "(I)I" } : Jvm.MethodName) prog_4_method_5_code (4 : Nat) (Option.some Jvm.ClassFile.FieldType.int)) ∈ lw_all := lw_g (lw_at lw_m2 85 rfl) rfl
theorem q371 : (Jvm.Cond.instanceMethod ({ cls := "EventHunter$Web", name := "take", desc := "(III)I" } : Jvm.MethodName)) ∈ lw_all := lw_g (lw_at lw_m2 87 rfl) rfl
theorem q372 : (Jvm.Cond.selects "EventHunter$Web" ({ cls := "EventHunter$Web", name := "take", desc := "(III)I" } : Jvm.MethodName) ({ cls := "EventHunter$Web", name := "take", desc := "(III)I" } : Jvm.MethodName)) ∈ lw_all := lw_g (lw_at lw_m2 88 rfl) rfl
theorem q373 : (Jvm.Cond.code ({ cls := "EventHunter$Web", name := "take", desc := "(III)I" } : Jvm.MethodName) prog_4_method_2_code (5 : Nat) (Option.some Jvm.ClassFile.FieldType.int)) ∈ lw_all := lw_g (lw_at lw_m2 89 rfl) rfl
theorem q391 : (Jvm.Cond.instanceMethod ({ cls := "EventHunter$Web", name := "length", desc := "(I)I" } : Jvm.MethodName)) ∈ lw_all := lw_g (lw_at lw_m2 107 rfl) rfl
theorem q392 : (Jvm.Cond.selects "EventHunter$Web" ({ cls := "EventHunter$Web", name := "length", desc := "(I)I" } : Jvm.MethodName) ({ cls := "EventHunter$Web", name := "length", desc := "(I)I" } : Jvm.MethodName)) ∈ lw_all := lw_g (lw_at lw_m2 108 rfl) rfl
theorem q393 : (Jvm.Cond.code ({ cls := "EventHunter$Web", name := "length", desc := "(I)I" } : Jvm.MethodName) prog_4_method_7_code (4 : Nat) (Option.some Jvm.ClassFile.FieldType.int)) ∈ lw_all := lw_g (lw_at lw_m2 109 rfl) rfl
theorem q445 : (Jvm.Cond.instanceMethod ({ cls := "EventHunter$Web", name := "at", desc := "(II)I" } : Jvm.MethodName)) ∈ lw_all := lw_g (lw_at lw_m2 161 rfl) rfl
theorem q446 : (Jvm.Cond.selects "EventHunter$Web" ({ cls := "EventHunter$Web", name := "at", desc := "(II)I" } : Jvm.MethodName) ({ cls := "EventHunter$Web", name := "at", desc := "(II)I" } : Jvm.MethodName)) ∈ lw_all := lw_g (lw_at lw_m2 162 rfl) rfl
theorem q447 : (Jvm.Cond.code ({ cls := "EventHunter$Web", name := "at", desc := "(II)I" } : Jvm.MethodName) prog_4_method_8_code (5 : Nat) (Option.some Jvm.ClassFile.FieldType.int)) ∈ lw_all := lw_g (lw_at lw_m2 163 rfl) rfl
theorem q448 : (Jvm.Cond.methodLink "EventHunter$Web" (32 : Nat) ({ cls := "EventHunter$Web", name := "length", desc := "(I)I" } : Jvm.MethodName)) ∈ lw_all := lw_g (lw_at lw_m2 164 rfl) rfl
theorem in_X1 : ∀ w ∈ wsX10, w ∈ lw_all := lw_in wsX10 [79, 81, 83, 85, 87, 89] (by decide +kernel) (by decide +kernel)
/-! EventHunter$Plain -/
set_option maxRecDepth 100000
def RX2 : String := "EventHunter$Plain"
def TX2 : u_T := fun k => match k with
  | 0 => ("EventHunter$Plain", "event", "[I", true)
  | 1 => ("EventHunter$Plain", "step", "[I", true)
  | 2 => ("EventHunter$Plain", "p", "LEventHunter$Pattern;", false)
  | 3 => ("EventHunter$Plain", "rows", "I", false)
  | _ => ("EventHunter$Plain", "this$0", "LEventHunter;", true)
def tyX2 : Nat → FieldType := fun k => match k with
  | 0 => .array .int
  | 1 => .array .int
  | 2 => .object "EventHunter$Pattern"
  | 3 => .int
  | _ => .object "EventHunter"
abbrev wsX20 : List Cond := u_ws RX2 TX2 5
theorem nmX2 : ∀ a, a < 5 → ∀ b, b < 5 → a ≠ b → (TX2 a).2.1 ≠ (TX2 b).2.1 := by decide +kernel
theorem tyX2_ok : ∀ k, k < 5 → parseFieldDescriptor (TX2 k).2.2.1 = some (tyX2 k) := by decide +kernel
abbrev cX2_init : ByteArray := prog_3_method_1_code
def yX2_init : MethodName := ⟨RX2, "<init>", "(LEventHunter;)V"⟩
theorem dX2_init_0 : decode cX2_init 0 = .ok (.aload_n 0, 1) := by decide +kernel
theorem dX2_init_1 : decode cX2_init 1 = .ok (.aload_n 1, 1) := by decide +kernel
theorem dX2_init_2 : decode cX2_init 2 = .ok (.putfield 3, 3) := by decide +kernel
theorem dX2_init_5 : decode cX2_init 5 = .ok (.aload_n 0, 1) := by decide +kernel
theorem dX2_init_6 : decode cX2_init 6 = .ok (.invokespecial 9, 3) := by decide +kernel
theorem dX2_init_9 : decode cX2_init 9 = .ok (.aload_n 0, 1) := by decide +kernel
theorem dX2_init_10 : decode cX2_init 10 = .ok (.bipush 12, 2) := by decide +kernel
theorem dX2_init_12 : decode cX2_init 12 = .ok (.newarray .int, 2) := by decide +kernel
theorem dX2_init_14 : decode cX2_init 14 = .ok (.putfield 15, 3) := by decide +kernel
theorem dX2_init_17 : decode cX2_init 17 = .ok (.aload_n 0, 1) := by decide +kernel
theorem dX2_init_18 : decode cX2_init 18 = .ok (.bipush 12, 2) := by decide +kernel
theorem dX2_init_20 : decode cX2_init 20 = .ok (.newarray .int, 2) := by decide +kernel
theorem dX2_init_22 : decode cX2_init 22 = .ok (.putfield 19, 3) := by decide +kernel
theorem dX2_init_25 : decode cX2_init 25 = .ok (.return_, 1) := by decide +kernel
abbrev cX2_count : ByteArray := prog_3_method_2_code
def yX2_count : MethodName := ⟨RX2, "count", "(LEventHunter$Pattern;)I"⟩
theorem dX2_count_0 : decode cX2_count 0 = .ok (.aload_n 0, 1) := by decide +kernel
theorem dX2_count_1 : decode cX2_count 1 = .ok (.aload_n 1, 1) := by decide +kernel
theorem dX2_count_2 : decode cX2_count 2 = .ok (.putfield 22, 3) := by decide +kernel
theorem dX2_count_5 : decode cX2_count 5 = .ok (.aload_n 0, 1) := by decide +kernel
theorem dX2_count_6 : decode cX2_count 6 = .ok (.iconst 0, 1) := by decide +kernel
theorem dX2_count_7 : decode cX2_count 7 = .ok (.putfield 26, 3) := by decide +kernel
theorem dX2_count_10 : decode cX2_count 10 = .ok (.aload_n 0, 1) := by decide +kernel
theorem dX2_count_11 : decode cX2_count 11 = .ok (.getfield 22, 3) := by decide +kernel
theorem dX2_count_14 : decode cX2_count 14 = .ok (.getfield 30, 3) := by decide +kernel
theorem dX2_count_17 : decode cX2_count 17 = .ok (.istore_n 2, 1) := by decide +kernel
theorem dX2_count_18 : decode cX2_count 18 = .ok (.iload_n 2, 1) := by decide +kernel
theorem dX2_count_19 : decode cX2_count 19 = .ok (.aload_n 0, 1) := by decide +kernel
theorem dX2_count_20 : decode cX2_count 20 = .ok (.getfield 3, 3) := by decide +kernel
theorem dX2_count_23 : decode cX2_count 23 = .ok (.getfield 35, 3) := by decide +kernel
theorem dX2_count_26 : decode cX2_count 26 = .ok (.if_icmp .ge 41, 3) := by decide +kernel
theorem dX2_count_29 : decode cX2_count 29 = .ok (.aload_n 0, 1) := by decide +kernel
theorem dX2_count_30 : decode cX2_count 30 = .ok (.iconst 0, 1) := by decide +kernel
theorem dX2_count_31 : decode cX2_count 31 = .ok (.iconst 0, 1) := by decide +kernel
theorem dX2_count_32 : decode cX2_count 32 = .ok (.iload_n 2, 1) := by decide +kernel
theorem dX2_count_33 : decode cX2_count 33 = .ok (.invokevirtual 38, 3) := by decide +kernel
theorem dX2_count_36 : decode cX2_count 36 = .ok (.ifCond .ne 6, 3) := by decide +kernel
theorem dX2_count_39 : decode cX2_count 39 = .ok (.goto 22, 3) := by decide +kernel
theorem dX2_count_42 : decode cX2_count 42 = .ok (.aload_n 0, 1) := by decide +kernel
theorem dX2_count_43 : decode cX2_count 43 = .ok (.getfield 15, 3) := by decide +kernel
theorem dX2_count_46 : decode cX2_count 46 = .ok (.iconst 0, 1) := by decide +kernel
theorem dX2_count_47 : decode cX2_count 47 = .ok (.iload_n 2, 1) := by decide +kernel
theorem dX2_count_48 : decode cX2_count 48 = .ok (.iastore, 1) := by decide +kernel
theorem dX2_count_49 : decode cX2_count 49 = .ok (.aload_n 0, 1) := by decide +kernel
theorem dX2_count_50 : decode cX2_count 50 = .ok (.getfield 19, 3) := by decide +kernel
theorem dX2_count_53 : decode cX2_count 53 = .ok (.iconst 0, 1) := by decide +kernel
theorem dX2_count_54 : decode cX2_count 54 = .ok (.iconst 0, 1) := by decide +kernel
theorem dX2_count_55 : decode cX2_count 55 = .ok (.iastore, 1) := by decide +kernel
theorem dX2_count_56 : decode cX2_count 56 = .ok (.aload_n 0, 1) := by decide +kernel
theorem dX2_count_57 : decode cX2_count 57 = .ok (.iconst 1, 1) := by decide +kernel
theorem dX2_count_58 : decode cX2_count 58 = .ok (.invokevirtual 42, 3) := by decide +kernel
theorem dX2_count_61 : decode cX2_count 61 = .ok (.iinc 2 1, 3) := by decide +kernel
theorem dX2_count_64 : decode cX2_count 64 = .ok (.goto (-46), 3) := by decide +kernel
theorem dX2_count_67 : decode cX2_count 67 = .ok (.aload_n 0, 1) := by decide +kernel
theorem dX2_count_68 : decode cX2_count 68 = .ok (.getfield 26, 3) := by decide +kernel
theorem dX2_count_71 : decode cX2_count 71 = .ok (.ireturn, 1) := by decide +kernel
abbrev cX2_fits : ByteArray := prog_3_method_4_code
def yX2_fits : MethodName := ⟨RX2, "fits", "(III)Z"⟩
theorem dX2_fits_0 : decode cX2_fits 0 = .ok (.aload_n 0, 1) := by decide +kernel
theorem dX2_fits_1 : decode cX2_fits 1 = .ok (.getfield 3, 3) := by decide +kernel
theorem dX2_fits_4 : decode cX2_fits 4 = .ok (.aload_n 0, 1) := by decide +kernel
theorem dX2_fits_5 : decode cX2_fits 5 = .ok (.getfield 3, 3) := by decide +kernel
theorem dX2_fits_8 : decode cX2_fits 8 = .ok (.getfield 46, 3) := by decide +kernel
theorem dX2_fits_11 : decode cX2_fits 11 = .ok (.iload_n 3, 1) := by decide +kernel
theorem dX2_fits_12 : decode cX2_fits 12 = .ok (.iaload, 1) := by decide +kernel
theorem dX2_fits_13 : decode cX2_fits 13 = .ok (.aload_n 0, 1) := by decide +kernel
theorem dX2_fits_14 : decode cX2_fits 14 = .ok (.getfield 22, 3) := by decide +kernel
theorem dX2_fits_17 : decode cX2_fits 17 = .ok (.getfield 49, 3) := by decide +kernel
theorem dX2_fits_20 : decode cX2_fits 20 = .ok (.iload_n 1, 1) := by decide +kernel
theorem dX2_fits_21 : decode cX2_fits 21 = .ok (.iaload, 1) := by decide +kernel
theorem dX2_fits_22 : decode cX2_fits 22 = .ok (.invokevirtual 52, 3) := by decide +kernel
theorem dX2_fits_25 : decode cX2_fits 25 = .ok (.ifCond .ne 5, 3) := by decide +kernel
theorem dX2_fits_28 : decode cX2_fits 28 = .ok (.iconst 0, 1) := by decide +kernel
theorem dX2_fits_29 : decode cX2_fits 29 = .ok (.ireturn, 1) := by decide +kernel
theorem dX2_fits_30 : decode cX2_fits 30 = .ok (.aload_n 0, 1) := by decide +kernel
theorem dX2_fits_31 : decode cX2_fits 31 = .ok (.getfield 22, 3) := by decide +kernel
theorem dX2_fits_34 : decode cX2_fits 34 = .ok (.getfield 56, 3) := by decide +kernel
theorem dX2_fits_37 : decode cX2_fits 37 = .ok (.iload_n 1, 1) := by decide +kernel
theorem dX2_fits_38 : decode cX2_fits 38 = .ok (.iaload, 1) := by decide +kernel
theorem dX2_fits_39 : decode cX2_fits 39 = .ok (.istore 4, 2) := by decide +kernel
theorem dX2_fits_41 : decode cX2_fits 41 = .ok (.aload_n 0, 1) := by decide +kernel
theorem dX2_fits_42 : decode cX2_fits 42 = .ok (.getfield 3, 3) := by decide +kernel
theorem dX2_fits_45 : decode cX2_fits 45 = .ok (.getfield 59, 3) := by decide +kernel
theorem dX2_fits_48 : decode cX2_fits 48 = .ok (.iload_n 3, 1) := by decide +kernel
theorem dX2_fits_49 : decode cX2_fits 49 = .ok (.iconst 4, 1) := by decide +kernel
theorem dX2_fits_50 : decode cX2_fits 50 = .ok (.imul, 1) := by decide +kernel
theorem dX2_fits_51 : decode cX2_fits 51 = .ok (.aload_n 0, 1) := by decide +kernel
theorem dX2_fits_52 : decode cX2_fits 52 = .ok (.getfield 22, 3) := by decide +kernel
theorem dX2_fits_55 : decode cX2_fits 55 = .ok (.getfield 62, 3) := by decide +kernel
theorem dX2_fits_58 : decode cX2_fits 58 = .ok (.iload_n 1, 1) := by decide +kernel
theorem dX2_fits_59 : decode cX2_fits 59 = .ok (.iaload, 1) := by decide +kernel
theorem dX2_fits_60 : decode cX2_fits 60 = .ok (.iadd, 1) := by decide +kernel
theorem dX2_fits_61 : decode cX2_fits 61 = .ok (.iaload, 1) := by decide +kernel
theorem dX2_fits_62 : decode cX2_fits 62 = .ok (.istore 5, 2) := by decide +kernel
theorem dX2_fits_64 : decode cX2_fits 64 = .ok (.aload_n 0, 1) := by decide +kernel
theorem dX2_fits_65 : decode cX2_fits 65 = .ok (.getfield 22, 3) := by decide +kernel
theorem dX2_fits_68 : decode cX2_fits 68 = .ok (.getfield 65, 3) := by decide +kernel
theorem dX2_fits_71 : decode cX2_fits 71 = .ok (.iload_n 1, 1) := by decide +kernel
theorem dX2_fits_72 : decode cX2_fits 72 = .ok (.iaload, 1) := by decide +kernel
theorem dX2_fits_73 : decode cX2_fits 73 = .ok (.tableswitch 72 0 3 #[31, 33, 46, 59], 31) := by decide +kernel
theorem dX2_fits_104 : decode cX2_fits 104 = .ok (.iconst 1, 1) := by decide +kernel
theorem dX2_fits_105 : decode cX2_fits 105 = .ok (.ireturn, 1) := by decide +kernel
theorem dX2_fits_106 : decode cX2_fits 106 = .ok (.iload 5, 2) := by decide +kernel
theorem dX2_fits_108 : decode cX2_fits 108 = .ok (.iload 4, 2) := by decide +kernel
theorem dX2_fits_110 : decode cX2_fits 110 = .ok (.if_icmp .ge 7, 3) := by decide +kernel
theorem dX2_fits_113 : decode cX2_fits 113 = .ok (.iconst 1, 1) := by decide +kernel
theorem dX2_fits_114 : decode cX2_fits 114 = .ok (.goto 4, 3) := by decide +kernel
theorem dX2_fits_117 : decode cX2_fits 117 = .ok (.iconst 0, 1) := by decide +kernel
theorem dX2_fits_118 : decode cX2_fits 118 = .ok (.ireturn, 1) := by decide +kernel
theorem dX2_fits_119 : decode cX2_fits 119 = .ok (.iload 5, 2) := by decide +kernel
theorem dX2_fits_121 : decode cX2_fits 121 = .ok (.iload 4, 2) := by decide +kernel
theorem dX2_fits_123 : decode cX2_fits 123 = .ok (.if_icmp .ne 7, 3) := by decide +kernel
theorem dX2_fits_126 : decode cX2_fits 126 = .ok (.iconst 1, 1) := by decide +kernel
theorem dX2_fits_127 : decode cX2_fits 127 = .ok (.goto 4, 3) := by decide +kernel
theorem dX2_fits_130 : decode cX2_fits 130 = .ok (.iconst 0, 1) := by decide +kernel
theorem dX2_fits_131 : decode cX2_fits 131 = .ok (.ireturn, 1) := by decide +kernel
theorem dX2_fits_132 : decode cX2_fits 132 = .ok (.iload 5, 2) := by decide +kernel
theorem dX2_fits_134 : decode cX2_fits 134 = .ok (.iload 4, 2) := by decide +kernel
theorem dX2_fits_136 : decode cX2_fits 136 = .ok (.if_icmp .le 7, 3) := by decide +kernel
theorem dX2_fits_139 : decode cX2_fits 139 = .ok (.iconst 1, 1) := by decide +kernel
theorem dX2_fits_140 : decode cX2_fits 140 = .ok (.goto 4, 3) := by decide +kernel
theorem dX2_fits_143 : decode cX2_fits 143 = .ok (.iconst 0, 1) := by decide +kernel
theorem dX2_fits_144 : decode cX2_fits 144 = .ok (.ireturn, 1) := by decide +kernel
theorem dX2_fits_145 : decode cX2_fits 145 = .ok (.aload_n 0, 1) := by decide +kernel
theorem dX2_fits_146 : decode cX2_fits 146 = .ok (.iload_n 2, 1) := by decide +kernel
theorem dX2_fits_147 : decode cX2_fits 147 = .ok (.iload 4, 2) := by decide +kernel
theorem dX2_fits_149 : decode cX2_fits 149 = .ok (.invokevirtual 68, 3) := by decide +kernel
theorem dX2_fits_152 : decode cX2_fits 152 = .ok (.istore 6, 2) := by decide +kernel
theorem dX2_fits_154 : decode cX2_fits 154 = .ok (.iload 6, 2) := by decide +kernel
theorem dX2_fits_156 : decode cX2_fits 156 = .ok (.iconst (-1), 1) := by decide +kernel
theorem dX2_fits_157 : decode cX2_fits 157 = .ok (.if_icmp .ne 5, 3) := by decide +kernel
theorem dX2_fits_160 : decode cX2_fits 160 = .ok (.iconst 1, 1) := by decide +kernel
theorem dX2_fits_161 : decode cX2_fits 161 = .ok (.ireturn, 1) := by decide +kernel
theorem dX2_fits_162 : decode cX2_fits 162 = .ok (.aload_n 0, 1) := by decide +kernel
theorem dX2_fits_163 : decode cX2_fits 163 = .ok (.getfield 3, 3) := by decide +kernel
theorem dX2_fits_166 : decode cX2_fits 166 = .ok (.getfield 59, 3) := by decide +kernel
theorem dX2_fits_169 : decode cX2_fits 169 = .ok (.iload 6, 2) := by decide +kernel
theorem dX2_fits_171 : decode cX2_fits 171 = .ok (.iconst 4, 1) := by decide +kernel
theorem dX2_fits_172 : decode cX2_fits 172 = .ok (.imul, 1) := by decide +kernel
theorem dX2_fits_173 : decode cX2_fits 173 = .ok (.aload_n 0, 1) := by decide +kernel
theorem dX2_fits_174 : decode cX2_fits 174 = .ok (.getfield 22, 3) := by decide +kernel
theorem dX2_fits_177 : decode cX2_fits 177 = .ok (.getfield 62, 3) := by decide +kernel
theorem dX2_fits_180 : decode cX2_fits 180 = .ok (.iload_n 1, 1) := by decide +kernel
theorem dX2_fits_181 : decode cX2_fits 181 = .ok (.iaload, 1) := by decide +kernel
theorem dX2_fits_182 : decode cX2_fits 182 = .ok (.iadd, 1) := by decide +kernel
theorem dX2_fits_183 : decode cX2_fits 183 = .ok (.iaload, 1) := by decide +kernel
theorem dX2_fits_184 : decode cX2_fits 184 = .ok (.istore 7, 2) := by decide +kernel
theorem dX2_fits_186 : decode cX2_fits 186 = .ok (.aload_n 0, 1) := by decide +kernel
theorem dX2_fits_187 : decode cX2_fits 187 = .ok (.getfield 22, 3) := by decide +kernel
theorem dX2_fits_190 : decode cX2_fits 190 = .ok (.getfield 65, 3) := by decide +kernel
theorem dX2_fits_193 : decode cX2_fits 193 = .ok (.iload_n 1, 1) := by decide +kernel
theorem dX2_fits_194 : decode cX2_fits 194 = .ok (.iaload, 1) := by decide +kernel
theorem dX2_fits_195 : decode cX2_fits 195 = .ok (.iconst 4, 1) := by decide +kernel
theorem dX2_fits_196 : decode cX2_fits 196 = .ok (.if_icmp .ne 18, 3) := by decide +kernel
theorem dX2_fits_199 : decode cX2_fits 199 = .ok (.iload 5, 2) := by decide +kernel
theorem dX2_fits_201 : decode cX2_fits 201 = .ok (.iload 7, 2) := by decide +kernel
theorem dX2_fits_203 : decode cX2_fits 203 = .ok (.if_icmp .ge 7, 3) := by decide +kernel
theorem dX2_fits_206 : decode cX2_fits 206 = .ok (.iconst 1, 1) := by decide +kernel
theorem dX2_fits_207 : decode cX2_fits 207 = .ok (.goto 47, 3) := by decide +kernel
theorem dX2_fits_210 : decode cX2_fits 210 = .ok (.iconst 0, 1) := by decide +kernel
theorem dX2_fits_211 : decode cX2_fits 211 = .ok (.goto 43, 3) := by decide +kernel
theorem dX2_fits_214 : decode cX2_fits 214 = .ok (.aload_n 0, 1) := by decide +kernel
theorem dX2_fits_215 : decode cX2_fits 215 = .ok (.getfield 22, 3) := by decide +kernel
theorem dX2_fits_218 : decode cX2_fits 218 = .ok (.getfield 65, 3) := by decide +kernel
theorem dX2_fits_221 : decode cX2_fits 221 = .ok (.iload_n 1, 1) := by decide +kernel
theorem dX2_fits_222 : decode cX2_fits 222 = .ok (.iaload, 1) := by decide +kernel
theorem dX2_fits_223 : decode cX2_fits 223 = .ok (.iconst 5, 1) := by decide +kernel
theorem dX2_fits_224 : decode cX2_fits 224 = .ok (.if_icmp .ne 18, 3) := by decide +kernel
theorem dX2_fits_227 : decode cX2_fits 227 = .ok (.iload 5, 2) := by decide +kernel
theorem dX2_fits_229 : decode cX2_fits 229 = .ok (.iload 7, 2) := by decide +kernel
theorem dX2_fits_231 : decode cX2_fits 231 = .ok (.if_icmp .ne 7, 3) := by decide +kernel
theorem dX2_fits_234 : decode cX2_fits 234 = .ok (.iconst 1, 1) := by decide +kernel
theorem dX2_fits_235 : decode cX2_fits 235 = .ok (.goto 19, 3) := by decide +kernel
theorem dX2_fits_238 : decode cX2_fits 238 = .ok (.iconst 0, 1) := by decide +kernel
theorem dX2_fits_239 : decode cX2_fits 239 = .ok (.goto 15, 3) := by decide +kernel
theorem dX2_fits_242 : decode cX2_fits 242 = .ok (.iload 5, 2) := by decide +kernel
theorem dX2_fits_244 : decode cX2_fits 244 = .ok (.iload 7, 2) := by decide +kernel
theorem dX2_fits_246 : decode cX2_fits 246 = .ok (.if_icmp .le 7, 3) := by decide +kernel
theorem dX2_fits_249 : decode cX2_fits 249 = .ok (.iconst 1, 1) := by decide +kernel
theorem dX2_fits_250 : decode cX2_fits 250 = .ok (.goto 4, 3) := by decide +kernel
theorem dX2_fits_253 : decode cX2_fits 253 = .ok (.iconst 0, 1) := by decide +kernel
theorem dX2_fits_254 : decode cX2_fits 254 = .ok (.ireturn, 1) := by decide +kernel
abbrev cX2_last : ByteArray := prog_3_method_3_code
def yX2_last : MethodName := ⟨RX2, "last", "(II)I"⟩
theorem dX2_last_0 : decode cX2_last 0 = .ok (.iload_n 1, 1) := by decide +kernel
theorem dX2_last_1 : decode cX2_last 1 = .ok (.iconst 1, 1) := by decide +kernel
theorem dX2_last_2 : decode cX2_last 2 = .ok (.isub, 1) := by decide +kernel
theorem dX2_last_3 : decode cX2_last 3 = .ok (.istore_n 3, 1) := by decide +kernel
theorem dX2_last_4 : decode cX2_last 4 = .ok (.iload_n 3, 1) := by decide +kernel
theorem dX2_last_5 : decode cX2_last 5 = .ok (.ifCond .lt 19, 3) := by decide +kernel
theorem dX2_last_8 : decode cX2_last 8 = .ok (.aload_n 0, 1) := by decide +kernel
theorem dX2_last_9 : decode cX2_last 9 = .ok (.getfield 19, 3) := by decide +kernel
theorem dX2_last_12 : decode cX2_last 12 = .ok (.iload_n 3, 1) := by decide +kernel
theorem dX2_last_13 : decode cX2_last 13 = .ok (.iaload, 1) := by decide +kernel
theorem dX2_last_14 : decode cX2_last 14 = .ok (.iload_n 2, 1) := by decide +kernel
theorem dX2_last_15 : decode cX2_last 15 = .ok (.if_icmp .eq 9, 3) := by decide +kernel
theorem dX2_last_18 : decode cX2_last 18 = .ok (.iinc 3 (-1), 3) := by decide +kernel
theorem dX2_last_21 : decode cX2_last 21 = .ok (.goto (-17), 3) := by decide +kernel
theorem dX2_last_24 : decode cX2_last 24 = .ok (.iload_n 3, 1) := by decide +kernel
theorem dX2_last_25 : decode cX2_last 25 = .ok (.ifCond .ge 7, 3) := by decide +kernel
theorem dX2_last_28 : decode cX2_last 28 = .ok (.iconst (-1), 1) := by decide +kernel
theorem dX2_last_29 : decode cX2_last 29 = .ok (.goto 9, 3) := by decide +kernel
theorem dX2_last_32 : decode cX2_last 32 = .ok (.aload_n 0, 1) := by decide +kernel
theorem dX2_last_33 : decode cX2_last 33 = .ok (.getfield 15, 3) := by decide +kernel
theorem dX2_last_36 : decode cX2_last 36 = .ok (.iload_n 3, 1) := by decide +kernel
theorem dX2_last_37 : decode cX2_last 37 = .ok (.iaload, 1) := by decide +kernel
theorem dX2_last_38 : decode cX2_last 38 = .ok (.ireturn, 1) := by decide +kernel
abbrev cX2_go : ByteArray := prog_3_method_8_code
def yX2_go : MethodName := ⟨RX2, "go", "(I)V"⟩
theorem dX2_go_0 : decode cX2_go 0 = .ok (.aload_n 0, 1) := by decide +kernel
theorem dX2_go_1 : decode cX2_go 1 = .ok (.aload_n 0, 1) := by decide +kernel
theorem dX2_go_2 : decode cX2_go 2 = .ok (.getfield 19, 3) := by decide +kernel
theorem dX2_go_5 : decode cX2_go 5 = .ok (.iload_n 1, 1) := by decide +kernel
theorem dX2_go_6 : decode cX2_go 6 = .ok (.iconst 1, 1) := by decide +kernel
theorem dX2_go_7 : decode cX2_go 7 = .ok (.isub, 1) := by decide +kernel
theorem dX2_go_8 : decode cX2_go 8 = .ok (.iaload, 1) := by decide +kernel
theorem dX2_go_9 : decode cX2_go 9 = .ok (.invokevirtual 81, 3) := by decide +kernel
theorem dX2_go_12 : decode cX2_go 12 = .ok (.ifCond .eq 13, 3) := by decide +kernel
theorem dX2_go_15 : decode cX2_go 15 = .ok (.aload_n 0, 1) := by decide +kernel
theorem dX2_go_16 : decode cX2_go 16 = .ok (.dup, 1) := by decide +kernel
theorem dX2_go_17 : decode cX2_go 17 = .ok (.getfield 26, 3) := by decide +kernel
theorem dX2_go_20 : decode cX2_go 20 = .ok (.iconst 1, 1) := by decide +kernel
theorem dX2_go_21 : decode cX2_go 21 = .ok (.iadd, 1) := by decide +kernel
theorem dX2_go_22 : decode cX2_go 22 = .ok (.putfield 26, 3) := by decide +kernel
theorem dX2_go_25 : decode cX2_go 25 = .ok (.iload_n 1, 1) := by decide +kernel
theorem dX2_go_26 : decode cX2_go 26 = .ok (.bipush 12, 2) := by decide +kernel
theorem dX2_go_28 : decode cX2_go 28 = .ok (.if_icmp .ne 4, 3) := by decide +kernel
theorem dX2_go_31 : decode cX2_go 31 = .ok (.return_, 1) := by decide +kernel
theorem dX2_go_32 : decode cX2_go 32 = .ok (.aload_n 0, 1) := by decide +kernel
theorem dX2_go_33 : decode cX2_go 33 = .ok (.getfield 19, 3) := by decide +kernel
theorem dX2_go_36 : decode cX2_go 36 = .ok (.iload_n 1, 1) := by decide +kernel
theorem dX2_go_37 : decode cX2_go 37 = .ok (.iconst 1, 1) := by decide +kernel
theorem dX2_go_38 : decode cX2_go 38 = .ok (.isub, 1) := by decide +kernel
theorem dX2_go_39 : decode cX2_go 39 = .ok (.iaload, 1) := by decide +kernel
theorem dX2_go_40 : decode cX2_go 40 = .ok (.istore_n 2, 1) := by decide +kernel
theorem dX2_go_41 : decode cX2_go 41 = .ok (.aload_n 0, 1) := by decide +kernel
theorem dX2_go_42 : decode cX2_go 42 = .ok (.getfield 15, 3) := by decide +kernel
theorem dX2_go_45 : decode cX2_go 45 = .ok (.iload_n 1, 1) := by decide +kernel
theorem dX2_go_46 : decode cX2_go 46 = .ok (.iconst 1, 1) := by decide +kernel
theorem dX2_go_47 : decode cX2_go 47 = .ok (.isub, 1) := by decide +kernel
theorem dX2_go_48 : decode cX2_go 48 = .ok (.iaload, 1) := by decide +kernel
theorem dX2_go_49 : decode cX2_go 49 = .ok (.iconst 1, 1) := by decide +kernel
theorem dX2_go_50 : decode cX2_go 50 = .ok (.iadd, 1) := by decide +kernel
theorem dX2_go_51 : decode cX2_go 51 = .ok (.istore_n 3, 1) := by decide +kernel
theorem dX2_go_52 : decode cX2_go 52 = .ok (.iload_n 3, 1) := by decide +kernel
theorem dX2_go_53 : decode cX2_go 53 = .ok (.aload_n 0, 1) := by decide +kernel
theorem dX2_go_54 : decode cX2_go 54 = .ok (.getfield 3, 3) := by decide +kernel
theorem dX2_go_57 : decode cX2_go 57 = .ok (.getfield 35, 3) := by decide +kernel
theorem dX2_go_60 : decode cX2_go 60 = .ok (.if_icmp .ge 172, 3) := by decide +kernel
theorem dX2_go_63 : decode cX2_go 63 = .ok (.aload_n 0, 1) := by decide +kernel
theorem dX2_go_64 : decode cX2_go 64 = .ok (.getfield 3, 3) := by decide +kernel
theorem dX2_go_67 : decode cX2_go 67 = .ok (.getfield 85, 3) := by decide +kernel
theorem dX2_go_70 : decode cX2_go 70 = .ok (.iload_n 3, 1) := by decide +kernel
theorem dX2_go_71 : decode cX2_go 71 = .ok (.iaload, 1) := by decide +kernel
theorem dX2_go_72 : decode cX2_go 72 = .ok (.aload_n 0, 1) := by decide +kernel
theorem dX2_go_73 : decode cX2_go 73 = .ok (.getfield 3, 3) := by decide +kernel
theorem dX2_go_76 : decode cX2_go 76 = .ok (.getfield 85, 3) := by decide +kernel
theorem dX2_go_79 : decode cX2_go 79 = .ok (.aload_n 0, 1) := by decide +kernel
theorem dX2_go_80 : decode cX2_go 80 = .ok (.getfield 15, 3) := by decide +kernel
theorem dX2_go_83 : decode cX2_go 83 = .ok (.iconst 0, 1) := by decide +kernel
theorem dX2_go_84 : decode cX2_go 84 = .ok (.iaload, 1) := by decide +kernel
theorem dX2_go_85 : decode cX2_go 85 = .ok (.iaload, 1) := by decide +kernel
theorem dX2_go_86 : decode cX2_go 86 = .ok (.isub, 1) := by decide +kernel
theorem dX2_go_87 : decode cX2_go 87 = .ok (.aload_n 0, 1) := by decide +kernel
theorem dX2_go_88 : decode cX2_go 88 = .ok (.getfield 22, 3) := by decide +kernel
theorem dX2_go_91 : decode cX2_go 91 = .ok (.getfield 88, 3) := by decide +kernel
theorem dX2_go_94 : decode cX2_go 94 = .ok (.if_icmp .gt 132, 3) := by decide +kernel
theorem dX2_go_97 : decode cX2_go 97 = .ok (.aload_n 0, 1) := by decide +kernel
theorem dX2_go_98 : decode cX2_go 98 = .ok (.getfield 22, 3) := by decide +kernel
theorem dX2_go_101 : decode cX2_go 101 = .ok (.aload_n 0, 1) := by decide +kernel
theorem dX2_go_102 : decode cX2_go 102 = .ok (.getfield 15, 3) := by decide +kernel
theorem dX2_go_105 : decode cX2_go 105 = .ok (.iconst 0, 1) := by decide +kernel
theorem dX2_go_106 : decode cX2_go 106 = .ok (.iaload, 1) := by decide +kernel
theorem dX2_go_107 : decode cX2_go 107 = .ok (.iload_n 3, 1) := by decide +kernel
theorem dX2_go_108 : decode cX2_go 108 = .ok (.invokevirtual 78, 3) := by decide +kernel
theorem dX2_go_111 : decode cX2_go 111 = .ok (.ifCond .ne 6, 3) := by decide +kernel
theorem dX2_go_114 : decode cX2_go 114 = .ok (.goto 112, 3) := by decide +kernel
theorem dX2_go_117 : decode cX2_go 117 = .ok (.iload_n 2, 1) := by decide +kernel
theorem dX2_go_118 : decode cX2_go 118 = .ok (.istore 4, 2) := by decide +kernel
theorem dX2_go_120 : decode cX2_go 120 = .ok (.iload 4, 2) := by decide +kernel
theorem dX2_go_122 : decode cX2_go 122 = .ok (.aload_n 0, 1) := by decide +kernel
theorem dX2_go_123 : decode cX2_go 123 = .ok (.getfield 22, 3) := by decide +kernel
theorem dX2_go_126 : decode cX2_go 126 = .ok (.getfield 72, 3) := by decide +kernel
theorem dX2_go_129 : decode cX2_go 129 = .ok (.if_icmp .ge 97, 3) := by decide +kernel
theorem dX2_go_132 : decode cX2_go 132 = .ok (.iload 4, 2) := by decide +kernel
theorem dX2_go_134 : decode cX2_go 134 = .ok (.iload_n 2, 1) := by decide +kernel
theorem dX2_go_135 : decode cX2_go 135 = .ok (.if_icmp .ne 34, 3) := by decide +kernel
theorem dX2_go_138 : decode cX2_go 138 = .ok (.aload_n 0, 1) := by decide +kernel
theorem dX2_go_139 : decode cX2_go 139 = .ok (.getfield 22, 3) := by decide +kernel
theorem dX2_go_142 : decode cX2_go 142 = .ok (.getfield 75, 3) := by decide +kernel
theorem dX2_go_145 : decode cX2_go 145 = .ok (.iload 4, 2) := by decide +kernel
theorem dX2_go_147 : decode cX2_go 147 = .ok (.iaload, 1) := by decide +kernel
theorem dX2_go_148 : decode cX2_go 148 = .ok (.iconst 1, 1) := by decide +kernel
theorem dX2_go_149 : decode cX2_go 149 = .ok (.if_icmp .ne 16, 3) := by decide +kernel
theorem dX2_go_152 : decode cX2_go 152 = .ok (.aload_n 0, 1) := by decide +kernel
theorem dX2_go_153 : decode cX2_go 153 = .ok (.iload_n 1, 1) := by decide +kernel
theorem dX2_go_154 : decode cX2_go 154 = .ok (.invokevirtual 91, 3) := by decide +kernel
theorem dX2_go_157 : decode cX2_go 157 = .ok (.iconst 4, 1) := by decide +kernel
theorem dX2_go_158 : decode cX2_go 158 = .ok (.if_icmp .ge 7, 3) := by decide +kernel
theorem dX2_go_161 : decode cX2_go 161 = .ok (.iconst 1, 1) := by decide +kernel
theorem dX2_go_162 : decode cX2_go 162 = .ok (.goto 15, 3) := by decide +kernel
theorem dX2_go_165 : decode cX2_go 165 = .ok (.iconst 0, 1) := by decide +kernel
theorem dX2_go_166 : decode cX2_go 166 = .ok (.goto 11, 3) := by decide +kernel
theorem dX2_go_169 : decode cX2_go 169 = .ok (.aload_n 0, 1) := by decide +kernel
theorem dX2_go_170 : decode cX2_go 170 = .ok (.iload_n 1, 1) := by decide +kernel
theorem dX2_go_171 : decode cX2_go 171 = .ok (.iload 4, 2) := by decide +kernel
theorem dX2_go_173 : decode cX2_go 173 = .ok (.iload_n 3, 1) := by decide +kernel
theorem dX2_go_174 : decode cX2_go 174 = .ok (.invokevirtual 95, 3) := by decide +kernel
theorem dX2_go_177 : decode cX2_go 177 = .ok (.istore 5, 2) := by decide +kernel
theorem dX2_go_179 : decode cX2_go 179 = .ok (.iload 5, 2) := by decide +kernel
theorem dX2_go_181 : decode cX2_go 181 = .ok (.ifCond .eq 39, 3) := by decide +kernel
theorem dX2_go_184 : decode cX2_go 184 = .ok (.aload_n 0, 1) := by decide +kernel
theorem dX2_go_185 : decode cX2_go 185 = .ok (.iload 4, 2) := by decide +kernel
theorem dX2_go_187 : decode cX2_go 187 = .ok (.iload_n 1, 1) := by decide +kernel
theorem dX2_go_188 : decode cX2_go 188 = .ok (.iload_n 3, 1) := by decide +kernel
theorem dX2_go_189 : decode cX2_go 189 = .ok (.invokevirtual 38, 3) := by decide +kernel
theorem dX2_go_192 : decode cX2_go 192 = .ok (.ifCond .ne 6, 3) := by decide +kernel
theorem dX2_go_195 : decode cX2_go 195 = .ok (.goto 25, 3) := by decide +kernel
theorem dX2_go_198 : decode cX2_go 198 = .ok (.aload_n 0, 1) := by decide +kernel
theorem dX2_go_199 : decode cX2_go 199 = .ok (.getfield 15, 3) := by decide +kernel
theorem dX2_go_202 : decode cX2_go 202 = .ok (.iload_n 1, 1) := by decide +kernel
theorem dX2_go_203 : decode cX2_go 203 = .ok (.iload_n 3, 1) := by decide +kernel
theorem dX2_go_204 : decode cX2_go 204 = .ok (.iastore, 1) := by decide +kernel
theorem dX2_go_205 : decode cX2_go 205 = .ok (.aload_n 0, 1) := by decide +kernel
theorem dX2_go_206 : decode cX2_go 206 = .ok (.getfield 19, 3) := by decide +kernel
theorem dX2_go_209 : decode cX2_go 209 = .ok (.iload_n 1, 1) := by decide +kernel
theorem dX2_go_210 : decode cX2_go 210 = .ok (.iload 4, 2) := by decide +kernel
theorem dX2_go_212 : decode cX2_go 212 = .ok (.iastore, 1) := by decide +kernel
theorem dX2_go_213 : decode cX2_go 213 = .ok (.aload_n 0, 1) := by decide +kernel
theorem dX2_go_214 : decode cX2_go 214 = .ok (.iload_n 1, 1) := by decide +kernel
theorem dX2_go_215 : decode cX2_go 215 = .ok (.iconst 1, 1) := by decide +kernel
theorem dX2_go_216 : decode cX2_go 216 = .ok (.iadd, 1) := by decide +kernel
theorem dX2_go_217 : decode cX2_go 217 = .ok (.invokevirtual 42, 3) := by decide +kernel
theorem dX2_go_220 : decode cX2_go 220 = .ok (.iinc 4 1, 3) := by decide +kernel
theorem dX2_go_223 : decode cX2_go 223 = .ok (.goto (-103), 3) := by decide +kernel
theorem dX2_go_226 : decode cX2_go 226 = .ok (.iinc 3 1, 3) := by decide +kernel
theorem dX2_go_229 : decode cX2_go 229 = .ok (.goto (-177), 3) := by decide +kernel
theorem dX2_go_232 : decode cX2_go 232 = .ok (.return_, 1) := by decide +kernel
abbrev cX2_isWhole : ByteArray := prog_3_method_5_code
def yX2_isWhole : MethodName := ⟨RX2, "isWhole", "(I)Z"⟩
theorem dX2_isWhole_0 : decode cX2_isWhole 0 = .ok (.iload_n 1, 1) := by decide +kernel
theorem dX2_isWhole_1 : decode cX2_isWhole 1 = .ok (.iconst 1, 1) := by decide +kernel
theorem dX2_isWhole_2 : decode cX2_isWhole 2 = .ok (.iadd, 1) := by decide +kernel
theorem dX2_isWhole_3 : decode cX2_isWhole 3 = .ok (.istore_n 2, 1) := by decide +kernel
theorem dX2_isWhole_4 : decode cX2_isWhole 4 = .ok (.iload_n 2, 1) := by decide +kernel
theorem dX2_isWhole_5 : decode cX2_isWhole 5 = .ok (.aload_n 0, 1) := by decide +kernel
theorem dX2_isWhole_6 : decode cX2_isWhole 6 = .ok (.getfield 22, 3) := by decide +kernel
theorem dX2_isWhole_9 : decode cX2_isWhole 9 = .ok (.getfield 72, 3) := by decide +kernel
theorem dX2_isWhole_12 : decode cX2_isWhole 12 = .ok (.if_icmp .ge 22, 3) := by decide +kernel
theorem dX2_isWhole_15 : decode cX2_isWhole 15 = .ok (.aload_n 0, 1) := by decide +kernel
theorem dX2_isWhole_16 : decode cX2_isWhole 16 = .ok (.getfield 22, 3) := by decide +kernel
theorem dX2_isWhole_19 : decode cX2_isWhole 19 = .ok (.getfield 75, 3) := by decide +kernel
theorem dX2_isWhole_22 : decode cX2_isWhole 22 = .ok (.iload_n 2, 1) := by decide +kernel
theorem dX2_isWhole_23 : decode cX2_isWhole 23 = .ok (.iaload, 1) := by decide +kernel
theorem dX2_isWhole_24 : decode cX2_isWhole 24 = .ok (.iconst 2, 1) := by decide +kernel
theorem dX2_isWhole_25 : decode cX2_isWhole 25 = .ok (.if_icmp .ne 9, 3) := by decide +kernel
theorem dX2_isWhole_28 : decode cX2_isWhole 28 = .ok (.iinc 2 1, 3) := by decide +kernel
theorem dX2_isWhole_31 : decode cX2_isWhole 31 = .ok (.goto (-27), 3) := by decide +kernel
theorem dX2_isWhole_34 : decode cX2_isWhole 34 = .ok (.iload_n 2, 1) := by decide +kernel
theorem dX2_isWhole_35 : decode cX2_isWhole 35 = .ok (.aload_n 0, 1) := by decide +kernel
theorem dX2_isWhole_36 : decode cX2_isWhole 36 = .ok (.getfield 22, 3) := by decide +kernel
theorem dX2_isWhole_39 : decode cX2_isWhole 39 = .ok (.getfield 72, 3) := by decide +kernel
theorem dX2_isWhole_42 : decode cX2_isWhole 42 = .ok (.if_icmp .eq 29, 3) := by decide +kernel
theorem dX2_isWhole_45 : decode cX2_isWhole 45 = .ok (.iload_n 2, 1) := by decide +kernel
theorem dX2_isWhole_46 : decode cX2_isWhole 46 = .ok (.aload_n 0, 1) := by decide +kernel
theorem dX2_isWhole_47 : decode cX2_isWhole 47 = .ok (.getfield 22, 3) := by decide +kernel
theorem dX2_isWhole_50 : decode cX2_isWhole 50 = .ok (.getfield 72, 3) := by decide +kernel
theorem dX2_isWhole_53 : decode cX2_isWhole 53 = .ok (.iconst 1, 1) := by decide +kernel
theorem dX2_isWhole_54 : decode cX2_isWhole 54 = .ok (.isub, 1) := by decide +kernel
theorem dX2_isWhole_55 : decode cX2_isWhole 55 = .ok (.if_icmp .ne 20, 3) := by decide +kernel
theorem dX2_isWhole_58 : decode cX2_isWhole 58 = .ok (.aload_n 0, 1) := by decide +kernel
theorem dX2_isWhole_59 : decode cX2_isWhole 59 = .ok (.getfield 22, 3) := by decide +kernel
theorem dX2_isWhole_62 : decode cX2_isWhole 62 = .ok (.getfield 75, 3) := by decide +kernel
theorem dX2_isWhole_65 : decode cX2_isWhole 65 = .ok (.iload_n 2, 1) := by decide +kernel
theorem dX2_isWhole_66 : decode cX2_isWhole 66 = .ok (.iaload, 1) := by decide +kernel
theorem dX2_isWhole_67 : decode cX2_isWhole 67 = .ok (.iconst 3, 1) := by decide +kernel
theorem dX2_isWhole_68 : decode cX2_isWhole 68 = .ok (.if_icmp .ne 7, 3) := by decide +kernel
theorem dX2_isWhole_71 : decode cX2_isWhole 71 = .ok (.iconst 1, 1) := by decide +kernel
theorem dX2_isWhole_72 : decode cX2_isWhole 72 = .ok (.goto 4, 3) := by decide +kernel
theorem dX2_isWhole_75 : decode cX2_isWhole 75 = .ok (.iconst 0, 1) := by decide +kernel
theorem dX2_isWhole_76 : decode cX2_isWhole 76 = .ok (.ireturn, 1) := by decide +kernel
abbrev cX2_takes : ByteArray := prog_3_method_6_code
def yX2_takes : MethodName := ⟨RX2, "takes", "(I)I"⟩
theorem dX2_takes_0 : decode cX2_takes 0 = .ok (.iconst 0, 1) := by decide +kernel
theorem dX2_takes_1 : decode cX2_takes 1 = .ok (.istore_n 2, 1) := by decide +kernel
theorem dX2_takes_2 : decode cX2_takes 2 = .ok (.iload_n 1, 1) := by decide +kernel
theorem dX2_takes_3 : decode cX2_takes 3 = .ok (.iconst 1, 1) := by decide +kernel
theorem dX2_takes_4 : decode cX2_takes 4 = .ok (.isub, 1) := by decide +kernel
theorem dX2_takes_5 : decode cX2_takes 5 = .ok (.istore_n 3, 1) := by decide +kernel
theorem dX2_takes_6 : decode cX2_takes 6 = .ok (.iload_n 3, 1) := by decide +kernel
theorem dX2_takes_7 : decode cX2_takes 7 = .ok (.ifCond .lt 29, 3) := by decide +kernel
theorem dX2_takes_10 : decode cX2_takes 10 = .ok (.aload_n 0, 1) := by decide +kernel
theorem dX2_takes_11 : decode cX2_takes 11 = .ok (.getfield 19, 3) := by decide +kernel
theorem dX2_takes_14 : decode cX2_takes 14 = .ok (.iload_n 3, 1) := by decide +kernel
theorem dX2_takes_15 : decode cX2_takes 15 = .ok (.iaload, 1) := by decide +kernel
theorem dX2_takes_16 : decode cX2_takes 16 = .ok (.aload_n 0, 1) := by decide +kernel
theorem dX2_takes_17 : decode cX2_takes 17 = .ok (.getfield 19, 3) := by decide +kernel
theorem dX2_takes_20 : decode cX2_takes 20 = .ok (.iload_n 1, 1) := by decide +kernel
theorem dX2_takes_21 : decode cX2_takes 21 = .ok (.iconst 1, 1) := by decide +kernel
theorem dX2_takes_22 : decode cX2_takes 22 = .ok (.isub, 1) := by decide +kernel
theorem dX2_takes_23 : decode cX2_takes 23 = .ok (.iaload, 1) := by decide +kernel
theorem dX2_takes_24 : decode cX2_takes 24 = .ok (.if_icmp .ne 12, 3) := by decide +kernel
theorem dX2_takes_27 : decode cX2_takes 27 = .ok (.iinc 2 1, 3) := by decide +kernel
theorem dX2_takes_30 : decode cX2_takes 30 = .ok (.iinc 3 (-1), 3) := by decide +kernel
theorem dX2_takes_33 : decode cX2_takes 33 = .ok (.goto (-27), 3) := by decide +kernel
theorem dX2_takes_36 : decode cX2_takes 36 = .ok (.iload_n 2, 1) := by decide +kernel
theorem dX2_takes_37 : decode cX2_takes 37 = .ok (.ireturn, 1) := by decide +kernel
abbrev cX2_leads : ByteArray := prog_3_method_7_code
def yX2_leads : MethodName := ⟨RX2, "leads", "(III)Z"⟩
theorem dX2_leads_0 : decode cX2_leads 0 = .ok (.aload_n 0, 1) := by decide +kernel
theorem dX2_leads_1 : decode cX2_leads 1 = .ok (.getfield 19, 3) := by decide +kernel
theorem dX2_leads_4 : decode cX2_leads 4 = .ok (.iload_n 1, 1) := by decide +kernel
theorem dX2_leads_5 : decode cX2_leads 5 = .ok (.iconst 1, 1) := by decide +kernel
theorem dX2_leads_6 : decode cX2_leads 6 = .ok (.isub, 1) := by decide +kernel
theorem dX2_leads_7 : decode cX2_leads 7 = .ok (.iaload, 1) := by decide +kernel
theorem dX2_leads_8 : decode cX2_leads 8 = .ok (.istore 4, 2) := by decide +kernel
theorem dX2_leads_10 : decode cX2_leads 10 = .ok (.iload 4, 2) := by decide +kernel
theorem dX2_leads_12 : decode cX2_leads 12 = .ok (.iconst 1, 1) := by decide +kernel
theorem dX2_leads_13 : decode cX2_leads 13 = .ok (.iadd, 1) := by decide +kernel
theorem dX2_leads_14 : decode cX2_leads 14 = .ok (.istore 5, 2) := by decide +kernel
theorem dX2_leads_16 : decode cX2_leads 16 = .ok (.iload 5, 2) := by decide +kernel
theorem dX2_leads_18 : decode cX2_leads 18 = .ok (.iload_n 2, 1) := by decide +kernel
theorem dX2_leads_19 : decode cX2_leads 19 = .ok (.if_icmp .ge 111, 3) := by decide +kernel
theorem dX2_leads_22 : decode cX2_leads 22 = .ok (.aload_n 0, 1) := by decide +kernel
theorem dX2_leads_23 : decode cX2_leads 23 = .ok (.getfield 22, 3) := by decide +kernel
theorem dX2_leads_26 : decode cX2_leads 26 = .ok (.getfield 75, 3) := by decide +kernel
theorem dX2_leads_29 : decode cX2_leads 29 = .ok (.iload 5, 2) := by decide +kernel
theorem dX2_leads_31 : decode cX2_leads 31 = .ok (.iaload, 1) := by decide +kernel
theorem dX2_leads_32 : decode cX2_leads 32 = .ok (.ifCond .eq 17, 3) := by decide +kernel
theorem dX2_leads_35 : decode cX2_leads 35 = .ok (.aload_n 0, 1) := by decide +kernel
theorem dX2_leads_36 : decode cX2_leads 36 = .ok (.getfield 22, 3) := by decide +kernel
theorem dX2_leads_39 : decode cX2_leads 39 = .ok (.getfield 75, 3) := by decide +kernel
theorem dX2_leads_42 : decode cX2_leads 42 = .ok (.iload 5, 2) := by decide +kernel
theorem dX2_leads_44 : decode cX2_leads 44 = .ok (.iaload, 1) := by decide +kernel
theorem dX2_leads_45 : decode cX2_leads 45 = .ok (.iconst 1, 1) := by decide +kernel
theorem dX2_leads_46 : decode cX2_leads 46 = .ok (.if_icmp .ne 5, 3) := by decide +kernel
theorem dX2_leads_49 : decode cX2_leads 49 = .ok (.iconst 0, 1) := by decide +kernel
theorem dX2_leads_50 : decode cX2_leads 50 = .ok (.ireturn, 1) := by decide +kernel
theorem dX2_leads_51 : decode cX2_leads 51 = .ok (.aload_n 0, 1) := by decide +kernel
theorem dX2_leads_52 : decode cX2_leads 52 = .ok (.getfield 22, 3) := by decide +kernel
theorem dX2_leads_55 : decode cX2_leads 55 = .ok (.getfield 75, 3) := by decide +kernel
theorem dX2_leads_58 : decode cX2_leads 58 = .ok (.iload 5, 2) := by decide +kernel
theorem dX2_leads_60 : decode cX2_leads 60 = .ok (.iaload, 1) := by decide +kernel
theorem dX2_leads_61 : decode cX2_leads 61 = .ok (.iconst 3, 1) := by decide +kernel
theorem dX2_leads_62 : decode cX2_leads 62 = .ok (.if_icmp .eq 6, 3) := by decide +kernel
theorem dX2_leads_65 : decode cX2_leads 65 = .ok (.goto 59, 3) := by decide +kernel
theorem dX2_leads_68 : decode cX2_leads 68 = .ok (.aload_n 0, 1) := by decide +kernel
theorem dX2_leads_69 : decode cX2_leads 69 = .ok (.getfield 15, 3) := by decide +kernel
theorem dX2_leads_72 : decode cX2_leads 72 = .ok (.iload_n 1, 1) := by decide +kernel
theorem dX2_leads_73 : decode cX2_leads 73 = .ok (.iconst 1, 1) := by decide +kernel
theorem dX2_leads_74 : decode cX2_leads 74 = .ok (.isub, 1) := by decide +kernel
theorem dX2_leads_75 : decode cX2_leads 75 = .ok (.iaload, 1) := by decide +kernel
theorem dX2_leads_76 : decode cX2_leads 76 = .ok (.iconst 1, 1) := by decide +kernel
theorem dX2_leads_77 : decode cX2_leads 77 = .ok (.iadd, 1) := by decide +kernel
theorem dX2_leads_78 : decode cX2_leads 78 = .ok (.istore 6, 2) := by decide +kernel
theorem dX2_leads_80 : decode cX2_leads 80 = .ok (.iload 6, 2) := by decide +kernel
theorem dX2_leads_82 : decode cX2_leads 82 = .ok (.iload_n 3, 1) := by decide +kernel
theorem dX2_leads_83 : decode cX2_leads 83 = .ok (.if_icmp .ge 41, 3) := by decide +kernel
theorem dX2_leads_86 : decode cX2_leads 86 = .ok (.aload_n 0, 1) := by decide +kernel
theorem dX2_leads_87 : decode cX2_leads 87 = .ok (.getfield 22, 3) := by decide +kernel
theorem dX2_leads_90 : decode cX2_leads 90 = .ok (.aload_n 0, 1) := by decide +kernel
theorem dX2_leads_91 : decode cX2_leads 91 = .ok (.getfield 15, 3) := by decide +kernel
theorem dX2_leads_94 : decode cX2_leads 94 = .ok (.iconst 0, 1) := by decide +kernel
theorem dX2_leads_95 : decode cX2_leads 95 = .ok (.iaload, 1) := by decide +kernel
theorem dX2_leads_96 : decode cX2_leads 96 = .ok (.iload 6, 2) := by decide +kernel
theorem dX2_leads_98 : decode cX2_leads 98 = .ok (.invokevirtual 78, 3) := by decide +kernel
theorem dX2_leads_101 : decode cX2_leads 101 = .ok (.ifCond .eq 17, 3) := by decide +kernel
theorem dX2_leads_104 : decode cX2_leads 104 = .ok (.aload_n 0, 1) := by decide +kernel
theorem dX2_leads_105 : decode cX2_leads 105 = .ok (.iload 5, 2) := by decide +kernel
theorem dX2_leads_107 : decode cX2_leads 107 = .ok (.iload_n 1, 1) := by decide +kernel
theorem dX2_leads_108 : decode cX2_leads 108 = .ok (.iload 6, 2) := by decide +kernel
theorem dX2_leads_110 : decode cX2_leads 110 = .ok (.invokevirtual 38, 3) := by decide +kernel
theorem dX2_leads_113 : decode cX2_leads 113 = .ok (.ifCond .eq 5, 3) := by decide +kernel
theorem dX2_leads_116 : decode cX2_leads 116 = .ok (.iconst 0, 1) := by decide +kernel
theorem dX2_leads_117 : decode cX2_leads 117 = .ok (.ireturn, 1) := by decide +kernel
theorem dX2_leads_118 : decode cX2_leads 118 = .ok (.iinc 6 1, 3) := by decide +kernel
theorem dX2_leads_121 : decode cX2_leads 121 = .ok (.goto (-41), 3) := by decide +kernel
theorem dX2_leads_124 : decode cX2_leads 124 = .ok (.iinc 5 1, 3) := by decide +kernel
theorem dX2_leads_127 : decode cX2_leads 127 = .ok (.goto (-111), 3) := by decide +kernel
theorem dX2_leads_130 : decode cX2_leads 130 = .ok (.aload_n 0, 1) := by decide +kernel
theorem dX2_leads_131 : decode cX2_leads 131 = .ok (.getfield 22, 3) := by decide +kernel
theorem dX2_leads_134 : decode cX2_leads 134 = .ok (.getfield 75, 3) := by decide +kernel
theorem dX2_leads_137 : decode cX2_leads 137 = .ok (.iload_n 2, 1) := by decide +kernel
theorem dX2_leads_138 : decode cX2_leads 138 = .ok (.iaload, 1) := by decide +kernel
theorem dX2_leads_139 : decode cX2_leads 139 = .ok (.iconst 3, 1) := by decide +kernel
theorem dX2_leads_140 : decode cX2_leads 140 = .ok (.if_icmp .eq 7, 3) := by decide +kernel
theorem dX2_leads_143 : decode cX2_leads 143 = .ok (.iconst 1, 1) := by decide +kernel
theorem dX2_leads_144 : decode cX2_leads 144 = .ok (.goto 4, 3) := by decide +kernel
theorem dX2_leads_147 : decode cX2_leads 147 = .ok (.iconst 0, 1) := by decide +kernel
theorem dX2_leads_148 : decode cX2_leads 148 = .ok (.ireturn, 1) := by decide +kernel
theorem q47 : (Jvm.Cond.initialized "EventHunter$Plain") ∈ lw_all := lw_g (lw_at lw_m1 3 rfl) rfl
theorem q100 : (Jvm.Cond.instantiable "EventHunter$Plain" (5 : Nat)) ∈ lw_all := lw_g (lw_at lw_m1 56 rfl) rfl
theorem q102 : (Jvm.Cond.instanceMethod ({ cls := "EventHunter$Plain", name := "<init>", desc := "(LEventHunter;)V" } : Jvm.MethodName)) ∈ lw_all := lw_g (lw_at lw_m1 58 rfl) rfl
theorem q103 : (Jvm.Cond.code ({ cls := "EventHunter$Plain", name := "<init>", desc := "(LEventHunter;)V" } : Jvm.MethodName) prog_3_method_1_code (2 : Nat) (Option.none : Option Jvm.ClassFile.FieldType)) ∈ lw_all := lw_g (lw_at lw_m1 59 rfl) rfl
theorem q104 : (Jvm.Cond.methodLink "EventHunter$Plain" (9 : Nat) ({ cls := "java/lang/Object", name := "<init>", desc := "()V" } : Jvm.MethodName)) ∈ lw_all := lw_g (lw_at lw_m1 60 rfl) rfl
theorem q105 : (Jvm.Cond.fieldLink "EventHunter$Plain" (15 : Nat) "EventHunter$Plain" "event" "[I") ∈ lw_all := lw_g (lw_at lw_m1 61 rfl) rfl
theorem q106 : (Jvm.Cond.fieldLink "EventHunter$Plain" (19 : Nat) "EventHunter$Plain" "step" "[I") ∈ lw_all := lw_g (lw_at lw_m1 62 rfl) rfl
theorem q107 : (Jvm.Cond.fieldLink "EventHunter$Plain" (22 : Nat) "EventHunter$Plain" "p" "LEventHunter$Pattern;") ∈ lw_all := lw_g (lw_at lw_m1 63 rfl) rfl
theorem q108 : (Jvm.Cond.fieldLink "EventHunter$Plain" (26 : Nat) "EventHunter$Plain" "rows" "I") ∈ lw_all := lw_g (lw_at lw_m1 64 rfl) rfl
theorem q109 : (Jvm.Cond.fieldLink "EventHunter$Plain" (3 : Nat) "EventHunter$Plain" "this$0" "LEventHunter;") ∈ lw_all := lw_g (lw_at lw_m1 65 rfl) rfl
theorem q110 : (Jvm.Cond.laysFinal "EventHunter$Plain" "EventHunter$Plain" "event" "[I") ∈ lw_all := lw_g (lw_at lw_m1 66 rfl) rfl
theorem q111 : (Jvm.Cond.soleField "EventHunter$Plain" "event") ∈ lw_all := lw_g (lw_at lw_m1 67 rfl) rfl
theorem q112 : (Jvm.Cond.laysFinal "EventHunter$Plain" "EventHunter$Plain" "step" "[I") ∈ lw_all := lw_g (lw_at lw_m1 68 rfl) rfl
theorem q113 : (Jvm.Cond.soleField "EventHunter$Plain" "step") ∈ lw_all := lw_g (lw_at lw_m1 69 rfl) rfl
theorem q114 : (Jvm.Cond.lays "EventHunter$Plain" "EventHunter$Plain" "p" "LEventHunter$Pattern;") ∈ lw_all := lw_g (lw_at lw_m1 70 rfl) rfl
theorem q115 : (Jvm.Cond.soleField "EventHunter$Plain" "p") ∈ lw_all := lw_g (lw_at lw_m1 71 rfl) rfl
theorem q116 : (Jvm.Cond.lays "EventHunter$Plain" "EventHunter$Plain" "rows" "I") ∈ lw_all := lw_g (lw_at lw_m1 72 rfl) rfl
theorem q117 : (Jvm.Cond.soleField "EventHunter$Plain" "rows") ∈ lw_all := lw_g (lw_at lw_m1 73 rfl) rfl
theorem q118 : (Jvm.Cond.laysFinal "EventHunter$Plain" "EventHunter$Plain" "this$0" "LEventHunter;") ∈ lw_all := lw_g (lw_at lw_m1 74 rfl) rfl
theorem q119 : (Jvm.Cond.soleField "EventHunter$Plain" "this$0") ∈ lw_all := lw_g (lw_at lw_m1 75 rfl) rfl
theorem q120 : (Jvm.Cond.superclass "EventHunter$Plain" "java/lang/Object") ∈ lw_all := lw_g (lw_at lw_m1 76 rfl) rfl
theorem q128 : (Jvm.Cond.fieldLinkNest "EventHunter$Plain" (88 : Nat) "EventHunter$Pattern" "within" "I" "EventHunter") ∈ lw_tbl := lw_at lw_m1 84 rfl
theorem q134 : (Jvm.Cond.fieldLinkNest "EventHunter$Plain" (72 : Nat) "EventHunter$Pattern" "steps" "I" "EventHunter") ∈ lw_tbl := lw_at lw_m1 90 rfl
theorem q137 : (Jvm.Cond.fieldLinkNest "EventHunter$Plain" (75 : Nat) "EventHunter$Pattern" "sort" "[I" "EventHunter") ∈ lw_tbl := lw_at lw_m1 93 rfl
theorem q140 : (Jvm.Cond.fieldLinkNest "EventHunter$Plain" (49 : Nat) "EventHunter$Pattern" "of" "[I" "EventHunter") ∈ lw_tbl := lw_at lw_m1 96 rfl
theorem q143 : (Jvm.Cond.fieldLinkNest "EventHunter$Plain" (65 : Nat) "EventHunter$Pattern" "test" "[I" "EventHunter") ∈ lw_tbl := lw_at lw_m1 99 rfl
theorem q146 : (Jvm.Cond.fieldLinkNest "EventHunter$Plain" (62 : Nat) "EventHunter$Pattern" "by" "[I" "EventHunter") ∈ lw_tbl := lw_at lw_m1 102 rfl
theorem q149 : (Jvm.Cond.fieldLinkNest "EventHunter$Plain" (56 : Nat) "EventHunter$Pattern" "with" "[I" "EventHunter") ∈ lw_tbl := lw_at lw_m1 105 rfl
theorem q154 : (Jvm.Cond.fieldLinkNest "EventHunter$Plain" (30 : Nat) "EventHunter$Pattern" "since" "I" "EventHunter") ∈ lw_tbl := lw_at lw_m1 110 rfl
theorem q204 : (Jvm.Cond.fieldLinkNest "EventHunter$Plain" (46 : Nat) "EventHunter" "kind" "[I" "EventHunter") ∈ lw_tbl := lw_at lw_m1 160 rfl
theorem q207 : (Jvm.Cond.fieldLinkNest "EventHunter$Plain" (85 : Nat) "EventHunter" "minute" "[I" "EventHunter") ∈ lw_tbl := lw_at lw_m1 163 rfl
theorem q211 : (Jvm.Cond.fieldLinkNest "EventHunter$Plain" (59 : Nat) "EventHunter" "field" "[I" "EventHunter") ∈ lw_tbl := lw_at lw_m1 167 rfl
theorem q212 : (Jvm.Cond.fieldLinkNest "EventHunter$Plain" (35 : Nat) "EventHunter" "taken" "I" "EventHunter") ∈ lw_tbl := lw_at lw_m1 168 rfl
theorem q462 : (Jvm.Cond.instanceMethod ({ cls := "EventHunter$Plain", name := "count", desc := "(LEventHunter$Pattern;)I" } : Jvm.MethodName)) ∈ lw_all := lw_g (lw_at lw_m2 178 rfl) rfl
theorem q463 : (Jvm.Cond.selects "EventHunter$Plain" ({ cls := "EventHunter$Plain", name := "count", desc := "(LEventHunter$Pattern;)I" } : Jvm.MethodName) ({ cls := "EventHunter$Plain", name := "count", desc := "(LEventHunter$Pattern;)I" } : Jvm.MethodName)) ∈ lw_all := lw_g (lw_at lw_m2 179 rfl) rfl
theorem q464 : (Jvm.Cond.code ({ cls := "EventHunter$Plain", name := "count", desc := "(LEventHunter$Pattern;)I" } : Jvm.MethodName) prog_3_method_2_code (3 : Nat) (Option.some Jvm.ClassFile.FieldType.int)) ∈ lw_all := lw_g (lw_at lw_m2 180 rfl) rfl
theorem q465 : (Jvm.Cond.methodLink "EventHunter$Plain" (38 : Nat) ({ cls := "EventHunter$Plain", name := "fits", desc := "(III)Z" } : Jvm.MethodName)) ∈ lw_all := lw_g (lw_at lw_m2 181 rfl) rfl
theorem q466 : (Jvm.Cond.privateMethod ({ cls := "EventHunter$Plain", name := "fits", desc := "(III)Z" } : Jvm.MethodName)) ∈ lw_tbl := lw_at lw_m2 182 rfl
theorem q467 : (Jvm.Cond.instanceMethod ({ cls := "EventHunter$Plain", name := "fits", desc := "(III)Z" } : Jvm.MethodName)) ∈ lw_all := lw_g (lw_at lw_m2 183 rfl) rfl
theorem q468 : (Jvm.Cond.code ({ cls := "EventHunter$Plain", name := "fits", desc := "(III)Z" } : Jvm.MethodName) prog_3_method_4_code (8 : Nat) (Option.some Jvm.ClassFile.FieldType.boolean)) ∈ lw_all := lw_g (lw_at lw_m2 184 rfl) rfl
theorem q469 : (Jvm.Cond.methodLinkNest "EventHunter$Plain" (52 : Nat) ({ cls := "EventHunter", name := "isKind", desc := "(II)Z" } : Jvm.MethodName) "EventHunter") ∈ lw_tbl := lw_at lw_m2 185 rfl
theorem q470 : (Jvm.Cond.methodLink "EventHunter$Plain" (68 : Nat) ({ cls := "EventHunter$Plain", name := "last", desc := "(II)I" } : Jvm.MethodName)) ∈ lw_all := lw_g (lw_at lw_m2 186 rfl) rfl
theorem q471 : (Jvm.Cond.privateMethod ({ cls := "EventHunter$Plain", name := "last", desc := "(II)I" } : Jvm.MethodName)) ∈ lw_tbl := lw_at lw_m2 187 rfl
theorem q472 : (Jvm.Cond.instanceMethod ({ cls := "EventHunter$Plain", name := "last", desc := "(II)I" } : Jvm.MethodName)) ∈ lw_all := lw_g (lw_at lw_m2 188 rfl) rfl
theorem q473 : (Jvm.Cond.code ({ cls := "EventHunter$Plain", name := "last", desc := "(II)I" } : Jvm.MethodName) prog_3_method_3_code (4 : Nat) (Option.some Jvm.ClassFile.FieldType.int)) ∈ lw_all := lw_g (lw_at lw_m2 189 rfl) rfl
theorem q474 : (Jvm.Cond.methodLink "EventHunter$Plain" (42 : Nat) ({ cls := "EventHunter$Plain", name := "go", desc := "(I)V" } : Jvm.MethodName)) ∈ lw_all := lw_g (lw_at lw_m2 190 rfl) rfl
theorem q475 : (Jvm.Cond.privateMethod ({ cls := "EventHunter$Plain", name := "go", desc := "(I)V" } : Jvm.MethodName)) ∈ lw_tbl := lw_at lw_m2 191 rfl
theorem q476 : (Jvm.Cond.instanceMethod ({ cls := "EventHunter$Plain", name := "go", desc := "(I)V" } : Jvm.MethodName)) ∈ lw_all := lw_g (lw_at lw_m2 192 rfl) rfl
theorem q477 : (Jvm.Cond.code ({ cls := "EventHunter$Plain", name := "go", desc := "(I)V" } : Jvm.MethodName) prog_3_method_8_code (6 : Nat) (Option.none : Option Jvm.ClassFile.FieldType)) ∈ lw_all := lw_g (lw_at lw_m2 193 rfl) rfl
theorem q478 : (Jvm.Cond.methodLink "EventHunter$Plain" (81 : Nat) ({ cls := "EventHunter$Plain", name := "isWhole", desc := "(I)Z" } : Jvm.MethodName)) ∈ lw_all := lw_g (lw_at lw_m2 194 rfl) rfl
theorem q479 : (Jvm.Cond.privateMethod ({ cls := "EventHunter$Plain", name := "isWhole", desc := "(I)Z" } : Jvm.MethodName)) ∈ lw_tbl := lw_at lw_m2 195 rfl
theorem q480 : (Jvm.Cond.instanceMethod ({ cls := "EventHunter$Plain", name := "isWhole", desc := "(I)Z" } : Jvm.MethodName)) ∈ lw_all := lw_g (lw_at lw_m2 196 rfl) rfl
theorem q481 : (Jvm.Cond.code ({ cls := "EventHunter$Plain", name := "isWhole", desc := "(I)Z" } : Jvm.MethodName) prog_3_method_5_code (3 : Nat) (Option.some Jvm.ClassFile.FieldType.boolean)) ∈ lw_all := lw_g (lw_at lw_m2 197 rfl) rfl
theorem q482 : (Jvm.Cond.methodLink "EventHunter$Plain" (78 : Nat) ({ cls := "EventHunter$Pattern", name := "hasKey", desc := "(II)Z" } : Jvm.MethodName)) ∈ lw_all := lw_g (lw_at lw_m2 198 rfl) rfl
theorem q483 : (Jvm.Cond.methodLink "EventHunter$Plain" (91 : Nat) ({ cls := "EventHunter$Plain", name := "takes", desc := "(I)I" } : Jvm.MethodName)) ∈ lw_all := lw_g (lw_at lw_m2 199 rfl) rfl
theorem q484 : (Jvm.Cond.privateMethod ({ cls := "EventHunter$Plain", name := "takes", desc := "(I)I" } : Jvm.MethodName)) ∈ lw_tbl := lw_at lw_m2 200 rfl
theorem q485 : (Jvm.Cond.instanceMethod ({ cls := "EventHunter$Plain", name := "takes", desc := "(I)I" } : Jvm.MethodName)) ∈ lw_all := lw_g (lw_at lw_m2 201 rfl) rfl
theorem q486 : (Jvm.Cond.code ({ cls := "EventHunter$Plain", name := "takes", desc := "(I)I" } : Jvm.MethodName) prog_3_method_6_code (4 : Nat) (Option.some Jvm.ClassFile.FieldType.int)) ∈ lw_all := lw_g (lw_at lw_m2 202 rfl) rfl
theorem q487 : (Jvm.Cond.methodLink "EventHunter$Plain" (95 : Nat) ({ cls := "EventHunter$Plain", name := "leads", desc := "(III)Z" } : Jvm.MethodName)) ∈ lw_all := lw_g (lw_at lw_m2 203 rfl) rfl
theorem q488 : (Jvm.Cond.privateMethod ({ cls := "EventHunter$Plain", name := "leads", desc := "(III)Z" } : Jvm.MethodName)) ∈ lw_tbl := lw_at lw_m2 204 rfl
theorem q489 : (Jvm.Cond.instanceMethod ({ cls := "EventHunter$Plain", name := "leads", desc := "(III)Z" } : Jvm.MethodName)) ∈ lw_all := lw_g (lw_at lw_m2 205 rfl) rfl
theorem q490 : (Jvm.Cond.code ({ cls := "EventHunter$Plain", name := "leads", desc := "(III)Z" } : Jvm.MethodName) prog_3_method_7_code (7 : Nat) (Option.some Jvm.ClassFile.FieldType.boolean)) ∈ lw_all := lw_g (lw_at lw_m2 206 rfl) rfl
theorem in_X2 : ∀ w ∈ wsX20, w ∈ lw_all := lw_in wsX20 [110, 112, 114, 116, 118] (by decide +kernel) (by decide +kernel)
