theorem q44 : (Jvm.Cond.initialized "EventHunterLaw") ∈ lw_all := lw_g (lw_at lw_m1 0 rfl) rfl
set_option maxRecDepth 100000
theorem q52 : (Jvm.Cond.classLink "EventHunterLaw" (7 : Nat) "EventHunter") ∈ lw_all := lw_g (lw_at lw_m1 8 rfl) rfl
theorem q54 : (Jvm.Cond.methodLink "EventHunterLaw" (9 : Nat) ({ cls := "EventHunter", name := "<init>", desc := "()V" } : Jvm.MethodName)) ∈ lw_all := lw_g (lw_at lw_m1 10 rfl) rfl
theorem q279 : (Jvm.Cond.methodLink "EventHunterLaw" (13 : Nat) ({ cls := "EventHunter", name := "parent", desc := "(II)I" } : Jvm.MethodName)) ∈ lw_all := lw_g (lw_at lw_m1 235 rfl) rfl
theorem q286 : (Jvm.Cond.methodLink "EventHunterLaw" (18 : Nat) ({ cls := "EventHunter", name := "pattern", desc := "(III)I" } : Jvm.MethodName)) ∈ lw_all := lw_g (lw_at lw_m2 2 rfl) rfl
theorem q290 : (Jvm.Cond.methodLink "EventHunterLaw" (23 : Nat) ({ cls := "EventHunter", name := "step", desc := "(IIIIII)I" } : Jvm.MethodName)) ∈ lw_all := lw_g (lw_at lw_m2 6 rfl) rfl
theorem q301 : (Jvm.Cond.methodLink "EventHunterLaw" (28 : Nat) ({ cls := "EventHunter", name := "put", desc := "(III)I" } : Jvm.MethodName)) ∈ lw_all := lw_g (lw_at lw_m2 17 rfl) rfl
theorem q317 : (Jvm.Cond.methodLink "EventHunterLaw" (32 : Nat) ({ cls := "EventHunter", name := "fields", desc := "(IIII)I" } : Jvm.MethodName)) ∈ lw_all := lw_g (lw_at lw_m2 33 rfl) rfl
theorem q321 : (Jvm.Cond.methodLink "EventHunterLaw" (37 : Nat) ({ cls := "EventHunter", name := "mark", desc := "(I)I" } : Jvm.MethodName)) ∈ lw_all := lw_g (lw_at lw_m2 37 rfl) rfl
theorem q404 : (Jvm.Cond.methodLink "EventHunterLaw" (42 : Nat) ({ cls := "EventHunter", name := "matches", desc := "(I)I" } : Jvm.MethodName)) ∈ lw_all := lw_g (lw_at lw_m2 120 rfl) rfl
theorem q408 : (Jvm.Cond.methodLink "EventHunterLaw" (46 : Nat) ({ cls := "EventHunter", name := "match", desc := "(II)I" } : Jvm.MethodName)) ∈ lw_all := lw_g (lw_at lw_m2 124 rfl) rfl
theorem q419 : (Jvm.Cond.methodLink "EventHunterLaw" (50 : Nat) ({ cls := "EventHunter", name := "member", desc := "(III)I" } : Jvm.MethodName)) ∈ lw_all := lw_g (lw_at lw_m2 135 rfl) rfl
theorem q423 : (Jvm.Cond.methodLink "EventHunterLaw" (54 : Nat) ({ cls := "EventHunter", name := "told", desc := "(II)I" } : Jvm.MethodName)) ∈ lw_all := lw_g (lw_at lw_m2 139 rfl) rfl
theorem q431 : (Jvm.Cond.methodLink "EventHunterLaw" (58 : Nat) ({ cls := "EventHunter", name := "about", desc := "(II)I" } : Jvm.MethodName)) ∈ lw_all := lw_g (lw_at lw_m2 147 rfl) rfl
theorem q439 : (Jvm.Cond.methodLink "EventHunterLaw" (62 : Nat) ({ cls := "EventHunter", name := "run", desc := "(IIII)I" } : Jvm.MethodName)) ∈ lw_all := lw_g (lw_at lw_m2 155 rfl) rfl
theorem q449 : (Jvm.Cond.methodLink "EventHunterLaw" (66 : Nat) ({ cls := "EventHunter", name := "almost", desc := "(II)I" } : Jvm.MethodName)) ∈ lw_all := lw_g (lw_at lw_m2 165 rfl) rfl
theorem q457 : (Jvm.Cond.methodLink "EventHunterLaw" (70 : Nat) ({ cls := "EventHunter", name := "plain", desc := "(I)I" } : Jvm.MethodName)) ∈ lw_all := lw_g (lw_at lw_m2 173 rfl) rfl
theorem q491 : (Jvm.Cond.methodLink "EventHunterLaw" (74 : Nat) ({ cls := "EventHunter", name := "count", desc := "(I)I" } : Jvm.MethodName)) ∈ lw_all := lw_g (lw_at lw_m2 207 rfl) rfl
theorem q495 : (Jvm.Cond.methodLink "EventHunterLaw" (78 : Nat) ({ cls := "EventHunter", name := "is", desc := "(II)I" } : Jvm.MethodName)) ∈ lw_all := lw_g (lw_at lw_m2 211 rfl) rfl
theorem q500 : (Jvm.Cond.classLink "EventHunterLaw" (10 : Nat) "EventHunterModel") ∈ lw_all := lw_g (lw_at lw_m2 216 rfl) rfl
theorem q502 : (Jvm.Cond.methodLink "EventHunterLaw" (12 : Nat) ({ cls := "EventHunterModel", name := "<init>", desc := "()V" } : Jvm.MethodName)) ∈ lw_all := lw_g (lw_at lw_m2 218 rfl) rfl
theorem q651 : (Jvm.Cond.methodLink "EventHunterLaw" (17 : Nat) ({ cls := "EventHunterModel", name := "parent", desc := "(II)I" } : Jvm.MethodName)) ∈ lw_all := lw_g (lw_at lw_m3 127 rfl) rfl
theorem q658 : (Jvm.Cond.methodLink "EventHunterLaw" (22 : Nat) ({ cls := "EventHunterModel", name := "pattern", desc := "(III)I" } : Jvm.MethodName)) ∈ lw_all := lw_g (lw_at lw_m3 134 rfl) rfl
theorem q662 : (Jvm.Cond.methodLink "EventHunterLaw" (27 : Nat) ({ cls := "EventHunterModel", name := "step", desc := "(IIIIII)I" } : Jvm.MethodName)) ∈ lw_all := lw_g (lw_at lw_m3 138 rfl) rfl
theorem q680 : (Jvm.Cond.methodLink "EventHunterLaw" (36 : Nat) ({ cls := "EventHunterModel", name := "fields", desc := "(IIII)I" } : Jvm.MethodName)) ∈ lw_all := lw_g (lw_at lw_m3 156 rfl) rfl
theorem q684 : (Jvm.Cond.methodLink "EventHunterLaw" (31 : Nat) ({ cls := "EventHunterModel", name := "put", desc := "(III)I" } : Jvm.MethodName)) ∈ lw_all := lw_g (lw_at lw_m3 160 rfl) rfl
theorem q693 : (Jvm.Cond.methodLink "EventHunterLaw" (41 : Nat) ({ cls := "EventHunterModel", name := "mark", desc := "(I)I" } : Jvm.MethodName)) ∈ lw_all := lw_g (lw_at lw_m3 169 rfl) rfl
theorem q750 : (Jvm.Cond.methodLink "EventHunterLaw" (45 : Nat) ({ cls := "EventHunterModel", name := "matches", desc := "(I)I" } : Jvm.MethodName)) ∈ lw_all := lw_g (lw_at lw_m3 226 rfl) rfl
theorem q754 : (Jvm.Cond.methodLink "EventHunterLaw" (49 : Nat) ({ cls := "EventHunterModel", name := "match", desc := "(II)I" } : Jvm.MethodName)) ∈ lw_all := lw_g (lw_at lw_m3 230 rfl) rfl
theorem q762 : (Jvm.Cond.methodLink "EventHunterLaw" (53 : Nat) ({ cls := "EventHunterModel", name := "member", desc := "(III)I" } : Jvm.MethodName)) ∈ lw_all := lw_g (lw_at lw_m3 238 rfl) rfl
theorem q766 : (Jvm.Cond.methodLink "EventHunterLaw" (57 : Nat) ({ cls := "EventHunterModel", name := "told", desc := "(II)I" } : Jvm.MethodName)) ∈ lw_all := lw_g (lw_at lw_m4 2 rfl) rfl
theorem q774 : (Jvm.Cond.methodLink "EventHunterLaw" (61 : Nat) ({ cls := "EventHunterModel", name := "about", desc := "(II)I" } : Jvm.MethodName)) ∈ lw_all := lw_g (lw_at lw_m4 10 rfl) rfl
theorem q790 : (Jvm.Cond.methodLink "EventHunterLaw" (65 : Nat) ({ cls := "EventHunterModel", name := "run", desc := "(IIII)I" } : Jvm.MethodName)) ∈ lw_all := lw_g (lw_at lw_m4 26 rfl) rfl
theorem q794 : (Jvm.Cond.methodLink "EventHunterLaw" (69 : Nat) ({ cls := "EventHunterModel", name := "almost", desc := "(II)I" } : Jvm.MethodName)) ∈ lw_all := lw_g (lw_at lw_m4 30 rfl) rfl
theorem q798 : (Jvm.Cond.methodLink "EventHunterLaw" (73 : Nat) ({ cls := "EventHunterModel", name := "plain", desc := "(I)I" } : Jvm.MethodName)) ∈ lw_all := lw_g (lw_at lw_m4 34 rfl) rfl
theorem q814 : (Jvm.Cond.methodLink "EventHunterLaw" (77 : Nat) ({ cls := "EventHunterModel", name := "count", desc := "(I)I" } : Jvm.MethodName)) ∈ lw_all := lw_g (lw_at lw_m4 50 rfl) rfl
theorem q818 : (Jvm.Cond.methodLink "EventHunterLaw" (81 : Nat) ({ cls := "EventHunterModel", name := "is", desc := "(II)I" } : Jvm.MethodName)) ∈ lw_all := lw_g (lw_at lw_m4 54 rfl) rfl
theorem q50 : (Jvm.Cond.initialized "java/lang/System") ∈ lw_all := lw_g (lw_at lw_m1 6 rfl) rfl
set_option maxRecDepth 100000
theorem q315 : (Jvm.Cond.static ({ cls := "java/lang/System", name := "arraycopy", desc := "(Ljava/lang/Object;ILjava/lang/Object;II)V" } : Jvm.MethodName)) ∈ lw_all := lw_g (lw_at lw_m2 31 rfl) rfl
theorem q316 : (Jvm.Cond.native ({ cls := "java/lang/System", name := "arraycopy", desc := "(Ljava/lang/Object;ILjava/lang/Object;II)V" } : Jvm.MethodName)) ∈ lw_all := lw_g (lw_at lw_m2 32 rfl) rfl
theorem q92 : (Jvm.Cond.arrayClass Jvm.ClassFile.FieldType.int) ∈ lw_all := lw_g (lw_at lw_m1 48 rfl) rfl
set_option maxRecDepth 100000
theorem q94 : (Jvm.Cond.arrayOver (Jvm.ClassFile.FieldType.array Jvm.ClassFile.FieldType.short)) ∈ lw_tbl := lw_at lw_m1 50 rfl
theorem q96 : (Jvm.Cond.arrayOver (Jvm.ClassFile.FieldType.array Jvm.ClassFile.FieldType.byte)) ∈ lw_tbl := lw_at lw_m1 52 rfl
theorem q98 : (Jvm.Cond.arrayOver (Jvm.ClassFile.FieldType.object "EventHunter$Pattern")) ∈ lw_tbl := lw_at lw_m1 54 rfl
theorem q200 : (Jvm.Cond.arrayClass Jvm.ClassFile.FieldType.boolean) ∈ lw_all := lw_g (lw_at lw_m1 156 rfl) rfl
theorem q402 : (Jvm.Cond.arrayClass Jvm.ClassFile.FieldType.short) ∈ lw_all := lw_g (lw_at lw_m2 118 rfl) rfl
theorem q403 : (Jvm.Cond.arrayClass Jvm.ClassFile.FieldType.byte) ∈ lw_all := lw_g (lw_at lw_m2 119 rfl) rfl
/-! java/lang/Math -/
set_option maxRecDepth 100000
def RJ0 : String := "java/lang/Math"
abbrev cJ0_min : ByteArray := prog_7_method_69_code
def yJ0_min : MethodName := ⟨RJ0, "min", "(II)I"⟩
theorem dJ0_min_0 : decode cJ0_min 0 = .ok (.iload_n 0, 1) := by decide +kernel
theorem dJ0_min_1 : decode cJ0_min 1 = .ok (.iload_n 1, 1) := by decide +kernel
theorem dJ0_min_2 : decode cJ0_min 2 = .ok (.if_icmp .gt 7, 3) := by decide +kernel
theorem dJ0_min_5 : decode cJ0_min 5 = .ok (.iload_n 0, 1) := by decide +kernel
theorem dJ0_min_6 : decode cJ0_min 6 = .ok (.goto 4, 3) := by decide +kernel
theorem dJ0_min_9 : decode cJ0_min 9 = .ok (.iload_n 1, 1) := by decide +kernel
theorem dJ0_min_10 : decode cJ0_min 10 = .ok (.ireturn, 1) := by decide +kernel
theorem q51 : (Jvm.Cond.initialized "java/lang/Math") ∈ lw_all := lw_g (lw_at lw_m1 7 rfl) rfl
theorem q417 : (Jvm.Cond.static ({ cls := "java/lang/Math", name := "min", desc := "(II)I" } : Jvm.MethodName)) ∈ lw_all := lw_g (lw_at lw_m2 133 rfl) rfl
theorem q418 : (Jvm.Cond.code ({ cls := "java/lang/Math", name := "min", desc := "(II)I" } : Jvm.MethodName) prog_7_method_69_code (2 : Nat) (Option.some Jvm.ClassFile.FieldType.int)) ∈ lw_all := lw_g (lw_at lw_m2 134 rfl) rfl
/-! java/lang/Object -/
set_option maxRecDepth 100000
def RJ1 : String := "java/lang/Object"
abbrev cJ1_init : ByteArray := object_method_1_code
def yJ1_init : MethodName := ⟨RJ1, "<init>", "()V"⟩
theorem dJ1_init_0 : decode cJ1_init 0 = .ok (.return_, 1) := by decide +kernel
theorem q58 : (Jvm.Cond.instanceMethod ({ cls := "java/lang/Object", name := "<init>", desc := "()V" } : Jvm.MethodName)) ∈ lw_all := lw_g (lw_at lw_m1 14 rfl) rfl
theorem q59 : (Jvm.Cond.code ({ cls := "java/lang/Object", name := "<init>", desc := "()V" } : Jvm.MethodName) object_method_1_code (1 : Nat) (Option.none : Option Jvm.ClassFile.FieldType)) ∈ lw_all := lw_g (lw_at lw_m1 15 rfl) rfl
