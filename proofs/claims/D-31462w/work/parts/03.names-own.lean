set_option maxRecDepth 100000
/-! Coreplug$LastCore -/
set_option maxRecDepth 100000
def RX10 : String := "Coreplug$LastCore"
def TX10 : u_T := fun k => match k with
  | 0 => ("java/lang/Throwable", "cause", "Ljava/lang/Throwable;", false)
  | 1 => ("java/lang/Throwable", "stackTrace", "[Ljava/lang/StackTraceElement;", false)
  | 2 => ("java/lang/Throwable", "suppressedExceptions", "Ljava/util/List;", false)
  | 3 => ("java/lang/Throwable", "detailMessage", "Ljava/lang/String;", false)
  | 4 => ("java/lang/Throwable", "backtrace", "Ljava/lang/Object;", false)
  | _ => ("java/lang/Throwable", "depth", "I", false)
def tyX10 : Nat → FieldType := fun k => match k with
  | 0 => .object "java/lang/Throwable"
  | 1 => .array (.object "java/lang/StackTraceElement")
  | 2 => .object "java/util/List"
  | 3 => .object "java/lang/String"
  | 4 => .object "java/lang/Object"
  | _ => .int
abbrev wsX100 : List Cond := u_ws RX10 TX10 6
theorem nmX10 : ∀ a, a < 6 → ∀ b, b < 6 → a ≠ b → (TX10 a).2.1 ≠ (TX10 b).2.1 := by decide +kernel
theorem tyX10_ok : ∀ k, k < 6 → parseFieldDescriptor (TX10 k).2.2.1 = some (tyX10 k) := by decide +kernel
abbrev cX10_init : ByteArray := prog_6_method_1_code
def yX10_init : MethodName := ⟨RX10, "<init>", "()V"⟩
def dkwX10_init_0 : List UInt8 := [42, 1, 183, 0, 1, 177]
abbrev dktX10_init_0 : List UInt8 := dkwX10_init_0 ++ []
theorem dksX10_init_0 : cX10_init.data.toList.drop 0 = dktX10_init_0 := by decide +kernel
theorem dX10_init_0 : decode cX10_init 0 = .ok (.aload_n 0, 1) := dk_42 (dk_at dksX10_init_0 0 rfl rfl)
theorem dX10_init_1 : decode cX10_init 1 = .ok (.aconst_null, 1) := dk_1 (dk_at dksX10_init_0 1 rfl rfl)
theorem dX10_init_2 : decode cX10_init 2 = .ok (.invokespecial 1, 3) := dk_183 0 1 (dk_at dksX10_init_0 2 rfl rfl)
theorem dX10_init_5 : decode cX10_init 5 = .ok (.return_, 1) := dk_177 (dk_at dksX10_init_0 5 rfl rfl)
theorem q118 : (Jvm.Cond.initialized "Coreplug$LastCore") ∈ lw_all := lw_g (lw_at lw_m1 49 rfl) rfl
theorem q226 : (Jvm.Cond.selects "Coreplug$LastCore" ({ cls := "java/lang/Object", name := "getClass", desc := "()Ljava/lang/Class;" } : Jvm.MethodName) ({ cls := "java/lang/Object", name := "getClass", desc := "()Ljava/lang/Class;" } : Jvm.MethodName)) ∈ lw_all := lw_g (lw_at lw_m1 157 rfl) rfl
theorem q480 : (Jvm.Cond.selects "Coreplug$LastCore" ({ cls := "java/lang/Throwable", name := "fillInStackTrace", desc := "()Ljava/lang/Throwable;" } : Jvm.MethodName) ({ cls := "java/lang/Throwable", name := "fillInStackTrace", desc := "()Ljava/lang/Throwable;" } : Jvm.MethodName)) ∈ lw_all := lw_g (lw_at lw_m2 171 rfl) rfl
theorem q1060 : (Jvm.Cond.selects "Coreplug$LastCore" ({ cls := "java/lang/Throwable", name := "toString", desc := "()Ljava/lang/String;" } : Jvm.MethodName) ({ cls := "java/lang/Throwable", name := "toString", desc := "()Ljava/lang/String;" } : Jvm.MethodName)) ∈ lw_all := lw_g (lw_at lw_m5 31 rfl) rfl
theorem q1073 : (Jvm.Cond.selects "Coreplug$LastCore" ({ cls := "java/lang/Throwable", name := "getLocalizedMessage", desc := "()Ljava/lang/String;" } : Jvm.MethodName) ({ cls := "java/lang/Throwable", name := "getLocalizedMessage", desc := "()Ljava/lang/String;" } : Jvm.MethodName)) ∈ lw_all := lw_g (lw_at lw_m5 44 rfl) rfl
theorem q1085 : (Jvm.Cond.selects "Coreplug$LastCore" ({ cls := "java/lang/Throwable", name := "getMessage", desc := "()Ljava/lang/String;" } : Jvm.MethodName) ({ cls := "java/lang/Throwable", name := "getMessage", desc := "()Ljava/lang/String;" } : Jvm.MethodName)) ∈ lw_all := lw_g (lw_at lw_m5 56 rfl) rfl
theorem q1605 : (Jvm.Cond.instantiable "Coreplug$LastCore" (6 : Nat)) ∈ lw_all := lw_g (lw_at lw_m7 96 rfl) rfl
theorem q1606 : (Jvm.Cond.castable "Coreplug$LastCore" "Coreplug$LastCore") ∈ lw_tbl := lw_at lw_m7 97 rfl
theorem q1607 : (Jvm.Cond.selects "Coreplug$LastCore" ({ cls := "java/lang/Throwable", name := "fillInStackTrace", desc := "(I)Ljava/lang/Throwable;" } : Jvm.MethodName) ({ cls := "java/lang/Throwable", name := "fillInStackTrace", desc := "(I)Ljava/lang/Throwable;" } : Jvm.MethodName)) ∈ lw_all := lw_g (lw_at lw_m7 98 rfl) rfl
theorem q1608 : (Jvm.Cond.lays "Coreplug$LastCore" "java/lang/Throwable" "cause" "Ljava/lang/Throwable;") ∈ lw_all := lw_g (lw_at lw_m7 99 rfl) rfl
theorem q1609 : (Jvm.Cond.lays "Coreplug$LastCore" "java/lang/Throwable" "stackTrace" "[Ljava/lang/StackTraceElement;") ∈ lw_all := lw_g (lw_at lw_m7 100 rfl) rfl
theorem q1610 : (Jvm.Cond.lays "Coreplug$LastCore" "java/lang/Throwable" "suppressedExceptions" "Ljava/util/List;") ∈ lw_all := lw_g (lw_at lw_m7 101 rfl) rfl
theorem q1611 : (Jvm.Cond.lays "Coreplug$LastCore" "java/lang/Throwable" "detailMessage" "Ljava/lang/String;") ∈ lw_all := lw_g (lw_at lw_m7 102 rfl) rfl
theorem q1612 : (Jvm.Cond.lays "Coreplug$LastCore" "java/lang/Throwable" "backtrace" "Ljava/lang/Object;") ∈ lw_all := lw_g (lw_at lw_m7 103 rfl) rfl
theorem q1614 : (Jvm.Cond.instanceMethod ({ cls := "Coreplug$LastCore", name := "<init>", desc := "()V" } : Jvm.MethodName)) ∈ lw_all := lw_g (lw_at lw_m7 105 rfl) rfl
theorem q1615 : (Jvm.Cond.code ({ cls := "Coreplug$LastCore", name := "<init>", desc := "()V" } : Jvm.MethodName) prog_6_method_1_code (1 : Nat) (Option.none : Option Jvm.ClassFile.FieldType)) ∈ lw_all := lw_g (lw_at lw_m7 106 rfl) rfl
theorem q1616 : (Jvm.Cond.methodLink "Coreplug$LastCore" (1 : Nat) ({ cls := "Coreplug$Failed", name := "<init>", desc := "(Ljava/lang/Exception;)V" } : Jvm.MethodName)) ∈ lw_all := lw_g (lw_at lw_m7 107 rfl) rfl
theorem q1617 : (Jvm.Cond.lays "Coreplug$LastCore" "java/lang/Throwable" "depth" "I") ∈ lw_all := lw_g (lw_at lw_m7 108 rfl) rfl
theorem q1618 : (Jvm.Cond.superclass "Coreplug$LastCore" "Coreplug$Failed") ∈ lw_all := lw_g (lw_at lw_m7 109 rfl) rfl
theorem q2057 : (Jvm.Cond.castable "Coreplug$LastCore" "Coreplug$Failed") ∈ lw_tbl := lw_at lw_m9 68 rfl
theorem q2086 : (Jvm.Cond.castable "Coreplug$LastCore" "java/lang/Object") ∈ lw_tbl := lw_at lw_m9 97 rfl
theorem in_X10 : ∀ w ∈ wsX100, w ∈ lw_all := lw_in wsX100 [1608, 1609, 1610, 1611, 1612, 1617] (by decide +kernel) (by decide +kernel)
/-! Coreplug$Thing -/
set_option maxRecDepth 100000
def RX11 : String := "Coreplug$Thing"
def TX11 : u_T := fun k => match k with
  | 0 => ("Coreplug$Thing", "set", "I", true)
  | 1 => ("Coreplug$Thing", "core", "I", false)
  | _ => ("Coreplug$Thing", "moves", "I", false)
def tyX11 : Nat → FieldType := fun k => match k with
  | 0 => .int
  | 1 => .int
  | _ => .int
abbrev wsX110 : List Cond := u_ws RX11 TX11 3
theorem nmX11 : ∀ a, a < 3 → ∀ b, b < 3 → a ≠ b → (TX11 a).2.1 ≠ (TX11 b).2.1 := by decide +kernel
theorem tyX11_ok : ∀ k, k < 3 → parseFieldDescriptor (TX11 k).2.2.1 = some (tyX11 k) := by decide +kernel
abbrev cX11_mayBeOn : ByteArray := prog_9_method_2_code
def yX11_mayBeOn : MethodName := ⟨RX11, "mayBeOn", "(I)Z"⟩
def dkwX11_mayBeOn_0 : List UInt8 := [42, 180, 0, 7, 27, 122, 4, 126, 4, 160, 0, 7, 4, 167, 0, 4, 3, 172]
abbrev dktX11_mayBeOn_0 : List UInt8 := dkwX11_mayBeOn_0 ++ []
theorem dksX11_mayBeOn_0 : cX11_mayBeOn.data.toList.drop 0 = dktX11_mayBeOn_0 := by decide +kernel
theorem dX11_mayBeOn_0 : decode cX11_mayBeOn 0 = .ok (.aload_n 0, 1) := dk_42 (dk_at dksX11_mayBeOn_0 0 rfl rfl)
theorem dX11_mayBeOn_1 : decode cX11_mayBeOn 1 = .ok (.getfield 7, 3) := dk_180 0 7 (dk_at dksX11_mayBeOn_0 1 rfl rfl)
theorem dX11_mayBeOn_4 : decode cX11_mayBeOn 4 = .ok (.iload_n 1, 1) := dk_27 (dk_at dksX11_mayBeOn_0 4 rfl rfl)
theorem dX11_mayBeOn_5 : decode cX11_mayBeOn 5 = .ok (.ishr, 1) := dk_122 (dk_at dksX11_mayBeOn_0 5 rfl rfl)
theorem dX11_mayBeOn_6 : decode cX11_mayBeOn 6 = .ok (.iconst 1, 1) := dk_4 (dk_at dksX11_mayBeOn_0 6 rfl rfl)
theorem dX11_mayBeOn_7 : decode cX11_mayBeOn 7 = .ok (.iand, 1) := dk_126 (dk_at dksX11_mayBeOn_0 7 rfl rfl)
theorem dX11_mayBeOn_8 : decode cX11_mayBeOn 8 = .ok (.iconst 1, 1) := dk_4 (dk_at dksX11_mayBeOn_0 8 rfl rfl)
theorem dX11_mayBeOn_9 : decode cX11_mayBeOn 9 = .ok (.if_icmp .ne 7, 3) := dk_160 0 7 (dk_at dksX11_mayBeOn_0 9 rfl rfl)
theorem dX11_mayBeOn_12 : decode cX11_mayBeOn 12 = .ok (.iconst 1, 1) := dk_4 (dk_at dksX11_mayBeOn_0 12 rfl rfl)
theorem dX11_mayBeOn_13 : decode cX11_mayBeOn 13 = .ok (.goto 4, 3) := dk_167 0 4 (dk_at dksX11_mayBeOn_0 13 rfl rfl)
theorem dX11_mayBeOn_16 : decode cX11_mayBeOn 16 = .ok (.iconst 0, 1) := dk_3 (dk_at dksX11_mayBeOn_0 16 rfl rfl)
theorem dX11_mayBeOn_17 : decode cX11_mayBeOn 17 = .ok (.ireturn, 1) := dk_172 (dk_at dksX11_mayBeOn_0 17 rfl rfl)
abbrev cX11_move : ByteArray := prog_9_method_3_code
def yX11_move : MethodName := ⟨RX11, "move", "(I)V"⟩
def dkwX11_move_1 : List UInt8 := [181, 0, 13, 177]
abbrev dktX11_move_1 : List UInt8 := dkwX11_move_1 ++ []
def dkwX11_move_0 : List UInt8 := [42, 89, 180, 0, 16, 27, 42, 180, 0, 13, 160, 0, 7, 3, 167, 0, 4, 4, 96, 181, 0, 16, 42, 27]
abbrev dktX11_move_0 : List UInt8 := dkwX11_move_0 ++ dktX11_move_1
theorem dksX11_move_0 : cX11_move.data.toList.drop 0 = dktX11_move_0 := by decide +kernel
theorem dksX11_move_1 : cX11_move.data.toList.drop 24 = dktX11_move_1 := dk_seg dksX11_move_0 24 rfl rfl
theorem dX11_move_0 : decode cX11_move 0 = .ok (.aload_n 0, 1) := dk_42 (dk_at dksX11_move_0 0 rfl rfl)
theorem dX11_move_1 : decode cX11_move 1 = .ok (.dup, 1) := dk_89 (dk_at dksX11_move_0 1 rfl rfl)
theorem dX11_move_2 : decode cX11_move 2 = .ok (.getfield 16, 3) := dk_180 0 16 (dk_at dksX11_move_0 2 rfl rfl)
theorem dX11_move_5 : decode cX11_move 5 = .ok (.iload_n 1, 1) := dk_27 (dk_at dksX11_move_0 5 rfl rfl)
theorem dX11_move_6 : decode cX11_move 6 = .ok (.aload_n 0, 1) := dk_42 (dk_at dksX11_move_0 6 rfl rfl)
theorem dX11_move_7 : decode cX11_move 7 = .ok (.getfield 13, 3) := dk_180 0 13 (dk_at dksX11_move_0 7 rfl rfl)
theorem dX11_move_10 : decode cX11_move 10 = .ok (.if_icmp .ne 7, 3) := dk_160 0 7 (dk_at dksX11_move_0 10 rfl rfl)
theorem dX11_move_13 : decode cX11_move 13 = .ok (.iconst 0, 1) := dk_3 (dk_at dksX11_move_0 13 rfl rfl)
theorem dX11_move_14 : decode cX11_move 14 = .ok (.goto 4, 3) := dk_167 0 4 (dk_at dksX11_move_0 14 rfl rfl)
theorem dX11_move_17 : decode cX11_move 17 = .ok (.iconst 1, 1) := dk_4 (dk_at dksX11_move_0 17 rfl rfl)
theorem dX11_move_18 : decode cX11_move 18 = .ok (.iadd, 1) := dk_96 (dk_at dksX11_move_0 18 rfl rfl)
theorem dX11_move_19 : decode cX11_move 19 = .ok (.putfield 16, 3) := dk_181 0 16 (dk_at dksX11_move_0 19 rfl rfl)
theorem dX11_move_22 : decode cX11_move 22 = .ok (.aload_n 0, 1) := dk_42 (dk_at dksX11_move_0 22 rfl rfl)
theorem dX11_move_23 : decode cX11_move 23 = .ok (.iload_n 1, 1) := dk_27 (dk_at dksX11_move_0 23 rfl rfl)
theorem dX11_move_24 : decode cX11_move 24 = .ok (.putfield 13, 3) := dk_181 0 13 (dk_at dksX11_move_1 0 rfl rfl)
theorem dX11_move_27 : decode cX11_move 27 = .ok (.return_, 1) := dk_177 (dk_at dksX11_move_1 3 rfl rfl)
abbrev cX11_init : ByteArray := prog_9_method_1_code
def yX11_init : MethodName := ⟨RX11, "<init>", "(II)V"⟩
def dkwX11_init_0 : List UInt8 := [42, 183, 0, 1, 42, 27, 181, 0, 7, 42, 28, 181, 0, 13, 177]
abbrev dktX11_init_0 : List UInt8 := dkwX11_init_0 ++ []
theorem dksX11_init_0 : cX11_init.data.toList.drop 0 = dktX11_init_0 := by decide +kernel
theorem dX11_init_0 : decode cX11_init 0 = .ok (.aload_n 0, 1) := dk_42 (dk_at dksX11_init_0 0 rfl rfl)
theorem dX11_init_1 : decode cX11_init 1 = .ok (.invokespecial 1, 3) := dk_183 0 1 (dk_at dksX11_init_0 1 rfl rfl)
theorem dX11_init_4 : decode cX11_init 4 = .ok (.aload_n 0, 1) := dk_42 (dk_at dksX11_init_0 4 rfl rfl)
theorem dX11_init_5 : decode cX11_init 5 = .ok (.iload_n 1, 1) := dk_27 (dk_at dksX11_init_0 5 rfl rfl)
theorem dX11_init_6 : decode cX11_init 6 = .ok (.putfield 7, 3) := dk_181 0 7 (dk_at dksX11_init_0 6 rfl rfl)
theorem dX11_init_9 : decode cX11_init 9 = .ok (.aload_n 0, 1) := dk_42 (dk_at dksX11_init_0 9 rfl rfl)
theorem dX11_init_10 : decode cX11_init 10 = .ok (.iload_n 2, 1) := dk_28 (dk_at dksX11_init_0 10 rfl rfl)
theorem dX11_init_11 : decode cX11_init 11 = .ok (.putfield 13, 3) := dk_181 0 13 (dk_at dksX11_init_0 11 rfl rfl)
theorem dX11_init_14 : decode cX11_init 14 = .ok (.return_, 1) := dk_177 (dk_at dksX11_init_0 14 rfl rfl)
theorem q119 : (Jvm.Cond.initialized "Coreplug$Thing") ∈ lw_all := lw_g (lw_at lw_m1 50 rfl) rfl
theorem q229 : (Jvm.Cond.selects "Coreplug$Thing" ({ cls := "java/lang/Object", name := "getClass", desc := "()Ljava/lang/Class;" } : Jvm.MethodName) ({ cls := "java/lang/Object", name := "getClass", desc := "()Ljava/lang/Class;" } : Jvm.MethodName)) ∈ lw_all := lw_g (lw_at lw_m1 160 rfl) rfl
theorem q1586 : (Jvm.Cond.instanceMethod ({ cls := "Coreplug$Thing", name := "mayBeOn", desc := "(I)Z" } : Jvm.MethodName)) ∈ lw_all := lw_g (lw_at lw_m7 77 rfl) rfl
theorem q1587 : (Jvm.Cond.selects "Coreplug$Thing" ({ cls := "Coreplug$Thing", name := "mayBeOn", desc := "(I)Z" } : Jvm.MethodName) ({ cls := "Coreplug$Thing", name := "mayBeOn", desc := "(I)Z" } : Jvm.MethodName)) ∈ lw_all := lw_g (lw_at lw_m7 78 rfl) rfl
theorem q1588 : (Jvm.Cond.sameMethod "Coreplug$Thing" "Coreplug$Thing" "mayBeOn" "(I)Z") ∈ lw_all := lw_g (lw_at lw_m7 79 rfl) rfl
theorem q1590 : (Jvm.Cond.code ({ cls := "Coreplug$Thing", name := "mayBeOn", desc := "(I)Z" } : Jvm.MethodName) prog_9_method_2_code (2 : Nat) (Option.some Jvm.ClassFile.FieldType.boolean)) ∈ lw_all := lw_g (lw_at lw_m7 81 rfl) rfl
theorem q1592 : (Jvm.Cond.instanceMethod ({ cls := "Coreplug$Thing", name := "move", desc := "(I)V" } : Jvm.MethodName)) ∈ lw_all := lw_g (lw_at lw_m7 83 rfl) rfl
theorem q1593 : (Jvm.Cond.selects "Coreplug$Thing" ({ cls := "Coreplug$Thing", name := "move", desc := "(I)V" } : Jvm.MethodName) ({ cls := "Coreplug$Thing", name := "move", desc := "(I)V" } : Jvm.MethodName)) ∈ lw_all := lw_g (lw_at lw_m7 84 rfl) rfl
theorem q1594 : (Jvm.Cond.sameMethod "Coreplug$Thing" "Coreplug$Thing" "move" "(I)V") ∈ lw_all := lw_g (lw_at lw_m7 85 rfl) rfl
theorem q1596 : (Jvm.Cond.code ({ cls := "Coreplug$Thing", name := "move", desc := "(I)V" } : Jvm.MethodName) prog_9_method_3_code (2 : Nat) (Option.none : Option Jvm.ClassFile.FieldType)) ∈ lw_all := lw_g (lw_at lw_m7 87 rfl) rfl
theorem q1660 : (Jvm.Cond.instantiable "Coreplug$Thing" (3 : Nat)) ∈ lw_all := lw_g (lw_at lw_m7 151 rfl) rfl
theorem q1662 : (Jvm.Cond.instanceMethod ({ cls := "Coreplug$Thing", name := "<init>", desc := "(II)V" } : Jvm.MethodName)) ∈ lw_all := lw_g (lw_at lw_m7 153 rfl) rfl
theorem q1663 : (Jvm.Cond.code ({ cls := "Coreplug$Thing", name := "<init>", desc := "(II)V" } : Jvm.MethodName) prog_9_method_1_code (3 : Nat) (Option.none : Option Jvm.ClassFile.FieldType)) ∈ lw_all := lw_g (lw_at lw_m7 154 rfl) rfl
theorem q1664 : (Jvm.Cond.methodLink "Coreplug$Thing" (1 : Nat) ({ cls := "java/lang/Object", name := "<init>", desc := "()V" } : Jvm.MethodName)) ∈ lw_all := lw_g (lw_at lw_m7 155 rfl) rfl
theorem q1665 : (Jvm.Cond.fieldLink "Coreplug$Thing" (7 : Nat) "Coreplug$Thing" "set" "I") ∈ lw_all := lw_g (lw_at lw_m7 156 rfl) rfl
theorem q1667 : (Jvm.Cond.fieldLink "Coreplug$Thing" (13 : Nat) "Coreplug$Thing" "core" "I") ∈ lw_all := lw_g (lw_at lw_m7 158 rfl) rfl
theorem q1669 : (Jvm.Cond.fieldLink "Coreplug$Thing" (16 : Nat) "Coreplug$Thing" "moves" "I") ∈ lw_all := lw_g (lw_at lw_m7 160 rfl) rfl
theorem q1671 : (Jvm.Cond.laysFinal "Coreplug$Thing" "Coreplug$Thing" "set" "I") ∈ lw_all := lw_g (lw_at lw_m7 162 rfl) rfl
theorem q1672 : (Jvm.Cond.soleField "Coreplug$Thing" "set") ∈ lw_all := lw_g (lw_at lw_m7 163 rfl) rfl
theorem q1673 : (Jvm.Cond.lays "Coreplug$Thing" "Coreplug$Thing" "core" "I") ∈ lw_all := lw_g (lw_at lw_m7 164 rfl) rfl
theorem q1674 : (Jvm.Cond.soleField "Coreplug$Thing" "core") ∈ lw_all := lw_g (lw_at lw_m7 165 rfl) rfl
theorem q1675 : (Jvm.Cond.lays "Coreplug$Thing" "Coreplug$Thing" "moves" "I") ∈ lw_all := lw_g (lw_at lw_m7 166 rfl) rfl
theorem q1676 : (Jvm.Cond.soleField "Coreplug$Thing" "moves") ∈ lw_all := lw_g (lw_at lw_m7 167 rfl) rfl
theorem q1677 : (Jvm.Cond.superclass "Coreplug$Thing" "java/lang/Object") ∈ lw_all := lw_g (lw_at lw_m7 168 rfl) rfl
theorem q2088 : (Jvm.Cond.castable "Coreplug$Thing" "java/lang/Object") ∈ lw_tbl := lw_at lw_m9 99 rfl
theorem in_X11 : ∀ w ∈ wsX110, w ∈ lw_all := lw_in wsX110 [1671, 1673, 1675] (by decide +kernel) (by decide +kernel)
/-! Coreplug$Interrupt -/
set_option maxRecDepth 100000
def RX12 : String := "Coreplug$Interrupt"
def TX12 : u_T := fun k => match k with
  | 0 => ("Coreplug$Thing", "set", "I", true)
  | 1 => ("Coreplug$Thing", "core", "I", false)
  | 2 => ("Coreplug$Thing", "moves", "I", false)
  | _ => ("Coreplug$Interrupt", "isBroken", "Z", false)
def tyX12 : Nat → FieldType := fun k => match k with
  | 0 => .int
  | 1 => .int
  | 2 => .int
  | _ => .boolean
abbrev wsX120 : List Cond := u_ws RX12 TX12 4
theorem nmX12 : ∀ a, a < 4 → ∀ b, b < 4 → a ≠ b → (TX12 a).2.1 ≠ (TX12 b).2.1 := by decide +kernel
theorem tyX12_ok : ∀ k, k < 4 → parseFieldDescriptor (TX12 k).2.2.1 = some (tyX12 k) := by decide +kernel
abbrev cX12_init : ByteArray := prog_5_method_1_code
def yX12_init : MethodName := ⟨RX12, "<init>", "(I)V"⟩
def dkwX12_init_0 : List UInt8 := [42, 27, 2, 183, 0, 3, 177]
abbrev dktX12_init_0 : List UInt8 := dkwX12_init_0 ++ []
theorem dksX12_init_0 : cX12_init.data.toList.drop 0 = dktX12_init_0 := by decide +kernel
theorem dX12_init_0 : decode cX12_init 0 = .ok (.aload_n 0, 1) := dk_42 (dk_at dksX12_init_0 0 rfl rfl)
theorem dX12_init_1 : decode cX12_init 1 = .ok (.iload_n 1, 1) := dk_27 (dk_at dksX12_init_0 1 rfl rfl)
theorem dX12_init_2 : decode cX12_init 2 = .ok (.iconst (-1), 1) := dk_2 (dk_at dksX12_init_0 2 rfl rfl)
theorem dX12_init_3 : decode cX12_init 3 = .ok (.invokespecial 3, 3) := dk_183 0 3 (dk_at dksX12_init_0 3 rfl rfl)
theorem dX12_init_6 : decode cX12_init 6 = .ok (.return_, 1) := dk_177 (dk_at dksX12_init_0 6 rfl rfl)
theorem q120 : (Jvm.Cond.initialized "Coreplug$Interrupt") ∈ lw_all := lw_g (lw_at lw_m1 51 rfl) rfl
theorem q225 : (Jvm.Cond.selects "Coreplug$Interrupt" ({ cls := "java/lang/Object", name := "getClass", desc := "()Ljava/lang/Class;" } : Jvm.MethodName) ({ cls := "java/lang/Object", name := "getClass", desc := "()Ljava/lang/Class;" } : Jvm.MethodName)) ∈ lw_all := lw_g (lw_at lw_m1 156 rfl) rfl
theorem q1589 : (Jvm.Cond.selects "Coreplug$Interrupt" ({ cls := "Coreplug$Thing", name := "mayBeOn", desc := "(I)Z" } : Jvm.MethodName) ({ cls := "Coreplug$Thing", name := "mayBeOn", desc := "(I)Z" } : Jvm.MethodName)) ∈ lw_all := lw_g (lw_at lw_m7 80 rfl) rfl
theorem q1595 : (Jvm.Cond.selects "Coreplug$Interrupt" ({ cls := "Coreplug$Thing", name := "move", desc := "(I)V" } : Jvm.MethodName) ({ cls := "Coreplug$Thing", name := "move", desc := "(I)V" } : Jvm.MethodName)) ∈ lw_all := lw_g (lw_at lw_m7 86 rfl) rfl
theorem q1685 : (Jvm.Cond.instantiable "Coreplug$Interrupt" (4 : Nat)) ∈ lw_all := lw_g (lw_at lw_m7 176 rfl) rfl
theorem q1687 : (Jvm.Cond.instanceMethod ({ cls := "Coreplug$Interrupt", name := "<init>", desc := "(I)V" } : Jvm.MethodName)) ∈ lw_all := lw_g (lw_at lw_m7 178 rfl) rfl
theorem q1688 : (Jvm.Cond.code ({ cls := "Coreplug$Interrupt", name := "<init>", desc := "(I)V" } : Jvm.MethodName) prog_5_method_1_code (2 : Nat) (Option.none : Option Jvm.ClassFile.FieldType)) ∈ lw_all := lw_g (lw_at lw_m7 179 rfl) rfl
theorem q1689 : (Jvm.Cond.methodLink "Coreplug$Interrupt" (3 : Nat) ({ cls := "Coreplug$Thing", name := "<init>", desc := "(II)V" } : Jvm.MethodName)) ∈ lw_all := lw_g (lw_at lw_m7 180 rfl) rfl
theorem q1691 : (Jvm.Cond.lays "Coreplug$Interrupt" "Coreplug$Interrupt" "isBroken" "Z") ∈ lw_all := lw_g (lw_at lw_m7 182 rfl) rfl
theorem q1692 : (Jvm.Cond.soleField "Coreplug$Interrupt" "isBroken") ∈ lw_all := lw_g (lw_at lw_m7 183 rfl) rfl
theorem q1693 : (Jvm.Cond.laysFinal "Coreplug$Interrupt" "Coreplug$Thing" "set" "I") ∈ lw_all := lw_g (lw_at lw_m7 184 rfl) rfl
theorem q1694 : (Jvm.Cond.lays "Coreplug$Interrupt" "Coreplug$Thing" "core" "I") ∈ lw_all := lw_g (lw_at lw_m7 185 rfl) rfl
theorem q1695 : (Jvm.Cond.lays "Coreplug$Interrupt" "Coreplug$Thing" "moves" "I") ∈ lw_all := lw_g (lw_at lw_m7 186 rfl) rfl
theorem q1696 : (Jvm.Cond.superclass "Coreplug$Interrupt" "Coreplug$Thing") ∈ lw_all := lw_g (lw_at lw_m7 187 rfl) rfl
theorem q2059 : (Jvm.Cond.castable "Coreplug$Interrupt" "Coreplug$Thing") ∈ lw_tbl := lw_at lw_m9 70 rfl
theorem q2089 : (Jvm.Cond.castable "Coreplug$Interrupt" "java/lang/Object") ∈ lw_tbl := lw_at lw_m9 100 rfl
theorem in_X12 : ∀ w ∈ wsX120, w ∈ lw_all := lw_in wsX120 [1693, 1694, 1695, 1691] (by decide +kernel) (by decide +kernel)
/-! Coreplug$Core -/
set_option maxRecDepth 100000
def RX2 : String := "Coreplug$Core"
def TX2 : u_T := fun k => match k with
  | 0 => ("Coreplug$Core", "number", "I", true)
  | 1 => ("Coreplug$Core", "level", "I", false)
  | _ => ("Coreplug$Core", "this$0", "LCoreplug;", true)
def tyX2 : Nat → FieldType := fun k => match k with
  | 0 => .int
  | 1 => .int
  | _ => .object "Coreplug"
abbrev wsX20 : List Cond := u_ws RX2 TX2 3
theorem nmX2 : ∀ a, a < 3 → ∀ b, b < 3 → a ≠ b → (TX2 a).2.1 ≠ (TX2 b).2.1 := by decide +kernel
theorem tyX2_ok : ∀ k, k < 3 → parseFieldDescriptor (TX2 k).2.2.1 = some (tyX2 k) := by decide +kernel
abbrev cX2_init : ByteArray := prog_3_method_1_code
def yX2_init : MethodName := ⟨RX2, "<init>", "(LCoreplug;II)V"⟩
def dkwX2_init_0 : List UInt8 := [42, 43, 181, 0, 3, 42, 183, 0, 9, 42, 28, 181, 0, 15, 42, 29, 181, 0, 19, 177]
abbrev dktX2_init_0 : List UInt8 := dkwX2_init_0 ++ []
theorem dksX2_init_0 : cX2_init.data.toList.drop 0 = dktX2_init_0 := by decide +kernel
theorem dX2_init_0 : decode cX2_init 0 = .ok (.aload_n 0, 1) := dk_42 (dk_at dksX2_init_0 0 rfl rfl)
theorem dX2_init_1 : decode cX2_init 1 = .ok (.aload_n 1, 1) := dk_43 (dk_at dksX2_init_0 1 rfl rfl)
theorem dX2_init_2 : decode cX2_init 2 = .ok (.putfield 3, 3) := dk_181 0 3 (dk_at dksX2_init_0 2 rfl rfl)
theorem dX2_init_5 : decode cX2_init 5 = .ok (.aload_n 0, 1) := dk_42 (dk_at dksX2_init_0 5 rfl rfl)
theorem dX2_init_6 : decode cX2_init 6 = .ok (.invokespecial 9, 3) := dk_183 0 9 (dk_at dksX2_init_0 6 rfl rfl)
theorem dX2_init_9 : decode cX2_init 9 = .ok (.aload_n 0, 1) := dk_42 (dk_at dksX2_init_0 9 rfl rfl)
theorem dX2_init_10 : decode cX2_init 10 = .ok (.iload_n 2, 1) := dk_28 (dk_at dksX2_init_0 10 rfl rfl)
theorem dX2_init_11 : decode cX2_init 11 = .ok (.putfield 15, 3) := dk_181 0 15 (dk_at dksX2_init_0 11 rfl rfl)
theorem dX2_init_14 : decode cX2_init 14 = .ok (.aload_n 0, 1) := dk_42 (dk_at dksX2_init_0 14 rfl rfl)
theorem dX2_init_15 : decode cX2_init 15 = .ok (.iload_n 3, 1) := dk_29 (dk_at dksX2_init_0 15 rfl rfl)
theorem dX2_init_16 : decode cX2_init 16 = .ok (.putfield 19, 3) := dk_181 0 19 (dk_at dksX2_init_0 16 rfl rfl)
theorem dX2_init_19 : decode cX2_init 19 = .ok (.return_, 1) := dk_177 (dk_at dksX2_init_0 19 rfl rfl)
abbrev cX2_isUp : ByteArray := prog_3_method_2_code
def yX2_isUp : MethodName := ⟨RX2, "isUp", "()Z"⟩
def dkwX2_isUp_0 : List UInt8 := [42, 180, 0, 19, 16, 10, 164, 0, 7, 4, 167, 0, 4, 3, 172]
abbrev dktX2_isUp_0 : List UInt8 := dkwX2_isUp_0 ++ []
theorem dksX2_isUp_0 : cX2_isUp.data.toList.drop 0 = dktX2_isUp_0 := by decide +kernel
theorem dX2_isUp_0 : decode cX2_isUp 0 = .ok (.aload_n 0, 1) := dk_42 (dk_at dksX2_isUp_0 0 rfl rfl)
theorem dX2_isUp_1 : decode cX2_isUp 1 = .ok (.getfield 19, 3) := dk_180 0 19 (dk_at dksX2_isUp_0 1 rfl rfl)
theorem dX2_isUp_4 : decode cX2_isUp 4 = .ok (.bipush 10, 2) := dk_16 10 (dk_at dksX2_isUp_0 4 rfl rfl)
theorem dX2_isUp_6 : decode cX2_isUp 6 = .ok (.if_icmp .le 7, 3) := dk_164 0 7 (dk_at dksX2_isUp_0 6 rfl rfl)
theorem dX2_isUp_9 : decode cX2_isUp 9 = .ok (.iconst 1, 1) := dk_4 (dk_at dksX2_isUp_0 9 rfl rfl)
theorem dX2_isUp_10 : decode cX2_isUp 10 = .ok (.goto 4, 3) := dk_167 0 4 (dk_at dksX2_isUp_0 10 rfl rfl)
theorem dX2_isUp_13 : decode cX2_isUp 13 = .ok (.iconst 0, 1) := dk_3 (dk_at dksX2_isUp_0 13 rfl rfl)
theorem dX2_isUp_14 : decode cX2_isUp 14 = .ok (.ireturn, 1) := dk_172 (dk_at dksX2_isUp_0 14 rfl rfl)
theorem q74 : (Jvm.Cond.initialized "Coreplug$Core") ∈ lw_all := lw_g (lw_at lw_m1 5 rfl) rfl
theorem q165 : (Jvm.Cond.instantiable "Coreplug$Core" (3 : Nat)) ∈ lw_all := lw_g (lw_at lw_m1 96 rfl) rfl
theorem q167 : (Jvm.Cond.instanceMethod ({ cls := "Coreplug$Core", name := "<init>", desc := "(LCoreplug;II)V" } : Jvm.MethodName)) ∈ lw_all := lw_g (lw_at lw_m1 98 rfl) rfl
theorem q168 : (Jvm.Cond.code ({ cls := "Coreplug$Core", name := "<init>", desc := "(LCoreplug;II)V" } : Jvm.MethodName) prog_3_method_1_code (4 : Nat) (Option.none : Option Jvm.ClassFile.FieldType)) ∈ lw_all := lw_g (lw_at lw_m1 99 rfl) rfl
theorem q169 : (Jvm.Cond.methodLink "Coreplug$Core" (9 : Nat) ({ cls := "java/lang/Object", name := "<init>", desc := "()V" } : Jvm.MethodName)) ∈ lw_all := lw_g (lw_at lw_m1 100 rfl) rfl
theorem q170 : (Jvm.Cond.fieldLink "Coreplug$Core" (15 : Nat) "Coreplug$Core" "number" "I") ∈ lw_all := lw_g (lw_at lw_m1 101 rfl) rfl
theorem q172 : (Jvm.Cond.fieldLink "Coreplug$Core" (19 : Nat) "Coreplug$Core" "level" "I") ∈ lw_all := lw_g (lw_at lw_m1 103 rfl) rfl
theorem q174 : (Jvm.Cond.fieldLink "Coreplug$Core" (3 : Nat) "Coreplug$Core" "this$0" "LCoreplug;") ∈ lw_all := lw_g (lw_at lw_m1 105 rfl) rfl
theorem q175 : (Jvm.Cond.laysFinal "Coreplug$Core" "Coreplug$Core" "number" "I") ∈ lw_all := lw_g (lw_at lw_m1 106 rfl) rfl
theorem q176 : (Jvm.Cond.soleField "Coreplug$Core" "number") ∈ lw_all := lw_g (lw_at lw_m1 107 rfl) rfl
theorem q177 : (Jvm.Cond.lays "Coreplug$Core" "Coreplug$Core" "level" "I") ∈ lw_all := lw_g (lw_at lw_m1 108 rfl) rfl
theorem q178 : (Jvm.Cond.soleField "Coreplug$Core" "level") ∈ lw_all := lw_g (lw_at lw_m1 109 rfl) rfl
theorem q179 : (Jvm.Cond.laysFinal "Coreplug$Core" "Coreplug$Core" "this$0" "LCoreplug;") ∈ lw_all := lw_g (lw_at lw_m1 110 rfl) rfl
theorem q180 : (Jvm.Cond.soleField "Coreplug$Core" "this$0") ∈ lw_all := lw_g (lw_at lw_m1 111 rfl) rfl
theorem q181 : (Jvm.Cond.superclass "Coreplug$Core" "java/lang/Object") ∈ lw_all := lw_g (lw_at lw_m1 112 rfl) rfl
theorem q223 : (Jvm.Cond.selects "Coreplug$Core" ({ cls := "java/lang/Object", name := "getClass", desc := "()Ljava/lang/Class;" } : Jvm.MethodName) ({ cls := "java/lang/Object", name := "getClass", desc := "()Ljava/lang/Class;" } : Jvm.MethodName)) ∈ lw_all := lw_g (lw_at lw_m1 154 rfl) rfl
theorem q770 : (Jvm.Cond.instanceMethod ({ cls := "Coreplug$Core", name := "isUp", desc := "()Z" } : Jvm.MethodName)) ∈ lw_all := lw_g (lw_at lw_m3 221 rfl) rfl
theorem q771 : (Jvm.Cond.selects "Coreplug$Core" ({ cls := "Coreplug$Core", name := "isUp", desc := "()Z" } : Jvm.MethodName) ({ cls := "Coreplug$Core", name := "isUp", desc := "()Z" } : Jvm.MethodName)) ∈ lw_all := lw_g (lw_at lw_m3 222 rfl) rfl
theorem q772 : (Jvm.Cond.code ({ cls := "Coreplug$Core", name := "isUp", desc := "()Z" } : Jvm.MethodName) prog_3_method_2_code (1 : Nat) (Option.some Jvm.ClassFile.FieldType.boolean)) ∈ lw_all := lw_g (lw_at lw_m3 223 rfl) rfl
theorem q2063 : (Jvm.Cond.castable "Coreplug$Core" "java/lang/Object") ∈ lw_tbl := lw_at lw_m9 74 rfl
theorem in_X2 : ∀ w ∈ wsX20, w ∈ lw_all := lw_in wsX20 [175, 177, 179] (by decide +kernel) (by decide +kernel)
/-! Coreplug$Step -/
set_option maxRecDepth 100000
def RX4 : String := "Coreplug$Step"
def TX4 : u_T := fun k => match k with
  | 0 => ("Coreplug$Step", "place", "I", true)
  | 1 => ("Coreplug$Step", "starts", "Z", true)
  | 2 => ("Coreplug$Step", "stops", "Z", true)
  | 3 => ("Coreplug$Step", "single", "Z", true)
  | 4 => ("Coreplug$Step", "instances", "Ljava/util/BitSet;", true)
  | 5 => ("Coreplug$Step", "since", "[I", true)
  | _ => ("Coreplug$Step", "failures", "[I", true)
def tyX4 : Nat → FieldType := fun k => match k with
  | 0 => .int
  | 1 => .boolean
  | 2 => .boolean
  | 3 => .boolean
  | 4 => .object "java/util/BitSet"
  | 5 => .array .int
  | _ => .array .int
abbrev wsX40 : List Cond := u_ws RX4 TX4 7
theorem nmX4 : ∀ a, a < 7 → ∀ b, b < 7 → a ≠ b → (TX4 a).2.1 ≠ (TX4 b).2.1 := by decide +kernel
theorem tyX4_ok : ∀ k, k < 7 → parseFieldDescriptor (TX4 k).2.2.1 = some (tyX4 k) := by decide +kernel
abbrev cX4_init : ByteArray := prog_7_method_1_code
def yX4_init : MethodName := ⟨RX4, "<init>", "(IZZZ)V"⟩
def dkwX4_init_2 : List UInt8 := [21, 4, 181, 0, 36, 177]
abbrev dktX4_init_2 : List UInt8 := dkwX4_init_2 ++ []
def dkwX4_init_1 : List UInt8 := [16, 64, 188, 10, 181, 0, 22, 42, 27, 181, 0, 25, 42, 28, 181, 0, 29, 42, 29, 181, 0, 33, 42]
abbrev dktX4_init_1 : List UInt8 := dkwX4_init_1 ++ dktX4_init_2
def dkwX4_init_0 : List UInt8 := [42, 183, 0, 3, 42, 187, 0, 9, 89, 183, 0, 11, 181, 0, 12, 42, 7, 188, 10, 181, 0, 18, 42]
abbrev dktX4_init_0 : List UInt8 := dkwX4_init_0 ++ dktX4_init_1
theorem dksX4_init_0 : cX4_init.data.toList.drop 0 = dktX4_init_0 := by decide +kernel
theorem dksX4_init_1 : cX4_init.data.toList.drop 23 = dktX4_init_1 := dk_seg dksX4_init_0 23 rfl rfl
theorem dksX4_init_2 : cX4_init.data.toList.drop 46 = dktX4_init_2 := dk_seg dksX4_init_1 23 rfl rfl
theorem dX4_init_0 : decode cX4_init 0 = .ok (.aload_n 0, 1) := dk_42 (dk_at dksX4_init_0 0 rfl rfl)
theorem dX4_init_1 : decode cX4_init 1 = .ok (.invokespecial 3, 3) := dk_183 0 3 (dk_at dksX4_init_0 1 rfl rfl)
theorem dX4_init_4 : decode cX4_init 4 = .ok (.aload_n 0, 1) := dk_42 (dk_at dksX4_init_0 4 rfl rfl)
theorem dX4_init_5 : decode cX4_init 5 = .ok (.new 9, 3) := dk_187 0 9 (dk_at dksX4_init_0 5 rfl rfl)
theorem dX4_init_8 : decode cX4_init 8 = .ok (.dup, 1) := dk_89 (dk_at dksX4_init_0 8 rfl rfl)
theorem dX4_init_9 : decode cX4_init 9 = .ok (.invokespecial 11, 3) := dk_183 0 11 (dk_at dksX4_init_0 9 rfl rfl)
theorem dX4_init_12 : decode cX4_init 12 = .ok (.putfield 12, 3) := dk_181 0 12 (dk_at dksX4_init_0 12 rfl rfl)
theorem dX4_init_15 : decode cX4_init 15 = .ok (.aload_n 0, 1) := dk_42 (dk_at dksX4_init_0 15 rfl rfl)
theorem dX4_init_16 : decode cX4_init 16 = .ok (.iconst 4, 1) := dk_7 (dk_at dksX4_init_0 16 rfl rfl)
theorem dX4_init_17 : decode cX4_init 17 = .ok (.newarray .int, 2) := dk_188_10 (dk_at dksX4_init_0 17 rfl rfl)
theorem dX4_init_19 : decode cX4_init 19 = .ok (.putfield 18, 3) := dk_181 0 18 (dk_at dksX4_init_0 19 rfl rfl)
theorem dX4_init_22 : decode cX4_init 22 = .ok (.aload_n 0, 1) := dk_42 (dk_at dksX4_init_0 22 rfl rfl)
theorem dX4_init_23 : decode cX4_init 23 = .ok (.bipush 64, 2) := dk_16 64 (dk_at dksX4_init_1 0 rfl rfl)
theorem dX4_init_25 : decode cX4_init 25 = .ok (.newarray .int, 2) := dk_188_10 (dk_at dksX4_init_1 2 rfl rfl)
theorem dX4_init_27 : decode cX4_init 27 = .ok (.putfield 22, 3) := dk_181 0 22 (dk_at dksX4_init_1 4 rfl rfl)
theorem dX4_init_30 : decode cX4_init 30 = .ok (.aload_n 0, 1) := dk_42 (dk_at dksX4_init_1 7 rfl rfl)
theorem dX4_init_31 : decode cX4_init 31 = .ok (.iload_n 1, 1) := dk_27 (dk_at dksX4_init_1 8 rfl rfl)
theorem dX4_init_32 : decode cX4_init 32 = .ok (.putfield 25, 3) := dk_181 0 25 (dk_at dksX4_init_1 9 rfl rfl)
theorem dX4_init_35 : decode cX4_init 35 = .ok (.aload_n 0, 1) := dk_42 (dk_at dksX4_init_1 12 rfl rfl)
theorem dX4_init_36 : decode cX4_init 36 = .ok (.iload_n 2, 1) := dk_28 (dk_at dksX4_init_1 13 rfl rfl)
theorem dX4_init_37 : decode cX4_init 37 = .ok (.putfield 29, 3) := dk_181 0 29 (dk_at dksX4_init_1 14 rfl rfl)
theorem dX4_init_40 : decode cX4_init 40 = .ok (.aload_n 0, 1) := dk_42 (dk_at dksX4_init_1 17 rfl rfl)
theorem dX4_init_41 : decode cX4_init 41 = .ok (.iload_n 3, 1) := dk_29 (dk_at dksX4_init_1 18 rfl rfl)
theorem dX4_init_42 : decode cX4_init 42 = .ok (.putfield 33, 3) := dk_181 0 33 (dk_at dksX4_init_1 19 rfl rfl)
theorem dX4_init_45 : decode cX4_init 45 = .ok (.aload_n 0, 1) := dk_42 (dk_at dksX4_init_1 22 rfl rfl)
theorem dX4_init_46 : decode cX4_init 46 = .ok (.iload 4, 2) := dk_21 4 (dk_at dksX4_init_2 0 rfl rfl)
theorem dX4_init_48 : decode cX4_init 48 = .ok (.putfield 36, 3) := dk_181 0 36 (dk_at dksX4_init_2 2 rfl rfl)
theorem dX4_init_51 : decode cX4_init 51 = .ok (.return_, 1) := dk_177 (dk_at dksX4_init_2 5 rfl rfl)
abbrev cX4_takesFailure : ByteArray := prog_7_method_4_code
def yX4_takesFailure : MethodName := ⟨RX4, "takesFailure", "(IILCoreplug$Way;)Z"⟩
def dkwX4_takesFailure_1 : List UInt8 := [46, 21, 4, 158, 0, 7, 4, 167, 0, 4, 3, 100, 79, 21, 4, 158, 0, 7, 4, 167, 0, 4, 3, 172]
abbrev dktX4_takesFailure_1 : List UInt8 := dkwX4_takesFailure_1 ++ []
def dkwX4_takesFailure_0 : List UInt8 := [42, 180, 0, 22, 27, 28, 45, 184, 0, 45, 46, 54, 4, 42, 180, 0, 22, 27, 28, 45, 184, 0, 45, 92]
abbrev dktX4_takesFailure_0 : List UInt8 := dkwX4_takesFailure_0 ++ dktX4_takesFailure_1
theorem dksX4_takesFailure_0 : cX4_takesFailure.data.toList.drop 0 = dktX4_takesFailure_0 := by decide +kernel
theorem dksX4_takesFailure_1 : cX4_takesFailure.data.toList.drop 24 = dktX4_takesFailure_1 := dk_seg dksX4_takesFailure_0 24 rfl rfl
theorem dX4_takesFailure_0 : decode cX4_takesFailure 0 = .ok (.aload_n 0, 1) := dk_42 (dk_at dksX4_takesFailure_0 0 rfl rfl)
theorem dX4_takesFailure_1 : decode cX4_takesFailure 1 = .ok (.getfield 22, 3) := dk_180 0 22 (dk_at dksX4_takesFailure_0 1 rfl rfl)
theorem dX4_takesFailure_4 : decode cX4_takesFailure 4 = .ok (.iload_n 1, 1) := dk_27 (dk_at dksX4_takesFailure_0 4 rfl rfl)
theorem dX4_takesFailure_5 : decode cX4_takesFailure 5 = .ok (.iload_n 2, 1) := dk_28 (dk_at dksX4_takesFailure_0 5 rfl rfl)
theorem dX4_takesFailure_6 : decode cX4_takesFailure 6 = .ok (.aload_n 3, 1) := dk_45 (dk_at dksX4_takesFailure_0 6 rfl rfl)
theorem dX4_takesFailure_7 : decode cX4_takesFailure 7 = .ok (.invokestatic 45, 3) := dk_184 0 45 (dk_at dksX4_takesFailure_0 7 rfl rfl)
theorem dX4_takesFailure_10 : decode cX4_takesFailure 10 = .ok (.iaload, 1) := dk_46 (dk_at dksX4_takesFailure_0 10 rfl rfl)
theorem dX4_takesFailure_11 : decode cX4_takesFailure 11 = .ok (.istore 4, 2) := dk_54 4 (dk_at dksX4_takesFailure_0 11 rfl rfl)
theorem dX4_takesFailure_13 : decode cX4_takesFailure 13 = .ok (.aload_n 0, 1) := dk_42 (dk_at dksX4_takesFailure_0 13 rfl rfl)
theorem dX4_takesFailure_14 : decode cX4_takesFailure 14 = .ok (.getfield 22, 3) := dk_180 0 22 (dk_at dksX4_takesFailure_0 14 rfl rfl)
theorem dX4_takesFailure_17 : decode cX4_takesFailure 17 = .ok (.iload_n 1, 1) := dk_27 (dk_at dksX4_takesFailure_0 17 rfl rfl)
theorem dX4_takesFailure_18 : decode cX4_takesFailure 18 = .ok (.iload_n 2, 1) := dk_28 (dk_at dksX4_takesFailure_0 18 rfl rfl)
theorem dX4_takesFailure_19 : decode cX4_takesFailure 19 = .ok (.aload_n 3, 1) := dk_45 (dk_at dksX4_takesFailure_0 19 rfl rfl)
theorem dX4_takesFailure_20 : decode cX4_takesFailure 20 = .ok (.invokestatic 45, 3) := dk_184 0 45 (dk_at dksX4_takesFailure_0 20 rfl rfl)
theorem dX4_takesFailure_23 : decode cX4_takesFailure 23 = .ok (.dup2, 1) := dk_92 (dk_at dksX4_takesFailure_0 23 rfl rfl)
theorem dX4_takesFailure_24 : decode cX4_takesFailure 24 = .ok (.iaload, 1) := dk_46 (dk_at dksX4_takesFailure_1 0 rfl rfl)
theorem dX4_takesFailure_25 : decode cX4_takesFailure 25 = .ok (.iload 4, 2) := dk_21 4 (dk_at dksX4_takesFailure_1 1 rfl rfl)
theorem dX4_takesFailure_27 : decode cX4_takesFailure 27 = .ok (.ifCond .le 7, 3) := dk_158 0 7 (dk_at dksX4_takesFailure_1 3 rfl rfl)
theorem dX4_takesFailure_30 : decode cX4_takesFailure 30 = .ok (.iconst 1, 1) := dk_4 (dk_at dksX4_takesFailure_1 6 rfl rfl)
theorem dX4_takesFailure_31 : decode cX4_takesFailure 31 = .ok (.goto 4, 3) := dk_167 0 4 (dk_at dksX4_takesFailure_1 7 rfl rfl)
theorem dX4_takesFailure_34 : decode cX4_takesFailure 34 = .ok (.iconst 0, 1) := dk_3 (dk_at dksX4_takesFailure_1 10 rfl rfl)
theorem dX4_takesFailure_35 : decode cX4_takesFailure 35 = .ok (.isub, 1) := dk_100 (dk_at dksX4_takesFailure_1 11 rfl rfl)
theorem dX4_takesFailure_36 : decode cX4_takesFailure 36 = .ok (.iastore, 1) := dk_79 (dk_at dksX4_takesFailure_1 12 rfl rfl)
theorem dX4_takesFailure_37 : decode cX4_takesFailure 37 = .ok (.iload 4, 2) := dk_21 4 (dk_at dksX4_takesFailure_1 13 rfl rfl)
theorem dX4_takesFailure_39 : decode cX4_takesFailure 39 = .ok (.ifCond .le 7, 3) := dk_158 0 7 (dk_at dksX4_takesFailure_1 15 rfl rfl)
theorem dX4_takesFailure_42 : decode cX4_takesFailure 42 = .ok (.iconst 1, 1) := dk_4 (dk_at dksX4_takesFailure_1 18 rfl rfl)
theorem dX4_takesFailure_43 : decode cX4_takesFailure 43 = .ok (.goto 4, 3) := dk_167 0 4 (dk_at dksX4_takesFailure_1 19 rfl rfl)
theorem dX4_takesFailure_46 : decode cX4_takesFailure 46 = .ok (.iconst 0, 1) := dk_3 (dk_at dksX4_takesFailure_1 22 rfl rfl)
theorem dX4_takesFailure_47 : decode cX4_takesFailure 47 = .ok (.ireturn, 1) := dk_172 (dk_at dksX4_takesFailure_1 23 rfl rfl)
abbrev cX4_at : ByteArray := prog_7_method_2_code
def yX4_at : MethodName := ⟨RX4, "at", "(IILCoreplug$Way;)I"⟩
def dkwX4_at_0 : List UInt8 := [26, 7, 104, 27, 96, 5, 104, 44, 182, 0, 39, 96, 172]
abbrev dktX4_at_0 : List UInt8 := dkwX4_at_0 ++ []
theorem dksX4_at_0 : cX4_at.data.toList.drop 0 = dktX4_at_0 := by decide +kernel
theorem dX4_at_0 : decode cX4_at 0 = .ok (.iload_n 0, 1) := dk_26 (dk_at dksX4_at_0 0 rfl rfl)
theorem dX4_at_1 : decode cX4_at 1 = .ok (.iconst 4, 1) := dk_7 (dk_at dksX4_at_0 1 rfl rfl)
theorem dX4_at_2 : decode cX4_at 2 = .ok (.imul, 1) := dk_104 (dk_at dksX4_at_0 2 rfl rfl)
theorem dX4_at_3 : decode cX4_at 3 = .ok (.iload_n 1, 1) := dk_27 (dk_at dksX4_at_0 3 rfl rfl)
theorem dX4_at_4 : decode cX4_at 4 = .ok (.iadd, 1) := dk_96 (dk_at dksX4_at_0 4 rfl rfl)
theorem dX4_at_5 : decode cX4_at 5 = .ok (.iconst 2, 1) := dk_5 (dk_at dksX4_at_0 5 rfl rfl)
theorem dX4_at_6 : decode cX4_at 6 = .ok (.imul, 1) := dk_104 (dk_at dksX4_at_0 6 rfl rfl)
theorem dX4_at_7 : decode cX4_at 7 = .ok (.aload_n 2, 1) := dk_44 (dk_at dksX4_at_0 7 rfl rfl)
theorem dX4_at_8 : decode cX4_at 8 = .ok (.invokevirtual 39, 3) := dk_182 0 39 (dk_at dksX4_at_0 8 rfl rfl)
theorem dX4_at_11 : decode cX4_at 11 = .ok (.iadd, 1) := dk_96 (dk_at dksX4_at_0 11 rfl rfl)
theorem dX4_at_12 : decode cX4_at 12 = .ok (.ireturn, 1) := dk_172 (dk_at dksX4_at_0 12 rfl rfl)
abbrev cX4_setFailures : ByteArray := prog_7_method_3_code
def yX4_setFailures : MethodName := ⟨RX4, "setFailures", "(IILCoreplug$Way;I)I"⟩
def dkwX4_setFailures_1 : List UInt8 := [21, 4, 79, 21, 5, 172]
abbrev dktX4_setFailures_1 : List UInt8 := dkwX4_setFailures_1 ++ []
def dkwX4_setFailures_0 : List UInt8 := [42, 180, 0, 22, 27, 28, 45, 184, 0, 45, 46, 54, 5, 42, 180, 0, 22, 27, 28, 45, 184, 0, 45]
abbrev dktX4_setFailures_0 : List UInt8 := dkwX4_setFailures_0 ++ dktX4_setFailures_1
theorem dksX4_setFailures_0 : cX4_setFailures.data.toList.drop 0 = dktX4_setFailures_0 := by decide +kernel
theorem dksX4_setFailures_1 : cX4_setFailures.data.toList.drop 23 = dktX4_setFailures_1 := dk_seg dksX4_setFailures_0 23 rfl rfl
theorem dX4_setFailures_0 : decode cX4_setFailures 0 = .ok (.aload_n 0, 1) := dk_42 (dk_at dksX4_setFailures_0 0 rfl rfl)
theorem dX4_setFailures_1 : decode cX4_setFailures 1 = .ok (.getfield 22, 3) := dk_180 0 22 (dk_at dksX4_setFailures_0 1 rfl rfl)
theorem dX4_setFailures_4 : decode cX4_setFailures 4 = .ok (.iload_n 1, 1) := dk_27 (dk_at dksX4_setFailures_0 4 rfl rfl)
theorem dX4_setFailures_5 : decode cX4_setFailures 5 = .ok (.iload_n 2, 1) := dk_28 (dk_at dksX4_setFailures_0 5 rfl rfl)
theorem dX4_setFailures_6 : decode cX4_setFailures 6 = .ok (.aload_n 3, 1) := dk_45 (dk_at dksX4_setFailures_0 6 rfl rfl)
theorem dX4_setFailures_7 : decode cX4_setFailures 7 = .ok (.invokestatic 45, 3) := dk_184 0 45 (dk_at dksX4_setFailures_0 7 rfl rfl)
theorem dX4_setFailures_10 : decode cX4_setFailures 10 = .ok (.iaload, 1) := dk_46 (dk_at dksX4_setFailures_0 10 rfl rfl)
theorem dX4_setFailures_11 : decode cX4_setFailures 11 = .ok (.istore 5, 2) := dk_54 5 (dk_at dksX4_setFailures_0 11 rfl rfl)
theorem dX4_setFailures_13 : decode cX4_setFailures 13 = .ok (.aload_n 0, 1) := dk_42 (dk_at dksX4_setFailures_0 13 rfl rfl)
theorem dX4_setFailures_14 : decode cX4_setFailures 14 = .ok (.getfield 22, 3) := dk_180 0 22 (dk_at dksX4_setFailures_0 14 rfl rfl)
theorem dX4_setFailures_17 : decode cX4_setFailures 17 = .ok (.iload_n 1, 1) := dk_27 (dk_at dksX4_setFailures_0 17 rfl rfl)
theorem dX4_setFailures_18 : decode cX4_setFailures 18 = .ok (.iload_n 2, 1) := dk_28 (dk_at dksX4_setFailures_0 18 rfl rfl)
theorem dX4_setFailures_19 : decode cX4_setFailures 19 = .ok (.aload_n 3, 1) := dk_45 (dk_at dksX4_setFailures_0 19 rfl rfl)
theorem dX4_setFailures_20 : decode cX4_setFailures 20 = .ok (.invokestatic 45, 3) := dk_184 0 45 (dk_at dksX4_setFailures_0 20 rfl rfl)
theorem dX4_setFailures_23 : decode cX4_setFailures 23 = .ok (.iload 4, 2) := dk_21 4 (dk_at dksX4_setFailures_1 0 rfl rfl)
theorem dX4_setFailures_25 : decode cX4_setFailures 25 = .ok (.iastore, 1) := dk_79 (dk_at dksX4_setFailures_1 2 rfl rfl)
theorem dX4_setFailures_26 : decode cX4_setFailures 26 = .ok (.iload 5, 2) := dk_21 5 (dk_at dksX4_setFailures_1 3 rfl rfl)
theorem dX4_setFailures_28 : decode cX4_setFailures 28 = .ok (.ireturn, 1) := dk_172 (dk_at dksX4_setFailures_1 5 rfl rfl)
abbrev cX4_along : ByteArray := prog_7_method_5_code
def yX4_along : MethodName := ⟨RX4, "along", "(ZI)Ljava/util/Iterator;"⟩
def dkwX4_along_0 : List UInt8 := [187, 0, 49, 89, 42, 28, 27, 183, 0, 51, 176]
abbrev dktX4_along_0 : List UInt8 := dkwX4_along_0 ++ []
theorem dksX4_along_0 : cX4_along.data.toList.drop 0 = dktX4_along_0 := by decide +kernel
theorem dX4_along_0 : decode cX4_along 0 = .ok (.new 49, 3) := dk_187 0 49 (dk_at dksX4_along_0 0 rfl rfl)
theorem dX4_along_3 : decode cX4_along 3 = .ok (.dup, 1) := dk_89 (dk_at dksX4_along_0 3 rfl rfl)
theorem dX4_along_4 : decode cX4_along 4 = .ok (.aload_n 0, 1) := dk_42 (dk_at dksX4_along_0 4 rfl rfl)
theorem dX4_along_5 : decode cX4_along 5 = .ok (.iload_n 2, 1) := dk_28 (dk_at dksX4_along_0 5 rfl rfl)
theorem dX4_along_6 : decode cX4_along 6 = .ok (.iload_n 1, 1) := dk_27 (dk_at dksX4_along_0 6 rfl rfl)
theorem dX4_along_7 : decode cX4_along 7 = .ok (.invokespecial 51, 3) := dk_183 0 51 (dk_at dksX4_along_0 7 rfl rfl)
theorem dX4_along_10 : decode cX4_along 10 = .ok (.areturn, 1) := dk_176 (dk_at dksX4_along_0 10 rfl rfl)
theorem q89 : (Jvm.Cond.initialized "Coreplug$Step") ∈ lw_all := lw_g (lw_at lw_m1 20 rfl) rfl
theorem q227 : (Jvm.Cond.selects "Coreplug$Step" ({ cls := "java/lang/Object", name := "getClass", desc := "()Ljava/lang/Class;" } : Jvm.MethodName) ({ cls := "java/lang/Object", name := "getClass", desc := "()Ljava/lang/Class;" } : Jvm.MethodName)) ∈ lw_all := lw_g (lw_at lw_m1 158 rfl) rfl
theorem q1210 : (Jvm.Cond.instantiable "Coreplug$Step" (7 : Nat)) ∈ lw_all := lw_g (lw_at lw_m5 181 rfl) rfl
theorem q1212 : (Jvm.Cond.instanceMethod ({ cls := "Coreplug$Step", name := "<init>", desc := "(IZZZ)V" } : Jvm.MethodName)) ∈ lw_all := lw_g (lw_at lw_m5 183 rfl) rfl
theorem q1213 : (Jvm.Cond.code ({ cls := "Coreplug$Step", name := "<init>", desc := "(IZZZ)V" } : Jvm.MethodName) prog_7_method_1_code (5 : Nat) (Option.none : Option Jvm.ClassFile.FieldType)) ∈ lw_all := lw_g (lw_at lw_m5 184 rfl) rfl
theorem q1214 : (Jvm.Cond.methodLink "Coreplug$Step" (3 : Nat) ({ cls := "java/lang/Object", name := "<init>", desc := "()V" } : Jvm.MethodName)) ∈ lw_all := lw_g (lw_at lw_m5 185 rfl) rfl
theorem q1215 : (Jvm.Cond.classLink "Coreplug$Step" (9 : Nat) "java/util/BitSet") ∈ lw_all := lw_g (lw_at lw_m5 186 rfl) rfl
theorem q1216 : (Jvm.Cond.methodLink "Coreplug$Step" (11 : Nat) ({ cls := "java/util/BitSet", name := "<init>", desc := "()V" } : Jvm.MethodName)) ∈ lw_all := lw_g (lw_at lw_m5 187 rfl) rfl
theorem q1235 : (Jvm.Cond.fieldLink "Coreplug$Step" (25 : Nat) "Coreplug$Step" "place" "I") ∈ lw_all := lw_g (lw_at lw_m5 206 rfl) rfl
theorem q1237 : (Jvm.Cond.fieldLink "Coreplug$Step" (29 : Nat) "Coreplug$Step" "starts" "Z") ∈ lw_all := lw_g (lw_at lw_m5 208 rfl) rfl
theorem q1240 : (Jvm.Cond.fieldLink "Coreplug$Step" (33 : Nat) "Coreplug$Step" "stops" "Z") ∈ lw_all := lw_g (lw_at lw_m5 211 rfl) rfl
theorem q1243 : (Jvm.Cond.fieldLink "Coreplug$Step" (36 : Nat) "Coreplug$Step" "single" "Z") ∈ lw_all := lw_g (lw_at lw_m5 214 rfl) rfl
theorem q1245 : (Jvm.Cond.fieldLink "Coreplug$Step" (12 : Nat) "Coreplug$Step" "instances" "Ljava/util/BitSet;") ∈ lw_all := lw_g (lw_at lw_m5 216 rfl) rfl
theorem q1248 : (Jvm.Cond.fieldLink "Coreplug$Step" (18 : Nat) "Coreplug$Step" "since" "[I") ∈ lw_all := lw_g (lw_at lw_m5 219 rfl) rfl
theorem q1250 : (Jvm.Cond.fieldLink "Coreplug$Step" (22 : Nat) "Coreplug$Step" "failures" "[I") ∈ lw_all := lw_g (lw_at lw_m5 221 rfl) rfl
theorem q1251 : (Jvm.Cond.laysFinal "Coreplug$Step" "Coreplug$Step" "place" "I") ∈ lw_all := lw_g (lw_at lw_m5 222 rfl) rfl
theorem q1252 : (Jvm.Cond.soleField "Coreplug$Step" "place") ∈ lw_all := lw_g (lw_at lw_m5 223 rfl) rfl
theorem q1253 : (Jvm.Cond.laysFinal "Coreplug$Step" "Coreplug$Step" "starts" "Z") ∈ lw_all := lw_g (lw_at lw_m5 224 rfl) rfl
theorem q1254 : (Jvm.Cond.soleField "Coreplug$Step" "starts") ∈ lw_all := lw_g (lw_at lw_m5 225 rfl) rfl
theorem q1255 : (Jvm.Cond.laysFinal "Coreplug$Step" "Coreplug$Step" "stops" "Z") ∈ lw_all := lw_g (lw_at lw_m5 226 rfl) rfl
theorem q1256 : (Jvm.Cond.soleField "Coreplug$Step" "stops") ∈ lw_all := lw_g (lw_at lw_m5 227 rfl) rfl
theorem q1257 : (Jvm.Cond.laysFinal "Coreplug$Step" "Coreplug$Step" "single" "Z") ∈ lw_all := lw_g (lw_at lw_m5 228 rfl) rfl
theorem q1258 : (Jvm.Cond.soleField "Coreplug$Step" "single") ∈ lw_all := lw_g (lw_at lw_m5 229 rfl) rfl
theorem q1259 : (Jvm.Cond.laysFinal "Coreplug$Step" "Coreplug$Step" "instances" "Ljava/util/BitSet;") ∈ lw_all := lw_g (lw_at lw_m5 230 rfl) rfl
theorem q1260 : (Jvm.Cond.soleField "Coreplug$Step" "instances") ∈ lw_all := lw_g (lw_at lw_m5 231 rfl) rfl
theorem q1261 : (Jvm.Cond.laysFinal "Coreplug$Step" "Coreplug$Step" "since" "[I") ∈ lw_all := lw_g (lw_at lw_m5 232 rfl) rfl
theorem q1262 : (Jvm.Cond.soleField "Coreplug$Step" "since") ∈ lw_all := lw_g (lw_at lw_m5 233 rfl) rfl
theorem q1263 : (Jvm.Cond.laysFinal "Coreplug$Step" "Coreplug$Step" "failures" "[I") ∈ lw_all := lw_g (lw_at lw_m5 234 rfl) rfl
theorem q1264 : (Jvm.Cond.soleField "Coreplug$Step" "failures") ∈ lw_all := lw_g (lw_at lw_m5 235 rfl) rfl
theorem q1265 : (Jvm.Cond.superclass "Coreplug$Step" "java/lang/Object") ∈ lw_all := lw_g (lw_at lw_m5 236 rfl) rfl
theorem q1309 : (Jvm.Cond.instanceMethod ({ cls := "Coreplug$Step", name := "takesFailure", desc := "(IILCoreplug$Way;)Z" } : Jvm.MethodName)) ∈ lw_all := lw_g (lw_at lw_m6 40 rfl) rfl
theorem q1310 : (Jvm.Cond.selects "Coreplug$Step" ({ cls := "Coreplug$Step", name := "takesFailure", desc := "(IILCoreplug$Way;)Z" } : Jvm.MethodName) ({ cls := "Coreplug$Step", name := "takesFailure", desc := "(IILCoreplug$Way;)Z" } : Jvm.MethodName)) ∈ lw_all := lw_g (lw_at lw_m6 41 rfl) rfl
theorem q1311 : (Jvm.Cond.code ({ cls := "Coreplug$Step", name := "takesFailure", desc := "(IILCoreplug$Way;)Z" } : Jvm.MethodName) prog_7_method_4_code (5 : Nat) (Option.some Jvm.ClassFile.FieldType.boolean)) ∈ lw_all := lw_g (lw_at lw_m6 42 rfl) rfl
theorem q1312 : (Jvm.Cond.methodLink "Coreplug$Step" (45 : Nat) ({ cls := "Coreplug$Step", name := "at", desc := "(IILCoreplug$Way;)I" } : Jvm.MethodName)) ∈ lw_all := lw_g (lw_at lw_m6 43 rfl) rfl
theorem q1313 : (Jvm.Cond.static ({ cls := "Coreplug$Step", name := "at", desc := "(IILCoreplug$Way;)I" } : Jvm.MethodName)) ∈ lw_all := lw_g (lw_at lw_m6 44 rfl) rfl
theorem q1314 : (Jvm.Cond.code ({ cls := "Coreplug$Step", name := "at", desc := "(IILCoreplug$Way;)I" } : Jvm.MethodName) prog_7_method_2_code (3 : Nat) (Option.some Jvm.ClassFile.FieldType.int)) ∈ lw_all := lw_g (lw_at lw_m6 45 rfl) rfl
theorem q1315 : (Jvm.Cond.methodLink "Coreplug$Step" (39 : Nat) ({ cls := "Coreplug$Way", name := "ordinal", desc := "()I" } : Jvm.MethodName)) ∈ lw_all := lw_g (lw_at lw_m6 46 rfl) rfl
theorem q1481 : (Jvm.Cond.instanceMethod ({ cls := "Coreplug$Step", name := "setFailures", desc := "(IILCoreplug$Way;I)I" } : Jvm.MethodName)) ∈ lw_all := lw_g (lw_at lw_m6 212 rfl) rfl
theorem q1482 : (Jvm.Cond.selects "Coreplug$Step" ({ cls := "Coreplug$Step", name := "setFailures", desc := "(IILCoreplug$Way;I)I" } : Jvm.MethodName) ({ cls := "Coreplug$Step", name := "setFailures", desc := "(IILCoreplug$Way;I)I" } : Jvm.MethodName)) ∈ lw_all := lw_g (lw_at lw_m6 213 rfl) rfl
theorem q1483 : (Jvm.Cond.code ({ cls := "Coreplug$Step", name := "setFailures", desc := "(IILCoreplug$Way;I)I" } : Jvm.MethodName) prog_7_method_3_code (6 : Nat) (Option.some Jvm.ClassFile.FieldType.int)) ∈ lw_all := lw_g (lw_at lw_m6 214 rfl) rfl
theorem q1534 : (Jvm.Cond.instanceMethod ({ cls := "Coreplug$Step", name := "along", desc := "(ZI)Ljava/util/Iterator;" } : Jvm.MethodName)) ∈ lw_all := lw_g (lw_at lw_m7 25 rfl) rfl
theorem q1535 : (Jvm.Cond.selects "Coreplug$Step" ({ cls := "Coreplug$Step", name := "along", desc := "(ZI)Ljava/util/Iterator;" } : Jvm.MethodName) ({ cls := "Coreplug$Step", name := "along", desc := "(ZI)Ljava/util/Iterator;" } : Jvm.MethodName)) ∈ lw_all := lw_g (lw_at lw_m7 26 rfl) rfl
theorem q1536 : (Jvm.Cond.code ({ cls := "Coreplug$Step", name := "along", desc := "(ZI)Ljava/util/Iterator;" } : Jvm.MethodName) prog_7_method_5_code (3 : Nat) (Option.some (Jvm.ClassFile.FieldType.object "java/util/Iterator"))) ∈ lw_all := lw_g (lw_at lw_m7 27 rfl) rfl
theorem q1537 : (Jvm.Cond.classLink "Coreplug$Step" (49 : Nat) "Coreplug$Step$1") ∈ lw_all := lw_g (lw_at lw_m7 28 rfl) rfl
theorem q1538 : (Jvm.Cond.methodLink "Coreplug$Step" (51 : Nat) ({ cls := "Coreplug$Step$1", name := "<init>", desc := "(LCoreplug$Step;IZ)V" } : Jvm.MethodName)) ∈ lw_all := lw_g (lw_at lw_m7 29 rfl) rfl
theorem q2060 : (Jvm.Cond.castable "Coreplug$Step" "java/lang/Object") ∈ lw_tbl := lw_at lw_m9 71 rfl
theorem in_X4 : ∀ w ∈ wsX40, w ∈ lw_all := lw_in wsX40 [1251, 1253, 1255, 1257, 1259, 1261, 1263] (by decide +kernel) (by decide +kernel)
/-! Coreplug$Failed -/
set_option maxRecDepth 100000
def RX5 : String := "Coreplug$Failed"
def TX5 : u_T := fun k => match k with
  | 0 => ("java/lang/Throwable", "cause", "Ljava/lang/Throwable;", false)
  | 1 => ("java/lang/Throwable", "stackTrace", "[Ljava/lang/StackTraceElement;", false)
  | 2 => ("java/lang/Throwable", "suppressedExceptions", "Ljava/util/List;", false)
  | 3 => ("java/lang/Throwable", "detailMessage", "Ljava/lang/String;", false)
  | 4 => ("java/lang/Throwable", "backtrace", "Ljava/lang/Object;", false)
  | _ => ("java/lang/Throwable", "depth", "I", false)
def tyX5 : Nat → FieldType := fun k => match k with
  | 0 => .object "java/lang/Throwable"
  | 1 => .array (.object "java/lang/StackTraceElement")
  | 2 => .object "java/util/List"
  | 3 => .object "java/lang/String"
  | 4 => .object "java/lang/Object"
  | _ => .int
abbrev wsX50 : List Cond := u_ws RX5 TX5 6
theorem nmX5 : ∀ a, a < 6 → ∀ b, b < 6 → a ≠ b → (TX5 a).2.1 ≠ (TX5 b).2.1 := by decide +kernel
theorem tyX5_ok : ∀ k, k < 6 → parseFieldDescriptor (TX5 k).2.2.1 = some (tyX5 k) := by decide +kernel
abbrev cX5_init : ByteArray := prog_4_method_1_code
def yX5_init : MethodName := ⟨RX5, "<init>", "(Ljava/lang/Exception;)V"⟩
def dkwX5_init_0 : List UInt8 := [42, 1, 43, 3, 3, 183, 0, 1, 177]
abbrev dktX5_init_0 : List UInt8 := dkwX5_init_0 ++ []
theorem dksX5_init_0 : cX5_init.data.toList.drop 0 = dktX5_init_0 := by decide +kernel
theorem dX5_init_0 : decode cX5_init 0 = .ok (.aload_n 0, 1) := dk_42 (dk_at dksX5_init_0 0 rfl rfl)
theorem dX5_init_1 : decode cX5_init 1 = .ok (.aconst_null, 1) := dk_1 (dk_at dksX5_init_0 1 rfl rfl)
theorem dX5_init_2 : decode cX5_init 2 = .ok (.aload_n 1, 1) := dk_43 (dk_at dksX5_init_0 2 rfl rfl)
theorem dX5_init_3 : decode cX5_init 3 = .ok (.iconst 0, 1) := dk_3 (dk_at dksX5_init_0 3 rfl rfl)
theorem dX5_init_4 : decode cX5_init 4 = .ok (.iconst 0, 1) := dk_3 (dk_at dksX5_init_0 4 rfl rfl)
theorem dX5_init_5 : decode cX5_init 5 = .ok (.invokespecial 1, 3) := dk_183 0 1 (dk_at dksX5_init_0 5 rfl rfl)
theorem dX5_init_8 : decode cX5_init 8 = .ok (.return_, 1) := dk_177 (dk_at dksX5_init_0 8 rfl rfl)
theorem q111 : (Jvm.Cond.initialized "Coreplug$Failed") ∈ lw_all := lw_g (lw_at lw_m1 42 rfl) rfl
theorem q224 : (Jvm.Cond.selects "Coreplug$Failed" ({ cls := "java/lang/Object", name := "getClass", desc := "()Ljava/lang/Class;" } : Jvm.MethodName) ({ cls := "java/lang/Object", name := "getClass", desc := "()Ljava/lang/Class;" } : Jvm.MethodName)) ∈ lw_all := lw_g (lw_at lw_m1 155 rfl) rfl
theorem q479 : (Jvm.Cond.selects "Coreplug$Failed" ({ cls := "java/lang/Throwable", name := "fillInStackTrace", desc := "()Ljava/lang/Throwable;" } : Jvm.MethodName) ({ cls := "java/lang/Throwable", name := "fillInStackTrace", desc := "()Ljava/lang/Throwable;" } : Jvm.MethodName)) ∈ lw_all := lw_g (lw_at lw_m2 170 rfl) rfl
theorem q1059 : (Jvm.Cond.selects "Coreplug$Failed" ({ cls := "java/lang/Throwable", name := "toString", desc := "()Ljava/lang/String;" } : Jvm.MethodName) ({ cls := "java/lang/Throwable", name := "toString", desc := "()Ljava/lang/String;" } : Jvm.MethodName)) ∈ lw_all := lw_g (lw_at lw_m5 30 rfl) rfl
theorem q1072 : (Jvm.Cond.selects "Coreplug$Failed" ({ cls := "java/lang/Throwable", name := "getLocalizedMessage", desc := "()Ljava/lang/String;" } : Jvm.MethodName) ({ cls := "java/lang/Throwable", name := "getLocalizedMessage", desc := "()Ljava/lang/String;" } : Jvm.MethodName)) ∈ lw_all := lw_g (lw_at lw_m5 43 rfl) rfl
theorem q1084 : (Jvm.Cond.selects "Coreplug$Failed" ({ cls := "java/lang/Throwable", name := "getMessage", desc := "()Ljava/lang/String;" } : Jvm.MethodName) ({ cls := "java/lang/Throwable", name := "getMessage", desc := "()Ljava/lang/String;" } : Jvm.MethodName)) ∈ lw_all := lw_g (lw_at lw_m5 55 rfl) rfl
theorem q1339 : (Jvm.Cond.instanceMethod ({ cls := "Coreplug$Failed", name := "<init>", desc := "(Ljava/lang/Exception;)V" } : Jvm.MethodName)) ∈ lw_all := lw_g (lw_at lw_m6 70 rfl) rfl
theorem q1340 : (Jvm.Cond.code ({ cls := "Coreplug$Failed", name := "<init>", desc := "(Ljava/lang/Exception;)V" } : Jvm.MethodName) prog_4_method_1_code (2 : Nat) (Option.none : Option Jvm.ClassFile.FieldType)) ∈ lw_all := lw_g (lw_at lw_m6 71 rfl) rfl
theorem q1341 : (Jvm.Cond.methodLink "Coreplug$Failed" (1 : Nat) ({ cls := "java/lang/Exception", name := "<init>", desc := "(Ljava/lang/String;Ljava/lang/Throwable;ZZ)V" } : Jvm.MethodName)) ∈ lw_all := lw_g (lw_at lw_m6 72 rfl) rfl
theorem q1635 : (Jvm.Cond.instantiable "Coreplug$Failed" (6 : Nat)) ∈ lw_all := lw_g (lw_at lw_m7 126 rfl) rfl
theorem q1636 : (Jvm.Cond.castable "Coreplug$Failed" "Coreplug$Failed") ∈ lw_tbl := lw_at lw_m7 127 rfl
theorem q1637 : (Jvm.Cond.selects "Coreplug$Failed" ({ cls := "java/lang/Throwable", name := "fillInStackTrace", desc := "(I)Ljava/lang/Throwable;" } : Jvm.MethodName) ({ cls := "java/lang/Throwable", name := "fillInStackTrace", desc := "(I)Ljava/lang/Throwable;" } : Jvm.MethodName)) ∈ lw_all := lw_g (lw_at lw_m7 128 rfl) rfl
theorem q1638 : (Jvm.Cond.lays "Coreplug$Failed" "java/lang/Throwable" "cause" "Ljava/lang/Throwable;") ∈ lw_all := lw_g (lw_at lw_m7 129 rfl) rfl
theorem q1639 : (Jvm.Cond.lays "Coreplug$Failed" "java/lang/Throwable" "stackTrace" "[Ljava/lang/StackTraceElement;") ∈ lw_all := lw_g (lw_at lw_m7 130 rfl) rfl
theorem q1640 : (Jvm.Cond.lays "Coreplug$Failed" "java/lang/Throwable" "suppressedExceptions" "Ljava/util/List;") ∈ lw_all := lw_g (lw_at lw_m7 131 rfl) rfl
theorem q1641 : (Jvm.Cond.lays "Coreplug$Failed" "java/lang/Throwable" "detailMessage" "Ljava/lang/String;") ∈ lw_all := lw_g (lw_at lw_m7 132 rfl) rfl
theorem q1642 : (Jvm.Cond.lays "Coreplug$Failed" "java/lang/Throwable" "backtrace" "Ljava/lang/Object;") ∈ lw_all := lw_g (lw_at lw_m7 133 rfl) rfl
theorem q1644 : (Jvm.Cond.lays "Coreplug$Failed" "java/lang/Throwable" "depth" "I") ∈ lw_all := lw_g (lw_at lw_m7 135 rfl) rfl
theorem q1645 : (Jvm.Cond.superclass "Coreplug$Failed" "java/lang/Exception") ∈ lw_all := lw_g (lw_at lw_m7 136 rfl) rfl
theorem q2087 : (Jvm.Cond.castable "Coreplug$Failed" "java/lang/Object") ∈ lw_tbl := lw_at lw_m9 98 rfl
theorem in_X5 : ∀ w ∈ wsX50, w ∈ lw_all := lw_in wsX50 [1638, 1639, 1640, 1641, 1642, 1644] (by decide +kernel) (by decide +kernel)
/-! Coreplug$BadCall -/
set_option maxRecDepth 100000
def RX6 : String := "Coreplug$BadCall"
def TX6 : u_T := fun k => match k with
  | 0 => ("java/lang/Throwable", "cause", "Ljava/lang/Throwable;", false)
  | 1 => ("java/lang/Throwable", "stackTrace", "[Ljava/lang/StackTraceElement;", false)
  | 2 => ("java/lang/Throwable", "suppressedExceptions", "Ljava/util/List;", false)
  | 3 => ("java/lang/Throwable", "detailMessage", "Ljava/lang/String;", false)
  | 4 => ("java/lang/Throwable", "backtrace", "Ljava/lang/Object;", false)
  | 5 => ("java/lang/Throwable", "depth", "I", false)
  | _ => ("Coreplug$BadCall", "instance", "I", true)
def tyX6 : Nat → FieldType := fun k => match k with
  | 0 => .object "java/lang/Throwable"
  | 1 => .array (.object "java/lang/StackTraceElement")
  | 2 => .object "java/util/List"
  | 3 => .object "java/lang/String"
  | 4 => .object "java/lang/Object"
  | 5 => .int
  | _ => .int
abbrev wsX60 : List Cond := u_ws RX6 TX6 7
theorem nmX6 : ∀ a, a < 7 → ∀ b, b < 7 → a ≠ b → (TX6 a).2.1 ≠ (TX6 b).2.1 := by decide +kernel
theorem tyX6_ok : ∀ k, k < 7 → parseFieldDescriptor (TX6 k).2.2.1 = some (tyX6 k) := by decide +kernel
abbrev cX6_init : ByteArray := prog_2_method_1_code
def yX6_init : MethodName := ⟨RX6, "<init>", "(I)V"⟩
def dkwX6_init_0 : List UInt8 := [42, 1, 183, 0, 1, 42, 27, 181, 0, 7, 177]
abbrev dktX6_init_0 : List UInt8 := dkwX6_init_0 ++ []
theorem dksX6_init_0 : cX6_init.data.toList.drop 0 = dktX6_init_0 := by decide +kernel
theorem dX6_init_0 : decode cX6_init 0 = .ok (.aload_n 0, 1) := dk_42 (dk_at dksX6_init_0 0 rfl rfl)
theorem dX6_init_1 : decode cX6_init 1 = .ok (.aconst_null, 1) := dk_1 (dk_at dksX6_init_0 1 rfl rfl)
theorem dX6_init_2 : decode cX6_init 2 = .ok (.invokespecial 1, 3) := dk_183 0 1 (dk_at dksX6_init_0 2 rfl rfl)
theorem dX6_init_5 : decode cX6_init 5 = .ok (.aload_n 0, 1) := dk_42 (dk_at dksX6_init_0 5 rfl rfl)
theorem dX6_init_6 : decode cX6_init 6 = .ok (.iload_n 1, 1) := dk_27 (dk_at dksX6_init_0 6 rfl rfl)
theorem dX6_init_7 : decode cX6_init 7 = .ok (.putfield 7, 3) := dk_181 0 7 (dk_at dksX6_init_0 7 rfl rfl)
theorem dX6_init_10 : decode cX6_init 10 = .ok (.return_, 1) := dk_177 (dk_at dksX6_init_0 10 rfl rfl)
theorem q112 : (Jvm.Cond.initialized "Coreplug$BadCall") ∈ lw_all := lw_g (lw_at lw_m1 43 rfl) rfl
theorem q222 : (Jvm.Cond.selects "Coreplug$BadCall" ({ cls := "java/lang/Object", name := "getClass", desc := "()Ljava/lang/Class;" } : Jvm.MethodName) ({ cls := "java/lang/Object", name := "getClass", desc := "()Ljava/lang/Class;" } : Jvm.MethodName)) ∈ lw_all := lw_g (lw_at lw_m1 153 rfl) rfl
theorem q478 : (Jvm.Cond.selects "Coreplug$BadCall" ({ cls := "java/lang/Throwable", name := "fillInStackTrace", desc := "()Ljava/lang/Throwable;" } : Jvm.MethodName) ({ cls := "java/lang/Throwable", name := "fillInStackTrace", desc := "()Ljava/lang/Throwable;" } : Jvm.MethodName)) ∈ lw_all := lw_g (lw_at lw_m2 169 rfl) rfl
theorem q1058 : (Jvm.Cond.selects "Coreplug$BadCall" ({ cls := "java/lang/Throwable", name := "toString", desc := "()Ljava/lang/String;" } : Jvm.MethodName) ({ cls := "java/lang/Throwable", name := "toString", desc := "()Ljava/lang/String;" } : Jvm.MethodName)) ∈ lw_all := lw_g (lw_at lw_m5 29 rfl) rfl
theorem q1071 : (Jvm.Cond.selects "Coreplug$BadCall" ({ cls := "java/lang/Throwable", name := "getLocalizedMessage", desc := "()Ljava/lang/String;" } : Jvm.MethodName) ({ cls := "java/lang/Throwable", name := "getLocalizedMessage", desc := "()Ljava/lang/String;" } : Jvm.MethodName)) ∈ lw_all := lw_g (lw_at lw_m5 42 rfl) rfl
theorem q1083 : (Jvm.Cond.selects "Coreplug$BadCall" ({ cls := "java/lang/Throwable", name := "getMessage", desc := "()Ljava/lang/String;" } : Jvm.MethodName) ({ cls := "java/lang/Throwable", name := "getMessage", desc := "()Ljava/lang/String;" } : Jvm.MethodName)) ∈ lw_all := lw_g (lw_at lw_m5 54 rfl) rfl
theorem q1327 : (Jvm.Cond.instantiable "Coreplug$BadCall" (7 : Nat)) ∈ lw_all := lw_g (lw_at lw_m6 58 rfl) rfl
theorem q1328 : (Jvm.Cond.castable "Coreplug$BadCall" "Coreplug$BadCall") ∈ lw_tbl := lw_at lw_m6 59 rfl
theorem q1329 : (Jvm.Cond.selects "Coreplug$BadCall" ({ cls := "java/lang/Throwable", name := "fillInStackTrace", desc := "(I)Ljava/lang/Throwable;" } : Jvm.MethodName) ({ cls := "java/lang/Throwable", name := "fillInStackTrace", desc := "(I)Ljava/lang/Throwable;" } : Jvm.MethodName)) ∈ lw_all := lw_g (lw_at lw_m6 60 rfl) rfl
theorem q1330 : (Jvm.Cond.lays "Coreplug$BadCall" "java/lang/Throwable" "cause" "Ljava/lang/Throwable;") ∈ lw_all := lw_g (lw_at lw_m6 61 rfl) rfl
theorem q1331 : (Jvm.Cond.lays "Coreplug$BadCall" "java/lang/Throwable" "stackTrace" "[Ljava/lang/StackTraceElement;") ∈ lw_all := lw_g (lw_at lw_m6 62 rfl) rfl
theorem q1332 : (Jvm.Cond.lays "Coreplug$BadCall" "java/lang/Throwable" "suppressedExceptions" "Ljava/util/List;") ∈ lw_all := lw_g (lw_at lw_m6 63 rfl) rfl
theorem q1333 : (Jvm.Cond.lays "Coreplug$BadCall" "java/lang/Throwable" "detailMessage" "Ljava/lang/String;") ∈ lw_all := lw_g (lw_at lw_m6 64 rfl) rfl
theorem q1334 : (Jvm.Cond.lays "Coreplug$BadCall" "java/lang/Throwable" "backtrace" "Ljava/lang/Object;") ∈ lw_all := lw_g (lw_at lw_m6 65 rfl) rfl
theorem q1336 : (Jvm.Cond.instanceMethod ({ cls := "Coreplug$BadCall", name := "<init>", desc := "(I)V" } : Jvm.MethodName)) ∈ lw_all := lw_g (lw_at lw_m6 67 rfl) rfl
theorem q1337 : (Jvm.Cond.code ({ cls := "Coreplug$BadCall", name := "<init>", desc := "(I)V" } : Jvm.MethodName) prog_2_method_1_code (2 : Nat) (Option.none : Option Jvm.ClassFile.FieldType)) ∈ lw_all := lw_g (lw_at lw_m6 68 rfl) rfl
theorem q1338 : (Jvm.Cond.methodLink "Coreplug$BadCall" (1 : Nat) ({ cls := "Coreplug$Failed", name := "<init>", desc := "(Ljava/lang/Exception;)V" } : Jvm.MethodName)) ∈ lw_all := lw_g (lw_at lw_m6 69 rfl) rfl
theorem q1347 : (Jvm.Cond.fieldLink "Coreplug$BadCall" (7 : Nat) "Coreplug$BadCall" "instance" "I") ∈ lw_all := lw_g (lw_at lw_m6 78 rfl) rfl
theorem q1349 : (Jvm.Cond.laysFinal "Coreplug$BadCall" "Coreplug$BadCall" "instance" "I") ∈ lw_all := lw_g (lw_at lw_m6 80 rfl) rfl
theorem q1350 : (Jvm.Cond.soleField "Coreplug$BadCall" "instance") ∈ lw_all := lw_g (lw_at lw_m6 81 rfl) rfl
theorem q1351 : (Jvm.Cond.lays "Coreplug$BadCall" "java/lang/Throwable" "depth" "I") ∈ lw_all := lw_g (lw_at lw_m6 82 rfl) rfl
theorem q1352 : (Jvm.Cond.superclass "Coreplug$BadCall" "Coreplug$Failed") ∈ lw_all := lw_g (lw_at lw_m6 83 rfl) rfl
theorem q2056 : (Jvm.Cond.castable "Coreplug$BadCall" "Coreplug$Failed") ∈ lw_tbl := lw_at lw_m9 67 rfl
theorem q2080 : (Jvm.Cond.castable "Coreplug$BadCall" "java/lang/Object") ∈ lw_tbl := lw_at lw_m9 91 rfl
theorem in_X6 : ∀ w ∈ wsX60, w ∈ lw_all := lw_in wsX60 [1330, 1331, 1332, 1333, 1334, 1351, 1349] (by decide +kernel) (by decide +kernel)
/-! Coreplug$Step$1 -/
set_option maxRecDepth 100000
def RX7 : String := "Coreplug$Step$1"
def TX7 : u_T := fun k => match k with
  | 0 => ("Coreplug$Step$1", "next", "I", false)
  | 1 => ("Coreplug$Step$1", "val$from", "I", true)
  | 2 => ("Coreplug$Step$1", "val$upward", "Z", true)
  | _ => ("Coreplug$Step$1", "this$0", "LCoreplug$Step;", true)
def tyX7 : Nat → FieldType := fun k => match k with
  | 0 => .int
  | 1 => .int
  | 2 => .boolean
  | _ => .object "Coreplug$Step"
abbrev wsX70 : List Cond := u_ws RX7 TX7 4
theorem nmX7 : ∀ a, a < 4 → ∀ b, b < 4 → a ≠ b → (TX7 a).2.1 ≠ (TX7 b).2.1 := by decide +kernel
theorem tyX7_ok : ∀ k, k < 4 → parseFieldDescriptor (TX7 k).2.2.1 = some (tyX7 k) := by decide +kernel
abbrev cX7_hasNext : ByteArray := prog_8_method_3_code
def yX7_hasNext : MethodName := ⟨RX7, "hasNext", "()Z"⟩
def dkwX7_hasNext_0 : List UInt8 := [42, 180, 0, 27, 2, 159, 0, 7, 4, 167, 0, 4, 3, 172]
abbrev dktX7_hasNext_0 : List UInt8 := dkwX7_hasNext_0 ++ []
theorem dksX7_hasNext_0 : cX7_hasNext.data.toList.drop 0 = dktX7_hasNext_0 := by decide +kernel
theorem dX7_hasNext_0 : decode cX7_hasNext 0 = .ok (.aload_n 0, 1) := dk_42 (dk_at dksX7_hasNext_0 0 rfl rfl)
theorem dX7_hasNext_1 : decode cX7_hasNext 1 = .ok (.getfield 27, 3) := dk_180 0 27 (dk_at dksX7_hasNext_0 1 rfl rfl)
theorem dX7_hasNext_4 : decode cX7_hasNext 4 = .ok (.iconst (-1), 1) := dk_2 (dk_at dksX7_hasNext_0 4 rfl rfl)
theorem dX7_hasNext_5 : decode cX7_hasNext 5 = .ok (.if_icmp .eq 7, 3) := dk_159 0 7 (dk_at dksX7_hasNext_0 5 rfl rfl)
theorem dX7_hasNext_8 : decode cX7_hasNext 8 = .ok (.iconst 1, 1) := dk_4 (dk_at dksX7_hasNext_0 8 rfl rfl)
theorem dX7_hasNext_9 : decode cX7_hasNext 9 = .ok (.goto 4, 3) := dk_167 0 4 (dk_at dksX7_hasNext_0 9 rfl rfl)
theorem dX7_hasNext_12 : decode cX7_hasNext 12 = .ok (.iconst 0, 1) := dk_3 (dk_at dksX7_hasNext_0 12 rfl rfl)
theorem dX7_hasNext_13 : decode cX7_hasNext 13 = .ok (.ireturn, 1) := dk_172 (dk_at dksX7_hasNext_0 13 rfl rfl)
abbrev cX7_next : ByteArray := prog_8_method_5_code
def yX7_next : MethodName := ⟨RX7, "next", "()Ljava/lang/Object;"⟩
theorem dX7_next_0 : decode cX7_next 0 = .ok (.aload_n 0, 1) := by decide +kernel
theorem dX7_next_1 : decode cX7_next 1 = .ok (.invokevirtual 50, 3) := by decide +kernel
theorem dX7_next_4 : decode cX7_next 4 = .ok (.areturn, 1) := by decide +kernel
abbrev cX7_next_2 : ByteArray := prog_8_method_4_code
def yX7_next_2 : MethodName := ⟨RX7, "next", "()Ljava/lang/Integer;"⟩
def dkwX7_next_2_1 : List UInt8 := [182, 0, 23, 181, 0, 27, 27, 184, 0, 44, 176]
abbrev dktX7_next_2_1 : List UInt8 := dkwX7_next_2_1 ++ []
def dkwX7_next_2_0 : List UInt8 := [42, 180, 0, 27, 60, 42, 42, 42, 180, 0, 13, 153, 0, 9, 27, 4, 96, 167, 0, 6, 27, 4, 100]
abbrev dktX7_next_2_0 : List UInt8 := dkwX7_next_2_0 ++ dktX7_next_2_1
theorem dksX7_next_2_0 : cX7_next_2.data.toList.drop 0 = dktX7_next_2_0 := by decide +kernel
theorem dksX7_next_2_1 : cX7_next_2.data.toList.drop 23 = dktX7_next_2_1 := dk_seg dksX7_next_2_0 23 rfl rfl
theorem dX7_next_2_0 : decode cX7_next_2 0 = .ok (.aload_n 0, 1) := dk_42 (dk_at dksX7_next_2_0 0 rfl rfl)
theorem dX7_next_2_1 : decode cX7_next_2 1 = .ok (.getfield 27, 3) := dk_180 0 27 (dk_at dksX7_next_2_0 1 rfl rfl)
theorem dX7_next_2_4 : decode cX7_next_2 4 = .ok (.istore_n 1, 1) := dk_60 (dk_at dksX7_next_2_0 4 rfl rfl)
theorem dX7_next_2_5 : decode cX7_next_2 5 = .ok (.aload_n 0, 1) := dk_42 (dk_at dksX7_next_2_0 5 rfl rfl)
theorem dX7_next_2_6 : decode cX7_next_2 6 = .ok (.aload_n 0, 1) := dk_42 (dk_at dksX7_next_2_0 6 rfl rfl)
theorem dX7_next_2_7 : decode cX7_next_2 7 = .ok (.aload_n 0, 1) := dk_42 (dk_at dksX7_next_2_0 7 rfl rfl)
theorem dX7_next_2_8 : decode cX7_next_2 8 = .ok (.getfield 13, 3) := dk_180 0 13 (dk_at dksX7_next_2_0 8 rfl rfl)
theorem dX7_next_2_11 : decode cX7_next_2 11 = .ok (.ifCond .eq 9, 3) := dk_153 0 9 (dk_at dksX7_next_2_0 11 rfl rfl)
theorem dX7_next_2_14 : decode cX7_next_2 14 = .ok (.iload_n 1, 1) := dk_27 (dk_at dksX7_next_2_0 14 rfl rfl)
theorem dX7_next_2_15 : decode cX7_next_2 15 = .ok (.iconst 1, 1) := dk_4 (dk_at dksX7_next_2_0 15 rfl rfl)
theorem dX7_next_2_16 : decode cX7_next_2 16 = .ok (.iadd, 1) := dk_96 (dk_at dksX7_next_2_0 16 rfl rfl)
theorem dX7_next_2_17 : decode cX7_next_2 17 = .ok (.goto 6, 3) := dk_167 0 6 (dk_at dksX7_next_2_0 17 rfl rfl)
theorem dX7_next_2_20 : decode cX7_next_2 20 = .ok (.iload_n 1, 1) := dk_27 (dk_at dksX7_next_2_0 20 rfl rfl)
theorem dX7_next_2_21 : decode cX7_next_2 21 = .ok (.iconst 1, 1) := dk_4 (dk_at dksX7_next_2_0 21 rfl rfl)
theorem dX7_next_2_22 : decode cX7_next_2 22 = .ok (.isub, 1) := dk_100 (dk_at dksX7_next_2_0 22 rfl rfl)
theorem dX7_next_2_23 : decode cX7_next_2 23 = .ok (.invokevirtual 23, 3) := dk_182 0 23 (dk_at dksX7_next_2_1 0 rfl rfl)
theorem dX7_next_2_26 : decode cX7_next_2 26 = .ok (.putfield 27, 3) := dk_181 0 27 (dk_at dksX7_next_2_1 3 rfl rfl)
theorem dX7_next_2_29 : decode cX7_next_2 29 = .ok (.iload_n 1, 1) := dk_27 (dk_at dksX7_next_2_1 6 rfl rfl)
theorem dX7_next_2_30 : decode cX7_next_2 30 = .ok (.invokestatic 44, 3) := dk_184 0 44 (dk_at dksX7_next_2_1 7 rfl rfl)
theorem dX7_next_2_33 : decode cX7_next_2 33 = .ok (.areturn, 1) := dk_176 (dk_at dksX7_next_2_1 10 rfl rfl)
abbrev cX7_find : ByteArray := prog_8_method_2_code
def yX7_find : MethodName := ⟨RX7, "find", "(I)I"⟩
def dkwX7_find_1 : List UInt8 := [156, 0, 7, 2, 167, 0, 14, 42, 180, 0, 3, 180, 0, 30, 27, 182, 0, 41, 172]
abbrev dktX7_find_1 : List UInt8 := dkwX7_find_1 ++ []
def dkwX7_find_0 : List UInt8 := [42, 180, 0, 13, 153, 0, 17, 42, 180, 0, 3, 180, 0, 30, 27, 182, 0, 36, 167, 0, 22, 27]
abbrev dktX7_find_0 : List UInt8 := dkwX7_find_0 ++ dktX7_find_1
theorem dksX7_find_0 : cX7_find.data.toList.drop 0 = dktX7_find_0 := by decide +kernel
theorem dksX7_find_1 : cX7_find.data.toList.drop 22 = dktX7_find_1 := dk_seg dksX7_find_0 22 rfl rfl
theorem dX7_find_0 : decode cX7_find 0 = .ok (.aload_n 0, 1) := dk_42 (dk_at dksX7_find_0 0 rfl rfl)
theorem dX7_find_1 : decode cX7_find 1 = .ok (.getfield 13, 3) := dk_180 0 13 (dk_at dksX7_find_0 1 rfl rfl)
theorem dX7_find_4 : decode cX7_find 4 = .ok (.ifCond .eq 17, 3) := dk_153 0 17 (dk_at dksX7_find_0 4 rfl rfl)
theorem dX7_find_7 : decode cX7_find 7 = .ok (.aload_n 0, 1) := dk_42 (dk_at dksX7_find_0 7 rfl rfl)
theorem dX7_find_8 : decode cX7_find 8 = .ok (.getfield 3, 3) := dk_180 0 3 (dk_at dksX7_find_0 8 rfl rfl)
theorem dX7_find_11 : decode cX7_find 11 = .ok (.getfield 30, 3) := dk_180 0 30 (dk_at dksX7_find_0 11 rfl rfl)
theorem dX7_find_14 : decode cX7_find 14 = .ok (.iload_n 1, 1) := dk_27 (dk_at dksX7_find_0 14 rfl rfl)
theorem dX7_find_15 : decode cX7_find 15 = .ok (.invokevirtual 36, 3) := dk_182 0 36 (dk_at dksX7_find_0 15 rfl rfl)
theorem dX7_find_18 : decode cX7_find 18 = .ok (.goto 22, 3) := dk_167 0 22 (dk_at dksX7_find_0 18 rfl rfl)
theorem dX7_find_21 : decode cX7_find 21 = .ok (.iload_n 1, 1) := dk_27 (dk_at dksX7_find_0 21 rfl rfl)
theorem dX7_find_22 : decode cX7_find 22 = .ok (.ifCond .ge 7, 3) := dk_156 0 7 (dk_at dksX7_find_1 0 rfl rfl)
theorem dX7_find_25 : decode cX7_find 25 = .ok (.iconst (-1), 1) := dk_2 (dk_at dksX7_find_1 3 rfl rfl)
theorem dX7_find_26 : decode cX7_find 26 = .ok (.goto 14, 3) := dk_167 0 14 (dk_at dksX7_find_1 4 rfl rfl)
theorem dX7_find_29 : decode cX7_find 29 = .ok (.aload_n 0, 1) := dk_42 (dk_at dksX7_find_1 7 rfl rfl)
theorem dX7_find_30 : decode cX7_find 30 = .ok (.getfield 3, 3) := dk_180 0 3 (dk_at dksX7_find_1 8 rfl rfl)
theorem dX7_find_33 : decode cX7_find 33 = .ok (.getfield 30, 3) := dk_180 0 30 (dk_at dksX7_find_1 11 rfl rfl)
theorem dX7_find_36 : decode cX7_find 36 = .ok (.iload_n 1, 1) := dk_27 (dk_at dksX7_find_1 14 rfl rfl)
theorem dX7_find_37 : decode cX7_find 37 = .ok (.invokevirtual 41, 3) := dk_182 0 41 (dk_at dksX7_find_1 15 rfl rfl)
theorem dX7_find_40 : decode cX7_find 40 = .ok (.ireturn, 1) := dk_172 (dk_at dksX7_find_1 18 rfl rfl)
abbrev cX7_init : ByteArray := prog_8_method_1_code
def yX7_init : MethodName := ⟨RX7, "<init>", "(LCoreplug$Step;IZ)V"⟩
def dkwX7_init_1 : List UInt8 := [180, 0, 9, 182, 0, 23, 181, 0, 27, 177]
abbrev dktX7_init_1 : List UInt8 := dkwX7_init_1 ++ []
def dkwX7_init_0 : List UInt8 := [42, 43, 181, 0, 3, 42, 28, 181, 0, 9, 42, 29, 181, 0, 13, 42, 183, 0, 17, 42, 42, 42]
abbrev dktX7_init_0 : List UInt8 := dkwX7_init_0 ++ dktX7_init_1
theorem dksX7_init_0 : cX7_init.data.toList.drop 0 = dktX7_init_0 := by decide +kernel
theorem dksX7_init_1 : cX7_init.data.toList.drop 22 = dktX7_init_1 := dk_seg dksX7_init_0 22 rfl rfl
theorem dX7_init_0 : decode cX7_init 0 = .ok (.aload_n 0, 1) := dk_42 (dk_at dksX7_init_0 0 rfl rfl)
theorem dX7_init_1 : decode cX7_init 1 = .ok (.aload_n 1, 1) := dk_43 (dk_at dksX7_init_0 1 rfl rfl)
theorem dX7_init_2 : decode cX7_init 2 = .ok (.putfield 3, 3) := dk_181 0 3 (dk_at dksX7_init_0 2 rfl rfl)
theorem dX7_init_5 : decode cX7_init 5 = .ok (.aload_n 0, 1) := dk_42 (dk_at dksX7_init_0 5 rfl rfl)
theorem dX7_init_6 : decode cX7_init 6 = .ok (.iload_n 2, 1) := dk_28 (dk_at dksX7_init_0 6 rfl rfl)
theorem dX7_init_7 : decode cX7_init 7 = .ok (.putfield 9, 3) := dk_181 0 9 (dk_at dksX7_init_0 7 rfl rfl)
theorem dX7_init_10 : decode cX7_init 10 = .ok (.aload_n 0, 1) := dk_42 (dk_at dksX7_init_0 10 rfl rfl)
theorem dX7_init_11 : decode cX7_init 11 = .ok (.iload_n 3, 1) := dk_29 (dk_at dksX7_init_0 11 rfl rfl)
theorem dX7_init_12 : decode cX7_init 12 = .ok (.putfield 13, 3) := dk_181 0 13 (dk_at dksX7_init_0 12 rfl rfl)
theorem dX7_init_15 : decode cX7_init 15 = .ok (.aload_n 0, 1) := dk_42 (dk_at dksX7_init_0 15 rfl rfl)
theorem dX7_init_16 : decode cX7_init 16 = .ok (.invokespecial 17, 3) := dk_183 0 17 (dk_at dksX7_init_0 16 rfl rfl)
theorem dX7_init_19 : decode cX7_init 19 = .ok (.aload_n 0, 1) := dk_42 (dk_at dksX7_init_0 19 rfl rfl)
theorem dX7_init_20 : decode cX7_init 20 = .ok (.aload_n 0, 1) := dk_42 (dk_at dksX7_init_0 20 rfl rfl)
theorem dX7_init_21 : decode cX7_init 21 = .ok (.aload_n 0, 1) := dk_42 (dk_at dksX7_init_0 21 rfl rfl)
theorem dX7_init_22 : decode cX7_init 22 = .ok (.getfield 9, 3) := dk_180 0 9 (dk_at dksX7_init_1 0 rfl rfl)
theorem dX7_init_25 : decode cX7_init 25 = .ok (.invokevirtual 23, 3) := dk_182 0 23 (dk_at dksX7_init_1 3 rfl rfl)
theorem dX7_init_28 : decode cX7_init 28 = .ok (.putfield 27, 3) := dk_181 0 27 (dk_at dksX7_init_1 6 rfl rfl)
theorem dX7_init_31 : decode cX7_init 31 = .ok (.return_, 1) := dk_177 (dk_at dksX7_init_1 9 rfl rfl)
theorem q115 : (Jvm.Cond.initialized "Coreplug$Step$1") ∈ lw_all := lw_g (lw_at lw_m1 46 rfl) rfl
theorem q228 : (Jvm.Cond.selects "Coreplug$Step$1" ({ cls := "java/lang/Object", name := "getClass", desc := "()Ljava/lang/Class;" } : Jvm.MethodName) ({ cls := "java/lang/Object", name := "getClass", desc := "()Ljava/lang/Class;" } : Jvm.MethodName)) ∈ lw_all := lw_g (lw_at lw_m1 159 rfl) rfl
theorem q898 : (Jvm.Cond.castable "Coreplug$Step$1" "java/util/Iterator") ∈ lw_tbl := lw_at lw_m4 109 rfl
theorem q899 : (Jvm.Cond.selects "Coreplug$Step$1" ({ cls := "java/util/Iterator", name := "hasNext", desc := "()Z" } : Jvm.MethodName) ({ cls := "Coreplug$Step$1", name := "hasNext", desc := "()Z" } : Jvm.MethodName)) ∈ lw_all := lw_g (lw_at lw_m4 110 rfl) rfl
theorem q900 : (Jvm.Cond.unhidden "Coreplug$Step$1" "hasNext" "()Z") ∈ lw_tbl := lw_at lw_m4 111 rfl
theorem q901 : (Jvm.Cond.instanceMethod ({ cls := "Coreplug$Step$1", name := "hasNext", desc := "()Z" } : Jvm.MethodName)) ∈ lw_all := lw_g (lw_at lw_m4 112 rfl) rfl
theorem q902 : (Jvm.Cond.publicMethod ({ cls := "Coreplug$Step$1", name := "hasNext", desc := "()Z" } : Jvm.MethodName)) ∈ lw_tbl := lw_at lw_m4 113 rfl
theorem q903 : (Jvm.Cond.code ({ cls := "Coreplug$Step$1", name := "hasNext", desc := "()Z" } : Jvm.MethodName) prog_8_method_3_code (1 : Nat) (Option.some Jvm.ClassFile.FieldType.boolean)) ∈ lw_all := lw_g (lw_at lw_m4 114 rfl) rfl
theorem q940 : (Jvm.Cond.selects "Coreplug$Step$1" ({ cls := "java/util/Iterator", name := "next", desc := "()Ljava/lang/Object;" } : Jvm.MethodName) ({ cls := "Coreplug$Step$1", name := "next", desc := "()Ljava/lang/Object;" } : Jvm.MethodName)) ∈ lw_all := lw_g (lw_at lw_m4 151 rfl) rfl
theorem q941 : (Jvm.Cond.unhidden "Coreplug$Step$1" "next" "()Ljava/lang/Object;") ∈ lw_tbl := lw_at lw_m4 152 rfl
theorem q942 : (Jvm.Cond.instanceMethod ({ cls := "Coreplug$Step$1", name := "next", desc := "()Ljava/lang/Object;" } : Jvm.MethodName)) ∈ lw_all := lw_g (lw_at lw_m4 153 rfl) rfl
theorem q943 : (Jvm.Cond.publicMethod ({ cls := "Coreplug$Step$1", name := "next", desc := "()Ljava/lang/Object;" } : Jvm.MethodName)) ∈ lw_tbl := lw_at lw_m4 154 rfl
theorem q944 : (Jvm.Cond.code ({ cls := "Coreplug$Step$1", name := "next", desc := "()Ljava/lang/Object;" } : Jvm.MethodName) prog_8_method_5_code (1 : Nat) (Option.some (Jvm.ClassFile.FieldType.object "java/lang/Object"))) ∈ lw_all := lw_g (lw_at lw_m4 155 rfl) rfl
theorem q945 : (Jvm.Cond.methodLink "Coreplug$Step$1" (50 : Nat) ({ cls := "Coreplug$Step$1", name := "next", desc := "()Ljava/lang/Integer;" } : Jvm.MethodName)) ∈ lw_all := lw_g (lw_at lw_m4 156 rfl) rfl
theorem q946 : (Jvm.Cond.instanceMethod ({ cls := "Coreplug$Step$1", name := "next", desc := "()Ljava/lang/Integer;" } : Jvm.MethodName)) ∈ lw_all := lw_g (lw_at lw_m4 157 rfl) rfl
theorem q947 : (Jvm.Cond.selects "Coreplug$Step$1" ({ cls := "Coreplug$Step$1", name := "next", desc := "()Ljava/lang/Integer;" } : Jvm.MethodName) ({ cls := "Coreplug$Step$1", name := "next", desc := "()Ljava/lang/Integer;" } : Jvm.MethodName)) ∈ lw_all := lw_g (lw_at lw_m4 158 rfl) rfl
theorem q948 : (Jvm.Cond.code ({ cls := "Coreplug$Step$1", name := "next", desc := "()Ljava/lang/Integer;" } : Jvm.MethodName) prog_8_method_4_code (2 : Nat) (Option.some (Jvm.ClassFile.FieldType.object "java/lang/Integer"))) ∈ lw_all := lw_g (lw_at lw_m4 159 rfl) rfl
theorem q949 : (Jvm.Cond.methodLink "Coreplug$Step$1" (23 : Nat) ({ cls := "Coreplug$Step$1", name := "find", desc := "(I)I" } : Jvm.MethodName)) ∈ lw_all := lw_g (lw_at lw_m4 160 rfl) rfl
theorem q950 : (Jvm.Cond.privateMethod ({ cls := "Coreplug$Step$1", name := "find", desc := "(I)I" } : Jvm.MethodName)) ∈ lw_tbl := lw_at lw_m4 161 rfl
theorem q951 : (Jvm.Cond.instanceMethod ({ cls := "Coreplug$Step$1", name := "find", desc := "(I)I" } : Jvm.MethodName)) ∈ lw_all := lw_g (lw_at lw_m4 162 rfl) rfl
theorem q952 : (Jvm.Cond.instantiable "Coreplug$Step$1" (4 : Nat)) ∈ lw_all := lw_g (lw_at lw_m4 163 rfl) rfl
theorem q953 : (Jvm.Cond.code ({ cls := "Coreplug$Step$1", name := "find", desc := "(I)I" } : Jvm.MethodName) prog_8_method_2_code (2 : Nat) (Option.some Jvm.ClassFile.FieldType.int)) ∈ lw_all := lw_g (lw_at lw_m4 164 rfl) rfl
theorem q954 : (Jvm.Cond.methodLink "Coreplug$Step$1" (36 : Nat) ({ cls := "java/util/BitSet", name := "nextSetBit", desc := "(I)I" } : Jvm.MethodName)) ∈ lw_all := lw_g (lw_at lw_m4 165 rfl) rfl
theorem q984 : (Jvm.Cond.methodLink "Coreplug$Step$1" (41 : Nat) ({ cls := "java/util/BitSet", name := "previousSetBit", desc := "(I)I" } : Jvm.MethodName)) ∈ lw_all := lw_g (lw_at lw_m4 195 rfl) rfl
theorem q999 : (Jvm.Cond.methodLink "Coreplug$Step$1" (44 : Nat) ({ cls := "java/lang/Integer", name := "valueOf", desc := "(I)Ljava/lang/Integer;" } : Jvm.MethodName)) ∈ lw_all := lw_g (lw_at lw_m4 210 rfl) rfl
theorem q1246 : (Jvm.Cond.fieldLinkNest "Coreplug$Step$1" (30 : Nat) "Coreplug$Step" "instances" "Ljava/util/BitSet;" "Coreplug") ∈ lw_tbl := lw_at lw_m5 217 rfl
theorem q1539 : (Jvm.Cond.instanceMethod ({ cls := "Coreplug$Step$1", name := "<init>", desc := "(LCoreplug$Step;IZ)V" } : Jvm.MethodName)) ∈ lw_all := lw_g (lw_at lw_m7 30 rfl) rfl
theorem q1540 : (Jvm.Cond.code ({ cls := "Coreplug$Step$1", name := "<init>", desc := "(LCoreplug$Step;IZ)V" } : Jvm.MethodName) prog_8_method_1_code (4 : Nat) (Option.none : Option Jvm.ClassFile.FieldType)) ∈ lw_all := lw_g (lw_at lw_m7 31 rfl) rfl
theorem q1541 : (Jvm.Cond.methodLink "Coreplug$Step$1" (17 : Nat) ({ cls := "java/lang/Object", name := "<init>", desc := "()V" } : Jvm.MethodName)) ∈ lw_all := lw_g (lw_at lw_m7 32 rfl) rfl
theorem q1542 : (Jvm.Cond.fieldLink "Coreplug$Step$1" (27 : Nat) "Coreplug$Step$1" "next" "I") ∈ lw_all := lw_g (lw_at lw_m7 33 rfl) rfl
theorem q1543 : (Jvm.Cond.fieldLink "Coreplug$Step$1" (9 : Nat) "Coreplug$Step$1" "val$from" "I") ∈ lw_all := lw_g (lw_at lw_m7 34 rfl) rfl
theorem q1544 : (Jvm.Cond.fieldLink "Coreplug$Step$1" (13 : Nat) "Coreplug$Step$1" "val$upward" "Z") ∈ lw_all := lw_g (lw_at lw_m7 35 rfl) rfl
theorem q1545 : (Jvm.Cond.fieldLink "Coreplug$Step$1" (3 : Nat) "Coreplug$Step$1" "this$0" "LCoreplug$Step;") ∈ lw_all := lw_g (lw_at lw_m7 36 rfl) rfl
theorem q1546 : (Jvm.Cond.lays "Coreplug$Step$1" "Coreplug$Step$1" "next" "I") ∈ lw_all := lw_g (lw_at lw_m7 37 rfl) rfl
theorem q1547 : (Jvm.Cond.soleField "Coreplug$Step$1" "next") ∈ lw_all := lw_g (lw_at lw_m7 38 rfl) rfl
theorem q1548 : (Jvm.Cond.laysFinal "Coreplug$Step$1" "Coreplug$Step$1" "val$from" "I") ∈ lw_all := lw_g (lw_at lw_m7 39 rfl) rfl
theorem q1549 : (Jvm.Cond.soleField "Coreplug$Step$1" "val$from") ∈ lw_all := lw_g (lw_at lw_m7 40 rfl) rfl
theorem q1550 : (Jvm.Cond.laysFinal "Coreplug$Step$1" "Coreplug$Step$1" "val$upward" "Z") ∈ lw_all := lw_g (lw_at lw_m7 41 rfl) rfl
theorem q1551 : (Jvm.Cond.soleField "Coreplug$Step$1" "val$upward") ∈ lw_all := lw_g (lw_at lw_m7 42 rfl) rfl
theorem q1552 : (Jvm.Cond.laysFinal "Coreplug$Step$1" "Coreplug$Step$1" "this$0" "LCoreplug$Step;") ∈ lw_all := lw_g (lw_at lw_m7 43 rfl) rfl
theorem q1553 : (Jvm.Cond.soleField "Coreplug$Step$1" "this$0") ∈ lw_all := lw_g (lw_at lw_m7 44 rfl) rfl
theorem q1554 : (Jvm.Cond.superclass "Coreplug$Step$1" "java/lang/Object") ∈ lw_all := lw_g (lw_at lw_m7 45 rfl) rfl
theorem q2084 : (Jvm.Cond.castable "Coreplug$Step$1" "java/lang/Object") ∈ lw_tbl := lw_at lw_m9 95 rfl
theorem in_X7 : ∀ w ∈ wsX70, w ∈ lw_all := lw_in wsX70 [1546, 1548, 1550, 1552] (by decide +kernel) (by decide +kernel)
/-! Coreplug$Way$1 -/
set_option maxRecDepth 100000
def RX8 : String := "Coreplug$Way$1"
abbrev cX8_has : ByteArray := prog_12_method_3_code
def yX8_has : MethodName := ⟨RX8, "has", "(LCoreplug$Step;)Z"⟩
theorem dX8_has_0 : decode cX8_has 0 = .ok (.aload_n 1, 1) := by decide +kernel
theorem dX8_has_1 : decode cX8_has 1 = .ok (.getfield 13, 3) := by decide +kernel
theorem dX8_has_4 : decode cX8_has 4 = .ok (.ireturn, 1) := by decide +kernel
abbrev cX8_back : ByteArray := prog_12_method_2_code
def yX8_back : MethodName := ⟨RX8, "back", "()LCoreplug$Way;"⟩
theorem dX8_back_0 : decode cX8_back 0 = .ok (.getstatic 7, 3) := by decide +kernel
theorem dX8_back_3 : decode cX8_back 3 = .ok (.areturn, 1) := by decide +kernel
theorem q116 : (Jvm.Cond.initialized "Coreplug$Way$1") ∈ lw_all := lw_g (lw_at lw_m1 47 rfl) rfl
theorem q230 : (Jvm.Cond.selects "Coreplug$Way$1" ({ cls := "java/lang/Object", name := "getClass", desc := "()Ljava/lang/Class;" } : Jvm.MethodName) ({ cls := "java/lang/Object", name := "getClass", desc := "()Ljava/lang/Class;" } : Jvm.MethodName)) ∈ lw_all := lw_g (lw_at lw_m1 161 rfl) rfl
theorem q1238 : (Jvm.Cond.fieldLinkNest "Coreplug$Way$1" (13 : Nat) "Coreplug$Step" "starts" "Z" "Coreplug") ∈ lw_tbl := lw_at lw_m5 209 rfl
theorem q1302 : (Jvm.Cond.selects "Coreplug$Way$1" ({ cls := "Coreplug$Way", name := "has", desc := "(LCoreplug$Step;)Z" } : Jvm.MethodName) ({ cls := "Coreplug$Way$1", name := "has", desc := "(LCoreplug$Step;)Z" } : Jvm.MethodName)) ∈ lw_all := lw_g (lw_at lw_m6 33 rfl) rfl
theorem q1303 : (Jvm.Cond.instanceMethod ({ cls := "Coreplug$Way$1", name := "has", desc := "(LCoreplug$Step;)Z" } : Jvm.MethodName)) ∈ lw_all := lw_g (lw_at lw_m6 34 rfl) rfl
theorem q1304 : (Jvm.Cond.code ({ cls := "Coreplug$Way$1", name := "has", desc := "(LCoreplug$Step;)Z" } : Jvm.MethodName) prog_12_method_3_code (2 : Nat) (Option.some Jvm.ClassFile.FieldType.boolean)) ∈ lw_all := lw_g (lw_at lw_m6 35 rfl) rfl
theorem q1318 : (Jvm.Cond.selects "Coreplug$Way$1" ({ cls := "Coreplug$Way", name := "ordinal", desc := "()I" } : Jvm.MethodName) ({ cls := "java/lang/Enum", name := "ordinal", desc := "()I" } : Jvm.MethodName)) ∈ lw_all := lw_g (lw_at lw_m6 49 rfl) rfl
theorem q1566 : (Jvm.Cond.selects "Coreplug$Way$1" ({ cls := "Coreplug$Way", name := "back", desc := "()LCoreplug$Way;" } : Jvm.MethodName) ({ cls := "Coreplug$Way$1", name := "back", desc := "()LCoreplug$Way;" } : Jvm.MethodName)) ∈ lw_all := lw_g (lw_at lw_m7 57 rfl) rfl
theorem q1567 : (Jvm.Cond.instanceMethod ({ cls := "Coreplug$Way$1", name := "back", desc := "()LCoreplug$Way;" } : Jvm.MethodName)) ∈ lw_all := lw_g (lw_at lw_m7 58 rfl) rfl
theorem q1568 : (Jvm.Cond.code ({ cls := "Coreplug$Way$1", name := "back", desc := "()LCoreplug$Way;" } : Jvm.MethodName) prog_12_method_2_code (1 : Nat) (Option.some (Jvm.ClassFile.FieldType.object "Coreplug$Way"))) ∈ lw_all := lw_g (lw_at lw_m7 59 rfl) rfl
theorem q1569 : (Jvm.Cond.fieldLink "Coreplug$Way$1" (7 : Nat) "Coreplug$Way$1" "STOPPING" "LCoreplug$Way;") ∈ lw_all := lw_g (lw_at lw_m7 60 rfl) rfl
theorem q1570 : (Jvm.Cond.sameField "Coreplug$Way$1" "Coreplug$Way" "STOPPING" "LCoreplug$Way;") ∈ lw_all := lw_g (lw_at lw_m7 61 rfl) rfl
theorem q2079 : (Jvm.Cond.castable "Coreplug$Way$1" "java/lang/Object") ∈ lw_tbl := lw_at lw_m9 90 rfl
/-! Coreplug$Way$2 -/
set_option maxRecDepth 100000
def RX9 : String := "Coreplug$Way$2"
abbrev cX9_has : ByteArray := prog_13_method_3_code
def yX9_has : MethodName := ⟨RX9, "has", "(LCoreplug$Step;)Z"⟩
theorem dX9_has_0 : decode cX9_has 0 = .ok (.aload_n 1, 1) := by decide +kernel
theorem dX9_has_1 : decode cX9_has 1 = .ok (.getfield 13, 3) := by decide +kernel
theorem dX9_has_4 : decode cX9_has 4 = .ok (.ireturn, 1) := by decide +kernel
abbrev cX9_back : ByteArray := prog_13_method_2_code
def yX9_back : MethodName := ⟨RX9, "back", "()LCoreplug$Way;"⟩
theorem dX9_back_0 : decode cX9_back 0 = .ok (.getstatic 7, 3) := by decide +kernel
theorem dX9_back_3 : decode cX9_back 3 = .ok (.areturn, 1) := by decide +kernel
theorem q117 : (Jvm.Cond.initialized "Coreplug$Way$2") ∈ lw_all := lw_g (lw_at lw_m1 48 rfl) rfl
theorem q231 : (Jvm.Cond.selects "Coreplug$Way$2" ({ cls := "java/lang/Object", name := "getClass", desc := "()Ljava/lang/Class;" } : Jvm.MethodName) ({ cls := "java/lang/Object", name := "getClass", desc := "()Ljava/lang/Class;" } : Jvm.MethodName)) ∈ lw_all := lw_g (lw_at lw_m1 162 rfl) rfl
theorem q1241 : (Jvm.Cond.fieldLinkNest "Coreplug$Way$2" (13 : Nat) "Coreplug$Step" "stops" "Z" "Coreplug") ∈ lw_tbl := lw_at lw_m5 212 rfl
theorem q1305 : (Jvm.Cond.selects "Coreplug$Way$2" ({ cls := "Coreplug$Way", name := "has", desc := "(LCoreplug$Step;)Z" } : Jvm.MethodName) ({ cls := "Coreplug$Way$2", name := "has", desc := "(LCoreplug$Step;)Z" } : Jvm.MethodName)) ∈ lw_all := lw_g (lw_at lw_m6 36 rfl) rfl
theorem q1306 : (Jvm.Cond.instanceMethod ({ cls := "Coreplug$Way$2", name := "has", desc := "(LCoreplug$Step;)Z" } : Jvm.MethodName)) ∈ lw_all := lw_g (lw_at lw_m6 37 rfl) rfl
theorem q1307 : (Jvm.Cond.code ({ cls := "Coreplug$Way$2", name := "has", desc := "(LCoreplug$Step;)Z" } : Jvm.MethodName) prog_13_method_3_code (2 : Nat) (Option.some Jvm.ClassFile.FieldType.boolean)) ∈ lw_all := lw_g (lw_at lw_m6 38 rfl) rfl
theorem q1319 : (Jvm.Cond.selects "Coreplug$Way$2" ({ cls := "Coreplug$Way", name := "ordinal", desc := "()I" } : Jvm.MethodName) ({ cls := "java/lang/Enum", name := "ordinal", desc := "()I" } : Jvm.MethodName)) ∈ lw_all := lw_g (lw_at lw_m6 50 rfl) rfl
theorem q1571 : (Jvm.Cond.selects "Coreplug$Way$2" ({ cls := "Coreplug$Way", name := "back", desc := "()LCoreplug$Way;" } : Jvm.MethodName) ({ cls := "Coreplug$Way$2", name := "back", desc := "()LCoreplug$Way;" } : Jvm.MethodName)) ∈ lw_all := lw_g (lw_at lw_m7 62 rfl) rfl
theorem q1572 : (Jvm.Cond.instanceMethod ({ cls := "Coreplug$Way$2", name := "back", desc := "()LCoreplug$Way;" } : Jvm.MethodName)) ∈ lw_all := lw_g (lw_at lw_m7 63 rfl) rfl
theorem q1573 : (Jvm.Cond.code ({ cls := "Coreplug$Way$2", name := "back", desc := "()LCoreplug$Way;" } : Jvm.MethodName) prog_13_method_2_code (1 : Nat) (Option.some (Jvm.ClassFile.FieldType.object "Coreplug$Way"))) ∈ lw_all := lw_g (lw_at lw_m7 64 rfl) rfl
theorem q1574 : (Jvm.Cond.fieldLink "Coreplug$Way$2" (7 : Nat) "Coreplug$Way$2" "STARTING" "LCoreplug$Way;") ∈ lw_all := lw_g (lw_at lw_m7 65 rfl) rfl
theorem q1575 : (Jvm.Cond.sameField "Coreplug$Way$2" "Coreplug$Way" "STARTING" "LCoreplug$Way;") ∈ lw_all := lw_g (lw_at lw_m7 66 rfl) rfl
theorem q2082 : (Jvm.Cond.castable "Coreplug$Way$2" "java/lang/Object") ∈ lw_tbl := lw_at lw_m9 93 rfl
/-! Coreplug -/
set_option maxRecDepth 100000
def RX1 : String := "Coreplug"
def TX1 : u_T := fun k => match k with
  | 0 => ("Coreplug", "steps", "[LCoreplug$Step;", true)
  | 1 => ("Coreplug", "cores", "Ljava/util/List;", true)
  | 2 => ("Coreplug", "list", "[I", false)
  | 3 => ("Coreplug", "entries", "I", false)
  | 4 => ("Coreplug", "isUndoing", "Z", false)
  | 5 => ("Coreplug", "threads", "Ljava/util/List;", true)
  | 6 => ("Coreplug", "interrupts", "Ljava/util/List;", true)
  | _ => ("Coreplug", "timers", "Ljava/util/ArrayDeque;", true)
def tyX1 : Nat → FieldType := fun k => match k with
  | 0 => .array (.object "Coreplug$Step")
  | 1 => .object "java/util/List"
  | 2 => .array .int
  | 3 => .int
  | 4 => .boolean
  | 5 => .object "java/util/List"
  | 6 => .object "java/util/List"
  | _ => .object "java/util/ArrayDeque"
abbrev wsX10 : List Cond := u_ws RX1 TX1 8
theorem nmX1 : ∀ a, a < 8 → ∀ b, b < 8 → a ≠ b → (TX1 a).2.1 ≠ (TX1 b).2.1 := by decide +kernel
theorem tyX1_ok : ∀ k, k < 8 → parseFieldDescriptor (TX1 k).2.2.1 = some (tyX1 k) := by decide +kernel
abbrev cX1_init : ByteArray := prog_1_method_16_code
def yX1_init : MethodName := ⟨RX1, "<init>", "()V"⟩
def dkwX1_init_3 : List UInt8 := [183, 0, 227, 181, 0, 198, 42, 187, 0, 193, 89, 183, 0, 228, 181, 0, 188, 177]
abbrev dktX1_init_3 : List UInt8 := dkwX1_init_3 ++ []
def dkwX1_init_2 : List UInt8 := [185, 0, 221, 2, 0, 87, 42, 187, 0, 225, 89, 183, 0, 227, 181, 0, 157, 42, 187, 0, 225, 89]
abbrev dktX1_init_2 : List UInt8 := dkwX1_init_2 ++ dktX1_init_3
def dkwX1_init_1 : List UInt8 := [42, 16, 64, 188, 10, 181, 0, 52, 42, 180, 0, 1, 187, 0, 17, 89, 42, 3, 16, 20, 183, 0, 218]
abbrev dktX1_init_1 : List UInt8 := dkwX1_init_1 ++ dktX1_init_2
def dkwX1_init_0 : List UInt8 := [42, 183, 0, 212, 42, 16, 20, 189, 0, 38, 181, 0, 116, 42, 187, 0, 215, 89, 183, 0, 217, 181, 0, 1]
abbrev dktX1_init_0 : List UInt8 := dkwX1_init_0 ++ dktX1_init_1
theorem dksX1_init_0 : cX1_init.data.toList.drop 0 = dktX1_init_0 := by decide +kernel
theorem dksX1_init_1 : cX1_init.data.toList.drop 24 = dktX1_init_1 := dk_seg dksX1_init_0 24 rfl rfl
theorem dksX1_init_2 : cX1_init.data.toList.drop 47 = dktX1_init_2 := dk_seg dksX1_init_1 23 rfl rfl
theorem dksX1_init_3 : cX1_init.data.toList.drop 69 = dktX1_init_3 := dk_seg dksX1_init_2 22 rfl rfl
theorem dX1_init_0 : decode cX1_init 0 = .ok (.aload_n 0, 1) := dk_42 (dk_at dksX1_init_0 0 rfl rfl)
theorem dX1_init_1 : decode cX1_init 1 = .ok (.invokespecial 212, 3) := dk_183 0 212 (dk_at dksX1_init_0 1 rfl rfl)
theorem dX1_init_4 : decode cX1_init 4 = .ok (.aload_n 0, 1) := dk_42 (dk_at dksX1_init_0 4 rfl rfl)
theorem dX1_init_5 : decode cX1_init 5 = .ok (.bipush 20, 2) := dk_16 20 (dk_at dksX1_init_0 5 rfl rfl)
theorem dX1_init_7 : decode cX1_init 7 = .ok (.anewarray 38, 3) := dk_189 0 38 (dk_at dksX1_init_0 7 rfl rfl)
theorem dX1_init_10 : decode cX1_init 10 = .ok (.putfield 116, 3) := dk_181 0 116 (dk_at dksX1_init_0 10 rfl rfl)
theorem dX1_init_13 : decode cX1_init 13 = .ok (.aload_n 0, 1) := dk_42 (dk_at dksX1_init_0 13 rfl rfl)
theorem dX1_init_14 : decode cX1_init 14 = .ok (.new 215, 3) := dk_187 0 215 (dk_at dksX1_init_0 14 rfl rfl)
theorem dX1_init_17 : decode cX1_init 17 = .ok (.dup, 1) := dk_89 (dk_at dksX1_init_0 17 rfl rfl)
theorem dX1_init_18 : decode cX1_init 18 = .ok (.invokespecial 217, 3) := dk_183 0 217 (dk_at dksX1_init_0 18 rfl rfl)
theorem dX1_init_21 : decode cX1_init 21 = .ok (.putfield 1, 3) := dk_181 0 1 (dk_at dksX1_init_0 21 rfl rfl)
theorem dX1_init_24 : decode cX1_init 24 = .ok (.aload_n 0, 1) := dk_42 (dk_at dksX1_init_1 0 rfl rfl)
theorem dX1_init_25 : decode cX1_init 25 = .ok (.bipush 64, 2) := dk_16 64 (dk_at dksX1_init_1 1 rfl rfl)
theorem dX1_init_27 : decode cX1_init 27 = .ok (.newarray .int, 2) := dk_188_10 (dk_at dksX1_init_1 3 rfl rfl)
theorem dX1_init_29 : decode cX1_init 29 = .ok (.putfield 52, 3) := dk_181 0 52 (dk_at dksX1_init_1 5 rfl rfl)
theorem dX1_init_32 : decode cX1_init 32 = .ok (.aload_n 0, 1) := dk_42 (dk_at dksX1_init_1 8 rfl rfl)
theorem dX1_init_33 : decode cX1_init 33 = .ok (.getfield 1, 3) := dk_180 0 1 (dk_at dksX1_init_1 9 rfl rfl)
theorem dX1_init_36 : decode cX1_init 36 = .ok (.new 17, 3) := dk_187 0 17 (dk_at dksX1_init_1 12 rfl rfl)
theorem dX1_init_39 : decode cX1_init 39 = .ok (.dup, 1) := dk_89 (dk_at dksX1_init_1 15 rfl rfl)
theorem dX1_init_40 : decode cX1_init 40 = .ok (.aload_n 0, 1) := dk_42 (dk_at dksX1_init_1 16 rfl rfl)
theorem dX1_init_41 : decode cX1_init 41 = .ok (.iconst 0, 1) := dk_3 (dk_at dksX1_init_1 17 rfl rfl)
theorem dX1_init_42 : decode cX1_init 42 = .ok (.bipush 20, 2) := dk_16 20 (dk_at dksX1_init_1 18 rfl rfl)
theorem dX1_init_44 : decode cX1_init 44 = .ok (.invokespecial 218, 3) := dk_183 0 218 (dk_at dksX1_init_1 20 rfl rfl)
theorem dX1_init_47 : decode cX1_init 47 = .ok (.invokeinterface 221 2, 5) := by decide +kernel
theorem dX1_init_52 : decode cX1_init 52 = .ok (.pop, 1) := dk_87 (dk_at dksX1_init_2 5 rfl rfl)
theorem dX1_init_53 : decode cX1_init 53 = .ok (.aload_n 0, 1) := dk_42 (dk_at dksX1_init_2 6 rfl rfl)
theorem dX1_init_54 : decode cX1_init 54 = .ok (.new 225, 3) := dk_187 0 225 (dk_at dksX1_init_2 7 rfl rfl)
theorem dX1_init_57 : decode cX1_init 57 = .ok (.dup, 1) := dk_89 (dk_at dksX1_init_2 10 rfl rfl)
theorem dX1_init_58 : decode cX1_init 58 = .ok (.invokespecial 227, 3) := dk_183 0 227 (dk_at dksX1_init_2 11 rfl rfl)
theorem dX1_init_61 : decode cX1_init 61 = .ok (.putfield 157, 3) := dk_181 0 157 (dk_at dksX1_init_2 14 rfl rfl)
theorem dX1_init_64 : decode cX1_init 64 = .ok (.aload_n 0, 1) := dk_42 (dk_at dksX1_init_2 17 rfl rfl)
theorem dX1_init_65 : decode cX1_init 65 = .ok (.new 225, 3) := dk_187 0 225 (dk_at dksX1_init_2 18 rfl rfl)
theorem dX1_init_68 : decode cX1_init 68 = .ok (.dup, 1) := dk_89 (dk_at dksX1_init_2 21 rfl rfl)
theorem dX1_init_69 : decode cX1_init 69 = .ok (.invokespecial 227, 3) := dk_183 0 227 (dk_at dksX1_init_3 0 rfl rfl)
theorem dX1_init_72 : decode cX1_init 72 = .ok (.putfield 198, 3) := dk_181 0 198 (dk_at dksX1_init_3 3 rfl rfl)
theorem dX1_init_75 : decode cX1_init 75 = .ok (.aload_n 0, 1) := dk_42 (dk_at dksX1_init_3 6 rfl rfl)
theorem dX1_init_76 : decode cX1_init 76 = .ok (.new 193, 3) := dk_187 0 193 (dk_at dksX1_init_3 7 rfl rfl)
theorem dX1_init_79 : decode cX1_init 79 = .ok (.dup, 1) := dk_89 (dk_at dksX1_init_3 10 rfl rfl)
theorem dX1_init_80 : decode cX1_init 80 = .ok (.invokespecial 228, 3) := dk_183 0 228 (dk_at dksX1_init_3 11 rfl rfl)
theorem dX1_init_83 : decode cX1_init 83 = .ok (.putfield 188, 3) := dk_181 0 188 (dk_at dksX1_init_3 14 rfl rfl)
theorem dX1_init_86 : decode cX1_init 86 = .ok (.return_, 1) := dk_177 (dk_at dksX1_init_3 17 rfl rfl)
abbrev cX1_clear : ByteArray := prog_1_method_21_code
def yX1_clear : MethodName := ⟨RX1, "clear", "()I"⟩
def dkwX1_clear_3 : List UInt8 := [180, 0, 198, 185, 0, 239, 1, 0, 42, 180, 0, 188, 182, 0, 242, 27, 172]
abbrev dktX1_clear_3 : List UInt8 := dkwX1_clear_3 ++ []
def dkwX1_clear_2 : List UInt8 := [1, 83, 132, 2, 1, 167, 255, 240, 42, 3, 181, 0, 49, 42, 180, 0, 157, 185, 0, 239, 1, 0, 42]
abbrev dktX1_clear_2 : List UInt8 := dkwX1_clear_2 ++ dktX1_clear_3
def dkwX1_clear_1 : List UInt8 := [16, 20, 183, 0, 218, 185, 0, 221, 2, 0, 87, 3, 61, 28, 16, 20, 162, 0, 16, 42, 180, 0, 116, 28]
abbrev dktX1_clear_1 : List UInt8 := dkwX1_clear_1 ++ dktX1_clear_2
def dkwX1_clear_0 : List UInt8 := [42, 180, 0, 49, 60, 42, 180, 0, 1, 185, 0, 239, 1, 0, 42, 180, 0, 1, 187, 0, 17, 89, 42, 3]
abbrev dktX1_clear_0 : List UInt8 := dkwX1_clear_0 ++ dktX1_clear_1
theorem dksX1_clear_0 : cX1_clear.data.toList.drop 0 = dktX1_clear_0 := by decide +kernel
theorem dksX1_clear_1 : cX1_clear.data.toList.drop 24 = dktX1_clear_1 := dk_seg dksX1_clear_0 24 rfl rfl
theorem dksX1_clear_2 : cX1_clear.data.toList.drop 48 = dktX1_clear_2 := dk_seg dksX1_clear_1 24 rfl rfl
theorem dksX1_clear_3 : cX1_clear.data.toList.drop 71 = dktX1_clear_3 := dk_seg dksX1_clear_2 23 rfl rfl
theorem dX1_clear_0 : decode cX1_clear 0 = .ok (.aload_n 0, 1) := dk_42 (dk_at dksX1_clear_0 0 rfl rfl)
theorem dX1_clear_1 : decode cX1_clear 1 = .ok (.getfield 49, 3) := dk_180 0 49 (dk_at dksX1_clear_0 1 rfl rfl)
theorem dX1_clear_4 : decode cX1_clear 4 = .ok (.istore_n 1, 1) := dk_60 (dk_at dksX1_clear_0 4 rfl rfl)
theorem dX1_clear_5 : decode cX1_clear 5 = .ok (.aload_n 0, 1) := dk_42 (dk_at dksX1_clear_0 5 rfl rfl)
theorem dX1_clear_6 : decode cX1_clear 6 = .ok (.getfield 1, 3) := dk_180 0 1 (dk_at dksX1_clear_0 6 rfl rfl)
theorem dX1_clear_9 : decode cX1_clear 9 = .ok (.invokeinterface 239 1, 5) := by decide +kernel
theorem dX1_clear_14 : decode cX1_clear 14 = .ok (.aload_n 0, 1) := dk_42 (dk_at dksX1_clear_0 14 rfl rfl)
theorem dX1_clear_15 : decode cX1_clear 15 = .ok (.getfield 1, 3) := dk_180 0 1 (dk_at dksX1_clear_0 15 rfl rfl)
theorem dX1_clear_18 : decode cX1_clear 18 = .ok (.new 17, 3) := dk_187 0 17 (dk_at dksX1_clear_0 18 rfl rfl)
theorem dX1_clear_21 : decode cX1_clear 21 = .ok (.dup, 1) := dk_89 (dk_at dksX1_clear_0 21 rfl rfl)
theorem dX1_clear_22 : decode cX1_clear 22 = .ok (.aload_n 0, 1) := dk_42 (dk_at dksX1_clear_0 22 rfl rfl)
theorem dX1_clear_23 : decode cX1_clear 23 = .ok (.iconst 0, 1) := dk_3 (dk_at dksX1_clear_0 23 rfl rfl)
theorem dX1_clear_24 : decode cX1_clear 24 = .ok (.bipush 20, 2) := dk_16 20 (dk_at dksX1_clear_1 0 rfl rfl)
theorem dX1_clear_26 : decode cX1_clear 26 = .ok (.invokespecial 218, 3) := dk_183 0 218 (dk_at dksX1_clear_1 2 rfl rfl)
theorem dX1_clear_29 : decode cX1_clear 29 = .ok (.invokeinterface 221 2, 5) := by decide +kernel
theorem dX1_clear_34 : decode cX1_clear 34 = .ok (.pop, 1) := dk_87 (dk_at dksX1_clear_1 10 rfl rfl)
theorem dX1_clear_35 : decode cX1_clear 35 = .ok (.iconst 0, 1) := dk_3 (dk_at dksX1_clear_1 11 rfl rfl)
theorem dX1_clear_36 : decode cX1_clear 36 = .ok (.istore_n 2, 1) := dk_61 (dk_at dksX1_clear_1 12 rfl rfl)
theorem dX1_clear_37 : decode cX1_clear 37 = .ok (.iload_n 2, 1) := dk_28 (dk_at dksX1_clear_1 13 rfl rfl)
theorem dX1_clear_38 : decode cX1_clear 38 = .ok (.bipush 20, 2) := dk_16 20 (dk_at dksX1_clear_1 14 rfl rfl)
theorem dX1_clear_40 : decode cX1_clear 40 = .ok (.if_icmp .ge 16, 3) := dk_162 0 16 (dk_at dksX1_clear_1 16 rfl rfl)
theorem dX1_clear_43 : decode cX1_clear 43 = .ok (.aload_n 0, 1) := dk_42 (dk_at dksX1_clear_1 19 rfl rfl)
theorem dX1_clear_44 : decode cX1_clear 44 = .ok (.getfield 116, 3) := dk_180 0 116 (dk_at dksX1_clear_1 20 rfl rfl)
theorem dX1_clear_47 : decode cX1_clear 47 = .ok (.iload_n 2, 1) := dk_28 (dk_at dksX1_clear_1 23 rfl rfl)
theorem dX1_clear_48 : decode cX1_clear 48 = .ok (.aconst_null, 1) := dk_1 (dk_at dksX1_clear_2 0 rfl rfl)
theorem dX1_clear_49 : decode cX1_clear 49 = .ok (.aastore, 1) := dk_83 (dk_at dksX1_clear_2 1 rfl rfl)
theorem dX1_clear_50 : decode cX1_clear 50 = .ok (.iinc 2 1, 3) := dk_132 2 1 (dk_at dksX1_clear_2 2 rfl rfl)
theorem dX1_clear_53 : decode cX1_clear 53 = .ok (.goto (-16), 3) := dk_167 255 240 (dk_at dksX1_clear_2 5 rfl rfl)
theorem dX1_clear_56 : decode cX1_clear 56 = .ok (.aload_n 0, 1) := dk_42 (dk_at dksX1_clear_2 8 rfl rfl)
theorem dX1_clear_57 : decode cX1_clear 57 = .ok (.iconst 0, 1) := dk_3 (dk_at dksX1_clear_2 9 rfl rfl)
theorem dX1_clear_58 : decode cX1_clear 58 = .ok (.putfield 49, 3) := dk_181 0 49 (dk_at dksX1_clear_2 10 rfl rfl)
theorem dX1_clear_61 : decode cX1_clear 61 = .ok (.aload_n 0, 1) := dk_42 (dk_at dksX1_clear_2 13 rfl rfl)
theorem dX1_clear_62 : decode cX1_clear 62 = .ok (.getfield 157, 3) := dk_180 0 157 (dk_at dksX1_clear_2 14 rfl rfl)
theorem dX1_clear_65 : decode cX1_clear 65 = .ok (.invokeinterface 239 1, 5) := by decide +kernel
theorem dX1_clear_70 : decode cX1_clear 70 = .ok (.aload_n 0, 1) := dk_42 (dk_at dksX1_clear_2 22 rfl rfl)
theorem dX1_clear_71 : decode cX1_clear 71 = .ok (.getfield 198, 3) := dk_180 0 198 (dk_at dksX1_clear_3 0 rfl rfl)
theorem dX1_clear_74 : decode cX1_clear 74 = .ok (.invokeinterface 239 1, 5) := by decide +kernel
theorem dX1_clear_79 : decode cX1_clear 79 = .ok (.aload_n 0, 1) := dk_42 (dk_at dksX1_clear_3 8 rfl rfl)
theorem dX1_clear_80 : decode cX1_clear 80 = .ok (.getfield 188, 3) := dk_180 0 188 (dk_at dksX1_clear_3 9 rfl rfl)
theorem dX1_clear_83 : decode cX1_clear 83 = .ok (.invokevirtual 242, 3) := dk_182 0 242 (dk_at dksX1_clear_3 12 rfl rfl)
theorem dX1_clear_86 : decode cX1_clear 86 = .ok (.iload_n 1, 1) := dk_27 (dk_at dksX1_clear_3 15 rfl rfl)
theorem dX1_clear_87 : decode cX1_clear 87 = .ok (.ireturn, 1) := dk_172 (dk_at dksX1_clear_3 16 rfl rfl)
abbrev cX1_cores : ByteArray := prog_1_method_36_code
def yX1_cores : MethodName := ⟨RX1, "cores", "()I"⟩
def dkwX1_cores_0 : List UInt8 := [42, 180, 0, 1, 185, 0, 7, 1, 0, 172]
abbrev dktX1_cores_0 : List UInt8 := dkwX1_cores_0 ++ []
theorem dksX1_cores_0 : cX1_cores.data.toList.drop 0 = dktX1_cores_0 := by decide +kernel
theorem dX1_cores_0 : decode cX1_cores 0 = .ok (.aload_n 0, 1) := dk_42 (dk_at dksX1_cores_0 0 rfl rfl)
theorem dX1_cores_1 : decode cX1_cores 1 = .ok (.getfield 1, 3) := dk_180 0 1 (dk_at dksX1_cores_0 1 rfl rfl)
theorem dX1_cores_4 : decode cX1_cores 4 = .ok (.invokeinterface 7 1, 5) := by decide +kernel
theorem dX1_cores_9 : decode cX1_cores 9 = .ok (.ireturn, 1) := dk_172 (dk_at dksX1_cores_0 9 rfl rfl)
abbrev cX1_upCores : ByteArray := prog_1_method_38_code
def yX1_upCores : MethodName := ⟨RX1, "upCores", "()I"⟩
theorem dX1_upCores_0 : decode cX1_upCores 0 = .ok (.aload_n 0, 1) := by decide +kernel
theorem dX1_upCores_1 : decode cX1_upCores 1 = .ok (.invokevirtual 131, 3) := by decide +kernel
theorem dX1_upCores_4 : decode cX1_upCores 4 = .ok (.ireturn, 1) := by decide +kernel
abbrev cX1_upSet : ByteArray := prog_1_method_2_code
def yX1_upSet : MethodName := ⟨RX1, "upSet", "()I"⟩
def dkwX1_upSet_2 : List UInt8 := [132, 2, 1, 167, 255, 211, 27, 172]
abbrev dktX1_upSet_2 : List UInt8 := dkwX1_upSet_2 ++ []
def dkwX1_upSet_1 : List UInt8 := [185, 0, 13, 2, 0, 192, 0, 17, 182, 0, 19, 153, 0, 9, 4, 28, 120, 167, 0, 4, 3, 128, 60]
abbrev dktX1_upSet_1 : List UInt8 := dkwX1_upSet_1 ++ dktX1_upSet_2
def dkwX1_upSet_0 : List UInt8 := [3, 60, 3, 61, 28, 42, 180, 0, 1, 185, 0, 7, 1, 0, 162, 0, 38, 27, 42, 180, 0, 1, 28]
abbrev dktX1_upSet_0 : List UInt8 := dkwX1_upSet_0 ++ dktX1_upSet_1
theorem dksX1_upSet_0 : cX1_upSet.data.toList.drop 0 = dktX1_upSet_0 := by decide +kernel
theorem dksX1_upSet_1 : cX1_upSet.data.toList.drop 23 = dktX1_upSet_1 := dk_seg dksX1_upSet_0 23 rfl rfl
theorem dksX1_upSet_2 : cX1_upSet.data.toList.drop 46 = dktX1_upSet_2 := dk_seg dksX1_upSet_1 23 rfl rfl
theorem dX1_upSet_0 : decode cX1_upSet 0 = .ok (.iconst 0, 1) := dk_3 (dk_at dksX1_upSet_0 0 rfl rfl)
theorem dX1_upSet_1 : decode cX1_upSet 1 = .ok (.istore_n 1, 1) := dk_60 (dk_at dksX1_upSet_0 1 rfl rfl)
theorem dX1_upSet_2 : decode cX1_upSet 2 = .ok (.iconst 0, 1) := dk_3 (dk_at dksX1_upSet_0 2 rfl rfl)
theorem dX1_upSet_3 : decode cX1_upSet 3 = .ok (.istore_n 2, 1) := dk_61 (dk_at dksX1_upSet_0 3 rfl rfl)
theorem dX1_upSet_4 : decode cX1_upSet 4 = .ok (.iload_n 2, 1) := dk_28 (dk_at dksX1_upSet_0 4 rfl rfl)
theorem dX1_upSet_5 : decode cX1_upSet 5 = .ok (.aload_n 0, 1) := dk_42 (dk_at dksX1_upSet_0 5 rfl rfl)
theorem dX1_upSet_6 : decode cX1_upSet 6 = .ok (.getfield 1, 3) := dk_180 0 1 (dk_at dksX1_upSet_0 6 rfl rfl)
theorem dX1_upSet_9 : decode cX1_upSet 9 = .ok (.invokeinterface 7 1, 5) := by decide +kernel
theorem dX1_upSet_14 : decode cX1_upSet 14 = .ok (.if_icmp .ge 38, 3) := dk_162 0 38 (dk_at dksX1_upSet_0 14 rfl rfl)
theorem dX1_upSet_17 : decode cX1_upSet 17 = .ok (.iload_n 1, 1) := dk_27 (dk_at dksX1_upSet_0 17 rfl rfl)
theorem dX1_upSet_18 : decode cX1_upSet 18 = .ok (.aload_n 0, 1) := dk_42 (dk_at dksX1_upSet_0 18 rfl rfl)
theorem dX1_upSet_19 : decode cX1_upSet 19 = .ok (.getfield 1, 3) := dk_180 0 1 (dk_at dksX1_upSet_0 19 rfl rfl)
theorem dX1_upSet_22 : decode cX1_upSet 22 = .ok (.iload_n 2, 1) := dk_28 (dk_at dksX1_upSet_0 22 rfl rfl)
theorem dX1_upSet_23 : decode cX1_upSet 23 = .ok (.invokeinterface 13 2, 5) := by decide +kernel
theorem dX1_upSet_28 : decode cX1_upSet 28 = .ok (.checkcast 17, 3) := dk_192 0 17 (dk_at dksX1_upSet_1 5 rfl rfl)
theorem dX1_upSet_31 : decode cX1_upSet 31 = .ok (.invokevirtual 19, 3) := dk_182 0 19 (dk_at dksX1_upSet_1 8 rfl rfl)
theorem dX1_upSet_34 : decode cX1_upSet 34 = .ok (.ifCond .eq 9, 3) := dk_153 0 9 (dk_at dksX1_upSet_1 11 rfl rfl)
theorem dX1_upSet_37 : decode cX1_upSet 37 = .ok (.iconst 1, 1) := dk_4 (dk_at dksX1_upSet_1 14 rfl rfl)
theorem dX1_upSet_38 : decode cX1_upSet 38 = .ok (.iload_n 2, 1) := dk_28 (dk_at dksX1_upSet_1 15 rfl rfl)
theorem dX1_upSet_39 : decode cX1_upSet 39 = .ok (.ishl, 1) := dk_120 (dk_at dksX1_upSet_1 16 rfl rfl)
theorem dX1_upSet_40 : decode cX1_upSet 40 = .ok (.goto 4, 3) := dk_167 0 4 (dk_at dksX1_upSet_1 17 rfl rfl)
theorem dX1_upSet_43 : decode cX1_upSet 43 = .ok (.iconst 0, 1) := dk_3 (dk_at dksX1_upSet_1 20 rfl rfl)
theorem dX1_upSet_44 : decode cX1_upSet 44 = .ok (.ior, 1) := dk_128 (dk_at dksX1_upSet_1 21 rfl rfl)
theorem dX1_upSet_45 : decode cX1_upSet 45 = .ok (.istore_n 1, 1) := dk_60 (dk_at dksX1_upSet_1 22 rfl rfl)
theorem dX1_upSet_46 : decode cX1_upSet 46 = .ok (.iinc 2 1, 3) := dk_132 2 1 (dk_at dksX1_upSet_2 0 rfl rfl)
theorem dX1_upSet_49 : decode cX1_upSet 49 = .ok (.goto (-45), 3) := dk_167 255 211 (dk_at dksX1_upSet_2 3 rfl rfl)
theorem dX1_upSet_52 : decode cX1_upSet 52 = .ok (.iload_n 1, 1) := dk_27 (dk_at dksX1_upSet_2 6 rfl rfl)
theorem dX1_upSet_53 : decode cX1_upSet 53 = .ok (.ireturn, 1) := dk_172 (dk_at dksX1_upSet_2 7 rfl rfl)
abbrev cX1_entries : ByteArray := prog_1_method_45_code
def yX1_entries : MethodName := ⟨RX1, "entries", "()I"⟩
theorem dX1_entries_0 : decode cX1_entries 0 = .ok (.aload_n 0, 1) := by decide +kernel
theorem dX1_entries_1 : decode cX1_entries 1 = .ok (.getfield 49, 3) := by decide +kernel
theorem dX1_entries_4 : decode cX1_entries 4 = .ok (.ireturn, 1) := by decide +kernel
abbrev cX1_meanLoad : ByteArray := prog_1_method_47_code
def yX1_meanLoad : MethodName := ⟨RX1, "meanLoad", "()D"⟩
def dkwX1_meanLoad_2 : List UInt8 := [60, 167, 255, 221, 27, 135, 42, 182, 0, 131, 184, 1, 69, 135, 111, 175]
abbrev dktX1_meanLoad_2 : List UInt8 := dkwX1_meanLoad_2 ++ []
def dkwX1_meanLoad_1 : List UInt8 := [185, 0, 93, 1, 0, 192, 0, 164, 78, 27, 45, 180, 0, 166, 2, 160, 0, 7, 3, 167, 0, 4, 4, 96]
abbrev dktX1_meanLoad_1 : List UInt8 := dkwX1_meanLoad_1 ++ dktX1_meanLoad_2
def dkwX1_meanLoad_0 : List UInt8 := [3, 60, 42, 180, 0, 157, 185, 0, 160, 1, 0, 77, 44, 185, 0, 88, 1, 0, 153, 0, 32, 44]
abbrev dktX1_meanLoad_0 : List UInt8 := dkwX1_meanLoad_0 ++ dktX1_meanLoad_1
theorem dksX1_meanLoad_0 : cX1_meanLoad.data.toList.drop 0 = dktX1_meanLoad_0 := by decide +kernel
theorem dksX1_meanLoad_1 : cX1_meanLoad.data.toList.drop 22 = dktX1_meanLoad_1 := dk_seg dksX1_meanLoad_0 22 rfl rfl
theorem dksX1_meanLoad_2 : cX1_meanLoad.data.toList.drop 46 = dktX1_meanLoad_2 := dk_seg dksX1_meanLoad_1 24 rfl rfl
theorem dX1_meanLoad_0 : decode cX1_meanLoad 0 = .ok (.iconst 0, 1) := dk_3 (dk_at dksX1_meanLoad_0 0 rfl rfl)
theorem dX1_meanLoad_1 : decode cX1_meanLoad 1 = .ok (.istore_n 1, 1) := dk_60 (dk_at dksX1_meanLoad_0 1 rfl rfl)
theorem dX1_meanLoad_2 : decode cX1_meanLoad 2 = .ok (.aload_n 0, 1) := dk_42 (dk_at dksX1_meanLoad_0 2 rfl rfl)
theorem dX1_meanLoad_3 : decode cX1_meanLoad 3 = .ok (.getfield 157, 3) := dk_180 0 157 (dk_at dksX1_meanLoad_0 3 rfl rfl)
theorem dX1_meanLoad_6 : decode cX1_meanLoad 6 = .ok (.invokeinterface 160 1, 5) := by decide +kernel
theorem dX1_meanLoad_11 : decode cX1_meanLoad 11 = .ok (.astore_n 2, 1) := dk_77 (dk_at dksX1_meanLoad_0 11 rfl rfl)
theorem dX1_meanLoad_12 : decode cX1_meanLoad 12 = .ok (.aload_n 2, 1) := dk_44 (dk_at dksX1_meanLoad_0 12 rfl rfl)
theorem dX1_meanLoad_13 : decode cX1_meanLoad 13 = .ok (.invokeinterface 88 1, 5) := by decide +kernel
theorem dX1_meanLoad_18 : decode cX1_meanLoad 18 = .ok (.ifCond .eq 32, 3) := dk_153 0 32 (dk_at dksX1_meanLoad_0 18 rfl rfl)
theorem dX1_meanLoad_21 : decode cX1_meanLoad 21 = .ok (.aload_n 2, 1) := dk_44 (dk_at dksX1_meanLoad_0 21 rfl rfl)
theorem dX1_meanLoad_22 : decode cX1_meanLoad 22 = .ok (.invokeinterface 93 1, 5) := by decide +kernel
theorem dX1_meanLoad_27 : decode cX1_meanLoad 27 = .ok (.checkcast 164, 3) := dk_192 0 164 (dk_at dksX1_meanLoad_1 5 rfl rfl)
theorem dX1_meanLoad_30 : decode cX1_meanLoad 30 = .ok (.astore_n 3, 1) := dk_78 (dk_at dksX1_meanLoad_1 8 rfl rfl)
theorem dX1_meanLoad_31 : decode cX1_meanLoad 31 = .ok (.iload_n 1, 1) := dk_27 (dk_at dksX1_meanLoad_1 9 rfl rfl)
theorem dX1_meanLoad_32 : decode cX1_meanLoad 32 = .ok (.aload_n 3, 1) := dk_45 (dk_at dksX1_meanLoad_1 10 rfl rfl)
theorem dX1_meanLoad_33 : decode cX1_meanLoad 33 = .ok (.getfield 166, 3) := dk_180 0 166 (dk_at dksX1_meanLoad_1 11 rfl rfl)
theorem dX1_meanLoad_36 : decode cX1_meanLoad 36 = .ok (.iconst (-1), 1) := dk_2 (dk_at dksX1_meanLoad_1 14 rfl rfl)
theorem dX1_meanLoad_37 : decode cX1_meanLoad 37 = .ok (.if_icmp .ne 7, 3) := dk_160 0 7 (dk_at dksX1_meanLoad_1 15 rfl rfl)
theorem dX1_meanLoad_40 : decode cX1_meanLoad 40 = .ok (.iconst 0, 1) := dk_3 (dk_at dksX1_meanLoad_1 18 rfl rfl)
theorem dX1_meanLoad_41 : decode cX1_meanLoad 41 = .ok (.goto 4, 3) := dk_167 0 4 (dk_at dksX1_meanLoad_1 19 rfl rfl)
theorem dX1_meanLoad_44 : decode cX1_meanLoad 44 = .ok (.iconst 1, 1) := dk_4 (dk_at dksX1_meanLoad_1 22 rfl rfl)
theorem dX1_meanLoad_45 : decode cX1_meanLoad 45 = .ok (.iadd, 1) := dk_96 (dk_at dksX1_meanLoad_1 23 rfl rfl)
theorem dX1_meanLoad_46 : decode cX1_meanLoad 46 = .ok (.istore_n 1, 1) := dk_60 (dk_at dksX1_meanLoad_2 0 rfl rfl)
theorem dX1_meanLoad_47 : decode cX1_meanLoad 47 = .ok (.goto (-35), 3) := dk_167 255 221 (dk_at dksX1_meanLoad_2 1 rfl rfl)
theorem dX1_meanLoad_50 : decode cX1_meanLoad 50 = .ok (.iload_n 1, 1) := dk_27 (dk_at dksX1_meanLoad_2 4 rfl rfl)
theorem dX1_meanLoad_51 : decode cX1_meanLoad 51 = .ok (.i2d, 1) := dk_135 (dk_at dksX1_meanLoad_2 5 rfl rfl)
theorem dX1_meanLoad_52 : decode cX1_meanLoad 52 = .ok (.aload_n 0, 1) := dk_42 (dk_at dksX1_meanLoad_2 6 rfl rfl)
theorem dX1_meanLoad_53 : decode cX1_meanLoad 53 = .ok (.invokevirtual 131, 3) := dk_182 0 131 (dk_at dksX1_meanLoad_2 7 rfl rfl)
theorem dX1_meanLoad_56 : decode cX1_meanLoad 56 = .ok (.invokestatic 325, 3) := dk_184 1 69 (dk_at dksX1_meanLoad_2 10 rfl rfl)
theorem dX1_meanLoad_59 : decode cX1_meanLoad 59 = .ok (.i2d, 1) := dk_135 (dk_at dksX1_meanLoad_2 13 rfl rfl)
theorem dX1_meanLoad_60 : decode cX1_meanLoad 60 = .ok (.ddiv, 1) := dk_111 (dk_at dksX1_meanLoad_2 14 rfl rfl)
theorem dX1_meanLoad_61 : decode cX1_meanLoad 61 = .ok (.dreturn, 1) := dk_175 (dk_at dksX1_meanLoad_2 15 rfl rfl)
abbrev cX1_failed : ByteArray := prog_1_method_48_code
def yX1_failed : MethodName := ⟨RX1, "failed", "()F"⟩
def dkwX1_failed_2 : List UInt8 := [110, 174]
abbrev dktX1_failed_2 : List UInt8 := dkwX1_failed_2 ++ []
def dkwX1_failed_1 : List UInt8 := [132, 2, 1, 167, 255, 234, 42, 180, 0, 49, 154, 0, 7, 11, 167, 0, 11, 27, 134, 42, 180, 0, 49, 134]
abbrev dktX1_failed_1 : List UInt8 := dkwX1_failed_1 ++ dktX1_failed_2
def dkwX1_failed_0 : List UInt8 := [3, 60, 3, 61, 28, 42, 180, 0, 49, 162, 0, 20, 27, 42, 180, 0, 52, 28, 46, 4, 126, 96, 60]
abbrev dktX1_failed_0 : List UInt8 := dkwX1_failed_0 ++ dktX1_failed_1
theorem dksX1_failed_0 : cX1_failed.data.toList.drop 0 = dktX1_failed_0 := by decide +kernel
theorem dksX1_failed_1 : cX1_failed.data.toList.drop 23 = dktX1_failed_1 := dk_seg dksX1_failed_0 23 rfl rfl
theorem dksX1_failed_2 : cX1_failed.data.toList.drop 47 = dktX1_failed_2 := dk_seg dksX1_failed_1 24 rfl rfl
theorem dX1_failed_0 : decode cX1_failed 0 = .ok (.iconst 0, 1) := dk_3 (dk_at dksX1_failed_0 0 rfl rfl)
theorem dX1_failed_1 : decode cX1_failed 1 = .ok (.istore_n 1, 1) := dk_60 (dk_at dksX1_failed_0 1 rfl rfl)
theorem dX1_failed_2 : decode cX1_failed 2 = .ok (.iconst 0, 1) := dk_3 (dk_at dksX1_failed_0 2 rfl rfl)
theorem dX1_failed_3 : decode cX1_failed 3 = .ok (.istore_n 2, 1) := dk_61 (dk_at dksX1_failed_0 3 rfl rfl)
theorem dX1_failed_4 : decode cX1_failed 4 = .ok (.iload_n 2, 1) := dk_28 (dk_at dksX1_failed_0 4 rfl rfl)
theorem dX1_failed_5 : decode cX1_failed 5 = .ok (.aload_n 0, 1) := dk_42 (dk_at dksX1_failed_0 5 rfl rfl)
theorem dX1_failed_6 : decode cX1_failed 6 = .ok (.getfield 49, 3) := dk_180 0 49 (dk_at dksX1_failed_0 6 rfl rfl)
theorem dX1_failed_9 : decode cX1_failed 9 = .ok (.if_icmp .ge 20, 3) := dk_162 0 20 (dk_at dksX1_failed_0 9 rfl rfl)
theorem dX1_failed_12 : decode cX1_failed 12 = .ok (.iload_n 1, 1) := dk_27 (dk_at dksX1_failed_0 12 rfl rfl)
theorem dX1_failed_13 : decode cX1_failed 13 = .ok (.aload_n 0, 1) := dk_42 (dk_at dksX1_failed_0 13 rfl rfl)
theorem dX1_failed_14 : decode cX1_failed 14 = .ok (.getfield 52, 3) := dk_180 0 52 (dk_at dksX1_failed_0 14 rfl rfl)
theorem dX1_failed_17 : decode cX1_failed 17 = .ok (.iload_n 2, 1) := dk_28 (dk_at dksX1_failed_0 17 rfl rfl)
theorem dX1_failed_18 : decode cX1_failed 18 = .ok (.iaload, 1) := dk_46 (dk_at dksX1_failed_0 18 rfl rfl)
theorem dX1_failed_19 : decode cX1_failed 19 = .ok (.iconst 1, 1) := dk_4 (dk_at dksX1_failed_0 19 rfl rfl)
theorem dX1_failed_20 : decode cX1_failed 20 = .ok (.iand, 1) := dk_126 (dk_at dksX1_failed_0 20 rfl rfl)
theorem dX1_failed_21 : decode cX1_failed 21 = .ok (.iadd, 1) := dk_96 (dk_at dksX1_failed_0 21 rfl rfl)
theorem dX1_failed_22 : decode cX1_failed 22 = .ok (.istore_n 1, 1) := dk_60 (dk_at dksX1_failed_0 22 rfl rfl)
theorem dX1_failed_23 : decode cX1_failed 23 = .ok (.iinc 2 1, 3) := dk_132 2 1 (dk_at dksX1_failed_1 0 rfl rfl)
theorem dX1_failed_26 : decode cX1_failed 26 = .ok (.goto (-22), 3) := dk_167 255 234 (dk_at dksX1_failed_1 3 rfl rfl)
theorem dX1_failed_29 : decode cX1_failed 29 = .ok (.aload_n 0, 1) := dk_42 (dk_at dksX1_failed_1 6 rfl rfl)
theorem dX1_failed_30 : decode cX1_failed 30 = .ok (.getfield 49, 3) := dk_180 0 49 (dk_at dksX1_failed_1 7 rfl rfl)
theorem dX1_failed_33 : decode cX1_failed 33 = .ok (.ifCond .ne 7, 3) := dk_154 0 7 (dk_at dksX1_failed_1 10 rfl rfl)
theorem dX1_failed_36 : decode cX1_failed 36 = .ok (.fconst 0, 1) := dk_11 (dk_at dksX1_failed_1 13 rfl rfl)
theorem dX1_failed_37 : decode cX1_failed 37 = .ok (.goto 11, 3) := dk_167 0 11 (dk_at dksX1_failed_1 14 rfl rfl)
theorem dX1_failed_40 : decode cX1_failed 40 = .ok (.iload_n 1, 1) := dk_27 (dk_at dksX1_failed_1 17 rfl rfl)
theorem dX1_failed_41 : decode cX1_failed 41 = .ok (.i2f, 1) := dk_134 (dk_at dksX1_failed_1 18 rfl rfl)
theorem dX1_failed_42 : decode cX1_failed 42 = .ok (.aload_n 0, 1) := dk_42 (dk_at dksX1_failed_1 19 rfl rfl)
theorem dX1_failed_43 : decode cX1_failed 43 = .ok (.getfield 49, 3) := dk_180 0 49 (dk_at dksX1_failed_1 20 rfl rfl)
theorem dX1_failed_46 : decode cX1_failed 46 = .ok (.i2f, 1) := dk_134 (dk_at dksX1_failed_1 23 rfl rfl)
theorem dX1_failed_47 : decode cX1_failed 47 = .ok (.fdiv, 1) := dk_110 (dk_at dksX1_failed_2 0 rfl rfl)
theorem dX1_failed_48 : decode cX1_failed 48 = .ok (.freturn, 1) := dk_174 (dk_at dksX1_failed_2 1 rfl rfl)
abbrev cX1_errors : ByteArray := prog_1_method_50_code
def yX1_errors : MethodName := ⟨RX1, "errors", "()I"⟩
def dkwX1_errors_6 : List UInt8 := [132, 4, 1, 167, 255, 130, 27, 172]
abbrev dktX1_errors_6 : List UInt8 := dkwX1_errors_6 ++ []
def dkwX1_errors_5 : List UInt8 := [96, 60, 167, 255, 213, 25, 5, 180, 0, 247, 21, 6, 4, 96, 182, 1, 78, 54, 6, 167, 255, 180]
abbrev dktX1_errors_5 : List UInt8 := dkwX1_errors_5 ++ dktX1_errors_6
def dkwX1_errors_4 : List UInt8 := [192, 0, 17, 58, 8, 27, 42, 25, 5, 21, 6, 25, 8, 182, 1, 81, 153, 0, 7, 3, 167, 0, 4, 4]
abbrev dktX1_errors_4 : List UInt8 := dkwX1_errors_4 ++ dktX1_errors_5
def dkwX1_errors_3 : List UInt8 := [185, 0, 160, 1, 0, 58, 7, 25, 7, 185, 0, 88, 1, 0, 153, 0, 39, 25, 7, 185, 0, 93, 1, 0]
abbrev dktX1_errors_3 : List UInt8 := dkwX1_errors_3 ++ dktX1_errors_4
def dkwX1_errors_2 : List UInt8 := [25, 5, 180, 0, 247, 3, 182, 1, 78, 54, 6, 21, 6, 155, 0, 77, 42, 180, 0, 1]
abbrev dktX1_errors_2 : List UInt8 := dkwX1_errors_2 ++ dktX1_errors_3
def dkwX1_errors_1 : List UInt8 := [58, 5, 25, 5, 198, 0, 109, 25, 5, 180, 1, 72, 153, 0, 101, 25, 5, 180, 1, 75, 153, 0, 93]
abbrev dktX1_errors_1 : List UInt8 := dkwX1_errors_1 ++ dktX1_errors_2
def dkwX1_errors_0 : List UInt8 := [3, 60, 42, 180, 0, 116, 77, 44, 190, 62, 3, 54, 4, 21, 4, 29, 162, 0, 126, 44, 21, 4, 50]
abbrev dktX1_errors_0 : List UInt8 := dkwX1_errors_0 ++ dktX1_errors_1
theorem dksX1_errors_0 : cX1_errors.data.toList.drop 0 = dktX1_errors_0 := by decide +kernel
theorem dksX1_errors_1 : cX1_errors.data.toList.drop 23 = dktX1_errors_1 := dk_seg dksX1_errors_0 23 rfl rfl
theorem dksX1_errors_2 : cX1_errors.data.toList.drop 46 = dktX1_errors_2 := dk_seg dksX1_errors_1 23 rfl rfl
theorem dksX1_errors_3 : cX1_errors.data.toList.drop 66 = dktX1_errors_3 := dk_seg dksX1_errors_2 20 rfl rfl
theorem dksX1_errors_4 : cX1_errors.data.toList.drop 90 = dktX1_errors_4 := dk_seg dksX1_errors_3 24 rfl rfl
theorem dksX1_errors_5 : cX1_errors.data.toList.drop 114 = dktX1_errors_5 := dk_seg dksX1_errors_4 24 rfl rfl
theorem dksX1_errors_6 : cX1_errors.data.toList.drop 136 = dktX1_errors_6 := dk_seg dksX1_errors_5 22 rfl rfl
theorem dX1_errors_0 : decode cX1_errors 0 = .ok (.iconst 0, 1) := dk_3 (dk_at dksX1_errors_0 0 rfl rfl)
theorem dX1_errors_1 : decode cX1_errors 1 = .ok (.istore_n 1, 1) := dk_60 (dk_at dksX1_errors_0 1 rfl rfl)
theorem dX1_errors_2 : decode cX1_errors 2 = .ok (.aload_n 0, 1) := dk_42 (dk_at dksX1_errors_0 2 rfl rfl)
theorem dX1_errors_3 : decode cX1_errors 3 = .ok (.getfield 116, 3) := dk_180 0 116 (dk_at dksX1_errors_0 3 rfl rfl)
theorem dX1_errors_6 : decode cX1_errors 6 = .ok (.astore_n 2, 1) := dk_77 (dk_at dksX1_errors_0 6 rfl rfl)
theorem dX1_errors_7 : decode cX1_errors 7 = .ok (.aload_n 2, 1) := dk_44 (dk_at dksX1_errors_0 7 rfl rfl)
theorem dX1_errors_8 : decode cX1_errors 8 = .ok (.arraylength, 1) := dk_190 (dk_at dksX1_errors_0 8 rfl rfl)
theorem dX1_errors_9 : decode cX1_errors 9 = .ok (.istore_n 3, 1) := dk_62 (dk_at dksX1_errors_0 9 rfl rfl)
theorem dX1_errors_10 : decode cX1_errors 10 = .ok (.iconst 0, 1) := dk_3 (dk_at dksX1_errors_0 10 rfl rfl)
theorem dX1_errors_11 : decode cX1_errors 11 = .ok (.istore 4, 2) := dk_54 4 (dk_at dksX1_errors_0 11 rfl rfl)
theorem dX1_errors_13 : decode cX1_errors 13 = .ok (.iload 4, 2) := dk_21 4 (dk_at dksX1_errors_0 13 rfl rfl)
theorem dX1_errors_15 : decode cX1_errors 15 = .ok (.iload_n 3, 1) := dk_29 (dk_at dksX1_errors_0 15 rfl rfl)
theorem dX1_errors_16 : decode cX1_errors 16 = .ok (.if_icmp .ge 126, 3) := dk_162 0 126 (dk_at dksX1_errors_0 16 rfl rfl)
theorem dX1_errors_19 : decode cX1_errors 19 = .ok (.aload_n 2, 1) := dk_44 (dk_at dksX1_errors_0 19 rfl rfl)
theorem dX1_errors_20 : decode cX1_errors 20 = .ok (.iload 4, 2) := dk_21 4 (dk_at dksX1_errors_0 20 rfl rfl)
theorem dX1_errors_22 : decode cX1_errors 22 = .ok (.aaload, 1) := dk_50 (dk_at dksX1_errors_0 22 rfl rfl)
theorem dX1_errors_23 : decode cX1_errors 23 = .ok (.astore 5, 2) := dk_58 5 (dk_at dksX1_errors_1 0 rfl rfl)
theorem dX1_errors_25 : decode cX1_errors 25 = .ok (.aload 5, 2) := dk_25 5 (dk_at dksX1_errors_1 2 rfl rfl)
theorem dX1_errors_27 : decode cX1_errors 27 = .ok (.ifnull 109, 3) := dk_198 0 109 (dk_at dksX1_errors_1 4 rfl rfl)
theorem dX1_errors_30 : decode cX1_errors 30 = .ok (.aload 5, 2) := dk_25 5 (dk_at dksX1_errors_1 7 rfl rfl)
theorem dX1_errors_32 : decode cX1_errors 32 = .ok (.getfield 328, 3) := dk_180 1 72 (dk_at dksX1_errors_1 9 rfl rfl)
theorem dX1_errors_35 : decode cX1_errors 35 = .ok (.ifCond .eq 101, 3) := dk_153 0 101 (dk_at dksX1_errors_1 12 rfl rfl)
theorem dX1_errors_38 : decode cX1_errors 38 = .ok (.aload 5, 2) := dk_25 5 (dk_at dksX1_errors_1 15 rfl rfl)
theorem dX1_errors_40 : decode cX1_errors 40 = .ok (.getfield 331, 3) := dk_180 1 75 (dk_at dksX1_errors_1 17 rfl rfl)
theorem dX1_errors_43 : decode cX1_errors 43 = .ok (.ifCond .eq 93, 3) := dk_153 0 93 (dk_at dksX1_errors_1 20 rfl rfl)
theorem dX1_errors_46 : decode cX1_errors 46 = .ok (.aload 5, 2) := dk_25 5 (dk_at dksX1_errors_2 0 rfl rfl)
theorem dX1_errors_48 : decode cX1_errors 48 = .ok (.getfield 247, 3) := dk_180 0 247 (dk_at dksX1_errors_2 2 rfl rfl)
theorem dX1_errors_51 : decode cX1_errors 51 = .ok (.iconst 0, 1) := dk_3 (dk_at dksX1_errors_2 5 rfl rfl)
theorem dX1_errors_52 : decode cX1_errors 52 = .ok (.invokevirtual 334, 3) := dk_182 1 78 (dk_at dksX1_errors_2 6 rfl rfl)
theorem dX1_errors_55 : decode cX1_errors 55 = .ok (.istore 6, 2) := dk_54 6 (dk_at dksX1_errors_2 9 rfl rfl)
theorem dX1_errors_57 : decode cX1_errors 57 = .ok (.iload 6, 2) := dk_21 6 (dk_at dksX1_errors_2 11 rfl rfl)
theorem dX1_errors_59 : decode cX1_errors 59 = .ok (.ifCond .lt 77, 3) := dk_155 0 77 (dk_at dksX1_errors_2 13 rfl rfl)
theorem dX1_errors_62 : decode cX1_errors 62 = .ok (.aload_n 0, 1) := dk_42 (dk_at dksX1_errors_2 16 rfl rfl)
theorem dX1_errors_63 : decode cX1_errors 63 = .ok (.getfield 1, 3) := dk_180 0 1 (dk_at dksX1_errors_2 17 rfl rfl)
theorem dX1_errors_66 : decode cX1_errors 66 = .ok (.invokeinterface 160 1, 5) := by decide +kernel
theorem dX1_errors_71 : decode cX1_errors 71 = .ok (.astore 7, 2) := dk_58 7 (dk_at dksX1_errors_3 5 rfl rfl)
theorem dX1_errors_73 : decode cX1_errors 73 = .ok (.aload 7, 2) := dk_25 7 (dk_at dksX1_errors_3 7 rfl rfl)
theorem dX1_errors_75 : decode cX1_errors 75 = .ok (.invokeinterface 88 1, 5) := by decide +kernel
theorem dX1_errors_80 : decode cX1_errors 80 = .ok (.ifCond .eq 39, 3) := dk_153 0 39 (dk_at dksX1_errors_3 14 rfl rfl)
theorem dX1_errors_83 : decode cX1_errors 83 = .ok (.aload 7, 2) := dk_25 7 (dk_at dksX1_errors_3 17 rfl rfl)
theorem dX1_errors_85 : decode cX1_errors 85 = .ok (.invokeinterface 93 1, 5) := by decide +kernel
theorem dX1_errors_90 : decode cX1_errors 90 = .ok (.checkcast 17, 3) := dk_192 0 17 (dk_at dksX1_errors_4 0 rfl rfl)
theorem dX1_errors_93 : decode cX1_errors 93 = .ok (.astore 8, 2) := dk_58 8 (dk_at dksX1_errors_4 3 rfl rfl)
theorem dX1_errors_95 : decode cX1_errors 95 = .ok (.iload_n 1, 1) := dk_27 (dk_at dksX1_errors_4 5 rfl rfl)
theorem dX1_errors_96 : decode cX1_errors 96 = .ok (.aload_n 0, 1) := dk_42 (dk_at dksX1_errors_4 6 rfl rfl)
theorem dX1_errors_97 : decode cX1_errors 97 = .ok (.aload 5, 2) := dk_25 5 (dk_at dksX1_errors_4 7 rfl rfl)
theorem dX1_errors_99 : decode cX1_errors 99 = .ok (.iload 6, 2) := dk_21 6 (dk_at dksX1_errors_4 9 rfl rfl)
theorem dX1_errors_101 : decode cX1_errors 101 = .ok (.aload 8, 2) := dk_25 8 (dk_at dksX1_errors_4 11 rfl rfl)
theorem dX1_errors_103 : decode cX1_errors 103 = .ok (.invokevirtual 337, 3) := dk_182 1 81 (dk_at dksX1_errors_4 13 rfl rfl)
theorem dX1_errors_106 : decode cX1_errors 106 = .ok (.ifCond .eq 7, 3) := dk_153 0 7 (dk_at dksX1_errors_4 16 rfl rfl)
theorem dX1_errors_109 : decode cX1_errors 109 = .ok (.iconst 0, 1) := dk_3 (dk_at dksX1_errors_4 19 rfl rfl)
theorem dX1_errors_110 : decode cX1_errors 110 = .ok (.goto 4, 3) := dk_167 0 4 (dk_at dksX1_errors_4 20 rfl rfl)
theorem dX1_errors_113 : decode cX1_errors 113 = .ok (.iconst 1, 1) := dk_4 (dk_at dksX1_errors_4 23 rfl rfl)
theorem dX1_errors_114 : decode cX1_errors 114 = .ok (.iadd, 1) := dk_96 (dk_at dksX1_errors_5 0 rfl rfl)
theorem dX1_errors_115 : decode cX1_errors 115 = .ok (.istore_n 1, 1) := dk_60 (dk_at dksX1_errors_5 1 rfl rfl)
theorem dX1_errors_116 : decode cX1_errors 116 = .ok (.goto (-43), 3) := dk_167 255 213 (dk_at dksX1_errors_5 2 rfl rfl)
theorem dX1_errors_119 : decode cX1_errors 119 = .ok (.aload 5, 2) := dk_25 5 (dk_at dksX1_errors_5 5 rfl rfl)
theorem dX1_errors_121 : decode cX1_errors 121 = .ok (.getfield 247, 3) := dk_180 0 247 (dk_at dksX1_errors_5 7 rfl rfl)
theorem dX1_errors_124 : decode cX1_errors 124 = .ok (.iload 6, 2) := dk_21 6 (dk_at dksX1_errors_5 10 rfl rfl)
theorem dX1_errors_126 : decode cX1_errors 126 = .ok (.iconst 1, 1) := dk_4 (dk_at dksX1_errors_5 12 rfl rfl)
theorem dX1_errors_127 : decode cX1_errors 127 = .ok (.iadd, 1) := dk_96 (dk_at dksX1_errors_5 13 rfl rfl)
theorem dX1_errors_128 : decode cX1_errors 128 = .ok (.invokevirtual 334, 3) := dk_182 1 78 (dk_at dksX1_errors_5 14 rfl rfl)
theorem dX1_errors_131 : decode cX1_errors 131 = .ok (.istore 6, 2) := dk_54 6 (dk_at dksX1_errors_5 17 rfl rfl)
theorem dX1_errors_133 : decode cX1_errors 133 = .ok (.goto (-76), 3) := dk_167 255 180 (dk_at dksX1_errors_5 19 rfl rfl)
theorem dX1_errors_136 : decode cX1_errors 136 = .ok (.iinc 4 1, 3) := dk_132 4 1 (dk_at dksX1_errors_6 0 rfl rfl)
theorem dX1_errors_139 : decode cX1_errors 139 = .ok (.goto (-126), 3) := dk_167 255 130 (dk_at dksX1_errors_6 3 rfl rfl)
theorem dX1_errors_142 : decode cX1_errors 142 = .ok (.iload_n 1, 1) := dk_27 (dk_at dksX1_errors_6 6 rfl rfl)
theorem dX1_errors_143 : decode cX1_errors 143 = .ok (.ireturn, 1) := dk_172 (dk_at dksX1_errors_6 7 rfl rfl)
abbrev cX1_isRight : ByteArray := prog_1_method_49_code
def yX1_isRight : MethodName := ⟨RX1, "isRight", "(LCoreplug$Step;ILCoreplug$Core;)Z"⟩
def dkwX1_isRight_6 : List UInt8 := [180, 0, 43, 164, 0, 7, 4, 167, 0, 4, 3, 160, 0, 7, 4, 167, 0, 4, 3, 172]
abbrev dktX1_isRight_6 : List UInt8 := dkwX1_isRight_6 ++ []
def dkwX1_isRight_5 : List UInt8 := [54, 5, 21, 9, 54, 4, 132, 7, 1, 167, 255, 162, 21, 5, 153, 0, 28, 21, 4, 45, 180, 0, 124, 43]
abbrev dktX1_isRight_5 : List UInt8 := dkwX1_isRight_5 ++ dktX1_isRight_6
def dkwX1_isRight_4 : List UInt8 := [4, 167, 0, 4, 3, 54, 9, 21, 5, 153, 0, 14, 21, 9, 21, 4, 159, 0, 7, 4, 167, 0, 4, 3]
abbrev dktX1_isRight_4 : List UInt8 := dkwX1_isRight_4 ++ dktX1_isRight_5
def dkwX1_isRight_3 : List UInt8 := [42, 180, 0, 52, 21, 7, 46, 4, 126, 154, 0, 45, 42, 180, 0, 52, 21, 7, 46, 5, 126, 153, 0, 7]
abbrev dktX1_isRight_3 : List UInt8 := dkwX1_isRight_3 ++ dktX1_isRight_4
def dkwX1_isRight_2 : List UInt8 := [21, 7, 46, 17, 255, 12, 126, 21, 6, 160, 0, 7, 4, 167, 0, 4, 3, 54, 8, 21, 8, 153, 0, 57]
abbrev dktX1_isRight_2 : List UInt8 := dkwX1_isRight_2 ++ dktX1_isRight_3
def dkwX1_isRight_1 : List UInt8 := [128, 54, 6, 43, 180, 0, 255, 28, 46, 54, 7, 21, 7, 42, 180, 0, 49, 162, 0, 91, 42, 180, 0, 52]
abbrev dktX1_isRight_1 : List UInt8 := dkwX1_isRight_1 ++ dktX1_isRight_2
def dkwX1_isRight_0 : List UInt8 := [3, 54, 4, 4, 54, 5, 28, 5, 120, 43, 180, 0, 43, 16, 8, 120, 128, 45, 180, 0, 33, 16, 13, 120]
abbrev dktX1_isRight_0 : List UInt8 := dkwX1_isRight_0 ++ dktX1_isRight_1
theorem dksX1_isRight_0 : cX1_isRight.data.toList.drop 0 = dktX1_isRight_0 := by decide +kernel
theorem dksX1_isRight_1 : cX1_isRight.data.toList.drop 24 = dktX1_isRight_1 := dk_seg dksX1_isRight_0 24 rfl rfl
theorem dksX1_isRight_2 : cX1_isRight.data.toList.drop 48 = dktX1_isRight_2 := dk_seg dksX1_isRight_1 24 rfl rfl
theorem dksX1_isRight_3 : cX1_isRight.data.toList.drop 72 = dktX1_isRight_3 := dk_seg dksX1_isRight_2 24 rfl rfl
theorem dksX1_isRight_4 : cX1_isRight.data.toList.drop 96 = dktX1_isRight_4 := dk_seg dksX1_isRight_3 24 rfl rfl
theorem dksX1_isRight_5 : cX1_isRight.data.toList.drop 120 = dktX1_isRight_5 := dk_seg dksX1_isRight_4 24 rfl rfl
theorem dksX1_isRight_6 : cX1_isRight.data.toList.drop 144 = dktX1_isRight_6 := dk_seg dksX1_isRight_5 24 rfl rfl
theorem dX1_isRight_0 : decode cX1_isRight 0 = .ok (.iconst 0, 1) := dk_3 (dk_at dksX1_isRight_0 0 rfl rfl)
theorem dX1_isRight_1 : decode cX1_isRight 1 = .ok (.istore 4, 2) := dk_54 4 (dk_at dksX1_isRight_0 1 rfl rfl)
theorem dX1_isRight_3 : decode cX1_isRight 3 = .ok (.iconst 1, 1) := dk_4 (dk_at dksX1_isRight_0 3 rfl rfl)
theorem dX1_isRight_4 : decode cX1_isRight 4 = .ok (.istore 5, 2) := dk_54 5 (dk_at dksX1_isRight_0 4 rfl rfl)
theorem dX1_isRight_6 : decode cX1_isRight 6 = .ok (.iload_n 2, 1) := dk_28 (dk_at dksX1_isRight_0 6 rfl rfl)
theorem dX1_isRight_7 : decode cX1_isRight 7 = .ok (.iconst 2, 1) := dk_5 (dk_at dksX1_isRight_0 7 rfl rfl)
theorem dX1_isRight_8 : decode cX1_isRight 8 = .ok (.ishl, 1) := dk_120 (dk_at dksX1_isRight_0 8 rfl rfl)
theorem dX1_isRight_9 : decode cX1_isRight 9 = .ok (.aload_n 1, 1) := dk_43 (dk_at dksX1_isRight_0 9 rfl rfl)
theorem dX1_isRight_10 : decode cX1_isRight 10 = .ok (.getfield 43, 3) := dk_180 0 43 (dk_at dksX1_isRight_0 10 rfl rfl)
theorem dX1_isRight_13 : decode cX1_isRight 13 = .ok (.bipush 8, 2) := dk_16 8 (dk_at dksX1_isRight_0 13 rfl rfl)
theorem dX1_isRight_15 : decode cX1_isRight 15 = .ok (.ishl, 1) := dk_120 (dk_at dksX1_isRight_0 15 rfl rfl)
theorem dX1_isRight_16 : decode cX1_isRight 16 = .ok (.ior, 1) := dk_128 (dk_at dksX1_isRight_0 16 rfl rfl)
theorem dX1_isRight_17 : decode cX1_isRight 17 = .ok (.aload_n 3, 1) := dk_45 (dk_at dksX1_isRight_0 17 rfl rfl)
theorem dX1_isRight_18 : decode cX1_isRight 18 = .ok (.getfield 33, 3) := dk_180 0 33 (dk_at dksX1_isRight_0 18 rfl rfl)
theorem dX1_isRight_21 : decode cX1_isRight 21 = .ok (.bipush 13, 2) := dk_16 13 (dk_at dksX1_isRight_0 21 rfl rfl)
theorem dX1_isRight_23 : decode cX1_isRight 23 = .ok (.ishl, 1) := dk_120 (dk_at dksX1_isRight_0 23 rfl rfl)
theorem dX1_isRight_24 : decode cX1_isRight 24 = .ok (.ior, 1) := dk_128 (dk_at dksX1_isRight_1 0 rfl rfl)
theorem dX1_isRight_25 : decode cX1_isRight 25 = .ok (.istore 6, 2) := dk_54 6 (dk_at dksX1_isRight_1 1 rfl rfl)
theorem dX1_isRight_27 : decode cX1_isRight 27 = .ok (.aload_n 1, 1) := dk_43 (dk_at dksX1_isRight_1 3 rfl rfl)
theorem dX1_isRight_28 : decode cX1_isRight 28 = .ok (.getfield 255, 3) := dk_180 0 255 (dk_at dksX1_isRight_1 4 rfl rfl)
theorem dX1_isRight_31 : decode cX1_isRight 31 = .ok (.iload_n 2, 1) := dk_28 (dk_at dksX1_isRight_1 7 rfl rfl)
theorem dX1_isRight_32 : decode cX1_isRight 32 = .ok (.iaload, 1) := dk_46 (dk_at dksX1_isRight_1 8 rfl rfl)
theorem dX1_isRight_33 : decode cX1_isRight 33 = .ok (.istore 7, 2) := dk_54 7 (dk_at dksX1_isRight_1 9 rfl rfl)
theorem dX1_isRight_35 : decode cX1_isRight 35 = .ok (.iload 7, 2) := dk_21 7 (dk_at dksX1_isRight_1 11 rfl rfl)
theorem dX1_isRight_37 : decode cX1_isRight 37 = .ok (.aload_n 0, 1) := dk_42 (dk_at dksX1_isRight_1 13 rfl rfl)
theorem dX1_isRight_38 : decode cX1_isRight 38 = .ok (.getfield 49, 3) := dk_180 0 49 (dk_at dksX1_isRight_1 14 rfl rfl)
theorem dX1_isRight_41 : decode cX1_isRight 41 = .ok (.if_icmp .ge 91, 3) := dk_162 0 91 (dk_at dksX1_isRight_1 17 rfl rfl)
theorem dX1_isRight_44 : decode cX1_isRight 44 = .ok (.aload_n 0, 1) := dk_42 (dk_at dksX1_isRight_1 20 rfl rfl)
theorem dX1_isRight_45 : decode cX1_isRight 45 = .ok (.getfield 52, 3) := dk_180 0 52 (dk_at dksX1_isRight_1 21 rfl rfl)
theorem dX1_isRight_48 : decode cX1_isRight 48 = .ok (.iload 7, 2) := dk_21 7 (dk_at dksX1_isRight_2 0 rfl rfl)
theorem dX1_isRight_50 : decode cX1_isRight 50 = .ok (.iaload, 1) := dk_46 (dk_at dksX1_isRight_2 2 rfl rfl)
theorem dX1_isRight_51 : decode cX1_isRight 51 = .ok (.sipush (-244), 3) := dk_17 255 12 (dk_at dksX1_isRight_2 3 rfl rfl)
theorem dX1_isRight_54 : decode cX1_isRight 54 = .ok (.iand, 1) := dk_126 (dk_at dksX1_isRight_2 6 rfl rfl)
theorem dX1_isRight_55 : decode cX1_isRight 55 = .ok (.iload 6, 2) := dk_21 6 (dk_at dksX1_isRight_2 7 rfl rfl)
theorem dX1_isRight_57 : decode cX1_isRight 57 = .ok (.if_icmp .ne 7, 3) := dk_160 0 7 (dk_at dksX1_isRight_2 9 rfl rfl)
theorem dX1_isRight_60 : decode cX1_isRight 60 = .ok (.iconst 1, 1) := dk_4 (dk_at dksX1_isRight_2 12 rfl rfl)
theorem dX1_isRight_61 : decode cX1_isRight 61 = .ok (.goto 4, 3) := dk_167 0 4 (dk_at dksX1_isRight_2 13 rfl rfl)
theorem dX1_isRight_64 : decode cX1_isRight 64 = .ok (.iconst 0, 1) := dk_3 (dk_at dksX1_isRight_2 16 rfl rfl)
theorem dX1_isRight_65 : decode cX1_isRight 65 = .ok (.istore 8, 2) := dk_54 8 (dk_at dksX1_isRight_2 17 rfl rfl)
theorem dX1_isRight_67 : decode cX1_isRight 67 = .ok (.iload 8, 2) := dk_21 8 (dk_at dksX1_isRight_2 19 rfl rfl)
theorem dX1_isRight_69 : decode cX1_isRight 69 = .ok (.ifCond .eq 57, 3) := dk_153 0 57 (dk_at dksX1_isRight_2 21 rfl rfl)
theorem dX1_isRight_72 : decode cX1_isRight 72 = .ok (.aload_n 0, 1) := dk_42 (dk_at dksX1_isRight_3 0 rfl rfl)
theorem dX1_isRight_73 : decode cX1_isRight 73 = .ok (.getfield 52, 3) := dk_180 0 52 (dk_at dksX1_isRight_3 1 rfl rfl)
theorem dX1_isRight_76 : decode cX1_isRight 76 = .ok (.iload 7, 2) := dk_21 7 (dk_at dksX1_isRight_3 4 rfl rfl)
theorem dX1_isRight_78 : decode cX1_isRight 78 = .ok (.iaload, 1) := dk_46 (dk_at dksX1_isRight_3 6 rfl rfl)
theorem dX1_isRight_79 : decode cX1_isRight 79 = .ok (.iconst 1, 1) := dk_4 (dk_at dksX1_isRight_3 7 rfl rfl)
theorem dX1_isRight_80 : decode cX1_isRight 80 = .ok (.iand, 1) := dk_126 (dk_at dksX1_isRight_3 8 rfl rfl)
theorem dX1_isRight_81 : decode cX1_isRight 81 = .ok (.ifCond .ne 45, 3) := dk_154 0 45 (dk_at dksX1_isRight_3 9 rfl rfl)
theorem dX1_isRight_84 : decode cX1_isRight 84 = .ok (.aload_n 0, 1) := dk_42 (dk_at dksX1_isRight_3 12 rfl rfl)
theorem dX1_isRight_85 : decode cX1_isRight 85 = .ok (.getfield 52, 3) := dk_180 0 52 (dk_at dksX1_isRight_3 13 rfl rfl)
theorem dX1_isRight_88 : decode cX1_isRight 88 = .ok (.iload 7, 2) := dk_21 7 (dk_at dksX1_isRight_3 16 rfl rfl)
theorem dX1_isRight_90 : decode cX1_isRight 90 = .ok (.iaload, 1) := dk_46 (dk_at dksX1_isRight_3 18 rfl rfl)
theorem dX1_isRight_91 : decode cX1_isRight 91 = .ok (.iconst 2, 1) := dk_5 (dk_at dksX1_isRight_3 19 rfl rfl)
theorem dX1_isRight_92 : decode cX1_isRight 92 = .ok (.iand, 1) := dk_126 (dk_at dksX1_isRight_3 20 rfl rfl)
theorem dX1_isRight_93 : decode cX1_isRight 93 = .ok (.ifCond .eq 7, 3) := dk_153 0 7 (dk_at dksX1_isRight_3 21 rfl rfl)
theorem dX1_isRight_96 : decode cX1_isRight 96 = .ok (.iconst 1, 1) := dk_4 (dk_at dksX1_isRight_4 0 rfl rfl)
theorem dX1_isRight_97 : decode cX1_isRight 97 = .ok (.goto 4, 3) := dk_167 0 4 (dk_at dksX1_isRight_4 1 rfl rfl)
theorem dX1_isRight_100 : decode cX1_isRight 100 = .ok (.iconst 0, 1) := dk_3 (dk_at dksX1_isRight_4 4 rfl rfl)
theorem dX1_isRight_101 : decode cX1_isRight 101 = .ok (.istore 9, 2) := dk_54 9 (dk_at dksX1_isRight_4 5 rfl rfl)
theorem dX1_isRight_103 : decode cX1_isRight 103 = .ok (.iload 5, 2) := dk_21 5 (dk_at dksX1_isRight_4 7 rfl rfl)
theorem dX1_isRight_105 : decode cX1_isRight 105 = .ok (.ifCond .eq 14, 3) := dk_153 0 14 (dk_at dksX1_isRight_4 9 rfl rfl)
theorem dX1_isRight_108 : decode cX1_isRight 108 = .ok (.iload 9, 2) := dk_21 9 (dk_at dksX1_isRight_4 12 rfl rfl)
theorem dX1_isRight_110 : decode cX1_isRight 110 = .ok (.iload 4, 2) := dk_21 4 (dk_at dksX1_isRight_4 14 rfl rfl)
theorem dX1_isRight_112 : decode cX1_isRight 112 = .ok (.if_icmp .eq 7, 3) := dk_159 0 7 (dk_at dksX1_isRight_4 16 rfl rfl)
theorem dX1_isRight_115 : decode cX1_isRight 115 = .ok (.iconst 1, 1) := dk_4 (dk_at dksX1_isRight_4 19 rfl rfl)
theorem dX1_isRight_116 : decode cX1_isRight 116 = .ok (.goto 4, 3) := dk_167 0 4 (dk_at dksX1_isRight_4 20 rfl rfl)
theorem dX1_isRight_119 : decode cX1_isRight 119 = .ok (.iconst 0, 1) := dk_3 (dk_at dksX1_isRight_4 23 rfl rfl)
theorem dX1_isRight_120 : decode cX1_isRight 120 = .ok (.istore 5, 2) := dk_54 5 (dk_at dksX1_isRight_5 0 rfl rfl)
theorem dX1_isRight_122 : decode cX1_isRight 122 = .ok (.iload 9, 2) := dk_21 9 (dk_at dksX1_isRight_5 2 rfl rfl)
theorem dX1_isRight_124 : decode cX1_isRight 124 = .ok (.istore 4, 2) := dk_54 4 (dk_at dksX1_isRight_5 4 rfl rfl)
theorem dX1_isRight_126 : decode cX1_isRight 126 = .ok (.iinc 7 1, 3) := dk_132 7 1 (dk_at dksX1_isRight_5 6 rfl rfl)
theorem dX1_isRight_129 : decode cX1_isRight 129 = .ok (.goto (-94), 3) := dk_167 255 162 (dk_at dksX1_isRight_5 9 rfl rfl)
theorem dX1_isRight_132 : decode cX1_isRight 132 = .ok (.iload 5, 2) := dk_21 5 (dk_at dksX1_isRight_5 12 rfl rfl)
theorem dX1_isRight_134 : decode cX1_isRight 134 = .ok (.ifCond .eq 28, 3) := dk_153 0 28 (dk_at dksX1_isRight_5 14 rfl rfl)
theorem dX1_isRight_137 : decode cX1_isRight 137 = .ok (.iload 4, 2) := dk_21 4 (dk_at dksX1_isRight_5 17 rfl rfl)
theorem dX1_isRight_139 : decode cX1_isRight 139 = .ok (.aload_n 3, 1) := dk_45 (dk_at dksX1_isRight_5 19 rfl rfl)
theorem dX1_isRight_140 : decode cX1_isRight 140 = .ok (.getfield 124, 3) := dk_180 0 124 (dk_at dksX1_isRight_5 20 rfl rfl)
theorem dX1_isRight_143 : decode cX1_isRight 143 = .ok (.aload_n 1, 1) := dk_43 (dk_at dksX1_isRight_5 23 rfl rfl)
theorem dX1_isRight_144 : decode cX1_isRight 144 = .ok (.getfield 43, 3) := dk_180 0 43 (dk_at dksX1_isRight_6 0 rfl rfl)
theorem dX1_isRight_147 : decode cX1_isRight 147 = .ok (.if_icmp .le 7, 3) := dk_164 0 7 (dk_at dksX1_isRight_6 3 rfl rfl)
theorem dX1_isRight_150 : decode cX1_isRight 150 = .ok (.iconst 1, 1) := dk_4 (dk_at dksX1_isRight_6 6 rfl rfl)
theorem dX1_isRight_151 : decode cX1_isRight 151 = .ok (.goto 4, 3) := dk_167 0 4 (dk_at dksX1_isRight_6 7 rfl rfl)
theorem dX1_isRight_154 : decode cX1_isRight 154 = .ok (.iconst 0, 1) := dk_3 (dk_at dksX1_isRight_6 10 rfl rfl)
theorem dX1_isRight_155 : decode cX1_isRight 155 = .ok (.if_icmp .ne 7, 3) := dk_160 0 7 (dk_at dksX1_isRight_6 11 rfl rfl)
theorem dX1_isRight_158 : decode cX1_isRight 158 = .ok (.iconst 1, 1) := dk_4 (dk_at dksX1_isRight_6 14 rfl rfl)
theorem dX1_isRight_159 : decode cX1_isRight 159 = .ok (.goto 4, 3) := dk_167 0 4 (dk_at dksX1_isRight_6 15 rfl rfl)
theorem dX1_isRight_162 : decode cX1_isRight 162 = .ok (.iconst 0, 1) := dk_3 (dk_at dksX1_isRight_6 18 rfl rfl)
theorem dX1_isRight_163 : decode cX1_isRight 163 = .ok (.ireturn, 1) := dk_172 (dk_at dksX1_isRight_6 19 rfl rfl)
abbrev cX1_core : ByteArray := prog_1_method_22_code
def yX1_core : MethodName := ⟨RX1, "core", "()I"⟩
def dkwX1_core_2 : List UInt8 := [185, 0, 221, 2, 0, 87, 42, 180, 0, 1, 185, 0, 7, 1, 0, 4, 100, 172]
abbrev dktX1_core_2 : List UInt8 := dkwX1_core_2 ++ []
def dkwX1_core_1 : List UInt8 := [180, 0, 1, 187, 0, 17, 89, 42, 42, 180, 0, 1, 185, 0, 7, 1, 0, 3, 183, 0, 218]
abbrev dktX1_core_1 : List UInt8 := dkwX1_core_1 ++ dktX1_core_2
def dkwX1_core_0 : List UInt8 := [42, 180, 0, 1, 185, 0, 7, 1, 0, 16, 8, 162, 0, 7, 4, 167, 0, 4, 3, 184, 0, 243, 42]
abbrev dktX1_core_0 : List UInt8 := dkwX1_core_0 ++ dktX1_core_1
theorem dksX1_core_0 : cX1_core.data.toList.drop 0 = dktX1_core_0 := by decide +kernel
theorem dksX1_core_1 : cX1_core.data.toList.drop 23 = dktX1_core_1 := dk_seg dksX1_core_0 23 rfl rfl
theorem dksX1_core_2 : cX1_core.data.toList.drop 44 = dktX1_core_2 := dk_seg dksX1_core_1 21 rfl rfl
theorem dX1_core_0 : decode cX1_core 0 = .ok (.aload_n 0, 1) := dk_42 (dk_at dksX1_core_0 0 rfl rfl)
theorem dX1_core_1 : decode cX1_core 1 = .ok (.getfield 1, 3) := dk_180 0 1 (dk_at dksX1_core_0 1 rfl rfl)
theorem dX1_core_4 : decode cX1_core 4 = .ok (.invokeinterface 7 1, 5) := by decide +kernel
theorem dX1_core_9 : decode cX1_core 9 = .ok (.bipush 8, 2) := dk_16 8 (dk_at dksX1_core_0 9 rfl rfl)
theorem dX1_core_11 : decode cX1_core 11 = .ok (.if_icmp .ge 7, 3) := dk_162 0 7 (dk_at dksX1_core_0 11 rfl rfl)
theorem dX1_core_14 : decode cX1_core 14 = .ok (.iconst 1, 1) := dk_4 (dk_at dksX1_core_0 14 rfl rfl)
theorem dX1_core_15 : decode cX1_core 15 = .ok (.goto 4, 3) := dk_167 0 4 (dk_at dksX1_core_0 15 rfl rfl)
theorem dX1_core_18 : decode cX1_core 18 = .ok (.iconst 0, 1) := dk_3 (dk_at dksX1_core_0 18 rfl rfl)
theorem dX1_core_19 : decode cX1_core 19 = .ok (.invokestatic 243, 3) := dk_184 0 243 (dk_at dksX1_core_0 19 rfl rfl)
theorem dX1_core_22 : decode cX1_core 22 = .ok (.aload_n 0, 1) := dk_42 (dk_at dksX1_core_0 22 rfl rfl)
theorem dX1_core_23 : decode cX1_core 23 = .ok (.getfield 1, 3) := dk_180 0 1 (dk_at dksX1_core_1 0 rfl rfl)
theorem dX1_core_26 : decode cX1_core 26 = .ok (.new 17, 3) := dk_187 0 17 (dk_at dksX1_core_1 3 rfl rfl)
theorem dX1_core_29 : decode cX1_core 29 = .ok (.dup, 1) := dk_89 (dk_at dksX1_core_1 6 rfl rfl)
theorem dX1_core_30 : decode cX1_core 30 = .ok (.aload_n 0, 1) := dk_42 (dk_at dksX1_core_1 7 rfl rfl)
theorem dX1_core_31 : decode cX1_core 31 = .ok (.aload_n 0, 1) := dk_42 (dk_at dksX1_core_1 8 rfl rfl)
theorem dX1_core_32 : decode cX1_core 32 = .ok (.getfield 1, 3) := dk_180 0 1 (dk_at dksX1_core_1 9 rfl rfl)
theorem dX1_core_35 : decode cX1_core 35 = .ok (.invokeinterface 7 1, 5) := by decide +kernel
theorem dX1_core_40 : decode cX1_core 40 = .ok (.iconst 0, 1) := dk_3 (dk_at dksX1_core_1 17 rfl rfl)
theorem dX1_core_41 : decode cX1_core 41 = .ok (.invokespecial 218, 3) := dk_183 0 218 (dk_at dksX1_core_1 18 rfl rfl)
theorem dX1_core_44 : decode cX1_core 44 = .ok (.invokeinterface 221 2, 5) := by decide +kernel
theorem dX1_core_49 : decode cX1_core 49 = .ok (.pop, 1) := dk_87 (dk_at dksX1_core_2 5 rfl rfl)
theorem dX1_core_50 : decode cX1_core 50 = .ok (.aload_n 0, 1) := dk_42 (dk_at dksX1_core_2 6 rfl rfl)
theorem dX1_core_51 : decode cX1_core 51 = .ok (.getfield 1, 3) := dk_180 0 1 (dk_at dksX1_core_2 7 rfl rfl)
theorem dX1_core_54 : decode cX1_core 54 = .ok (.invokeinterface 7 1, 5) := by decide +kernel
theorem dX1_core_59 : decode cX1_core 59 = .ok (.iconst 1, 1) := dk_4 (dk_at dksX1_core_2 15 rfl rfl)
theorem dX1_core_60 : decode cX1_core 60 = .ok (.isub, 1) := dk_100 (dk_at dksX1_core_2 16 rfl rfl)
theorem dX1_core_61 : decode cX1_core 61 = .ok (.ireturn, 1) := dk_172 (dk_at dksX1_core_2 17 rfl rfl)
abbrev cX1_checkState : ByteArray := prog_1_method_19_code
def yX1_checkState : MethodName := ⟨RX1, "checkState", "(Z)V"⟩
def dkwX1_checkState_0 : List UInt8 := [26, 154, 0, 11, 187, 0, 80, 89, 183, 0, 82, 191, 177]
abbrev dktX1_checkState_0 : List UInt8 := dkwX1_checkState_0 ++ []
theorem dksX1_checkState_0 : cX1_checkState.data.toList.drop 0 = dktX1_checkState_0 := by decide +kernel
theorem dX1_checkState_0 : decode cX1_checkState 0 = .ok (.iload_n 0, 1) := dk_26 (dk_at dksX1_checkState_0 0 rfl rfl)
theorem dX1_checkState_1 : decode cX1_checkState 1 = .ok (.ifCond .ne 11, 3) := dk_154 0 11 (dk_at dksX1_checkState_0 1 rfl rfl)
theorem dX1_checkState_4 : decode cX1_checkState 4 = .ok (.new 80, 3) := dk_187 0 80 (dk_at dksX1_checkState_0 4 rfl rfl)
theorem dX1_checkState_7 : decode cX1_checkState 7 = .ok (.dup, 1) := dk_89 (dk_at dksX1_checkState_0 7 rfl rfl)
theorem dX1_checkState_8 : decode cX1_checkState 8 = .ok (.invokespecial 82, 3) := dk_183 0 82 (dk_at dksX1_checkState_0 8 rfl rfl)
theorem dX1_checkState_11 : decode cX1_checkState 11 = .ok (.athrow, 1) := dk_191 (dk_at dksX1_checkState_0 11 rfl rfl)
theorem dX1_checkState_12 : decode cX1_checkState 12 = .ok (.return_, 1) := dk_177 (dk_at dksX1_checkState_0 12 rfl rfl)
abbrev cX1_add : ByteArray := prog_1_method_26_code
def yX1_add : MethodName := ⟨RX1, "add", "(IZZZ)I"⟩
def dkwX1_add_4 : List UInt8 := [42, 182, 1, 29, 172]
abbrev dktX1_add_4 : List UInt8 := dkwX1_add_4 ++ []
def dkwX1_add_3 : List UInt8 := [153, 0, 17, 42, 42, 180, 0, 116, 27, 50, 3, 182, 1, 25, 153, 0, 7, 4, 167, 0, 4, 3, 54, 5]
abbrev dktX1_add_3 : List UInt8 := dkwX1_add_3 ++ dktX1_add_4
def dkwX1_add_2 : List UInt8 := [184, 0, 243, 42, 180, 0, 116, 27, 187, 0, 38, 89, 27, 28, 29, 21, 4, 183, 1, 22, 83, 21, 4]
abbrev dktX1_add_2 : List UInt8 := dkwX1_add_2 ++ dktX1_add_3
def dkwX1_add_1 : List UInt8 := [167, 0, 4, 3, 3, 3, 184, 1, 18, 42, 180, 0, 116, 27, 50, 199, 0, 7, 4, 167, 0, 4, 3]
abbrev dktX1_add_1 : List UInt8 := dkwX1_add_1 ++ dktX1_add_2
def dkwX1_add_0 : List UInt8 := [27, 3, 16, 19, 184, 1, 18, 27, 16, 10, 159, 0, 11, 28, 154, 0, 11, 29, 154, 0, 7, 4]
abbrev dktX1_add_0 : List UInt8 := dkwX1_add_0 ++ dktX1_add_1
theorem dksX1_add_0 : cX1_add.data.toList.drop 0 = dktX1_add_0 := by decide +kernel
theorem dksX1_add_1 : cX1_add.data.toList.drop 22 = dktX1_add_1 := dk_seg dksX1_add_0 22 rfl rfl
theorem dksX1_add_2 : cX1_add.data.toList.drop 45 = dktX1_add_2 := dk_seg dksX1_add_1 23 rfl rfl
theorem dksX1_add_3 : cX1_add.data.toList.drop 68 = dktX1_add_3 := dk_seg dksX1_add_2 23 rfl rfl
theorem dksX1_add_4 : cX1_add.data.toList.drop 92 = dktX1_add_4 := dk_seg dksX1_add_3 24 rfl rfl
theorem dX1_add_0 : decode cX1_add 0 = .ok (.iload_n 1, 1) := dk_27 (dk_at dksX1_add_0 0 rfl rfl)
theorem dX1_add_1 : decode cX1_add 1 = .ok (.iconst 0, 1) := dk_3 (dk_at dksX1_add_0 1 rfl rfl)
theorem dX1_add_2 : decode cX1_add 2 = .ok (.bipush 19, 2) := dk_16 19 (dk_at dksX1_add_0 2 rfl rfl)
theorem dX1_add_4 : decode cX1_add 4 = .ok (.invokestatic 274, 3) := dk_184 1 18 (dk_at dksX1_add_0 4 rfl rfl)
theorem dX1_add_7 : decode cX1_add 7 = .ok (.iload_n 1, 1) := dk_27 (dk_at dksX1_add_0 7 rfl rfl)
theorem dX1_add_8 : decode cX1_add 8 = .ok (.bipush 10, 2) := dk_16 10 (dk_at dksX1_add_0 8 rfl rfl)
theorem dX1_add_10 : decode cX1_add 10 = .ok (.if_icmp .eq 11, 3) := dk_159 0 11 (dk_at dksX1_add_0 10 rfl rfl)
theorem dX1_add_13 : decode cX1_add 13 = .ok (.iload_n 2, 1) := dk_28 (dk_at dksX1_add_0 13 rfl rfl)
theorem dX1_add_14 : decode cX1_add 14 = .ok (.ifCond .ne 11, 3) := dk_154 0 11 (dk_at dksX1_add_0 14 rfl rfl)
theorem dX1_add_17 : decode cX1_add 17 = .ok (.iload_n 3, 1) := dk_29 (dk_at dksX1_add_0 17 rfl rfl)
theorem dX1_add_18 : decode cX1_add 18 = .ok (.ifCond .ne 7, 3) := dk_154 0 7 (dk_at dksX1_add_0 18 rfl rfl)
theorem dX1_add_21 : decode cX1_add 21 = .ok (.iconst 1, 1) := dk_4 (dk_at dksX1_add_0 21 rfl rfl)
theorem dX1_add_22 : decode cX1_add 22 = .ok (.goto 4, 3) := dk_167 0 4 (dk_at dksX1_add_1 0 rfl rfl)
theorem dX1_add_25 : decode cX1_add 25 = .ok (.iconst 0, 1) := dk_3 (dk_at dksX1_add_1 3 rfl rfl)
theorem dX1_add_26 : decode cX1_add 26 = .ok (.iconst 0, 1) := dk_3 (dk_at dksX1_add_1 4 rfl rfl)
theorem dX1_add_27 : decode cX1_add 27 = .ok (.iconst 0, 1) := dk_3 (dk_at dksX1_add_1 5 rfl rfl)
theorem dX1_add_28 : decode cX1_add 28 = .ok (.invokestatic 274, 3) := dk_184 1 18 (dk_at dksX1_add_1 6 rfl rfl)
theorem dX1_add_31 : decode cX1_add 31 = .ok (.aload_n 0, 1) := dk_42 (dk_at dksX1_add_1 9 rfl rfl)
theorem dX1_add_32 : decode cX1_add 32 = .ok (.getfield 116, 3) := dk_180 0 116 (dk_at dksX1_add_1 10 rfl rfl)
theorem dX1_add_35 : decode cX1_add 35 = .ok (.iload_n 1, 1) := dk_27 (dk_at dksX1_add_1 13 rfl rfl)
theorem dX1_add_36 : decode cX1_add 36 = .ok (.aaload, 1) := dk_50 (dk_at dksX1_add_1 14 rfl rfl)
theorem dX1_add_37 : decode cX1_add 37 = .ok (.ifnonnull 7, 3) := dk_199 0 7 (dk_at dksX1_add_1 15 rfl rfl)
theorem dX1_add_40 : decode cX1_add 40 = .ok (.iconst 1, 1) := dk_4 (dk_at dksX1_add_1 18 rfl rfl)
theorem dX1_add_41 : decode cX1_add 41 = .ok (.goto 4, 3) := dk_167 0 4 (dk_at dksX1_add_1 19 rfl rfl)
theorem dX1_add_44 : decode cX1_add 44 = .ok (.iconst 0, 1) := dk_3 (dk_at dksX1_add_1 22 rfl rfl)
theorem dX1_add_45 : decode cX1_add 45 = .ok (.invokestatic 243, 3) := dk_184 0 243 (dk_at dksX1_add_2 0 rfl rfl)
theorem dX1_add_48 : decode cX1_add 48 = .ok (.aload_n 0, 1) := dk_42 (dk_at dksX1_add_2 3 rfl rfl)
theorem dX1_add_49 : decode cX1_add 49 = .ok (.getfield 116, 3) := dk_180 0 116 (dk_at dksX1_add_2 4 rfl rfl)
theorem dX1_add_52 : decode cX1_add 52 = .ok (.iload_n 1, 1) := dk_27 (dk_at dksX1_add_2 7 rfl rfl)
theorem dX1_add_53 : decode cX1_add 53 = .ok (.new 38, 3) := dk_187 0 38 (dk_at dksX1_add_2 8 rfl rfl)
theorem dX1_add_56 : decode cX1_add 56 = .ok (.dup, 1) := dk_89 (dk_at dksX1_add_2 11 rfl rfl)
theorem dX1_add_57 : decode cX1_add 57 = .ok (.iload_n 1, 1) := dk_27 (dk_at dksX1_add_2 12 rfl rfl)
theorem dX1_add_58 : decode cX1_add 58 = .ok (.iload_n 2, 1) := dk_28 (dk_at dksX1_add_2 13 rfl rfl)
theorem dX1_add_59 : decode cX1_add 59 = .ok (.iload_n 3, 1) := dk_29 (dk_at dksX1_add_2 14 rfl rfl)
theorem dX1_add_60 : decode cX1_add 60 = .ok (.iload 4, 2) := dk_21 4 (dk_at dksX1_add_2 15 rfl rfl)
theorem dX1_add_62 : decode cX1_add 62 = .ok (.invokespecial 278, 3) := dk_183 1 22 (dk_at dksX1_add_2 17 rfl rfl)
theorem dX1_add_65 : decode cX1_add 65 = .ok (.aastore, 1) := dk_83 (dk_at dksX1_add_2 20 rfl rfl)
theorem dX1_add_66 : decode cX1_add 66 = .ok (.iload 4, 2) := dk_21 4 (dk_at dksX1_add_2 21 rfl rfl)
theorem dX1_add_68 : decode cX1_add 68 = .ok (.ifCond .eq 17, 3) := dk_153 0 17 (dk_at dksX1_add_3 0 rfl rfl)
theorem dX1_add_71 : decode cX1_add 71 = .ok (.aload_n 0, 1) := dk_42 (dk_at dksX1_add_3 3 rfl rfl)
theorem dX1_add_72 : decode cX1_add 72 = .ok (.aload_n 0, 1) := dk_42 (dk_at dksX1_add_3 4 rfl rfl)
theorem dX1_add_73 : decode cX1_add 73 = .ok (.getfield 116, 3) := dk_180 0 116 (dk_at dksX1_add_3 5 rfl rfl)
theorem dX1_add_76 : decode cX1_add 76 = .ok (.iload_n 1, 1) := dk_27 (dk_at dksX1_add_3 8 rfl rfl)
theorem dX1_add_77 : decode cX1_add 77 = .ok (.aaload, 1) := dk_50 (dk_at dksX1_add_3 9 rfl rfl)
theorem dX1_add_78 : decode cX1_add 78 = .ok (.iconst 0, 1) := dk_3 (dk_at dksX1_add_3 10 rfl rfl)
theorem dX1_add_79 : decode cX1_add 79 = .ok (.invokevirtual 281, 3) := dk_182 1 25 (dk_at dksX1_add_3 11 rfl rfl)
theorem dX1_add_82 : decode cX1_add 82 = .ok (.ifCond .eq 7, 3) := dk_153 0 7 (dk_at dksX1_add_3 14 rfl rfl)
theorem dX1_add_85 : decode cX1_add 85 = .ok (.iconst 1, 1) := dk_4 (dk_at dksX1_add_3 17 rfl rfl)
theorem dX1_add_86 : decode cX1_add 86 = .ok (.goto 4, 3) := dk_167 0 4 (dk_at dksX1_add_3 18 rfl rfl)
theorem dX1_add_89 : decode cX1_add 89 = .ok (.iconst 0, 1) := dk_3 (dk_at dksX1_add_3 21 rfl rfl)
theorem dX1_add_90 : decode cX1_add 90 = .ok (.istore 5, 2) := dk_54 5 (dk_at dksX1_add_3 22 rfl rfl)
theorem dX1_add_92 : decode cX1_add 92 = .ok (.aload_n 0, 1) := dk_42 (dk_at dksX1_add_4 0 rfl rfl)
theorem dX1_add_93 : decode cX1_add 93 = .ok (.invokevirtual 285, 3) := dk_182 1 29 (dk_at dksX1_add_4 1 rfl rfl)
theorem dX1_add_96 : decode cX1_add 96 = .ok (.ireturn, 1) := dk_172 (dk_at dksX1_add_4 4 rfl rfl)
abbrev cX1_checkRange : ByteArray := prog_1_method_17_code
def yX1_checkRange : MethodName := ⟨RX1, "checkRange", "(III)V"⟩
def dkwX1_checkRange_0 : List UInt8 := [26, 27, 161, 0, 8, 26, 28, 164, 0, 11, 187, 0, 229, 89, 183, 0, 231, 191, 177]
abbrev dktX1_checkRange_0 : List UInt8 := dkwX1_checkRange_0 ++ []
theorem dksX1_checkRange_0 : cX1_checkRange.data.toList.drop 0 = dktX1_checkRange_0 := by decide +kernel
theorem dX1_checkRange_0 : decode cX1_checkRange 0 = .ok (.iload_n 0, 1) := dk_26 (dk_at dksX1_checkRange_0 0 rfl rfl)
theorem dX1_checkRange_1 : decode cX1_checkRange 1 = .ok (.iload_n 1, 1) := dk_27 (dk_at dksX1_checkRange_0 1 rfl rfl)
theorem dX1_checkRange_2 : decode cX1_checkRange 2 = .ok (.if_icmp .lt 8, 3) := dk_161 0 8 (dk_at dksX1_checkRange_0 2 rfl rfl)
theorem dX1_checkRange_5 : decode cX1_checkRange 5 = .ok (.iload_n 0, 1) := dk_26 (dk_at dksX1_checkRange_0 5 rfl rfl)
theorem dX1_checkRange_6 : decode cX1_checkRange 6 = .ok (.iload_n 2, 1) := dk_28 (dk_at dksX1_checkRange_0 6 rfl rfl)
theorem dX1_checkRange_7 : decode cX1_checkRange 7 = .ok (.if_icmp .le 11, 3) := dk_164 0 11 (dk_at dksX1_checkRange_0 7 rfl rfl)
theorem dX1_checkRange_10 : decode cX1_checkRange 10 = .ok (.new 229, 3) := dk_187 0 229 (dk_at dksX1_checkRange_0 10 rfl rfl)
theorem dX1_checkRange_13 : decode cX1_checkRange 13 = .ok (.dup, 1) := dk_89 (dk_at dksX1_checkRange_0 13 rfl rfl)
theorem dX1_checkRange_14 : decode cX1_checkRange 14 = .ok (.invokespecial 231, 3) := dk_183 0 231 (dk_at dksX1_checkRange_0 14 rfl rfl)
theorem dX1_checkRange_17 : decode cX1_checkRange 17 = .ok (.athrow, 1) := dk_191 (dk_at dksX1_checkRange_0 17 rfl rfl)
theorem dX1_checkRange_18 : decode cX1_checkRange 18 = .ok (.return_, 1) := dk_177 (dk_at dksX1_checkRange_0 18 rfl rfl)
abbrev cX1_begins : ByteArray := prog_1_method_24_code
def yX1_begins : MethodName := ⟨RX1, "begins", "(LCoreplug$Step;I)Z"⟩
def dkwX1_begins_5 : List UInt8 := [3, 172]
abbrev dktX1_begins_5 : List UInt8 := dkwX1_begins_5 ++ []
def dkwX1_begins_4 : List UInt8 := [172, 58, 4, 42, 42, 45, 43, 28, 186, 1, 6, 0, 0, 182, 0, 112, 43, 180, 0, 247, 28, 182, 1, 9]
abbrev dktX1_begins_4 : List UInt8 := dkwX1_begins_4 ++ dktX1_begins_5
def dkwX1_begins_3 : List UInt8 := [164, 0, 20, 42, 25, 5, 43, 28, 178, 0, 62, 182, 0, 102, 45, 25, 5, 182, 1, 2, 167, 255, 205, 4]
abbrev dktX1_begins_3 : List UInt8 := dkwX1_begins_3 ++ dktX1_begins_4
def dkwX1_begins_2 : List UInt8 := [153, 0, 47, 25, 4, 185, 0, 93, 1, 0, 192, 0, 17, 58, 5, 25, 5, 180, 0, 124, 43, 180, 0, 43]
abbrev dktX1_begins_2 : List UInt8 := dkwX1_begins_2 ++ dktX1_begins_3
def dkwX1_begins_1 : List UInt8 := [183, 0, 228, 78, 42, 180, 0, 1, 185, 0, 160, 1, 0, 58, 4, 25, 4, 185, 0, 88, 1, 0]
abbrev dktX1_begins_1 : List UInt8 := dkwX1_begins_1 ++ dktX1_begins_2
def dkwX1_begins_0 : List UInt8 := [43, 180, 0, 247, 28, 182, 0, 251, 43, 180, 0, 255, 28, 42, 180, 0, 49, 79, 187, 0, 193, 89]
abbrev dktX1_begins_0 : List UInt8 := dkwX1_begins_0 ++ dktX1_begins_1
theorem dksX1_begins_0 : cX1_begins.data.toList.drop 0 = dktX1_begins_0 := by decide +kernel
theorem dksX1_begins_1 : cX1_begins.data.toList.drop 22 = dktX1_begins_1 := dk_seg dksX1_begins_0 22 rfl rfl
theorem dksX1_begins_2 : cX1_begins.data.toList.drop 44 = dktX1_begins_2 := dk_seg dksX1_begins_1 22 rfl rfl
theorem dksX1_begins_3 : cX1_begins.data.toList.drop 68 = dktX1_begins_3 := dk_seg dksX1_begins_2 24 rfl rfl
theorem dksX1_begins_4 : cX1_begins.data.toList.drop 92 = dktX1_begins_4 := dk_seg dksX1_begins_3 24 rfl rfl
theorem dksX1_begins_5 : cX1_begins.data.toList.drop 116 = dktX1_begins_5 := dk_seg dksX1_begins_4 24 rfl rfl
theorem dX1_begins_0 : decode cX1_begins 0 = .ok (.aload_n 1, 1) := dk_43 (dk_at dksX1_begins_0 0 rfl rfl)
theorem dX1_begins_1 : decode cX1_begins 1 = .ok (.getfield 247, 3) := dk_180 0 247 (dk_at dksX1_begins_0 1 rfl rfl)
theorem dX1_begins_4 : decode cX1_begins 4 = .ok (.iload_n 2, 1) := dk_28 (dk_at dksX1_begins_0 4 rfl rfl)
theorem dX1_begins_5 : decode cX1_begins 5 = .ok (.invokevirtual 251, 3) := dk_182 0 251 (dk_at dksX1_begins_0 5 rfl rfl)
theorem dX1_begins_8 : decode cX1_begins 8 = .ok (.aload_n 1, 1) := dk_43 (dk_at dksX1_begins_0 8 rfl rfl)
theorem dX1_begins_9 : decode cX1_begins 9 = .ok (.getfield 255, 3) := dk_180 0 255 (dk_at dksX1_begins_0 9 rfl rfl)
theorem dX1_begins_12 : decode cX1_begins 12 = .ok (.iload_n 2, 1) := dk_28 (dk_at dksX1_begins_0 12 rfl rfl)
theorem dX1_begins_13 : decode cX1_begins 13 = .ok (.aload_n 0, 1) := dk_42 (dk_at dksX1_begins_0 13 rfl rfl)
theorem dX1_begins_14 : decode cX1_begins 14 = .ok (.getfield 49, 3) := dk_180 0 49 (dk_at dksX1_begins_0 14 rfl rfl)
theorem dX1_begins_17 : decode cX1_begins 17 = .ok (.iastore, 1) := dk_79 (dk_at dksX1_begins_0 17 rfl rfl)
theorem dX1_begins_18 : decode cX1_begins 18 = .ok (.new 193, 3) := dk_187 0 193 (dk_at dksX1_begins_0 18 rfl rfl)
theorem dX1_begins_21 : decode cX1_begins 21 = .ok (.dup, 1) := dk_89 (dk_at dksX1_begins_0 21 rfl rfl)
theorem dX1_begins_22 : decode cX1_begins 22 = .ok (.invokespecial 228, 3) := dk_183 0 228 (dk_at dksX1_begins_1 0 rfl rfl)
theorem dX1_begins_25 : decode cX1_begins 25 = .ok (.astore_n 3, 1) := dk_78 (dk_at dksX1_begins_1 3 rfl rfl)
theorem dX1_begins_26 : decode cX1_begins 26 = .ok (.aload_n 0, 1) := dk_42 (dk_at dksX1_begins_1 4 rfl rfl)
theorem dX1_begins_27 : decode cX1_begins 27 = .ok (.getfield 1, 3) := dk_180 0 1 (dk_at dksX1_begins_1 5 rfl rfl)
theorem dX1_begins_30 : decode cX1_begins 30 = .ok (.invokeinterface 160 1, 5) := by decide +kernel
theorem dX1_begins_35 : decode cX1_begins 35 = .ok (.astore 4, 2) := dk_58 4 (dk_at dksX1_begins_1 13 rfl rfl)
theorem dX1_begins_37 : decode cX1_begins 37 = .ok (.aload 4, 2) := dk_25 4 (dk_at dksX1_begins_1 15 rfl rfl)
theorem dX1_begins_39 : decode cX1_begins 39 = .ok (.invokeinterface 88 1, 5) := by decide +kernel
theorem dX1_begins_44 : decode cX1_begins 44 = .ok (.ifCond .eq 47, 3) := dk_153 0 47 (dk_at dksX1_begins_2 0 rfl rfl)
theorem dX1_begins_47 : decode cX1_begins 47 = .ok (.aload 4, 2) := dk_25 4 (dk_at dksX1_begins_2 3 rfl rfl)
theorem dX1_begins_49 : decode cX1_begins 49 = .ok (.invokeinterface 93 1, 5) := by decide +kernel
theorem dX1_begins_54 : decode cX1_begins 54 = .ok (.checkcast 17, 3) := dk_192 0 17 (dk_at dksX1_begins_2 10 rfl rfl)
theorem dX1_begins_57 : decode cX1_begins 57 = .ok (.astore 5, 2) := dk_58 5 (dk_at dksX1_begins_2 13 rfl rfl)
theorem dX1_begins_59 : decode cX1_begins 59 = .ok (.aload 5, 2) := dk_25 5 (dk_at dksX1_begins_2 15 rfl rfl)
theorem dX1_begins_61 : decode cX1_begins 61 = .ok (.getfield 124, 3) := dk_180 0 124 (dk_at dksX1_begins_2 17 rfl rfl)
theorem dX1_begins_64 : decode cX1_begins 64 = .ok (.aload_n 1, 1) := dk_43 (dk_at dksX1_begins_2 20 rfl rfl)
theorem dX1_begins_65 : decode cX1_begins 65 = .ok (.getfield 43, 3) := dk_180 0 43 (dk_at dksX1_begins_2 21 rfl rfl)
theorem dX1_begins_68 : decode cX1_begins 68 = .ok (.if_icmp .le 20, 3) := dk_164 0 20 (dk_at dksX1_begins_3 0 rfl rfl)
theorem dX1_begins_71 : decode cX1_begins 71 = .ok (.aload_n 0, 1) := dk_42 (dk_at dksX1_begins_3 3 rfl rfl)
theorem dX1_begins_72 : decode cX1_begins 72 = .ok (.aload 5, 2) := dk_25 5 (dk_at dksX1_begins_3 4 rfl rfl)
theorem dX1_begins_74 : decode cX1_begins 74 = .ok (.aload_n 1, 1) := dk_43 (dk_at dksX1_begins_3 6 rfl rfl)
theorem dX1_begins_75 : decode cX1_begins 75 = .ok (.iload_n 2, 1) := dk_28 (dk_at dksX1_begins_3 7 rfl rfl)
theorem dX1_begins_76 : decode cX1_begins 76 = .ok (.getstatic 62, 3) := dk_178 0 62 (dk_at dksX1_begins_3 8 rfl rfl)
theorem dX1_begins_79 : decode cX1_begins 79 = .ok (.invokevirtual 102, 3) := dk_182 0 102 (dk_at dksX1_begins_3 11 rfl rfl)
theorem dX1_begins_82 : decode cX1_begins 82 = .ok (.aload_n 3, 1) := dk_45 (dk_at dksX1_begins_3 14 rfl rfl)
theorem dX1_begins_83 : decode cX1_begins 83 = .ok (.aload 5, 2) := dk_25 5 (dk_at dksX1_begins_3 15 rfl rfl)
theorem dX1_begins_85 : decode cX1_begins 85 = .ok (.invokevirtual 258, 3) := dk_182 1 2 (dk_at dksX1_begins_3 17 rfl rfl)
theorem dX1_begins_88 : decode cX1_begins 88 = .ok (.goto (-51), 3) := dk_167 255 205 (dk_at dksX1_begins_3 20 rfl rfl)
theorem dX1_begins_91 : decode cX1_begins 91 = .ok (.iconst 1, 1) := dk_4 (dk_at dksX1_begins_3 23 rfl rfl)
theorem dX1_begins_92 : decode cX1_begins 92 = .ok (.ireturn, 1) := dk_172 (dk_at dksX1_begins_4 0 rfl rfl)
theorem dX1_begins_93 : decode cX1_begins 93 = .ok (.astore 4, 2) := dk_58 4 (dk_at dksX1_begins_4 1 rfl rfl)
theorem dX1_begins_95 : decode cX1_begins 95 = .ok (.aload_n 0, 1) := dk_42 (dk_at dksX1_begins_4 3 rfl rfl)
theorem dX1_begins_96 : decode cX1_begins 96 = .ok (.aload_n 0, 1) := dk_42 (dk_at dksX1_begins_4 4 rfl rfl)
theorem dX1_begins_97 : decode cX1_begins 97 = .ok (.aload_n 3, 1) := dk_45 (dk_at dksX1_begins_4 5 rfl rfl)
theorem dX1_begins_98 : decode cX1_begins 98 = .ok (.aload_n 1, 1) := dk_43 (dk_at dksX1_begins_4 6 rfl rfl)
theorem dX1_begins_99 : decode cX1_begins 99 = .ok (.iload_n 2, 1) := dk_28 (dk_at dksX1_begins_4 7 rfl rfl)
theorem dX1_begins_100 : decode cX1_begins 100 = .ok (.invokedynamic 262, 5) := by decide +kernel
theorem dX1_begins_105 : decode cX1_begins 105 = .ok (.invokevirtual 112, 3) := dk_182 0 112 (dk_at dksX1_begins_4 13 rfl rfl)
theorem dX1_begins_108 : decode cX1_begins 108 = .ok (.aload_n 1, 1) := dk_43 (dk_at dksX1_begins_4 16 rfl rfl)
theorem dX1_begins_109 : decode cX1_begins 109 = .ok (.getfield 247, 3) := dk_180 0 247 (dk_at dksX1_begins_4 17 rfl rfl)
theorem dX1_begins_112 : decode cX1_begins 112 = .ok (.iload_n 2, 1) := dk_28 (dk_at dksX1_begins_4 20 rfl rfl)
theorem dX1_begins_113 : decode cX1_begins 113 = .ok (.invokevirtual 265, 3) := dk_182 1 9 (dk_at dksX1_begins_4 21 rfl rfl)
theorem dX1_begins_116 : decode cX1_begins 116 = .ok (.iconst 0, 1) := dk_3 (dk_at dksX1_begins_5 0 rfl rfl)
theorem dX1_begins_117 : decode cX1_begins 117 = .ok (.ireturn, 1) := dk_172 (dk_at dksX1_begins_5 1 rfl rfl)
abbrev cX1_call : ByteArray := prog_1_method_3_code
def yX1_call : MethodName := ⟨RX1, "call", "(LCoreplug$Core;LCoreplug$Step;ILCoreplug$Way;)V"⟩
def dkwX1_call_8 : List UInt8 := [183, 0, 68, 191, 177]
abbrev dktX1_call_8 : List UInt8 := dkwX1_call_8 ++ []
def dkwX1_call_7 : List UInt8 := [128, 79, 42, 89, 180, 0, 49, 4, 96, 181, 0, 49, 21, 5, 153, 0, 12, 187, 0, 66, 89, 29]
abbrev dktX1_call_7 : List UInt8 := dkwX1_call_7 ++ dktX1_call_8
def dkwX1_call_6 : List UInt8 := [120, 128, 21, 6, 4, 96, 7, 120, 128, 44, 180, 0, 43, 16, 8, 120, 128, 43, 180, 0, 33, 16, 13, 120]
abbrev dktX1_call_6 : List UInt8 := dkwX1_call_6 ++ dktX1_call_7
def dkwX1_call_5 : List UInt8 := [153, 0, 7, 4, 167, 0, 4, 3, 25, 4, 178, 0, 62, 166, 0, 7, 5, 167, 0, 4, 3, 128, 29, 5]
abbrev dktX1_call_5 : List UInt8 := dkwX1_call_5 ++ dktX1_call_6
def dkwX1_call_4 : List UInt8 := [180, 0, 49, 184, 0, 56, 42, 25, 7, 181, 0, 52, 42, 180, 0, 52, 42, 180, 0, 49, 21, 5]
abbrev dktX1_call_4 : List UInt8 := dkwX1_call_4 ++ dktX1_call_5
def dkwX1_call_3 : List UInt8 := [160, 0, 34, 5, 42, 180, 0, 49, 104, 188, 10, 58, 7, 42, 180, 0, 52, 3, 25, 7, 3, 42]
abbrev dktX1_call_3 : List UInt8 := dkwX1_call_3 ++ dktX1_call_4
def dkwX1_call_2 : List UInt8 := [42, 182, 0, 46, 167, 0, 7, 43, 180, 0, 33, 54, 6, 42, 180, 0, 49, 42, 180, 0, 52, 190]
abbrev dktX1_call_2 : List UInt8 := dkwX1_call_2 ++ dktX1_call_3
def dkwX1_call_1 : List UInt8 := [25, 4, 182, 0, 37, 153, 0, 7, 4, 167, 0, 4, 3, 54, 5, 44, 180, 0, 43, 16, 10, 162, 0, 10]
abbrev dktX1_call_1 : List UInt8 := dkwX1_call_1 ++ dktX1_call_2
def dkwX1_call_0 : List UInt8 := [25, 4, 44, 182, 0, 23, 154, 0, 4, 177, 42, 180, 0, 29, 154, 0, 21, 44, 43, 180, 0, 33, 29]
abbrev dktX1_call_0 : List UInt8 := dkwX1_call_0 ++ dktX1_call_1
theorem dksX1_call_0 : cX1_call.data.toList.drop 0 = dktX1_call_0 := by decide +kernel
theorem dksX1_call_1 : cX1_call.data.toList.drop 23 = dktX1_call_1 := dk_seg dksX1_call_0 23 rfl rfl
theorem dksX1_call_2 : cX1_call.data.toList.drop 47 = dktX1_call_2 := dk_seg dksX1_call_1 24 rfl rfl
theorem dksX1_call_3 : cX1_call.data.toList.drop 69 = dktX1_call_3 := dk_seg dksX1_call_2 22 rfl rfl
theorem dksX1_call_4 : cX1_call.data.toList.drop 91 = dktX1_call_4 := dk_seg dksX1_call_3 22 rfl rfl
theorem dksX1_call_5 : cX1_call.data.toList.drop 113 = dktX1_call_5 := dk_seg dksX1_call_4 22 rfl rfl
theorem dksX1_call_6 : cX1_call.data.toList.drop 137 = dktX1_call_6 := dk_seg dksX1_call_5 24 rfl rfl
theorem dksX1_call_7 : cX1_call.data.toList.drop 161 = dktX1_call_7 := dk_seg dksX1_call_6 24 rfl rfl
theorem dksX1_call_8 : cX1_call.data.toList.drop 183 = dktX1_call_8 := dk_seg dksX1_call_7 22 rfl rfl
theorem dX1_call_0 : decode cX1_call 0 = .ok (.aload 4, 2) := dk_25 4 (dk_at dksX1_call_0 0 rfl rfl)
theorem dX1_call_2 : decode cX1_call 2 = .ok (.aload_n 2, 1) := dk_44 (dk_at dksX1_call_0 2 rfl rfl)
theorem dX1_call_3 : decode cX1_call 3 = .ok (.invokevirtual 23, 3) := dk_182 0 23 (dk_at dksX1_call_0 3 rfl rfl)
theorem dX1_call_6 : decode cX1_call 6 = .ok (.ifCond .ne 4, 3) := dk_154 0 4 (dk_at dksX1_call_0 6 rfl rfl)
theorem dX1_call_9 : decode cX1_call 9 = .ok (.return_, 1) := dk_177 (dk_at dksX1_call_0 9 rfl rfl)
theorem dX1_call_10 : decode cX1_call 10 = .ok (.aload_n 0, 1) := dk_42 (dk_at dksX1_call_0 10 rfl rfl)
theorem dX1_call_11 : decode cX1_call 11 = .ok (.getfield 29, 3) := dk_180 0 29 (dk_at dksX1_call_0 11 rfl rfl)
theorem dX1_call_14 : decode cX1_call 14 = .ok (.ifCond .ne 21, 3) := dk_154 0 21 (dk_at dksX1_call_0 14 rfl rfl)
theorem dX1_call_17 : decode cX1_call 17 = .ok (.aload_n 2, 1) := dk_44 (dk_at dksX1_call_0 17 rfl rfl)
theorem dX1_call_18 : decode cX1_call 18 = .ok (.aload_n 1, 1) := dk_43 (dk_at dksX1_call_0 18 rfl rfl)
theorem dX1_call_19 : decode cX1_call 19 = .ok (.getfield 33, 3) := dk_180 0 33 (dk_at dksX1_call_0 19 rfl rfl)
theorem dX1_call_22 : decode cX1_call 22 = .ok (.iload_n 3, 1) := dk_29 (dk_at dksX1_call_0 22 rfl rfl)
theorem dX1_call_23 : decode cX1_call 23 = .ok (.aload 4, 2) := dk_25 4 (dk_at dksX1_call_1 0 rfl rfl)
theorem dX1_call_25 : decode cX1_call 25 = .ok (.invokevirtual 37, 3) := dk_182 0 37 (dk_at dksX1_call_1 2 rfl rfl)
theorem dX1_call_28 : decode cX1_call 28 = .ok (.ifCond .eq 7, 3) := dk_153 0 7 (dk_at dksX1_call_1 5 rfl rfl)
theorem dX1_call_31 : decode cX1_call 31 = .ok (.iconst 1, 1) := dk_4 (dk_at dksX1_call_1 8 rfl rfl)
theorem dX1_call_32 : decode cX1_call 32 = .ok (.goto 4, 3) := dk_167 0 4 (dk_at dksX1_call_1 9 rfl rfl)
theorem dX1_call_35 : decode cX1_call 35 = .ok (.iconst 0, 1) := dk_3 (dk_at dksX1_call_1 12 rfl rfl)
theorem dX1_call_36 : decode cX1_call 36 = .ok (.istore 5, 2) := dk_54 5 (dk_at dksX1_call_1 13 rfl rfl)
theorem dX1_call_38 : decode cX1_call 38 = .ok (.aload_n 2, 1) := dk_44 (dk_at dksX1_call_1 15 rfl rfl)
theorem dX1_call_39 : decode cX1_call 39 = .ok (.getfield 43, 3) := dk_180 0 43 (dk_at dksX1_call_1 16 rfl rfl)
theorem dX1_call_42 : decode cX1_call 42 = .ok (.bipush 10, 2) := dk_16 10 (dk_at dksX1_call_1 19 rfl rfl)
theorem dX1_call_44 : decode cX1_call 44 = .ok (.if_icmp .ge 10, 3) := dk_162 0 10 (dk_at dksX1_call_1 21 rfl rfl)
theorem dX1_call_47 : decode cX1_call 47 = .ok (.aload_n 0, 1) := dk_42 (dk_at dksX1_call_2 0 rfl rfl)
theorem dX1_call_48 : decode cX1_call 48 = .ok (.invokevirtual 46, 3) := dk_182 0 46 (dk_at dksX1_call_2 1 rfl rfl)
theorem dX1_call_51 : decode cX1_call 51 = .ok (.goto 7, 3) := dk_167 0 7 (dk_at dksX1_call_2 4 rfl rfl)
theorem dX1_call_54 : decode cX1_call 54 = .ok (.aload_n 1, 1) := dk_43 (dk_at dksX1_call_2 7 rfl rfl)
theorem dX1_call_55 : decode cX1_call 55 = .ok (.getfield 33, 3) := dk_180 0 33 (dk_at dksX1_call_2 8 rfl rfl)
theorem dX1_call_58 : decode cX1_call 58 = .ok (.istore 6, 2) := dk_54 6 (dk_at dksX1_call_2 11 rfl rfl)
theorem dX1_call_60 : decode cX1_call 60 = .ok (.aload_n 0, 1) := dk_42 (dk_at dksX1_call_2 13 rfl rfl)
theorem dX1_call_61 : decode cX1_call 61 = .ok (.getfield 49, 3) := dk_180 0 49 (dk_at dksX1_call_2 14 rfl rfl)
theorem dX1_call_64 : decode cX1_call 64 = .ok (.aload_n 0, 1) := dk_42 (dk_at dksX1_call_2 17 rfl rfl)
theorem dX1_call_65 : decode cX1_call 65 = .ok (.getfield 52, 3) := dk_180 0 52 (dk_at dksX1_call_2 18 rfl rfl)
theorem dX1_call_68 : decode cX1_call 68 = .ok (.arraylength, 1) := dk_190 (dk_at dksX1_call_2 21 rfl rfl)
theorem dX1_call_69 : decode cX1_call 69 = .ok (.if_icmp .ne 34, 3) := dk_160 0 34 (dk_at dksX1_call_3 0 rfl rfl)
theorem dX1_call_72 : decode cX1_call 72 = .ok (.iconst 2, 1) := dk_5 (dk_at dksX1_call_3 3 rfl rfl)
theorem dX1_call_73 : decode cX1_call 73 = .ok (.aload_n 0, 1) := dk_42 (dk_at dksX1_call_3 4 rfl rfl)
theorem dX1_call_74 : decode cX1_call 74 = .ok (.getfield 49, 3) := dk_180 0 49 (dk_at dksX1_call_3 5 rfl rfl)
theorem dX1_call_77 : decode cX1_call 77 = .ok (.imul, 1) := dk_104 (dk_at dksX1_call_3 8 rfl rfl)
theorem dX1_call_78 : decode cX1_call 78 = .ok (.newarray .int, 2) := dk_188_10 (dk_at dksX1_call_3 9 rfl rfl)
theorem dX1_call_80 : decode cX1_call 80 = .ok (.astore 7, 2) := dk_58 7 (dk_at dksX1_call_3 11 rfl rfl)
theorem dX1_call_82 : decode cX1_call 82 = .ok (.aload_n 0, 1) := dk_42 (dk_at dksX1_call_3 13 rfl rfl)
theorem dX1_call_83 : decode cX1_call 83 = .ok (.getfield 52, 3) := dk_180 0 52 (dk_at dksX1_call_3 14 rfl rfl)
theorem dX1_call_86 : decode cX1_call 86 = .ok (.iconst 0, 1) := dk_3 (dk_at dksX1_call_3 17 rfl rfl)
theorem dX1_call_87 : decode cX1_call 87 = .ok (.aload 7, 2) := dk_25 7 (dk_at dksX1_call_3 18 rfl rfl)
theorem dX1_call_89 : decode cX1_call 89 = .ok (.iconst 0, 1) := dk_3 (dk_at dksX1_call_3 20 rfl rfl)
theorem dX1_call_90 : decode cX1_call 90 = .ok (.aload_n 0, 1) := dk_42 (dk_at dksX1_call_3 21 rfl rfl)
theorem dX1_call_91 : decode cX1_call 91 = .ok (.getfield 49, 3) := dk_180 0 49 (dk_at dksX1_call_4 0 rfl rfl)
theorem dX1_call_94 : decode cX1_call 94 = .ok (.invokestatic 56, 3) := dk_184 0 56 (dk_at dksX1_call_4 3 rfl rfl)
theorem dX1_call_97 : decode cX1_call 97 = .ok (.aload_n 0, 1) := dk_42 (dk_at dksX1_call_4 6 rfl rfl)
theorem dX1_call_98 : decode cX1_call 98 = .ok (.aload 7, 2) := dk_25 7 (dk_at dksX1_call_4 7 rfl rfl)
theorem dX1_call_100 : decode cX1_call 100 = .ok (.putfield 52, 3) := dk_181 0 52 (dk_at dksX1_call_4 9 rfl rfl)
theorem dX1_call_103 : decode cX1_call 103 = .ok (.aload_n 0, 1) := dk_42 (dk_at dksX1_call_4 12 rfl rfl)
theorem dX1_call_104 : decode cX1_call 104 = .ok (.getfield 52, 3) := dk_180 0 52 (dk_at dksX1_call_4 13 rfl rfl)
theorem dX1_call_107 : decode cX1_call 107 = .ok (.aload_n 0, 1) := dk_42 (dk_at dksX1_call_4 16 rfl rfl)
theorem dX1_call_108 : decode cX1_call 108 = .ok (.getfield 49, 3) := dk_180 0 49 (dk_at dksX1_call_4 17 rfl rfl)
theorem dX1_call_111 : decode cX1_call 111 = .ok (.iload 5, 2) := dk_21 5 (dk_at dksX1_call_4 20 rfl rfl)
theorem dX1_call_113 : decode cX1_call 113 = .ok (.ifCond .eq 7, 3) := dk_153 0 7 (dk_at dksX1_call_5 0 rfl rfl)
theorem dX1_call_116 : decode cX1_call 116 = .ok (.iconst 1, 1) := dk_4 (dk_at dksX1_call_5 3 rfl rfl)
theorem dX1_call_117 : decode cX1_call 117 = .ok (.goto 4, 3) := dk_167 0 4 (dk_at dksX1_call_5 4 rfl rfl)
theorem dX1_call_120 : decode cX1_call 120 = .ok (.iconst 0, 1) := dk_3 (dk_at dksX1_call_5 7 rfl rfl)
theorem dX1_call_121 : decode cX1_call 121 = .ok (.aload 4, 2) := dk_25 4 (dk_at dksX1_call_5 8 rfl rfl)
theorem dX1_call_123 : decode cX1_call 123 = .ok (.getstatic 62, 3) := dk_178 0 62 (dk_at dksX1_call_5 10 rfl rfl)
theorem dX1_call_126 : decode cX1_call 126 = .ok (.if_acmp .ne 7, 3) := dk_166 0 7 (dk_at dksX1_call_5 13 rfl rfl)
theorem dX1_call_129 : decode cX1_call 129 = .ok (.iconst 2, 1) := dk_5 (dk_at dksX1_call_5 16 rfl rfl)
theorem dX1_call_130 : decode cX1_call 130 = .ok (.goto 4, 3) := dk_167 0 4 (dk_at dksX1_call_5 17 rfl rfl)
theorem dX1_call_133 : decode cX1_call 133 = .ok (.iconst 0, 1) := dk_3 (dk_at dksX1_call_5 20 rfl rfl)
theorem dX1_call_134 : decode cX1_call 134 = .ok (.ior, 1) := dk_128 (dk_at dksX1_call_5 21 rfl rfl)
theorem dX1_call_135 : decode cX1_call 135 = .ok (.iload_n 3, 1) := dk_29 (dk_at dksX1_call_5 22 rfl rfl)
theorem dX1_call_136 : decode cX1_call 136 = .ok (.iconst 2, 1) := dk_5 (dk_at dksX1_call_5 23 rfl rfl)
theorem dX1_call_137 : decode cX1_call 137 = .ok (.ishl, 1) := dk_120 (dk_at dksX1_call_6 0 rfl rfl)
theorem dX1_call_138 : decode cX1_call 138 = .ok (.ior, 1) := dk_128 (dk_at dksX1_call_6 1 rfl rfl)
theorem dX1_call_139 : decode cX1_call 139 = .ok (.iload 6, 2) := dk_21 6 (dk_at dksX1_call_6 2 rfl rfl)
theorem dX1_call_141 : decode cX1_call 141 = .ok (.iconst 1, 1) := dk_4 (dk_at dksX1_call_6 4 rfl rfl)
theorem dX1_call_142 : decode cX1_call 142 = .ok (.iadd, 1) := dk_96 (dk_at dksX1_call_6 5 rfl rfl)
theorem dX1_call_143 : decode cX1_call 143 = .ok (.iconst 4, 1) := dk_7 (dk_at dksX1_call_6 6 rfl rfl)
theorem dX1_call_144 : decode cX1_call 144 = .ok (.ishl, 1) := dk_120 (dk_at dksX1_call_6 7 rfl rfl)
theorem dX1_call_145 : decode cX1_call 145 = .ok (.ior, 1) := dk_128 (dk_at dksX1_call_6 8 rfl rfl)
theorem dX1_call_146 : decode cX1_call 146 = .ok (.aload_n 2, 1) := dk_44 (dk_at dksX1_call_6 9 rfl rfl)
theorem dX1_call_147 : decode cX1_call 147 = .ok (.getfield 43, 3) := dk_180 0 43 (dk_at dksX1_call_6 10 rfl rfl)
theorem dX1_call_150 : decode cX1_call 150 = .ok (.bipush 8, 2) := dk_16 8 (dk_at dksX1_call_6 13 rfl rfl)
theorem dX1_call_152 : decode cX1_call 152 = .ok (.ishl, 1) := dk_120 (dk_at dksX1_call_6 15 rfl rfl)
theorem dX1_call_153 : decode cX1_call 153 = .ok (.ior, 1) := dk_128 (dk_at dksX1_call_6 16 rfl rfl)
theorem dX1_call_154 : decode cX1_call 154 = .ok (.aload_n 1, 1) := dk_43 (dk_at dksX1_call_6 17 rfl rfl)
theorem dX1_call_155 : decode cX1_call 155 = .ok (.getfield 33, 3) := dk_180 0 33 (dk_at dksX1_call_6 18 rfl rfl)
theorem dX1_call_158 : decode cX1_call 158 = .ok (.bipush 13, 2) := dk_16 13 (dk_at dksX1_call_6 21 rfl rfl)
theorem dX1_call_160 : decode cX1_call 160 = .ok (.ishl, 1) := dk_120 (dk_at dksX1_call_6 23 rfl rfl)
theorem dX1_call_161 : decode cX1_call 161 = .ok (.ior, 1) := dk_128 (dk_at dksX1_call_7 0 rfl rfl)
theorem dX1_call_162 : decode cX1_call 162 = .ok (.iastore, 1) := dk_79 (dk_at dksX1_call_7 1 rfl rfl)
theorem dX1_call_163 : decode cX1_call 163 = .ok (.aload_n 0, 1) := dk_42 (dk_at dksX1_call_7 2 rfl rfl)
theorem dX1_call_164 : decode cX1_call 164 = .ok (.dup, 1) := dk_89 (dk_at dksX1_call_7 3 rfl rfl)
theorem dX1_call_165 : decode cX1_call 165 = .ok (.getfield 49, 3) := dk_180 0 49 (dk_at dksX1_call_7 4 rfl rfl)
theorem dX1_call_168 : decode cX1_call 168 = .ok (.iconst 1, 1) := dk_4 (dk_at dksX1_call_7 7 rfl rfl)
theorem dX1_call_169 : decode cX1_call 169 = .ok (.iadd, 1) := dk_96 (dk_at dksX1_call_7 8 rfl rfl)
theorem dX1_call_170 : decode cX1_call 170 = .ok (.putfield 49, 3) := dk_181 0 49 (dk_at dksX1_call_7 9 rfl rfl)
theorem dX1_call_173 : decode cX1_call 173 = .ok (.iload 5, 2) := dk_21 5 (dk_at dksX1_call_7 12 rfl rfl)
theorem dX1_call_175 : decode cX1_call 175 = .ok (.ifCond .eq 12, 3) := dk_153 0 12 (dk_at dksX1_call_7 14 rfl rfl)
theorem dX1_call_178 : decode cX1_call 178 = .ok (.new 66, 3) := dk_187 0 66 (dk_at dksX1_call_7 17 rfl rfl)
theorem dX1_call_181 : decode cX1_call 181 = .ok (.dup, 1) := dk_89 (dk_at dksX1_call_7 20 rfl rfl)
theorem dX1_call_182 : decode cX1_call 182 = .ok (.iload_n 3, 1) := dk_29 (dk_at dksX1_call_7 21 rfl rfl)
theorem dX1_call_183 : decode cX1_call 183 = .ok (.invokespecial 68, 3) := dk_183 0 68 (dk_at dksX1_call_8 0 rfl rfl)
theorem dX1_call_186 : decode cX1_call 186 = .ok (.athrow, 1) := dk_191 (dk_at dksX1_call_8 3 rfl rfl)
theorem dX1_call_187 : decode cX1_call 187 = .ok (.return_, 1) := dk_177 (dk_at dksX1_call_8 4 rfl rfl)
abbrev cX1_control : ByteArray := prog_1_method_1_code
def yX1_control : MethodName := ⟨RX1, "control", "()I"⟩
def dkwX1_control_1 : List UInt8 := [185, 0, 13, 2, 0, 192, 0, 17, 182, 0, 19, 153, 0, 5, 27, 172, 132, 1, 1, 167, 255, 219, 2, 172]
abbrev dktX1_control_1 : List UInt8 := dkwX1_control_1 ++ []
def dkwX1_control_0 : List UInt8 := [3, 60, 27, 42, 180, 0, 1, 185, 0, 7, 1, 0, 162, 0, 30, 42, 180, 0, 1, 27]
abbrev dktX1_control_0 : List UInt8 := dkwX1_control_0 ++ dktX1_control_1
theorem dksX1_control_0 : cX1_control.data.toList.drop 0 = dktX1_control_0 := by decide +kernel
theorem dksX1_control_1 : cX1_control.data.toList.drop 20 = dktX1_control_1 := dk_seg dksX1_control_0 20 rfl rfl
theorem dX1_control_0 : decode cX1_control 0 = .ok (.iconst 0, 1) := dk_3 (dk_at dksX1_control_0 0 rfl rfl)
theorem dX1_control_1 : decode cX1_control 1 = .ok (.istore_n 1, 1) := dk_60 (dk_at dksX1_control_0 1 rfl rfl)
theorem dX1_control_2 : decode cX1_control 2 = .ok (.iload_n 1, 1) := dk_27 (dk_at dksX1_control_0 2 rfl rfl)
theorem dX1_control_3 : decode cX1_control 3 = .ok (.aload_n 0, 1) := dk_42 (dk_at dksX1_control_0 3 rfl rfl)
theorem dX1_control_4 : decode cX1_control 4 = .ok (.getfield 1, 3) := dk_180 0 1 (dk_at dksX1_control_0 4 rfl rfl)
theorem dX1_control_7 : decode cX1_control 7 = .ok (.invokeinterface 7 1, 5) := by decide +kernel
theorem dX1_control_12 : decode cX1_control 12 = .ok (.if_icmp .ge 30, 3) := dk_162 0 30 (dk_at dksX1_control_0 12 rfl rfl)
theorem dX1_control_15 : decode cX1_control 15 = .ok (.aload_n 0, 1) := dk_42 (dk_at dksX1_control_0 15 rfl rfl)
theorem dX1_control_16 : decode cX1_control 16 = .ok (.getfield 1, 3) := dk_180 0 1 (dk_at dksX1_control_0 16 rfl rfl)
theorem dX1_control_19 : decode cX1_control 19 = .ok (.iload_n 1, 1) := dk_27 (dk_at dksX1_control_0 19 rfl rfl)
theorem dX1_control_20 : decode cX1_control 20 = .ok (.invokeinterface 13 2, 5) := by decide +kernel
theorem dX1_control_25 : decode cX1_control 25 = .ok (.checkcast 17, 3) := dk_192 0 17 (dk_at dksX1_control_1 5 rfl rfl)
theorem dX1_control_28 : decode cX1_control 28 = .ok (.invokevirtual 19, 3) := dk_182 0 19 (dk_at dksX1_control_1 8 rfl rfl)
theorem dX1_control_31 : decode cX1_control 31 = .ok (.ifCond .eq 5, 3) := dk_153 0 5 (dk_at dksX1_control_1 11 rfl rfl)
theorem dX1_control_34 : decode cX1_control 34 = .ok (.iload_n 1, 1) := dk_27 (dk_at dksX1_control_1 14 rfl rfl)
theorem dX1_control_35 : decode cX1_control 35 = .ok (.ireturn, 1) := dk_172 (dk_at dksX1_control_1 15 rfl rfl)
theorem dX1_control_36 : decode cX1_control 36 = .ok (.iinc 1 1, 3) := dk_132 1 1 (dk_at dksX1_control_1 16 rfl rfl)
theorem dX1_control_39 : decode cX1_control 39 = .ok (.goto (-37), 3) := dk_167 255 219 (dk_at dksX1_control_1 19 rfl rfl)
theorem dX1_control_42 : decode cX1_control 42 = .ok (.iconst (-1), 1) := dk_2 (dk_at dksX1_control_1 22 rfl rfl)
theorem dX1_control_43 : decode cX1_control 43 = .ok (.ireturn, 1) := dk_172 (dk_at dksX1_control_1 23 rfl rfl)
abbrev cX1_lambda_begins_2 : ByteArray := prog_1_method_52_code
def yX1_lambda_begins_2 : MethodName := ⟨RX1, "lambda$begins$2", "(Ljava/util/ArrayDeque;LCoreplug$Step;I)V"⟩
def dkwX1_lambda_begins_2_1 : List UInt8 := [192, 0, 17, 58, 5, 42, 25, 5, 44, 29, 178, 0, 144, 182, 0, 102, 167, 255, 223, 177]
abbrev dktX1_lambda_begins_2_1 : List UInt8 := dkwX1_lambda_begins_2_1 ++ []
def dkwX1_lambda_begins_2_0 : List UInt8 := [43, 182, 0, 192, 58, 4, 25, 4, 185, 0, 88, 1, 0, 153, 0, 29, 25, 4, 185, 0, 93, 1, 0]
abbrev dktX1_lambda_begins_2_0 : List UInt8 := dkwX1_lambda_begins_2_0 ++ dktX1_lambda_begins_2_1
theorem dksX1_lambda_begins_2_0 : cX1_lambda_begins_2.data.toList.drop 0 = dktX1_lambda_begins_2_0 := by decide +kernel
theorem dksX1_lambda_begins_2_1 : cX1_lambda_begins_2.data.toList.drop 23 = dktX1_lambda_begins_2_1 := dk_seg dksX1_lambda_begins_2_0 23 rfl rfl
theorem dX1_lambda_begins_2_0 : decode cX1_lambda_begins_2 0 = .ok (.aload_n 1, 1) := dk_43 (dk_at dksX1_lambda_begins_2_0 0 rfl rfl)
theorem dX1_lambda_begins_2_1 : decode cX1_lambda_begins_2 1 = .ok (.invokevirtual 192, 3) := dk_182 0 192 (dk_at dksX1_lambda_begins_2_0 1 rfl rfl)
theorem dX1_lambda_begins_2_4 : decode cX1_lambda_begins_2 4 = .ok (.astore 4, 2) := dk_58 4 (dk_at dksX1_lambda_begins_2_0 4 rfl rfl)
theorem dX1_lambda_begins_2_6 : decode cX1_lambda_begins_2 6 = .ok (.aload 4, 2) := dk_25 4 (dk_at dksX1_lambda_begins_2_0 6 rfl rfl)
theorem dX1_lambda_begins_2_8 : decode cX1_lambda_begins_2 8 = .ok (.invokeinterface 88 1, 5) := by decide +kernel
theorem dX1_lambda_begins_2_13 : decode cX1_lambda_begins_2 13 = .ok (.ifCond .eq 29, 3) := dk_153 0 29 (dk_at dksX1_lambda_begins_2_0 13 rfl rfl)
theorem dX1_lambda_begins_2_16 : decode cX1_lambda_begins_2 16 = .ok (.aload 4, 2) := dk_25 4 (dk_at dksX1_lambda_begins_2_0 16 rfl rfl)
theorem dX1_lambda_begins_2_18 : decode cX1_lambda_begins_2 18 = .ok (.invokeinterface 93 1, 5) := by decide +kernel
theorem dX1_lambda_begins_2_23 : decode cX1_lambda_begins_2 23 = .ok (.checkcast 17, 3) := dk_192 0 17 (dk_at dksX1_lambda_begins_2_1 0 rfl rfl)
theorem dX1_lambda_begins_2_26 : decode cX1_lambda_begins_2 26 = .ok (.astore 5, 2) := dk_58 5 (dk_at dksX1_lambda_begins_2_1 3 rfl rfl)
theorem dX1_lambda_begins_2_28 : decode cX1_lambda_begins_2 28 = .ok (.aload_n 0, 1) := dk_42 (dk_at dksX1_lambda_begins_2_1 5 rfl rfl)
theorem dX1_lambda_begins_2_29 : decode cX1_lambda_begins_2 29 = .ok (.aload 5, 2) := dk_25 5 (dk_at dksX1_lambda_begins_2_1 6 rfl rfl)
theorem dX1_lambda_begins_2_31 : decode cX1_lambda_begins_2 31 = .ok (.aload_n 2, 1) := dk_44 (dk_at dksX1_lambda_begins_2_1 8 rfl rfl)
theorem dX1_lambda_begins_2_32 : decode cX1_lambda_begins_2 32 = .ok (.iload_n 3, 1) := dk_29 (dk_at dksX1_lambda_begins_2_1 9 rfl rfl)
theorem dX1_lambda_begins_2_33 : decode cX1_lambda_begins_2 33 = .ok (.getstatic 144, 3) := dk_178 0 144 (dk_at dksX1_lambda_begins_2_1 10 rfl rfl)
theorem dX1_lambda_begins_2_36 : decode cX1_lambda_begins_2 36 = .ok (.invokevirtual 102, 3) := dk_182 0 102 (dk_at dksX1_lambda_begins_2_1 13 rfl rfl)
theorem dX1_lambda_begins_2_39 : decode cX1_lambda_begins_2 39 = .ok (.goto (-33), 3) := dk_167 255 223 (dk_at dksX1_lambda_begins_2_1 16 rfl rfl)
theorem dX1_lambda_begins_2_42 : decode cX1_lambda_begins_2 42 = .ok (.return_, 1) := dk_177 (dk_at dksX1_lambda_begins_2_1 19 rfl rfl)
abbrev cX1_undo : ByteArray := prog_1_method_4_code
def yX1_undo : MethodName := ⟨RX1, "undo", "(LCoreplug$Undone;)V"⟩
def dkwX1_undo_1 : List UInt8 := [78, 187, 0, 80, 89, 183, 0, 82, 191, 58, 4, 42, 28, 181, 0, 29, 25, 4, 191, 177]
abbrev dktX1_undo_1 : List UInt8 := dkwX1_undo_1 ++ []
def dkwX1_undo_0 : List UInt8 := [42, 180, 0, 29, 61, 42, 4, 181, 0, 29, 43, 185, 0, 72, 1, 0, 42, 28, 181, 0, 29, 167, 0, 22]
abbrev dktX1_undo_0 : List UInt8 := dkwX1_undo_0 ++ dktX1_undo_1
theorem dksX1_undo_0 : cX1_undo.data.toList.drop 0 = dktX1_undo_0 := by decide +kernel
theorem dksX1_undo_1 : cX1_undo.data.toList.drop 24 = dktX1_undo_1 := dk_seg dksX1_undo_0 24 rfl rfl
theorem dX1_undo_0 : decode cX1_undo 0 = .ok (.aload_n 0, 1) := dk_42 (dk_at dksX1_undo_0 0 rfl rfl)
theorem dX1_undo_1 : decode cX1_undo 1 = .ok (.getfield 29, 3) := dk_180 0 29 (dk_at dksX1_undo_0 1 rfl rfl)
theorem dX1_undo_4 : decode cX1_undo 4 = .ok (.istore_n 2, 1) := dk_61 (dk_at dksX1_undo_0 4 rfl rfl)
theorem dX1_undo_5 : decode cX1_undo 5 = .ok (.aload_n 0, 1) := dk_42 (dk_at dksX1_undo_0 5 rfl rfl)
theorem dX1_undo_6 : decode cX1_undo 6 = .ok (.iconst 1, 1) := dk_4 (dk_at dksX1_undo_0 6 rfl rfl)
theorem dX1_undo_7 : decode cX1_undo 7 = .ok (.putfield 29, 3) := dk_181 0 29 (dk_at dksX1_undo_0 7 rfl rfl)
theorem dX1_undo_10 : decode cX1_undo 10 = .ok (.aload_n 1, 1) := dk_43 (dk_at dksX1_undo_0 10 rfl rfl)
theorem dX1_undo_11 : decode cX1_undo 11 = .ok (.invokeinterface 72 1, 5) := by decide +kernel
theorem dX1_undo_16 : decode cX1_undo 16 = .ok (.aload_n 0, 1) := dk_42 (dk_at dksX1_undo_0 16 rfl rfl)
theorem dX1_undo_17 : decode cX1_undo 17 = .ok (.iload_n 2, 1) := dk_28 (dk_at dksX1_undo_0 17 rfl rfl)
theorem dX1_undo_18 : decode cX1_undo 18 = .ok (.putfield 29, 3) := dk_181 0 29 (dk_at dksX1_undo_0 18 rfl rfl)
theorem dX1_undo_21 : decode cX1_undo 21 = .ok (.goto 22, 3) := dk_167 0 22 (dk_at dksX1_undo_0 21 rfl rfl)
theorem dX1_undo_24 : decode cX1_undo 24 = .ok (.astore_n 3, 1) := dk_78 (dk_at dksX1_undo_1 0 rfl rfl)
theorem dX1_undo_25 : decode cX1_undo 25 = .ok (.new 80, 3) := dk_187 0 80 (dk_at dksX1_undo_1 1 rfl rfl)
theorem dX1_undo_28 : decode cX1_undo 28 = .ok (.dup, 1) := dk_89 (dk_at dksX1_undo_1 4 rfl rfl)
theorem dX1_undo_29 : decode cX1_undo 29 = .ok (.invokespecial 82, 3) := dk_183 0 82 (dk_at dksX1_undo_1 5 rfl rfl)
theorem dX1_undo_32 : decode cX1_undo 32 = .ok (.athrow, 1) := dk_191 (dk_at dksX1_undo_1 8 rfl rfl)
theorem dX1_undo_33 : decode cX1_undo 33 = .ok (.astore 4, 2) := dk_58 4 (dk_at dksX1_undo_1 9 rfl rfl)
theorem dX1_undo_35 : decode cX1_undo 35 = .ok (.aload_n 0, 1) := dk_42 (dk_at dksX1_undo_1 11 rfl rfl)
theorem dX1_undo_36 : decode cX1_undo 36 = .ok (.iload_n 2, 1) := dk_28 (dk_at dksX1_undo_1 12 rfl rfl)
theorem dX1_undo_37 : decode cX1_undo 37 = .ok (.putfield 29, 3) := dk_181 0 29 (dk_at dksX1_undo_1 13 rfl rfl)
theorem dX1_undo_40 : decode cX1_undo 40 = .ok (.aload 4, 2) := dk_25 4 (dk_at dksX1_undo_1 16 rfl rfl)
theorem dX1_undo_42 : decode cX1_undo 42 = .ok (.athrow, 1) := dk_191 (dk_at dksX1_undo_1 18 rfl rfl)
theorem dX1_undo_43 : decode cX1_undo 43 = .ok (.return_, 1) := dk_177 (dk_at dksX1_undo_1 19 rfl rfl)
abbrev cX1_countSteps : ByteArray := prog_1_method_23_code
def yX1_countSteps : MethodName := ⟨RX1, "countSteps", "()I"⟩
def dkwX1_countSteps_1 : List UInt8 := [58, 5, 27, 25, 5, 199, 0, 7, 3, 167, 0, 4, 4, 96, 60, 132, 4, 1, 167, 255, 228, 27, 172]
abbrev dktX1_countSteps_1 : List UInt8 := dkwX1_countSteps_1 ++ []
def dkwX1_countSteps_0 : List UInt8 := [3, 60, 42, 180, 0, 116, 77, 44, 190, 62, 3, 54, 4, 21, 4, 29, 162, 0, 28, 44, 21, 4, 50]
abbrev dktX1_countSteps_0 : List UInt8 := dkwX1_countSteps_0 ++ dktX1_countSteps_1
theorem dksX1_countSteps_0 : cX1_countSteps.data.toList.drop 0 = dktX1_countSteps_0 := by decide +kernel
theorem dksX1_countSteps_1 : cX1_countSteps.data.toList.drop 23 = dktX1_countSteps_1 := dk_seg dksX1_countSteps_0 23 rfl rfl
theorem dX1_countSteps_0 : decode cX1_countSteps 0 = .ok (.iconst 0, 1) := dk_3 (dk_at dksX1_countSteps_0 0 rfl rfl)
theorem dX1_countSteps_1 : decode cX1_countSteps 1 = .ok (.istore_n 1, 1) := dk_60 (dk_at dksX1_countSteps_0 1 rfl rfl)
theorem dX1_countSteps_2 : decode cX1_countSteps 2 = .ok (.aload_n 0, 1) := dk_42 (dk_at dksX1_countSteps_0 2 rfl rfl)
theorem dX1_countSteps_3 : decode cX1_countSteps 3 = .ok (.getfield 116, 3) := dk_180 0 116 (dk_at dksX1_countSteps_0 3 rfl rfl)
theorem dX1_countSteps_6 : decode cX1_countSteps 6 = .ok (.astore_n 2, 1) := dk_77 (dk_at dksX1_countSteps_0 6 rfl rfl)
theorem dX1_countSteps_7 : decode cX1_countSteps 7 = .ok (.aload_n 2, 1) := dk_44 (dk_at dksX1_countSteps_0 7 rfl rfl)
theorem dX1_countSteps_8 : decode cX1_countSteps 8 = .ok (.arraylength, 1) := dk_190 (dk_at dksX1_countSteps_0 8 rfl rfl)
theorem dX1_countSteps_9 : decode cX1_countSteps 9 = .ok (.istore_n 3, 1) := dk_62 (dk_at dksX1_countSteps_0 9 rfl rfl)
theorem dX1_countSteps_10 : decode cX1_countSteps 10 = .ok (.iconst 0, 1) := dk_3 (dk_at dksX1_countSteps_0 10 rfl rfl)
theorem dX1_countSteps_11 : decode cX1_countSteps 11 = .ok (.istore 4, 2) := dk_54 4 (dk_at dksX1_countSteps_0 11 rfl rfl)
theorem dX1_countSteps_13 : decode cX1_countSteps 13 = .ok (.iload 4, 2) := dk_21 4 (dk_at dksX1_countSteps_0 13 rfl rfl)
theorem dX1_countSteps_15 : decode cX1_countSteps 15 = .ok (.iload_n 3, 1) := dk_29 (dk_at dksX1_countSteps_0 15 rfl rfl)
theorem dX1_countSteps_16 : decode cX1_countSteps 16 = .ok (.if_icmp .ge 28, 3) := dk_162 0 28 (dk_at dksX1_countSteps_0 16 rfl rfl)
theorem dX1_countSteps_19 : decode cX1_countSteps 19 = .ok (.aload_n 2, 1) := dk_44 (dk_at dksX1_countSteps_0 19 rfl rfl)
theorem dX1_countSteps_20 : decode cX1_countSteps 20 = .ok (.iload 4, 2) := dk_21 4 (dk_at dksX1_countSteps_0 20 rfl rfl)
theorem dX1_countSteps_22 : decode cX1_countSteps 22 = .ok (.aaload, 1) := dk_50 (dk_at dksX1_countSteps_0 22 rfl rfl)
theorem dX1_countSteps_23 : decode cX1_countSteps 23 = .ok (.astore 5, 2) := dk_58 5 (dk_at dksX1_countSteps_1 0 rfl rfl)
theorem dX1_countSteps_25 : decode cX1_countSteps 25 = .ok (.iload_n 1, 1) := dk_27 (dk_at dksX1_countSteps_1 2 rfl rfl)
theorem dX1_countSteps_26 : decode cX1_countSteps 26 = .ok (.aload 5, 2) := dk_25 5 (dk_at dksX1_countSteps_1 3 rfl rfl)
theorem dX1_countSteps_28 : decode cX1_countSteps 28 = .ok (.ifnonnull 7, 3) := dk_199 0 7 (dk_at dksX1_countSteps_1 5 rfl rfl)
theorem dX1_countSteps_31 : decode cX1_countSteps 31 = .ok (.iconst 0, 1) := dk_3 (dk_at dksX1_countSteps_1 8 rfl rfl)
theorem dX1_countSteps_32 : decode cX1_countSteps 32 = .ok (.goto 4, 3) := dk_167 0 4 (dk_at dksX1_countSteps_1 9 rfl rfl)
theorem dX1_countSteps_35 : decode cX1_countSteps 35 = .ok (.iconst 1, 1) := dk_4 (dk_at dksX1_countSteps_1 12 rfl rfl)
theorem dX1_countSteps_36 : decode cX1_countSteps 36 = .ok (.iadd, 1) := dk_96 (dk_at dksX1_countSteps_1 13 rfl rfl)
theorem dX1_countSteps_37 : decode cX1_countSteps 37 = .ok (.istore_n 1, 1) := dk_60 (dk_at dksX1_countSteps_1 14 rfl rfl)
theorem dX1_countSteps_38 : decode cX1_countSteps 38 = .ok (.iinc 4 1, 3) := dk_132 4 1 (dk_at dksX1_countSteps_1 15 rfl rfl)
theorem dX1_countSteps_41 : decode cX1_countSteps 41 = .ok (.goto (-28), 3) := dk_167 255 228 (dk_at dksX1_countSteps_1 18 rfl rfl)
theorem dX1_countSteps_44 : decode cX1_countSteps 44 = .ok (.iload_n 1, 1) := dk_27 (dk_at dksX1_countSteps_1 21 rfl rfl)
theorem dX1_countSteps_45 : decode cX1_countSteps 45 = .ok (.ireturn, 1) := dk_172 (dk_at dksX1_countSteps_1 22 rfl rfl)
abbrev cX1_remove : ByteArray := prog_1_method_27_code
def yX1_remove : MethodName := ⟨RX1, "remove", "(I)I"⟩
def dkwX1_remove_2 : List UInt8 := [180, 0, 116, 27, 1, 83, 42, 180, 0, 49, 29, 100, 172]
abbrev dktX1_remove_2 : List UInt8 := dkwX1_remove_2 ++ []
def dkwX1_remove_1 : List UInt8 := [21, 4, 182, 1, 36, 153, 0, 10, 42, 44, 21, 4, 182, 1, 38, 132, 4, 255, 167, 255, 229, 42]
abbrev dktX1_remove_1 : List UInt8 := dkwX1_remove_1 ++ dktX1_remove_2
def dkwX1_remove_0 : List UInt8 := [42, 27, 182, 1, 32, 77, 42, 180, 0, 49, 62, 6, 54, 4, 21, 4, 155, 0, 28, 44, 180, 0, 247]
abbrev dktX1_remove_0 : List UInt8 := dkwX1_remove_0 ++ dktX1_remove_1
theorem dksX1_remove_0 : cX1_remove.data.toList.drop 0 = dktX1_remove_0 := by decide +kernel
theorem dksX1_remove_1 : cX1_remove.data.toList.drop 23 = dktX1_remove_1 := dk_seg dksX1_remove_0 23 rfl rfl
theorem dksX1_remove_2 : cX1_remove.data.toList.drop 45 = dktX1_remove_2 := dk_seg dksX1_remove_1 22 rfl rfl
theorem dX1_remove_0 : decode cX1_remove 0 = .ok (.aload_n 0, 1) := dk_42 (dk_at dksX1_remove_0 0 rfl rfl)
theorem dX1_remove_1 : decode cX1_remove 1 = .ok (.iload_n 1, 1) := dk_27 (dk_at dksX1_remove_0 1 rfl rfl)
theorem dX1_remove_2 : decode cX1_remove 2 = .ok (.invokevirtual 288, 3) := dk_182 1 32 (dk_at dksX1_remove_0 2 rfl rfl)
theorem dX1_remove_5 : decode cX1_remove 5 = .ok (.astore_n 2, 1) := dk_77 (dk_at dksX1_remove_0 5 rfl rfl)
theorem dX1_remove_6 : decode cX1_remove 6 = .ok (.aload_n 0, 1) := dk_42 (dk_at dksX1_remove_0 6 rfl rfl)
theorem dX1_remove_7 : decode cX1_remove 7 = .ok (.getfield 49, 3) := dk_180 0 49 (dk_at dksX1_remove_0 7 rfl rfl)
theorem dX1_remove_10 : decode cX1_remove 10 = .ok (.istore_n 3, 1) := dk_62 (dk_at dksX1_remove_0 10 rfl rfl)
theorem dX1_remove_11 : decode cX1_remove 11 = .ok (.iconst 3, 1) := dk_6 (dk_at dksX1_remove_0 11 rfl rfl)
theorem dX1_remove_12 : decode cX1_remove 12 = .ok (.istore 4, 2) := dk_54 4 (dk_at dksX1_remove_0 12 rfl rfl)
theorem dX1_remove_14 : decode cX1_remove 14 = .ok (.iload 4, 2) := dk_21 4 (dk_at dksX1_remove_0 14 rfl rfl)
theorem dX1_remove_16 : decode cX1_remove 16 = .ok (.ifCond .lt 28, 3) := dk_155 0 28 (dk_at dksX1_remove_0 16 rfl rfl)
theorem dX1_remove_19 : decode cX1_remove 19 = .ok (.aload_n 2, 1) := dk_44 (dk_at dksX1_remove_0 19 rfl rfl)
theorem dX1_remove_20 : decode cX1_remove 20 = .ok (.getfield 247, 3) := dk_180 0 247 (dk_at dksX1_remove_0 20 rfl rfl)
theorem dX1_remove_23 : decode cX1_remove 23 = .ok (.iload 4, 2) := dk_21 4 (dk_at dksX1_remove_1 0 rfl rfl)
theorem dX1_remove_25 : decode cX1_remove 25 = .ok (.invokevirtual 292, 3) := dk_182 1 36 (dk_at dksX1_remove_1 2 rfl rfl)
theorem dX1_remove_28 : decode cX1_remove 28 = .ok (.ifCond .eq 10, 3) := dk_153 0 10 (dk_at dksX1_remove_1 5 rfl rfl)
theorem dX1_remove_31 : decode cX1_remove 31 = .ok (.aload_n 0, 1) := dk_42 (dk_at dksX1_remove_1 8 rfl rfl)
theorem dX1_remove_32 : decode cX1_remove 32 = .ok (.aload_n 2, 1) := dk_44 (dk_at dksX1_remove_1 9 rfl rfl)
theorem dX1_remove_33 : decode cX1_remove 33 = .ok (.iload 4, 2) := dk_21 4 (dk_at dksX1_remove_1 10 rfl rfl)
theorem dX1_remove_35 : decode cX1_remove 35 = .ok (.invokevirtual 294, 3) := dk_182 1 38 (dk_at dksX1_remove_1 12 rfl rfl)
theorem dX1_remove_38 : decode cX1_remove 38 = .ok (.iinc 4 (-1), 3) := dk_132 4 255 (dk_at dksX1_remove_1 15 rfl rfl)
theorem dX1_remove_41 : decode cX1_remove 41 = .ok (.goto (-27), 3) := dk_167 255 229 (dk_at dksX1_remove_1 18 rfl rfl)
theorem dX1_remove_44 : decode cX1_remove 44 = .ok (.aload_n 0, 1) := dk_42 (dk_at dksX1_remove_1 21 rfl rfl)
theorem dX1_remove_45 : decode cX1_remove 45 = .ok (.getfield 116, 3) := dk_180 0 116 (dk_at dksX1_remove_2 0 rfl rfl)
theorem dX1_remove_48 : decode cX1_remove 48 = .ok (.iload_n 1, 1) := dk_27 (dk_at dksX1_remove_2 3 rfl rfl)
theorem dX1_remove_49 : decode cX1_remove 49 = .ok (.aconst_null, 1) := dk_1 (dk_at dksX1_remove_2 4 rfl rfl)
theorem dX1_remove_50 : decode cX1_remove 50 = .ok (.aastore, 1) := dk_83 (dk_at dksX1_remove_2 5 rfl rfl)
theorem dX1_remove_51 : decode cX1_remove 51 = .ok (.aload_n 0, 1) := dk_42 (dk_at dksX1_remove_2 6 rfl rfl)
theorem dX1_remove_52 : decode cX1_remove 52 = .ok (.getfield 49, 3) := dk_180 0 49 (dk_at dksX1_remove_2 7 rfl rfl)
theorem dX1_remove_55 : decode cX1_remove 55 = .ok (.iload_n 3, 1) := dk_29 (dk_at dksX1_remove_2 10 rfl rfl)
theorem dX1_remove_56 : decode cX1_remove 56 = .ok (.isub, 1) := dk_100 (dk_at dksX1_remove_2 11 rfl rfl)
theorem dX1_remove_57 : decode cX1_remove 57 = .ok (.ireturn, 1) := dk_172 (dk_at dksX1_remove_2 12 rfl rfl)
abbrev cX1_stepAt : ByteArray := prog_1_method_20_code
def yX1_stepAt : MethodName := ⟨RX1, "stepAt", "(I)LCoreplug$Step;"⟩
def dkwX1_stepAt_1 : List UInt8 := [42, 180, 0, 116, 27, 50, 176]
abbrev dktX1_stepAt_1 : List UInt8 := dkwX1_stepAt_1 ++ []
def dkwX1_stepAt_0 : List UInt8 := [27, 16, 20, 184, 0, 235, 42, 180, 0, 116, 27, 50, 199, 0, 7, 4, 167, 0, 4, 3, 4, 184, 0, 235]
abbrev dktX1_stepAt_0 : List UInt8 := dkwX1_stepAt_0 ++ dktX1_stepAt_1
theorem dksX1_stepAt_0 : cX1_stepAt.data.toList.drop 0 = dktX1_stepAt_0 := by decide +kernel
theorem dksX1_stepAt_1 : cX1_stepAt.data.toList.drop 24 = dktX1_stepAt_1 := dk_seg dksX1_stepAt_0 24 rfl rfl
theorem dX1_stepAt_0 : decode cX1_stepAt 0 = .ok (.iload_n 1, 1) := dk_27 (dk_at dksX1_stepAt_0 0 rfl rfl)
theorem dX1_stepAt_1 : decode cX1_stepAt 1 = .ok (.bipush 20, 2) := dk_16 20 (dk_at dksX1_stepAt_0 1 rfl rfl)
theorem dX1_stepAt_3 : decode cX1_stepAt 3 = .ok (.invokestatic 235, 3) := dk_184 0 235 (dk_at dksX1_stepAt_0 3 rfl rfl)
theorem dX1_stepAt_6 : decode cX1_stepAt 6 = .ok (.aload_n 0, 1) := dk_42 (dk_at dksX1_stepAt_0 6 rfl rfl)
theorem dX1_stepAt_7 : decode cX1_stepAt 7 = .ok (.getfield 116, 3) := dk_180 0 116 (dk_at dksX1_stepAt_0 7 rfl rfl)
theorem dX1_stepAt_10 : decode cX1_stepAt 10 = .ok (.iload_n 1, 1) := dk_27 (dk_at dksX1_stepAt_0 10 rfl rfl)
theorem dX1_stepAt_11 : decode cX1_stepAt 11 = .ok (.aaload, 1) := dk_50 (dk_at dksX1_stepAt_0 11 rfl rfl)
theorem dX1_stepAt_12 : decode cX1_stepAt 12 = .ok (.ifnonnull 7, 3) := dk_199 0 7 (dk_at dksX1_stepAt_0 12 rfl rfl)
theorem dX1_stepAt_15 : decode cX1_stepAt 15 = .ok (.iconst 1, 1) := dk_4 (dk_at dksX1_stepAt_0 15 rfl rfl)
theorem dX1_stepAt_16 : decode cX1_stepAt 16 = .ok (.goto 4, 3) := dk_167 0 4 (dk_at dksX1_stepAt_0 16 rfl rfl)
theorem dX1_stepAt_19 : decode cX1_stepAt 19 = .ok (.iconst 0, 1) := dk_3 (dk_at dksX1_stepAt_0 19 rfl rfl)
theorem dX1_stepAt_20 : decode cX1_stepAt 20 = .ok (.iconst 1, 1) := dk_4 (dk_at dksX1_stepAt_0 20 rfl rfl)
theorem dX1_stepAt_21 : decode cX1_stepAt 21 = .ok (.invokestatic 235, 3) := dk_184 0 235 (dk_at dksX1_stepAt_0 21 rfl rfl)
theorem dX1_stepAt_24 : decode cX1_stepAt 24 = .ok (.aload_n 0, 1) := dk_42 (dk_at dksX1_stepAt_1 0 rfl rfl)
theorem dX1_stepAt_25 : decode cX1_stepAt 25 = .ok (.getfield 116, 3) := dk_180 0 116 (dk_at dksX1_stepAt_1 1 rfl rfl)
theorem dX1_stepAt_28 : decode cX1_stepAt 28 = .ok (.iload_n 1, 1) := dk_27 (dk_at dksX1_stepAt_1 4 rfl rfl)
theorem dX1_stepAt_29 : decode cX1_stepAt 29 = .ok (.aaload, 1) := dk_50 (dk_at dksX1_stepAt_1 5 rfl rfl)
theorem dX1_stepAt_30 : decode cX1_stepAt 30 = .ok (.areturn, 1) := dk_176 (dk_at dksX1_stepAt_1 6 rfl rfl)
abbrev cX1_checkIndex : ByteArray := prog_1_method_18_code
def yX1_checkIndex : MethodName := ⟨RX1, "checkIndex", "(II)V"⟩
def dkwX1_checkIndex_0 : List UInt8 := [26, 155, 0, 8, 26, 27, 161, 0, 11, 187, 0, 232, 89, 183, 0, 234, 191, 177]
abbrev dktX1_checkIndex_0 : List UInt8 := dkwX1_checkIndex_0 ++ []
theorem dksX1_checkIndex_0 : cX1_checkIndex.data.toList.drop 0 = dktX1_checkIndex_0 := by decide +kernel
theorem dX1_checkIndex_0 : decode cX1_checkIndex 0 = .ok (.iload_n 0, 1) := dk_26 (dk_at dksX1_checkIndex_0 0 rfl rfl)
theorem dX1_checkIndex_1 : decode cX1_checkIndex 1 = .ok (.ifCond .lt 8, 3) := dk_155 0 8 (dk_at dksX1_checkIndex_0 1 rfl rfl)
theorem dX1_checkIndex_4 : decode cX1_checkIndex 4 = .ok (.iload_n 0, 1) := dk_26 (dk_at dksX1_checkIndex_0 4 rfl rfl)
theorem dX1_checkIndex_5 : decode cX1_checkIndex 5 = .ok (.iload_n 1, 1) := dk_27 (dk_at dksX1_checkIndex_0 5 rfl rfl)
theorem dX1_checkIndex_6 : decode cX1_checkIndex 6 = .ok (.if_icmp .lt 11, 3) := dk_161 0 11 (dk_at dksX1_checkIndex_0 6 rfl rfl)
theorem dX1_checkIndex_9 : decode cX1_checkIndex 9 = .ok (.new 232, 3) := dk_187 0 232 (dk_at dksX1_checkIndex_0 9 rfl rfl)
theorem dX1_checkIndex_12 : decode cX1_checkIndex 12 = .ok (.dup, 1) := dk_89 (dk_at dksX1_checkIndex_0 12 rfl rfl)
theorem dX1_checkIndex_13 : decode cX1_checkIndex 13 = .ok (.invokespecial 234, 3) := dk_183 0 234 (dk_at dksX1_checkIndex_0 13 rfl rfl)
theorem dX1_checkIndex_16 : decode cX1_checkIndex 16 = .ok (.athrow, 1) := dk_191 (dk_at dksX1_checkIndex_0 16 rfl rfl)
theorem dX1_checkIndex_17 : decode cX1_checkIndex 17 = .ok (.return_, 1) := dk_177 (dk_at dksX1_checkIndex_0 17 rfl rfl)
abbrev cX1_ends : ByteArray := prog_1_method_25_code
def yX1_ends : MethodName := ⟨RX1, "ends", "(LCoreplug$Step;I)V"⟩
def dkwX1_ends_2 : List UInt8 := [182, 1, 14, 96, 54, 4, 132, 3, 1, 167, 255, 224, 177]
abbrev dktX1_ends_2 : List UInt8 := dkwX1_ends_2 ++ []
def dkwX1_ends_1 : List UInt8 := [16, 8, 162, 0, 32, 43, 29, 28, 178, 0, 62, 3, 182, 1, 14, 43, 29, 28, 178, 0, 144, 3]
abbrev dktX1_ends_1 : List UInt8 := dkwX1_ends_1 ++ dktX1_ends_2
def dkwX1_ends_0 : List UInt8 := [42, 42, 43, 28, 186, 1, 11, 0, 0, 182, 0, 112, 43, 180, 0, 247, 28, 182, 1, 9, 3, 62, 29]
abbrev dktX1_ends_0 : List UInt8 := dkwX1_ends_0 ++ dktX1_ends_1
theorem dksX1_ends_0 : cX1_ends.data.toList.drop 0 = dktX1_ends_0 := by decide +kernel
theorem dksX1_ends_1 : cX1_ends.data.toList.drop 23 = dktX1_ends_1 := dk_seg dksX1_ends_0 23 rfl rfl
theorem dksX1_ends_2 : cX1_ends.data.toList.drop 45 = dktX1_ends_2 := dk_seg dksX1_ends_1 22 rfl rfl
theorem dX1_ends_0 : decode cX1_ends 0 = .ok (.aload_n 0, 1) := dk_42 (dk_at dksX1_ends_0 0 rfl rfl)
theorem dX1_ends_1 : decode cX1_ends 1 = .ok (.aload_n 0, 1) := dk_42 (dk_at dksX1_ends_0 1 rfl rfl)
theorem dX1_ends_2 : decode cX1_ends 2 = .ok (.aload_n 1, 1) := dk_43 (dk_at dksX1_ends_0 2 rfl rfl)
theorem dX1_ends_3 : decode cX1_ends 3 = .ok (.iload_n 2, 1) := dk_28 (dk_at dksX1_ends_0 3 rfl rfl)
theorem dX1_ends_4 : decode cX1_ends 4 = .ok (.invokedynamic 267, 5) := by decide +kernel
theorem dX1_ends_9 : decode cX1_ends 9 = .ok (.invokevirtual 112, 3) := dk_182 0 112 (dk_at dksX1_ends_0 9 rfl rfl)
theorem dX1_ends_12 : decode cX1_ends 12 = .ok (.aload_n 1, 1) := dk_43 (dk_at dksX1_ends_0 12 rfl rfl)
theorem dX1_ends_13 : decode cX1_ends 13 = .ok (.getfield 247, 3) := dk_180 0 247 (dk_at dksX1_ends_0 13 rfl rfl)
theorem dX1_ends_16 : decode cX1_ends 16 = .ok (.iload_n 2, 1) := dk_28 (dk_at dksX1_ends_0 16 rfl rfl)
theorem dX1_ends_17 : decode cX1_ends 17 = .ok (.invokevirtual 265, 3) := dk_182 1 9 (dk_at dksX1_ends_0 17 rfl rfl)
theorem dX1_ends_20 : decode cX1_ends 20 = .ok (.iconst 0, 1) := dk_3 (dk_at dksX1_ends_0 20 rfl rfl)
theorem dX1_ends_21 : decode cX1_ends 21 = .ok (.istore_n 3, 1) := dk_62 (dk_at dksX1_ends_0 21 rfl rfl)
theorem dX1_ends_22 : decode cX1_ends 22 = .ok (.iload_n 3, 1) := dk_29 (dk_at dksX1_ends_0 22 rfl rfl)
theorem dX1_ends_23 : decode cX1_ends 23 = .ok (.bipush 8, 2) := dk_16 8 (dk_at dksX1_ends_1 0 rfl rfl)
theorem dX1_ends_25 : decode cX1_ends 25 = .ok (.if_icmp .ge 32, 3) := dk_162 0 32 (dk_at dksX1_ends_1 2 rfl rfl)
theorem dX1_ends_28 : decode cX1_ends 28 = .ok (.aload_n 1, 1) := dk_43 (dk_at dksX1_ends_1 5 rfl rfl)
theorem dX1_ends_29 : decode cX1_ends 29 = .ok (.iload_n 3, 1) := dk_29 (dk_at dksX1_ends_1 6 rfl rfl)
theorem dX1_ends_30 : decode cX1_ends 30 = .ok (.iload_n 2, 1) := dk_28 (dk_at dksX1_ends_1 7 rfl rfl)
theorem dX1_ends_31 : decode cX1_ends 31 = .ok (.getstatic 62, 3) := dk_178 0 62 (dk_at dksX1_ends_1 8 rfl rfl)
theorem dX1_ends_34 : decode cX1_ends 34 = .ok (.iconst 0, 1) := dk_3 (dk_at dksX1_ends_1 11 rfl rfl)
theorem dX1_ends_35 : decode cX1_ends 35 = .ok (.invokevirtual 270, 3) := dk_182 1 14 (dk_at dksX1_ends_1 12 rfl rfl)
theorem dX1_ends_38 : decode cX1_ends 38 = .ok (.aload_n 1, 1) := dk_43 (dk_at dksX1_ends_1 15 rfl rfl)
theorem dX1_ends_39 : decode cX1_ends 39 = .ok (.iload_n 3, 1) := dk_29 (dk_at dksX1_ends_1 16 rfl rfl)
theorem dX1_ends_40 : decode cX1_ends 40 = .ok (.iload_n 2, 1) := dk_28 (dk_at dksX1_ends_1 17 rfl rfl)
theorem dX1_ends_41 : decode cX1_ends 41 = .ok (.getstatic 144, 3) := dk_178 0 144 (dk_at dksX1_ends_1 18 rfl rfl)
theorem dX1_ends_44 : decode cX1_ends 44 = .ok (.iconst 0, 1) := dk_3 (dk_at dksX1_ends_1 21 rfl rfl)
theorem dX1_ends_45 : decode cX1_ends 45 = .ok (.invokevirtual 270, 3) := dk_182 1 14 (dk_at dksX1_ends_2 0 rfl rfl)
theorem dX1_ends_48 : decode cX1_ends 48 = .ok (.iadd, 1) := dk_96 (dk_at dksX1_ends_2 3 rfl rfl)
theorem dX1_ends_49 : decode cX1_ends 49 = .ok (.istore 4, 2) := dk_54 4 (dk_at dksX1_ends_2 4 rfl rfl)
theorem dX1_ends_51 : decode cX1_ends 51 = .ok (.iinc 3 1, 3) := dk_132 3 1 (dk_at dksX1_ends_2 6 rfl rfl)
theorem dX1_ends_54 : decode cX1_ends 54 = .ok (.goto (-32), 3) := dk_167 255 224 (dk_at dksX1_ends_2 9 rfl rfl)
theorem dX1_ends_57 : decode cX1_ends 57 = .ok (.return_, 1) := dk_177 (dk_at dksX1_ends_2 12 rfl rfl)
abbrev cX1_lambda_ends_3 : ByteArray := prog_1_method_51_code
def yX1_lambda_ends_3 : MethodName := ⟨RX1, "lambda$ends$3", "(LCoreplug$Step;I)V"⟩
def dkwX1_lambda_ends_3_2 : List UInt8 := [185, 0, 13, 2, 0, 192, 0, 17, 43, 28, 178, 0, 144, 182, 0, 102, 132, 3, 255, 167, 255, 204, 177]
abbrev dktX1_lambda_ends_3_2 : List UInt8 := dkwX1_lambda_ends_3_2 ++ []
def dkwX1_lambda_ends_3_1 : List UInt8 := [185, 0, 13, 2, 0, 192, 0, 17, 180, 0, 124, 43, 180, 0, 43, 164, 0, 25, 42, 42, 180, 0, 1, 29]
abbrev dktX1_lambda_ends_3_1 : List UInt8 := dkwX1_lambda_ends_3_1 ++ dktX1_lambda_ends_3_2
def dkwX1_lambda_ends_3_0 : List UInt8 := [42, 180, 0, 1, 185, 0, 7, 1, 0, 4, 100, 62, 29, 155, 0, 54, 42, 180, 0, 1, 29]
abbrev dktX1_lambda_ends_3_0 : List UInt8 := dkwX1_lambda_ends_3_0 ++ dktX1_lambda_ends_3_1
theorem dksX1_lambda_ends_3_0 : cX1_lambda_ends_3.data.toList.drop 0 = dktX1_lambda_ends_3_0 := by decide +kernel
theorem dksX1_lambda_ends_3_1 : cX1_lambda_ends_3.data.toList.drop 21 = dktX1_lambda_ends_3_1 := dk_seg dksX1_lambda_ends_3_0 21 rfl rfl
theorem dksX1_lambda_ends_3_2 : cX1_lambda_ends_3.data.toList.drop 45 = dktX1_lambda_ends_3_2 := dk_seg dksX1_lambda_ends_3_1 24 rfl rfl
theorem dX1_lambda_ends_3_0 : decode cX1_lambda_ends_3 0 = .ok (.aload_n 0, 1) := dk_42 (dk_at dksX1_lambda_ends_3_0 0 rfl rfl)
theorem dX1_lambda_ends_3_1 : decode cX1_lambda_ends_3 1 = .ok (.getfield 1, 3) := dk_180 0 1 (dk_at dksX1_lambda_ends_3_0 1 rfl rfl)
theorem dX1_lambda_ends_3_4 : decode cX1_lambda_ends_3 4 = .ok (.invokeinterface 7 1, 5) := by decide +kernel
theorem dX1_lambda_ends_3_9 : decode cX1_lambda_ends_3 9 = .ok (.iconst 1, 1) := dk_4 (dk_at dksX1_lambda_ends_3_0 9 rfl rfl)
theorem dX1_lambda_ends_3_10 : decode cX1_lambda_ends_3 10 = .ok (.isub, 1) := dk_100 (dk_at dksX1_lambda_ends_3_0 10 rfl rfl)
theorem dX1_lambda_ends_3_11 : decode cX1_lambda_ends_3 11 = .ok (.istore_n 3, 1) := dk_62 (dk_at dksX1_lambda_ends_3_0 11 rfl rfl)
theorem dX1_lambda_ends_3_12 : decode cX1_lambda_ends_3 12 = .ok (.iload_n 3, 1) := dk_29 (dk_at dksX1_lambda_ends_3_0 12 rfl rfl)
theorem dX1_lambda_ends_3_13 : decode cX1_lambda_ends_3 13 = .ok (.ifCond .lt 54, 3) := dk_155 0 54 (dk_at dksX1_lambda_ends_3_0 13 rfl rfl)
theorem dX1_lambda_ends_3_16 : decode cX1_lambda_ends_3 16 = .ok (.aload_n 0, 1) := dk_42 (dk_at dksX1_lambda_ends_3_0 16 rfl rfl)
theorem dX1_lambda_ends_3_17 : decode cX1_lambda_ends_3 17 = .ok (.getfield 1, 3) := dk_180 0 1 (dk_at dksX1_lambda_ends_3_0 17 rfl rfl)
theorem dX1_lambda_ends_3_20 : decode cX1_lambda_ends_3 20 = .ok (.iload_n 3, 1) := dk_29 (dk_at dksX1_lambda_ends_3_0 20 rfl rfl)
theorem dX1_lambda_ends_3_21 : decode cX1_lambda_ends_3 21 = .ok (.invokeinterface 13 2, 5) := by decide +kernel
theorem dX1_lambda_ends_3_26 : decode cX1_lambda_ends_3 26 = .ok (.checkcast 17, 3) := dk_192 0 17 (dk_at dksX1_lambda_ends_3_1 5 rfl rfl)
theorem dX1_lambda_ends_3_29 : decode cX1_lambda_ends_3 29 = .ok (.getfield 124, 3) := dk_180 0 124 (dk_at dksX1_lambda_ends_3_1 8 rfl rfl)
theorem dX1_lambda_ends_3_32 : decode cX1_lambda_ends_3 32 = .ok (.aload_n 1, 1) := dk_43 (dk_at dksX1_lambda_ends_3_1 11 rfl rfl)
theorem dX1_lambda_ends_3_33 : decode cX1_lambda_ends_3 33 = .ok (.getfield 43, 3) := dk_180 0 43 (dk_at dksX1_lambda_ends_3_1 12 rfl rfl)
theorem dX1_lambda_ends_3_36 : decode cX1_lambda_ends_3 36 = .ok (.if_icmp .le 25, 3) := dk_164 0 25 (dk_at dksX1_lambda_ends_3_1 15 rfl rfl)
theorem dX1_lambda_ends_3_39 : decode cX1_lambda_ends_3 39 = .ok (.aload_n 0, 1) := dk_42 (dk_at dksX1_lambda_ends_3_1 18 rfl rfl)
theorem dX1_lambda_ends_3_40 : decode cX1_lambda_ends_3 40 = .ok (.aload_n 0, 1) := dk_42 (dk_at dksX1_lambda_ends_3_1 19 rfl rfl)
theorem dX1_lambda_ends_3_41 : decode cX1_lambda_ends_3 41 = .ok (.getfield 1, 3) := dk_180 0 1 (dk_at dksX1_lambda_ends_3_1 20 rfl rfl)
theorem dX1_lambda_ends_3_44 : decode cX1_lambda_ends_3 44 = .ok (.iload_n 3, 1) := dk_29 (dk_at dksX1_lambda_ends_3_1 23 rfl rfl)
theorem dX1_lambda_ends_3_45 : decode cX1_lambda_ends_3 45 = .ok (.invokeinterface 13 2, 5) := by decide +kernel
theorem dX1_lambda_ends_3_50 : decode cX1_lambda_ends_3 50 = .ok (.checkcast 17, 3) := dk_192 0 17 (dk_at dksX1_lambda_ends_3_2 5 rfl rfl)
theorem dX1_lambda_ends_3_53 : decode cX1_lambda_ends_3 53 = .ok (.aload_n 1, 1) := dk_43 (dk_at dksX1_lambda_ends_3_2 8 rfl rfl)
theorem dX1_lambda_ends_3_54 : decode cX1_lambda_ends_3 54 = .ok (.iload_n 2, 1) := dk_28 (dk_at dksX1_lambda_ends_3_2 9 rfl rfl)
theorem dX1_lambda_ends_3_55 : decode cX1_lambda_ends_3 55 = .ok (.getstatic 144, 3) := dk_178 0 144 (dk_at dksX1_lambda_ends_3_2 10 rfl rfl)
theorem dX1_lambda_ends_3_58 : decode cX1_lambda_ends_3 58 = .ok (.invokevirtual 102, 3) := dk_182 0 102 (dk_at dksX1_lambda_ends_3_2 13 rfl rfl)
theorem dX1_lambda_ends_3_61 : decode cX1_lambda_ends_3 61 = .ok (.iinc 3 (-1), 3) := dk_132 3 255 (dk_at dksX1_lambda_ends_3_2 16 rfl rfl)
theorem dX1_lambda_ends_3_64 : decode cX1_lambda_ends_3 64 = .ok (.goto (-52), 3) := dk_167 255 204 (dk_at dksX1_lambda_ends_3_2 19 rfl rfl)
theorem dX1_lambda_ends_3_67 : decode cX1_lambda_ends_3 67 = .ok (.return_, 1) := dk_177 (dk_at dksX1_lambda_ends_3_2 22 rfl rfl)
abbrev cX1_instance : ByteArray := prog_1_method_28_code
def yX1_instance : MethodName := ⟨RX1, "instance", "(I)I"⟩
def dkwX1_instance_2 : List UInt8 := [2, 172]
abbrev dktX1_instance_2 : List UInt8 := dkwX1_instance_2 ++ []
def dkwX1_instance_1 : List UInt8 := [162, 0, 7, 4, 167, 0, 4, 3, 184, 0, 243, 42, 44, 29, 182, 1, 25, 153, 0, 7, 29, 167, 0, 4]
abbrev dktX1_instance_1 : List UInt8 := dkwX1_instance_1 ++ dktX1_instance_2
def dkwX1_instance_0 : List UInt8 := [42, 27, 182, 1, 32, 77, 44, 180, 0, 247, 3, 182, 1, 42, 62, 44, 180, 1, 45, 154, 0, 12, 29, 7]
abbrev dktX1_instance_0 : List UInt8 := dkwX1_instance_0 ++ dktX1_instance_1
theorem dksX1_instance_0 : cX1_instance.data.toList.drop 0 = dktX1_instance_0 := by decide +kernel
theorem dksX1_instance_1 : cX1_instance.data.toList.drop 24 = dktX1_instance_1 := dk_seg dksX1_instance_0 24 rfl rfl
theorem dksX1_instance_2 : cX1_instance.data.toList.drop 48 = dktX1_instance_2 := dk_seg dksX1_instance_1 24 rfl rfl
theorem dX1_instance_0 : decode cX1_instance 0 = .ok (.aload_n 0, 1) := dk_42 (dk_at dksX1_instance_0 0 rfl rfl)
theorem dX1_instance_1 : decode cX1_instance 1 = .ok (.iload_n 1, 1) := dk_27 (dk_at dksX1_instance_0 1 rfl rfl)
theorem dX1_instance_2 : decode cX1_instance 2 = .ok (.invokevirtual 288, 3) := dk_182 1 32 (dk_at dksX1_instance_0 2 rfl rfl)
theorem dX1_instance_5 : decode cX1_instance 5 = .ok (.astore_n 2, 1) := dk_77 (dk_at dksX1_instance_0 5 rfl rfl)
theorem dX1_instance_6 : decode cX1_instance 6 = .ok (.aload_n 2, 1) := dk_44 (dk_at dksX1_instance_0 6 rfl rfl)
theorem dX1_instance_7 : decode cX1_instance 7 = .ok (.getfield 247, 3) := dk_180 0 247 (dk_at dksX1_instance_0 7 rfl rfl)
theorem dX1_instance_10 : decode cX1_instance 10 = .ok (.iconst 0, 1) := dk_3 (dk_at dksX1_instance_0 10 rfl rfl)
theorem dX1_instance_11 : decode cX1_instance 11 = .ok (.invokevirtual 298, 3) := dk_182 1 42 (dk_at dksX1_instance_0 11 rfl rfl)
theorem dX1_instance_14 : decode cX1_instance 14 = .ok (.istore_n 3, 1) := dk_62 (dk_at dksX1_instance_0 14 rfl rfl)
theorem dX1_instance_15 : decode cX1_instance 15 = .ok (.aload_n 2, 1) := dk_44 (dk_at dksX1_instance_0 15 rfl rfl)
theorem dX1_instance_16 : decode cX1_instance 16 = .ok (.getfield 301, 3) := dk_180 1 45 (dk_at dksX1_instance_0 16 rfl rfl)
theorem dX1_instance_19 : decode cX1_instance 19 = .ok (.ifCond .ne 12, 3) := dk_154 0 12 (dk_at dksX1_instance_0 19 rfl rfl)
theorem dX1_instance_22 : decode cX1_instance 22 = .ok (.iload_n 3, 1) := dk_29 (dk_at dksX1_instance_0 22 rfl rfl)
theorem dX1_instance_23 : decode cX1_instance 23 = .ok (.iconst 4, 1) := dk_7 (dk_at dksX1_instance_0 23 rfl rfl)
theorem dX1_instance_24 : decode cX1_instance 24 = .ok (.if_icmp .ge 7, 3) := dk_162 0 7 (dk_at dksX1_instance_1 0 rfl rfl)
theorem dX1_instance_27 : decode cX1_instance 27 = .ok (.iconst 1, 1) := dk_4 (dk_at dksX1_instance_1 3 rfl rfl)
theorem dX1_instance_28 : decode cX1_instance 28 = .ok (.goto 4, 3) := dk_167 0 4 (dk_at dksX1_instance_1 4 rfl rfl)
theorem dX1_instance_31 : decode cX1_instance 31 = .ok (.iconst 0, 1) := dk_3 (dk_at dksX1_instance_1 7 rfl rfl)
theorem dX1_instance_32 : decode cX1_instance 32 = .ok (.invokestatic 243, 3) := dk_184 0 243 (dk_at dksX1_instance_1 8 rfl rfl)
theorem dX1_instance_35 : decode cX1_instance 35 = .ok (.aload_n 0, 1) := dk_42 (dk_at dksX1_instance_1 11 rfl rfl)
theorem dX1_instance_36 : decode cX1_instance 36 = .ok (.aload_n 2, 1) := dk_44 (dk_at dksX1_instance_1 12 rfl rfl)
theorem dX1_instance_37 : decode cX1_instance 37 = .ok (.iload_n 3, 1) := dk_29 (dk_at dksX1_instance_1 13 rfl rfl)
theorem dX1_instance_38 : decode cX1_instance 38 = .ok (.invokevirtual 281, 3) := dk_182 1 25 (dk_at dksX1_instance_1 14 rfl rfl)
theorem dX1_instance_41 : decode cX1_instance 41 = .ok (.ifCond .eq 7, 3) := dk_153 0 7 (dk_at dksX1_instance_1 17 rfl rfl)
theorem dX1_instance_44 : decode cX1_instance 44 = .ok (.iload_n 3, 1) := dk_29 (dk_at dksX1_instance_1 20 rfl rfl)
theorem dX1_instance_45 : decode cX1_instance 45 = .ok (.goto 4, 3) := dk_167 0 4 (dk_at dksX1_instance_1 21 rfl rfl)
theorem dX1_instance_48 : decode cX1_instance 48 = .ok (.iconst (-1), 1) := dk_2 (dk_at dksX1_instance_2 0 rfl rfl)
theorem dX1_instance_49 : decode cX1_instance 49 = .ok (.ireturn, 1) := dk_172 (dk_at dksX1_instance_2 1 rfl rfl)
abbrev cX1_retire : ByteArray := prog_1_method_29_code
def yX1_retire : MethodName := ⟨RX1, "retire", "(II)I"⟩
def dkwX1_retire_2 : List UInt8 := [180, 0, 49, 54, 4, 42, 45, 28, 182, 1, 38, 42, 180, 0, 49, 21, 4, 100, 172]
abbrev dktX1_retire_2 : List UInt8 := dkwX1_retire_2 ++ []
def dkwX1_retire_1 : List UInt8 := [167, 0, 4, 4, 4, 184, 0, 235, 45, 180, 1, 45, 154, 0, 7, 4, 167, 0, 4, 3, 184, 0, 243, 42]
abbrev dktX1_retire_1 : List UInt8 := dkwX1_retire_1 ++ dktX1_retire_2
def dkwX1_retire_0 : List UInt8 := [42, 27, 182, 1, 32, 78, 28, 7, 184, 0, 235, 45, 180, 0, 247, 28, 182, 1, 36, 153, 0, 7, 3]
abbrev dktX1_retire_0 : List UInt8 := dkwX1_retire_0 ++ dktX1_retire_1
theorem dksX1_retire_0 : cX1_retire.data.toList.drop 0 = dktX1_retire_0 := by decide +kernel
theorem dksX1_retire_1 : cX1_retire.data.toList.drop 23 = dktX1_retire_1 := dk_seg dksX1_retire_0 23 rfl rfl
theorem dksX1_retire_2 : cX1_retire.data.toList.drop 47 = dktX1_retire_2 := dk_seg dksX1_retire_1 24 rfl rfl
theorem dX1_retire_0 : decode cX1_retire 0 = .ok (.aload_n 0, 1) := dk_42 (dk_at dksX1_retire_0 0 rfl rfl)
theorem dX1_retire_1 : decode cX1_retire 1 = .ok (.iload_n 1, 1) := dk_27 (dk_at dksX1_retire_0 1 rfl rfl)
theorem dX1_retire_2 : decode cX1_retire 2 = .ok (.invokevirtual 288, 3) := dk_182 1 32 (dk_at dksX1_retire_0 2 rfl rfl)
theorem dX1_retire_5 : decode cX1_retire 5 = .ok (.astore_n 3, 1) := dk_78 (dk_at dksX1_retire_0 5 rfl rfl)
theorem dX1_retire_6 : decode cX1_retire 6 = .ok (.iload_n 2, 1) := dk_28 (dk_at dksX1_retire_0 6 rfl rfl)
theorem dX1_retire_7 : decode cX1_retire 7 = .ok (.iconst 4, 1) := dk_7 (dk_at dksX1_retire_0 7 rfl rfl)
theorem dX1_retire_8 : decode cX1_retire 8 = .ok (.invokestatic 235, 3) := dk_184 0 235 (dk_at dksX1_retire_0 8 rfl rfl)
theorem dX1_retire_11 : decode cX1_retire 11 = .ok (.aload_n 3, 1) := dk_45 (dk_at dksX1_retire_0 11 rfl rfl)
theorem dX1_retire_12 : decode cX1_retire 12 = .ok (.getfield 247, 3) := dk_180 0 247 (dk_at dksX1_retire_0 12 rfl rfl)
theorem dX1_retire_15 : decode cX1_retire 15 = .ok (.iload_n 2, 1) := dk_28 (dk_at dksX1_retire_0 15 rfl rfl)
theorem dX1_retire_16 : decode cX1_retire 16 = .ok (.invokevirtual 292, 3) := dk_182 1 36 (dk_at dksX1_retire_0 16 rfl rfl)
theorem dX1_retire_19 : decode cX1_retire 19 = .ok (.ifCond .eq 7, 3) := dk_153 0 7 (dk_at dksX1_retire_0 19 rfl rfl)
theorem dX1_retire_22 : decode cX1_retire 22 = .ok (.iconst 0, 1) := dk_3 (dk_at dksX1_retire_0 22 rfl rfl)
theorem dX1_retire_23 : decode cX1_retire 23 = .ok (.goto 4, 3) := dk_167 0 4 (dk_at dksX1_retire_1 0 rfl rfl)
theorem dX1_retire_26 : decode cX1_retire 26 = .ok (.iconst 1, 1) := dk_4 (dk_at dksX1_retire_1 3 rfl rfl)
theorem dX1_retire_27 : decode cX1_retire 27 = .ok (.iconst 1, 1) := dk_4 (dk_at dksX1_retire_1 4 rfl rfl)
theorem dX1_retire_28 : decode cX1_retire 28 = .ok (.invokestatic 235, 3) := dk_184 0 235 (dk_at dksX1_retire_1 5 rfl rfl)
theorem dX1_retire_31 : decode cX1_retire 31 = .ok (.aload_n 3, 1) := dk_45 (dk_at dksX1_retire_1 8 rfl rfl)
theorem dX1_retire_32 : decode cX1_retire 32 = .ok (.getfield 301, 3) := dk_180 1 45 (dk_at dksX1_retire_1 9 rfl rfl)
theorem dX1_retire_35 : decode cX1_retire 35 = .ok (.ifCond .ne 7, 3) := dk_154 0 7 (dk_at dksX1_retire_1 12 rfl rfl)
theorem dX1_retire_38 : decode cX1_retire 38 = .ok (.iconst 1, 1) := dk_4 (dk_at dksX1_retire_1 15 rfl rfl)
theorem dX1_retire_39 : decode cX1_retire 39 = .ok (.goto 4, 3) := dk_167 0 4 (dk_at dksX1_retire_1 16 rfl rfl)
theorem dX1_retire_42 : decode cX1_retire 42 = .ok (.iconst 0, 1) := dk_3 (dk_at dksX1_retire_1 19 rfl rfl)
theorem dX1_retire_43 : decode cX1_retire 43 = .ok (.invokestatic 243, 3) := dk_184 0 243 (dk_at dksX1_retire_1 20 rfl rfl)
theorem dX1_retire_46 : decode cX1_retire 46 = .ok (.aload_n 0, 1) := dk_42 (dk_at dksX1_retire_1 23 rfl rfl)
theorem dX1_retire_47 : decode cX1_retire 47 = .ok (.getfield 49, 3) := dk_180 0 49 (dk_at dksX1_retire_2 0 rfl rfl)
theorem dX1_retire_50 : decode cX1_retire 50 = .ok (.istore 4, 2) := dk_54 4 (dk_at dksX1_retire_2 3 rfl rfl)
theorem dX1_retire_52 : decode cX1_retire 52 = .ok (.aload_n 0, 1) := dk_42 (dk_at dksX1_retire_2 5 rfl rfl)
theorem dX1_retire_53 : decode cX1_retire 53 = .ok (.aload_n 3, 1) := dk_45 (dk_at dksX1_retire_2 6 rfl rfl)
theorem dX1_retire_54 : decode cX1_retire 54 = .ok (.iload_n 2, 1) := dk_28 (dk_at dksX1_retire_2 7 rfl rfl)
theorem dX1_retire_55 : decode cX1_retire 55 = .ok (.invokevirtual 294, 3) := dk_182 1 38 (dk_at dksX1_retire_2 8 rfl rfl)
theorem dX1_retire_58 : decode cX1_retire 58 = .ok (.aload_n 0, 1) := dk_42 (dk_at dksX1_retire_2 11 rfl rfl)
theorem dX1_retire_59 : decode cX1_retire 59 = .ok (.getfield 49, 3) := dk_180 0 49 (dk_at dksX1_retire_2 12 rfl rfl)
theorem dX1_retire_62 : decode cX1_retire 62 = .ok (.iload 4, 2) := dk_21 4 (dk_at dksX1_retire_2 15 rfl rfl)
theorem dX1_retire_64 : decode cX1_retire 64 = .ok (.isub, 1) := dk_100 (dk_at dksX1_retire_2 17 rfl rfl)
theorem dX1_retire_65 : decode cX1_retire 65 = .ok (.ireturn, 1) := dk_172 (dk_at dksX1_retire_2 18 rfl rfl)
abbrev cX1_fail : ByteArray := prog_1_method_30_code
def yX1_fail : MethodName := ⟨RX1, "fail", "(IIIZI)I"⟩
def dkwX1_fail_2 : List UInt8 := [167, 0, 6, 178, 0, 144, 21, 5, 182, 1, 14, 172]
abbrev dktX1_fail_2 : List UInt8 := dkwX1_fail_2 ++ []
def dkwX1_fail_1 : List UInt8 := [184, 1, 18, 21, 5, 3, 16, 9, 184, 1, 18, 25, 6, 27, 29, 21, 4, 153, 0, 9, 178, 0, 62]
abbrev dktX1_fail_1 : List UInt8 := dkwX1_fail_1 ++ dktX1_fail_2
def dkwX1_fail_0 : List UInt8 := [27, 42, 180, 0, 1, 185, 0, 7, 1, 0, 184, 0, 235, 42, 28, 182, 1, 32, 58, 6, 29, 3, 6]
abbrev dktX1_fail_0 : List UInt8 := dkwX1_fail_0 ++ dktX1_fail_1
theorem dksX1_fail_0 : cX1_fail.data.toList.drop 0 = dktX1_fail_0 := by decide +kernel
theorem dksX1_fail_1 : cX1_fail.data.toList.drop 23 = dktX1_fail_1 := dk_seg dksX1_fail_0 23 rfl rfl
theorem dksX1_fail_2 : cX1_fail.data.toList.drop 46 = dktX1_fail_2 := dk_seg dksX1_fail_1 23 rfl rfl
theorem dX1_fail_0 : decode cX1_fail 0 = .ok (.iload_n 1, 1) := dk_27 (dk_at dksX1_fail_0 0 rfl rfl)
theorem dX1_fail_1 : decode cX1_fail 1 = .ok (.aload_n 0, 1) := dk_42 (dk_at dksX1_fail_0 1 rfl rfl)
theorem dX1_fail_2 : decode cX1_fail 2 = .ok (.getfield 1, 3) := dk_180 0 1 (dk_at dksX1_fail_0 2 rfl rfl)
theorem dX1_fail_5 : decode cX1_fail 5 = .ok (.invokeinterface 7 1, 5) := by decide +kernel
theorem dX1_fail_10 : decode cX1_fail 10 = .ok (.invokestatic 235, 3) := dk_184 0 235 (dk_at dksX1_fail_0 10 rfl rfl)
theorem dX1_fail_13 : decode cX1_fail 13 = .ok (.aload_n 0, 1) := dk_42 (dk_at dksX1_fail_0 13 rfl rfl)
theorem dX1_fail_14 : decode cX1_fail 14 = .ok (.iload_n 2, 1) := dk_28 (dk_at dksX1_fail_0 14 rfl rfl)
theorem dX1_fail_15 : decode cX1_fail 15 = .ok (.invokevirtual 288, 3) := dk_182 1 32 (dk_at dksX1_fail_0 15 rfl rfl)
theorem dX1_fail_18 : decode cX1_fail 18 = .ok (.astore 6, 2) := dk_58 6 (dk_at dksX1_fail_0 18 rfl rfl)
theorem dX1_fail_20 : decode cX1_fail 20 = .ok (.iload_n 3, 1) := dk_29 (dk_at dksX1_fail_0 20 rfl rfl)
theorem dX1_fail_21 : decode cX1_fail 21 = .ok (.iconst 0, 1) := dk_3 (dk_at dksX1_fail_0 21 rfl rfl)
theorem dX1_fail_22 : decode cX1_fail 22 = .ok (.iconst 3, 1) := dk_6 (dk_at dksX1_fail_0 22 rfl rfl)
theorem dX1_fail_23 : decode cX1_fail 23 = .ok (.invokestatic 274, 3) := dk_184 1 18 (dk_at dksX1_fail_1 0 rfl rfl)
theorem dX1_fail_26 : decode cX1_fail 26 = .ok (.iload 5, 2) := dk_21 5 (dk_at dksX1_fail_1 3 rfl rfl)
theorem dX1_fail_28 : decode cX1_fail 28 = .ok (.iconst 0, 1) := dk_3 (dk_at dksX1_fail_1 5 rfl rfl)
theorem dX1_fail_29 : decode cX1_fail 29 = .ok (.bipush 9, 2) := dk_16 9 (dk_at dksX1_fail_1 6 rfl rfl)
theorem dX1_fail_31 : decode cX1_fail 31 = .ok (.invokestatic 274, 3) := dk_184 1 18 (dk_at dksX1_fail_1 8 rfl rfl)
theorem dX1_fail_34 : decode cX1_fail 34 = .ok (.aload 6, 2) := dk_25 6 (dk_at dksX1_fail_1 11 rfl rfl)
theorem dX1_fail_36 : decode cX1_fail 36 = .ok (.iload_n 1, 1) := dk_27 (dk_at dksX1_fail_1 13 rfl rfl)
theorem dX1_fail_37 : decode cX1_fail 37 = .ok (.iload_n 3, 1) := dk_29 (dk_at dksX1_fail_1 14 rfl rfl)
theorem dX1_fail_38 : decode cX1_fail 38 = .ok (.iload 4, 2) := dk_21 4 (dk_at dksX1_fail_1 15 rfl rfl)
theorem dX1_fail_40 : decode cX1_fail 40 = .ok (.ifCond .eq 9, 3) := dk_153 0 9 (dk_at dksX1_fail_1 17 rfl rfl)
theorem dX1_fail_43 : decode cX1_fail 43 = .ok (.getstatic 62, 3) := dk_178 0 62 (dk_at dksX1_fail_1 20 rfl rfl)
theorem dX1_fail_46 : decode cX1_fail 46 = .ok (.goto 6, 3) := dk_167 0 6 (dk_at dksX1_fail_2 0 rfl rfl)
theorem dX1_fail_49 : decode cX1_fail 49 = .ok (.getstatic 144, 3) := dk_178 0 144 (dk_at dksX1_fail_2 3 rfl rfl)
theorem dX1_fail_52 : decode cX1_fail 52 = .ok (.iload 5, 2) := dk_21 5 (dk_at dksX1_fail_2 6 rfl rfl)
theorem dX1_fail_54 : decode cX1_fail 54 = .ok (.invokevirtual 270, 3) := dk_182 1 14 (dk_at dksX1_fail_2 8 rfl rfl)
theorem dX1_fail_57 : decode cX1_fail 57 = .ok (.ireturn, 1) := dk_172 (dk_at dksX1_fail_2 11 rfl rfl)
abbrev cX1_up : ByteArray := prog_1_method_31_code
def yX1_up : MethodName := ⟨RX1, "up", "(II)I"⟩
def dkwX1_up_1 : List UInt8 := [192, 0, 17, 180, 0, 124, 4, 96, 16, 20, 184, 1, 18, 42, 27, 28, 182, 1, 48, 172]
abbrev dktX1_up_1 : List UInt8 := dkwX1_up_1 ++ []
def dkwX1_up_0 : List UInt8 := [27, 42, 180, 0, 1, 185, 0, 7, 1, 0, 184, 0, 235, 28, 42, 180, 0, 1, 27, 185, 0, 13, 2, 0]
abbrev dktX1_up_0 : List UInt8 := dkwX1_up_0 ++ dktX1_up_1
theorem dksX1_up_0 : cX1_up.data.toList.drop 0 = dktX1_up_0 := by decide +kernel
theorem dksX1_up_1 : cX1_up.data.toList.drop 24 = dktX1_up_1 := dk_seg dksX1_up_0 24 rfl rfl
theorem dX1_up_0 : decode cX1_up 0 = .ok (.iload_n 1, 1) := dk_27 (dk_at dksX1_up_0 0 rfl rfl)
theorem dX1_up_1 : decode cX1_up 1 = .ok (.aload_n 0, 1) := dk_42 (dk_at dksX1_up_0 1 rfl rfl)
theorem dX1_up_2 : decode cX1_up 2 = .ok (.getfield 1, 3) := dk_180 0 1 (dk_at dksX1_up_0 2 rfl rfl)
theorem dX1_up_5 : decode cX1_up 5 = .ok (.invokeinterface 7 1, 5) := by decide +kernel
theorem dX1_up_10 : decode cX1_up 10 = .ok (.invokestatic 235, 3) := dk_184 0 235 (dk_at dksX1_up_0 10 rfl rfl)
theorem dX1_up_13 : decode cX1_up 13 = .ok (.iload_n 2, 1) := dk_28 (dk_at dksX1_up_0 13 rfl rfl)
theorem dX1_up_14 : decode cX1_up 14 = .ok (.aload_n 0, 1) := dk_42 (dk_at dksX1_up_0 14 rfl rfl)
theorem dX1_up_15 : decode cX1_up 15 = .ok (.getfield 1, 3) := dk_180 0 1 (dk_at dksX1_up_0 15 rfl rfl)
theorem dX1_up_18 : decode cX1_up 18 = .ok (.iload_n 1, 1) := dk_27 (dk_at dksX1_up_0 18 rfl rfl)
theorem dX1_up_19 : decode cX1_up 19 = .ok (.invokeinterface 13 2, 5) := by decide +kernel
theorem dX1_up_24 : decode cX1_up 24 = .ok (.checkcast 17, 3) := dk_192 0 17 (dk_at dksX1_up_1 0 rfl rfl)
theorem dX1_up_27 : decode cX1_up 27 = .ok (.getfield 124, 3) := dk_180 0 124 (dk_at dksX1_up_1 3 rfl rfl)
theorem dX1_up_30 : decode cX1_up 30 = .ok (.iconst 1, 1) := dk_4 (dk_at dksX1_up_1 6 rfl rfl)
theorem dX1_up_31 : decode cX1_up 31 = .ok (.iadd, 1) := dk_96 (dk_at dksX1_up_1 7 rfl rfl)
theorem dX1_up_32 : decode cX1_up 32 = .ok (.bipush 20, 2) := dk_16 20 (dk_at dksX1_up_1 8 rfl rfl)
theorem dX1_up_34 : decode cX1_up 34 = .ok (.invokestatic 274, 3) := dk_184 1 18 (dk_at dksX1_up_1 10 rfl rfl)
theorem dX1_up_37 : decode cX1_up 37 = .ok (.aload_n 0, 1) := dk_42 (dk_at dksX1_up_1 13 rfl rfl)
theorem dX1_up_38 : decode cX1_up 38 = .ok (.iload_n 1, 1) := dk_27 (dk_at dksX1_up_1 14 rfl rfl)
theorem dX1_up_39 : decode cX1_up 39 = .ok (.iload_n 2, 1) := dk_28 (dk_at dksX1_up_1 15 rfl rfl)
theorem dX1_up_40 : decode cX1_up 40 = .ok (.invokevirtual 304, 3) := dk_182 1 48 (dk_at dksX1_up_1 16 rfl rfl)
theorem dX1_up_43 : decode cX1_up 43 = .ok (.ireturn, 1) := dk_172 (dk_at dksX1_up_1 19 rfl rfl)
abbrev cX1_bring : ByteArray := prog_1_method_9_code
def yX1_bring : MethodName := ⟨RX1, "bring", "(II)I"⟩
def dkwX1_bring_1 : List UInt8 := [58, 4, 45, 180, 0, 124, 172, 45, 180, 0, 124, 172]
abbrev dktX1_bring_1 : List UInt8 := dkwX1_bring_1 ++ []
def dkwX1_bring_0 : List UInt8 := [42, 180, 0, 1, 27, 185, 0, 13, 2, 0, 192, 0, 17, 78, 42, 45, 28, 182, 0, 153, 167, 0, 10]
abbrev dktX1_bring_0 : List UInt8 := dkwX1_bring_0 ++ dktX1_bring_1
theorem dksX1_bring_0 : cX1_bring.data.toList.drop 0 = dktX1_bring_0 := by decide +kernel
theorem dksX1_bring_1 : cX1_bring.data.toList.drop 23 = dktX1_bring_1 := dk_seg dksX1_bring_0 23 rfl rfl
theorem dX1_bring_0 : decode cX1_bring 0 = .ok (.aload_n 0, 1) := dk_42 (dk_at dksX1_bring_0 0 rfl rfl)
theorem dX1_bring_1 : decode cX1_bring 1 = .ok (.getfield 1, 3) := dk_180 0 1 (dk_at dksX1_bring_0 1 rfl rfl)
theorem dX1_bring_4 : decode cX1_bring 4 = .ok (.iload_n 1, 1) := dk_27 (dk_at dksX1_bring_0 4 rfl rfl)
theorem dX1_bring_5 : decode cX1_bring 5 = .ok (.invokeinterface 13 2, 5) := by decide +kernel
theorem dX1_bring_10 : decode cX1_bring 10 = .ok (.checkcast 17, 3) := dk_192 0 17 (dk_at dksX1_bring_0 10 rfl rfl)
theorem dX1_bring_13 : decode cX1_bring 13 = .ok (.astore_n 3, 1) := dk_78 (dk_at dksX1_bring_0 13 rfl rfl)
theorem dX1_bring_14 : decode cX1_bring 14 = .ok (.aload_n 0, 1) := dk_42 (dk_at dksX1_bring_0 14 rfl rfl)
theorem dX1_bring_15 : decode cX1_bring 15 = .ok (.aload_n 3, 1) := dk_45 (dk_at dksX1_bring_0 15 rfl rfl)
theorem dX1_bring_16 : decode cX1_bring 16 = .ok (.iload_n 2, 1) := dk_28 (dk_at dksX1_bring_0 16 rfl rfl)
theorem dX1_bring_17 : decode cX1_bring 17 = .ok (.invokevirtual 153, 3) := dk_182 0 153 (dk_at dksX1_bring_0 17 rfl rfl)
theorem dX1_bring_20 : decode cX1_bring 20 = .ok (.goto 10, 3) := dk_167 0 10 (dk_at dksX1_bring_0 20 rfl rfl)
theorem dX1_bring_23 : decode cX1_bring 23 = .ok (.astore 4, 2) := dk_58 4 (dk_at dksX1_bring_1 0 rfl rfl)
theorem dX1_bring_25 : decode cX1_bring 25 = .ok (.aload_n 3, 1) := dk_45 (dk_at dksX1_bring_1 2 rfl rfl)
theorem dX1_bring_26 : decode cX1_bring 26 = .ok (.getfield 124, 3) := dk_180 0 124 (dk_at dksX1_bring_1 3 rfl rfl)
theorem dX1_bring_29 : decode cX1_bring 29 = .ok (.ireturn, 1) := dk_172 (dk_at dksX1_bring_1 6 rfl rfl)
theorem dX1_bring_30 : decode cX1_bring 30 = .ok (.aload_n 3, 1) := dk_45 (dk_at dksX1_bring_1 7 rfl rfl)
theorem dX1_bring_31 : decode cX1_bring 31 = .ok (.getfield 124, 3) := dk_180 0 124 (dk_at dksX1_bring_1 8 rfl rfl)
theorem dX1_bring_34 : decode cX1_bring 34 = .ok (.ireturn, 1) := dk_172 (dk_at dksX1_bring_1 11 rfl rfl)
abbrev cX1_go : ByteArray := prog_1_method_8_code
def yX1_go : MethodName := ⟨RX1, "go", "(LCoreplug$Core;I)V"⟩
def dkwX1_go_3 : List UInt8 := [182, 0, 112, 187, 0, 78, 89, 25, 4, 183, 0, 150, 191, 177]
abbrev dktX1_go_3 : List UInt8 := dkwX1_go_3 ++ []
def dkwX1_go_2 : List UInt8 := [178, 0, 144, 182, 0, 140, 167, 255, 234, 167, 0, 27, 58, 4, 42, 42, 43, 29, 186, 0, 147, 0, 0]
abbrev dktX1_go_2 : List UInt8 := dkwX1_go_2 ++ dktX1_go_3
def dkwX1_go_1 : List UInt8 := [182, 0, 140, 167, 255, 236, 43, 180, 0, 124, 28, 164, 0, 20, 42, 43, 43, 180, 0, 124, 4, 100]
abbrev dktX1_go_1 : List UInt8 := dkwX1_go_1 ++ dktX1_go_2
def dkwX1_go_0 : List UInt8 := [43, 180, 0, 124, 62, 43, 180, 0, 124, 28, 162, 0, 18, 42, 43, 43, 180, 0, 124, 178, 0, 62]
abbrev dktX1_go_0 : List UInt8 := dkwX1_go_0 ++ dktX1_go_1
theorem dksX1_go_0 : cX1_go.data.toList.drop 0 = dktX1_go_0 := by decide +kernel
theorem dksX1_go_1 : cX1_go.data.toList.drop 22 = dktX1_go_1 := dk_seg dksX1_go_0 22 rfl rfl
theorem dksX1_go_2 : cX1_go.data.toList.drop 44 = dktX1_go_2 := dk_seg dksX1_go_1 22 rfl rfl
theorem dksX1_go_3 : cX1_go.data.toList.drop 67 = dktX1_go_3 := dk_seg dksX1_go_2 23 rfl rfl
theorem dX1_go_0 : decode cX1_go 0 = .ok (.aload_n 1, 1) := dk_43 (dk_at dksX1_go_0 0 rfl rfl)
theorem dX1_go_1 : decode cX1_go 1 = .ok (.getfield 124, 3) := dk_180 0 124 (dk_at dksX1_go_0 1 rfl rfl)
theorem dX1_go_4 : decode cX1_go 4 = .ok (.istore_n 3, 1) := dk_62 (dk_at dksX1_go_0 4 rfl rfl)
theorem dX1_go_5 : decode cX1_go 5 = .ok (.aload_n 1, 1) := dk_43 (dk_at dksX1_go_0 5 rfl rfl)
theorem dX1_go_6 : decode cX1_go 6 = .ok (.getfield 124, 3) := dk_180 0 124 (dk_at dksX1_go_0 6 rfl rfl)
theorem dX1_go_9 : decode cX1_go 9 = .ok (.iload_n 2, 1) := dk_28 (dk_at dksX1_go_0 9 rfl rfl)
theorem dX1_go_10 : decode cX1_go 10 = .ok (.if_icmp .ge 18, 3) := dk_162 0 18 (dk_at dksX1_go_0 10 rfl rfl)
theorem dX1_go_13 : decode cX1_go 13 = .ok (.aload_n 0, 1) := dk_42 (dk_at dksX1_go_0 13 rfl rfl)
theorem dX1_go_14 : decode cX1_go 14 = .ok (.aload_n 1, 1) := dk_43 (dk_at dksX1_go_0 14 rfl rfl)
theorem dX1_go_15 : decode cX1_go 15 = .ok (.aload_n 1, 1) := dk_43 (dk_at dksX1_go_0 15 rfl rfl)
theorem dX1_go_16 : decode cX1_go 16 = .ok (.getfield 124, 3) := dk_180 0 124 (dk_at dksX1_go_0 16 rfl rfl)
theorem dX1_go_19 : decode cX1_go 19 = .ok (.getstatic 62, 3) := dk_178 0 62 (dk_at dksX1_go_0 19 rfl rfl)
theorem dX1_go_22 : decode cX1_go 22 = .ok (.invokevirtual 140, 3) := dk_182 0 140 (dk_at dksX1_go_1 0 rfl rfl)
theorem dX1_go_25 : decode cX1_go 25 = .ok (.goto (-20), 3) := dk_167 255 236 (dk_at dksX1_go_1 3 rfl rfl)
theorem dX1_go_28 : decode cX1_go 28 = .ok (.aload_n 1, 1) := dk_43 (dk_at dksX1_go_1 6 rfl rfl)
theorem dX1_go_29 : decode cX1_go 29 = .ok (.getfield 124, 3) := dk_180 0 124 (dk_at dksX1_go_1 7 rfl rfl)
theorem dX1_go_32 : decode cX1_go 32 = .ok (.iload_n 2, 1) := dk_28 (dk_at dksX1_go_1 10 rfl rfl)
theorem dX1_go_33 : decode cX1_go 33 = .ok (.if_icmp .le 20, 3) := dk_164 0 20 (dk_at dksX1_go_1 11 rfl rfl)
theorem dX1_go_36 : decode cX1_go 36 = .ok (.aload_n 0, 1) := dk_42 (dk_at dksX1_go_1 14 rfl rfl)
theorem dX1_go_37 : decode cX1_go 37 = .ok (.aload_n 1, 1) := dk_43 (dk_at dksX1_go_1 15 rfl rfl)
theorem dX1_go_38 : decode cX1_go 38 = .ok (.aload_n 1, 1) := dk_43 (dk_at dksX1_go_1 16 rfl rfl)
theorem dX1_go_39 : decode cX1_go 39 = .ok (.getfield 124, 3) := dk_180 0 124 (dk_at dksX1_go_1 17 rfl rfl)
theorem dX1_go_42 : decode cX1_go 42 = .ok (.iconst 1, 1) := dk_4 (dk_at dksX1_go_1 20 rfl rfl)
theorem dX1_go_43 : decode cX1_go 43 = .ok (.isub, 1) := dk_100 (dk_at dksX1_go_1 21 rfl rfl)
theorem dX1_go_44 : decode cX1_go 44 = .ok (.getstatic 144, 3) := dk_178 0 144 (dk_at dksX1_go_2 0 rfl rfl)
theorem dX1_go_47 : decode cX1_go 47 = .ok (.invokevirtual 140, 3) := dk_182 0 140 (dk_at dksX1_go_2 3 rfl rfl)
theorem dX1_go_50 : decode cX1_go 50 = .ok (.goto (-22), 3) := dk_167 255 234 (dk_at dksX1_go_2 6 rfl rfl)
theorem dX1_go_53 : decode cX1_go 53 = .ok (.goto 27, 3) := dk_167 0 27 (dk_at dksX1_go_2 9 rfl rfl)
theorem dX1_go_56 : decode cX1_go 56 = .ok (.astore 4, 2) := dk_58 4 (dk_at dksX1_go_2 12 rfl rfl)
theorem dX1_go_58 : decode cX1_go 58 = .ok (.aload_n 0, 1) := dk_42 (dk_at dksX1_go_2 14 rfl rfl)
theorem dX1_go_59 : decode cX1_go 59 = .ok (.aload_n 0, 1) := dk_42 (dk_at dksX1_go_2 15 rfl rfl)
theorem dX1_go_60 : decode cX1_go 60 = .ok (.aload_n 1, 1) := dk_43 (dk_at dksX1_go_2 16 rfl rfl)
theorem dX1_go_61 : decode cX1_go 61 = .ok (.iload_n 3, 1) := dk_29 (dk_at dksX1_go_2 17 rfl rfl)
theorem dX1_go_62 : decode cX1_go 62 = .ok (.invokedynamic 147, 5) := by decide +kernel
theorem dX1_go_67 : decode cX1_go 67 = .ok (.invokevirtual 112, 3) := dk_182 0 112 (dk_at dksX1_go_3 0 rfl rfl)
theorem dX1_go_70 : decode cX1_go 70 = .ok (.new 78, 3) := dk_187 0 78 (dk_at dksX1_go_3 3 rfl rfl)
theorem dX1_go_73 : decode cX1_go 73 = .ok (.dup, 1) := dk_89 (dk_at dksX1_go_3 6 rfl rfl)
theorem dX1_go_74 : decode cX1_go 74 = .ok (.aload 4, 2) := dk_25 4 (dk_at dksX1_go_3 7 rfl rfl)
theorem dX1_go_76 : decode cX1_go 76 = .ok (.invokespecial 150, 3) := dk_183 0 150 (dk_at dksX1_go_3 9 rfl rfl)
theorem dX1_go_79 : decode cX1_go 79 = .ok (.athrow, 1) := dk_191 (dk_at dksX1_go_3 12 rfl rfl)
theorem dX1_go_80 : decode cX1_go 80 = .ok (.return_, 1) := dk_177 (dk_at dksX1_go_3 13 rfl rfl)
abbrev cX1_pass : ByteArray := prog_1_method_7_code
def yX1_pass : MethodName := ⟨RX1, "pass", "(LCoreplug$Core;ILCoreplug$Way;)V"⟩
def dkwX1_pass_4 : List UInt8 := [181, 0, 124, 42, 43, 182, 0, 137, 177]
abbrev dktX1_pass_4 : List UInt8 := dkwX1_pass_4 ++ []
def dkwX1_pass_3 : List UInt8 := [182, 0, 131, 4, 43, 180, 0, 33, 120, 160, 0, 11, 187, 0, 134, 89, 183, 0, 136, 191, 43, 28]
abbrev dktX1_pass_3 : List UInt8 := dkwX1_pass_3 ++ dktX1_pass_4
def dkwX1_pass_2 : List UInt8 := [45, 178, 0, 62, 166, 0, 18, 43, 28, 4, 96, 181, 0, 124, 42, 43, 182, 0, 127, 167, 0, 34, 42]
abbrev dktX1_pass_2 : List UInt8 := dkwX1_pass_2 ++ dktX1_pass_3
def dkwX1_pass_1 : List UInt8 := [182, 0, 120, 43, 45, 178, 0, 62, 166, 0, 9, 28, 4, 96, 167, 0, 4, 28, 181, 0, 124, 167, 0, 56]
abbrev dktX1_pass_1 : List UInt8 := dkwX1_pass_1 ++ dktX1_pass_2
def dkwX1_pass_0 : List UInt8 := [28, 16, 10, 159, 0, 45, 42, 180, 0, 116, 28, 50, 198, 0, 15, 42, 43, 42, 180, 0, 116, 28, 50, 45]
abbrev dktX1_pass_0 : List UInt8 := dkwX1_pass_0 ++ dktX1_pass_1
theorem dksX1_pass_0 : cX1_pass.data.toList.drop 0 = dktX1_pass_0 := by decide +kernel
theorem dksX1_pass_1 : cX1_pass.data.toList.drop 24 = dktX1_pass_1 := dk_seg dksX1_pass_0 24 rfl rfl
theorem dksX1_pass_2 : cX1_pass.data.toList.drop 48 = dktX1_pass_2 := dk_seg dksX1_pass_1 24 rfl rfl
theorem dksX1_pass_3 : cX1_pass.data.toList.drop 71 = dktX1_pass_3 := dk_seg dksX1_pass_2 23 rfl rfl
theorem dksX1_pass_4 : cX1_pass.data.toList.drop 93 = dktX1_pass_4 := dk_seg dksX1_pass_3 22 rfl rfl
theorem dX1_pass_0 : decode cX1_pass 0 = .ok (.iload_n 2, 1) := dk_28 (dk_at dksX1_pass_0 0 rfl rfl)
theorem dX1_pass_1 : decode cX1_pass 1 = .ok (.bipush 10, 2) := dk_16 10 (dk_at dksX1_pass_0 1 rfl rfl)
theorem dX1_pass_3 : decode cX1_pass 3 = .ok (.if_icmp .eq 45, 3) := dk_159 0 45 (dk_at dksX1_pass_0 3 rfl rfl)
theorem dX1_pass_6 : decode cX1_pass 6 = .ok (.aload_n 0, 1) := dk_42 (dk_at dksX1_pass_0 6 rfl rfl)
theorem dX1_pass_7 : decode cX1_pass 7 = .ok (.getfield 116, 3) := dk_180 0 116 (dk_at dksX1_pass_0 7 rfl rfl)
theorem dX1_pass_10 : decode cX1_pass 10 = .ok (.iload_n 2, 1) := dk_28 (dk_at dksX1_pass_0 10 rfl rfl)
theorem dX1_pass_11 : decode cX1_pass 11 = .ok (.aaload, 1) := dk_50 (dk_at dksX1_pass_0 11 rfl rfl)
theorem dX1_pass_12 : decode cX1_pass 12 = .ok (.ifnull 15, 3) := dk_198 0 15 (dk_at dksX1_pass_0 12 rfl rfl)
theorem dX1_pass_15 : decode cX1_pass 15 = .ok (.aload_n 0, 1) := dk_42 (dk_at dksX1_pass_0 15 rfl rfl)
theorem dX1_pass_16 : decode cX1_pass 16 = .ok (.aload_n 1, 1) := dk_43 (dk_at dksX1_pass_0 16 rfl rfl)
theorem dX1_pass_17 : decode cX1_pass 17 = .ok (.aload_n 0, 1) := dk_42 (dk_at dksX1_pass_0 17 rfl rfl)
theorem dX1_pass_18 : decode cX1_pass 18 = .ok (.getfield 116, 3) := dk_180 0 116 (dk_at dksX1_pass_0 18 rfl rfl)
theorem dX1_pass_21 : decode cX1_pass 21 = .ok (.iload_n 2, 1) := dk_28 (dk_at dksX1_pass_0 21 rfl rfl)
theorem dX1_pass_22 : decode cX1_pass 22 = .ok (.aaload, 1) := dk_50 (dk_at dksX1_pass_0 22 rfl rfl)
theorem dX1_pass_23 : decode cX1_pass 23 = .ok (.aload_n 3, 1) := dk_45 (dk_at dksX1_pass_0 23 rfl rfl)
theorem dX1_pass_24 : decode cX1_pass 24 = .ok (.invokevirtual 120, 3) := dk_182 0 120 (dk_at dksX1_pass_1 0 rfl rfl)
theorem dX1_pass_27 : decode cX1_pass 27 = .ok (.aload_n 1, 1) := dk_43 (dk_at dksX1_pass_1 3 rfl rfl)
theorem dX1_pass_28 : decode cX1_pass 28 = .ok (.aload_n 3, 1) := dk_45 (dk_at dksX1_pass_1 4 rfl rfl)
theorem dX1_pass_29 : decode cX1_pass 29 = .ok (.getstatic 62, 3) := dk_178 0 62 (dk_at dksX1_pass_1 5 rfl rfl)
theorem dX1_pass_32 : decode cX1_pass 32 = .ok (.if_acmp .ne 9, 3) := dk_166 0 9 (dk_at dksX1_pass_1 8 rfl rfl)
theorem dX1_pass_35 : decode cX1_pass 35 = .ok (.iload_n 2, 1) := dk_28 (dk_at dksX1_pass_1 11 rfl rfl)
theorem dX1_pass_36 : decode cX1_pass 36 = .ok (.iconst 1, 1) := dk_4 (dk_at dksX1_pass_1 12 rfl rfl)
theorem dX1_pass_37 : decode cX1_pass 37 = .ok (.iadd, 1) := dk_96 (dk_at dksX1_pass_1 13 rfl rfl)
theorem dX1_pass_38 : decode cX1_pass 38 = .ok (.goto 4, 3) := dk_167 0 4 (dk_at dksX1_pass_1 14 rfl rfl)
theorem dX1_pass_41 : decode cX1_pass 41 = .ok (.iload_n 2, 1) := dk_28 (dk_at dksX1_pass_1 17 rfl rfl)
theorem dX1_pass_42 : decode cX1_pass 42 = .ok (.putfield 124, 3) := dk_181 0 124 (dk_at dksX1_pass_1 18 rfl rfl)
theorem dX1_pass_45 : decode cX1_pass 45 = .ok (.goto 56, 3) := dk_167 0 56 (dk_at dksX1_pass_1 21 rfl rfl)
theorem dX1_pass_48 : decode cX1_pass 48 = .ok (.aload_n 3, 1) := dk_45 (dk_at dksX1_pass_2 0 rfl rfl)
theorem dX1_pass_49 : decode cX1_pass 49 = .ok (.getstatic 62, 3) := dk_178 0 62 (dk_at dksX1_pass_2 1 rfl rfl)
theorem dX1_pass_52 : decode cX1_pass 52 = .ok (.if_acmp .ne 18, 3) := dk_166 0 18 (dk_at dksX1_pass_2 4 rfl rfl)
theorem dX1_pass_55 : decode cX1_pass 55 = .ok (.aload_n 1, 1) := dk_43 (dk_at dksX1_pass_2 7 rfl rfl)
theorem dX1_pass_56 : decode cX1_pass 56 = .ok (.iload_n 2, 1) := dk_28 (dk_at dksX1_pass_2 8 rfl rfl)
theorem dX1_pass_57 : decode cX1_pass 57 = .ok (.iconst 1, 1) := dk_4 (dk_at dksX1_pass_2 9 rfl rfl)
theorem dX1_pass_58 : decode cX1_pass 58 = .ok (.iadd, 1) := dk_96 (dk_at dksX1_pass_2 10 rfl rfl)
theorem dX1_pass_59 : decode cX1_pass 59 = .ok (.putfield 124, 3) := dk_181 0 124 (dk_at dksX1_pass_2 11 rfl rfl)
theorem dX1_pass_62 : decode cX1_pass 62 = .ok (.aload_n 0, 1) := dk_42 (dk_at dksX1_pass_2 14 rfl rfl)
theorem dX1_pass_63 : decode cX1_pass 63 = .ok (.aload_n 1, 1) := dk_43 (dk_at dksX1_pass_2 15 rfl rfl)
theorem dX1_pass_64 : decode cX1_pass 64 = .ok (.invokevirtual 127, 3) := dk_182 0 127 (dk_at dksX1_pass_2 16 rfl rfl)
theorem dX1_pass_67 : decode cX1_pass 67 = .ok (.goto 34, 3) := dk_167 0 34 (dk_at dksX1_pass_2 19 rfl rfl)
theorem dX1_pass_70 : decode cX1_pass 70 = .ok (.aload_n 0, 1) := dk_42 (dk_at dksX1_pass_2 22 rfl rfl)
theorem dX1_pass_71 : decode cX1_pass 71 = .ok (.invokevirtual 131, 3) := dk_182 0 131 (dk_at dksX1_pass_3 0 rfl rfl)
theorem dX1_pass_74 : decode cX1_pass 74 = .ok (.iconst 1, 1) := dk_4 (dk_at dksX1_pass_3 3 rfl rfl)
theorem dX1_pass_75 : decode cX1_pass 75 = .ok (.aload_n 1, 1) := dk_43 (dk_at dksX1_pass_3 4 rfl rfl)
theorem dX1_pass_76 : decode cX1_pass 76 = .ok (.getfield 33, 3) := dk_180 0 33 (dk_at dksX1_pass_3 5 rfl rfl)
theorem dX1_pass_79 : decode cX1_pass 79 = .ok (.ishl, 1) := dk_120 (dk_at dksX1_pass_3 8 rfl rfl)
theorem dX1_pass_80 : decode cX1_pass 80 = .ok (.if_icmp .ne 11, 3) := dk_160 0 11 (dk_at dksX1_pass_3 9 rfl rfl)
theorem dX1_pass_83 : decode cX1_pass 83 = .ok (.new 134, 3) := dk_187 0 134 (dk_at dksX1_pass_3 12 rfl rfl)
theorem dX1_pass_86 : decode cX1_pass 86 = .ok (.dup, 1) := dk_89 (dk_at dksX1_pass_3 15 rfl rfl)
theorem dX1_pass_87 : decode cX1_pass 87 = .ok (.invokespecial 136, 3) := dk_183 0 136 (dk_at dksX1_pass_3 16 rfl rfl)
theorem dX1_pass_90 : decode cX1_pass 90 = .ok (.athrow, 1) := dk_191 (dk_at dksX1_pass_3 19 rfl rfl)
theorem dX1_pass_91 : decode cX1_pass 91 = .ok (.aload_n 1, 1) := dk_43 (dk_at dksX1_pass_3 20 rfl rfl)
theorem dX1_pass_92 : decode cX1_pass 92 = .ok (.iload_n 2, 1) := dk_28 (dk_at dksX1_pass_3 21 rfl rfl)
theorem dX1_pass_93 : decode cX1_pass 93 = .ok (.putfield 124, 3) := dk_181 0 124 (dk_at dksX1_pass_4 0 rfl rfl)
theorem dX1_pass_96 : decode cX1_pass 96 = .ok (.aload_n 0, 1) := dk_42 (dk_at dksX1_pass_4 3 rfl rfl)
theorem dX1_pass_97 : decode cX1_pass 97 = .ok (.aload_n 1, 1) := dk_43 (dk_at dksX1_pass_4 4 rfl rfl)
theorem dX1_pass_98 : decode cX1_pass 98 = .ok (.invokevirtual 137, 3) := dk_182 0 137 (dk_at dksX1_pass_4 5 rfl rfl)
theorem dX1_pass_101 : decode cX1_pass 101 = .ok (.return_, 1) := dk_177 (dk_at dksX1_pass_4 8 rfl rfl)
abbrev cX1_goAlong : ByteArray := prog_1_method_5_code
def yX1_goAlong : MethodName := ⟨RX1, "goAlong", "(LCoreplug$Core;LCoreplug$Step;LCoreplug$Way;)V"⟩
def dkwX1_goAlong_4 : List UInt8 := [42, 42, 43, 44, 45, 21, 7, 186, 0, 109, 0, 0, 182, 0, 112, 25, 6, 191, 177]
abbrev dktX1_goAlong_4 : List UInt8 := dkwX1_goAlong_4 ++ []
def dkwX1_goAlong_3 : List UInt8 := [21, 4, 153, 0, 13, 25, 6, 180, 0, 106, 4, 100, 167, 0, 10, 25, 6, 180, 0, 106, 4, 96, 54, 7]
abbrev dktX1_goAlong_3 : List UInt8 := dkwX1_goAlong_3 ++ dktX1_goAlong_4
def dkwX1_goAlong_2 : List UInt8 := [185, 0, 93, 1, 0, 192, 0, 97, 182, 0, 99, 45, 182, 0, 102, 167, 255, 226, 167, 0, 47, 58, 6]
abbrev dktX1_goAlong_2 : List UInt8 := dkwX1_goAlong_2 ++ dktX1_goAlong_3
def dkwX1_goAlong_1 : List UInt8 := [167, 0, 4, 6, 182, 0, 84, 58, 5, 25, 5, 185, 0, 88, 1, 0, 153, 0, 26, 42, 43, 44, 25, 5]
abbrev dktX1_goAlong_1 : List UInt8 := dkwX1_goAlong_1 ++ dktX1_goAlong_2
def dkwX1_goAlong_0 : List UInt8 := [45, 178, 0, 62, 166, 0, 7, 4, 167, 0, 4, 3, 54, 4, 44, 21, 4, 21, 4, 153, 0, 7, 3]
abbrev dktX1_goAlong_0 : List UInt8 := dkwX1_goAlong_0 ++ dktX1_goAlong_1
theorem dksX1_goAlong_0 : cX1_goAlong.data.toList.drop 0 = dktX1_goAlong_0 := by decide +kernel
theorem dksX1_goAlong_1 : cX1_goAlong.data.toList.drop 23 = dktX1_goAlong_1 := dk_seg dksX1_goAlong_0 23 rfl rfl
theorem dksX1_goAlong_2 : cX1_goAlong.data.toList.drop 47 = dktX1_goAlong_2 := dk_seg dksX1_goAlong_1 24 rfl rfl
theorem dksX1_goAlong_3 : cX1_goAlong.data.toList.drop 70 = dktX1_goAlong_3 := dk_seg dksX1_goAlong_2 23 rfl rfl
theorem dksX1_goAlong_4 : cX1_goAlong.data.toList.drop 94 = dktX1_goAlong_4 := dk_seg dksX1_goAlong_3 24 rfl rfl
theorem dX1_goAlong_0 : decode cX1_goAlong 0 = .ok (.aload_n 3, 1) := dk_45 (dk_at dksX1_goAlong_0 0 rfl rfl)
theorem dX1_goAlong_1 : decode cX1_goAlong 1 = .ok (.getstatic 62, 3) := dk_178 0 62 (dk_at dksX1_goAlong_0 1 rfl rfl)
theorem dX1_goAlong_4 : decode cX1_goAlong 4 = .ok (.if_acmp .ne 7, 3) := dk_166 0 7 (dk_at dksX1_goAlong_0 4 rfl rfl)
theorem dX1_goAlong_7 : decode cX1_goAlong 7 = .ok (.iconst 1, 1) := dk_4 (dk_at dksX1_goAlong_0 7 rfl rfl)
theorem dX1_goAlong_8 : decode cX1_goAlong 8 = .ok (.goto 4, 3) := dk_167 0 4 (dk_at dksX1_goAlong_0 8 rfl rfl)
theorem dX1_goAlong_11 : decode cX1_goAlong 11 = .ok (.iconst 0, 1) := dk_3 (dk_at dksX1_goAlong_0 11 rfl rfl)
theorem dX1_goAlong_12 : decode cX1_goAlong 12 = .ok (.istore 4, 2) := dk_54 4 (dk_at dksX1_goAlong_0 12 rfl rfl)
theorem dX1_goAlong_14 : decode cX1_goAlong 14 = .ok (.aload_n 2, 1) := dk_44 (dk_at dksX1_goAlong_0 14 rfl rfl)
theorem dX1_goAlong_15 : decode cX1_goAlong 15 = .ok (.iload 4, 2) := dk_21 4 (dk_at dksX1_goAlong_0 15 rfl rfl)
theorem dX1_goAlong_17 : decode cX1_goAlong 17 = .ok (.iload 4, 2) := dk_21 4 (dk_at dksX1_goAlong_0 17 rfl rfl)
theorem dX1_goAlong_19 : decode cX1_goAlong 19 = .ok (.ifCond .eq 7, 3) := dk_153 0 7 (dk_at dksX1_goAlong_0 19 rfl rfl)
theorem dX1_goAlong_22 : decode cX1_goAlong 22 = .ok (.iconst 0, 1) := dk_3 (dk_at dksX1_goAlong_0 22 rfl rfl)
theorem dX1_goAlong_23 : decode cX1_goAlong 23 = .ok (.goto 4, 3) := dk_167 0 4 (dk_at dksX1_goAlong_1 0 rfl rfl)
theorem dX1_goAlong_26 : decode cX1_goAlong 26 = .ok (.iconst 3, 1) := dk_6 (dk_at dksX1_goAlong_1 3 rfl rfl)
theorem dX1_goAlong_27 : decode cX1_goAlong 27 = .ok (.invokevirtual 84, 3) := dk_182 0 84 (dk_at dksX1_goAlong_1 4 rfl rfl)
theorem dX1_goAlong_30 : decode cX1_goAlong 30 = .ok (.astore 5, 2) := dk_58 5 (dk_at dksX1_goAlong_1 7 rfl rfl)
theorem dX1_goAlong_32 : decode cX1_goAlong 32 = .ok (.aload 5, 2) := dk_25 5 (dk_at dksX1_goAlong_1 9 rfl rfl)
theorem dX1_goAlong_34 : decode cX1_goAlong 34 = .ok (.invokeinterface 88 1, 5) := by decide +kernel
theorem dX1_goAlong_39 : decode cX1_goAlong 39 = .ok (.ifCond .eq 26, 3) := dk_153 0 26 (dk_at dksX1_goAlong_1 16 rfl rfl)
theorem dX1_goAlong_42 : decode cX1_goAlong 42 = .ok (.aload_n 0, 1) := dk_42 (dk_at dksX1_goAlong_1 19 rfl rfl)
theorem dX1_goAlong_43 : decode cX1_goAlong 43 = .ok (.aload_n 1, 1) := dk_43 (dk_at dksX1_goAlong_1 20 rfl rfl)
theorem dX1_goAlong_44 : decode cX1_goAlong 44 = .ok (.aload_n 2, 1) := dk_44 (dk_at dksX1_goAlong_1 21 rfl rfl)
theorem dX1_goAlong_45 : decode cX1_goAlong 45 = .ok (.aload 5, 2) := dk_25 5 (dk_at dksX1_goAlong_1 22 rfl rfl)
theorem dX1_goAlong_47 : decode cX1_goAlong 47 = .ok (.invokeinterface 93 1, 5) := by decide +kernel
theorem dX1_goAlong_52 : decode cX1_goAlong 52 = .ok (.checkcast 97, 3) := dk_192 0 97 (dk_at dksX1_goAlong_2 5 rfl rfl)
theorem dX1_goAlong_55 : decode cX1_goAlong 55 = .ok (.invokevirtual 99, 3) := dk_182 0 99 (dk_at dksX1_goAlong_2 8 rfl rfl)
theorem dX1_goAlong_58 : decode cX1_goAlong 58 = .ok (.aload_n 3, 1) := dk_45 (dk_at dksX1_goAlong_2 11 rfl rfl)
theorem dX1_goAlong_59 : decode cX1_goAlong 59 = .ok (.invokevirtual 102, 3) := dk_182 0 102 (dk_at dksX1_goAlong_2 12 rfl rfl)
theorem dX1_goAlong_62 : decode cX1_goAlong 62 = .ok (.goto (-30), 3) := dk_167 255 226 (dk_at dksX1_goAlong_2 15 rfl rfl)
theorem dX1_goAlong_65 : decode cX1_goAlong 65 = .ok (.goto 47, 3) := dk_167 0 47 (dk_at dksX1_goAlong_2 18 rfl rfl)
theorem dX1_goAlong_68 : decode cX1_goAlong 68 = .ok (.astore 6, 2) := dk_58 6 (dk_at dksX1_goAlong_2 21 rfl rfl)
theorem dX1_goAlong_70 : decode cX1_goAlong 70 = .ok (.iload 4, 2) := dk_21 4 (dk_at dksX1_goAlong_3 0 rfl rfl)
theorem dX1_goAlong_72 : decode cX1_goAlong 72 = .ok (.ifCond .eq 13, 3) := dk_153 0 13 (dk_at dksX1_goAlong_3 2 rfl rfl)
theorem dX1_goAlong_75 : decode cX1_goAlong 75 = .ok (.aload 6, 2) := dk_25 6 (dk_at dksX1_goAlong_3 5 rfl rfl)
theorem dX1_goAlong_77 : decode cX1_goAlong 77 = .ok (.getfield 106, 3) := dk_180 0 106 (dk_at dksX1_goAlong_3 7 rfl rfl)
theorem dX1_goAlong_80 : decode cX1_goAlong 80 = .ok (.iconst 1, 1) := dk_4 (dk_at dksX1_goAlong_3 10 rfl rfl)
theorem dX1_goAlong_81 : decode cX1_goAlong 81 = .ok (.isub, 1) := dk_100 (dk_at dksX1_goAlong_3 11 rfl rfl)
theorem dX1_goAlong_82 : decode cX1_goAlong 82 = .ok (.goto 10, 3) := dk_167 0 10 (dk_at dksX1_goAlong_3 12 rfl rfl)
theorem dX1_goAlong_85 : decode cX1_goAlong 85 = .ok (.aload 6, 2) := dk_25 6 (dk_at dksX1_goAlong_3 15 rfl rfl)
theorem dX1_goAlong_87 : decode cX1_goAlong 87 = .ok (.getfield 106, 3) := dk_180 0 106 (dk_at dksX1_goAlong_3 17 rfl rfl)
theorem dX1_goAlong_90 : decode cX1_goAlong 90 = .ok (.iconst 1, 1) := dk_4 (dk_at dksX1_goAlong_3 20 rfl rfl)
theorem dX1_goAlong_91 : decode cX1_goAlong 91 = .ok (.iadd, 1) := dk_96 (dk_at dksX1_goAlong_3 21 rfl rfl)
theorem dX1_goAlong_92 : decode cX1_goAlong 92 = .ok (.istore 7, 2) := dk_54 7 (dk_at dksX1_goAlong_3 22 rfl rfl)
theorem dX1_goAlong_94 : decode cX1_goAlong 94 = .ok (.aload_n 0, 1) := dk_42 (dk_at dksX1_goAlong_4 0 rfl rfl)
theorem dX1_goAlong_95 : decode cX1_goAlong 95 = .ok (.aload_n 0, 1) := dk_42 (dk_at dksX1_goAlong_4 1 rfl rfl)
theorem dX1_goAlong_96 : decode cX1_goAlong 96 = .ok (.aload_n 1, 1) := dk_43 (dk_at dksX1_goAlong_4 2 rfl rfl)
theorem dX1_goAlong_97 : decode cX1_goAlong 97 = .ok (.aload_n 2, 1) := dk_44 (dk_at dksX1_goAlong_4 3 rfl rfl)
theorem dX1_goAlong_98 : decode cX1_goAlong 98 = .ok (.aload_n 3, 1) := dk_45 (dk_at dksX1_goAlong_4 4 rfl rfl)
theorem dX1_goAlong_99 : decode cX1_goAlong 99 = .ok (.iload 7, 2) := dk_21 7 (dk_at dksX1_goAlong_4 5 rfl rfl)
theorem dX1_goAlong_101 : decode cX1_goAlong 101 = .ok (.invokedynamic 109, 5) := by decide +kernel
theorem dX1_goAlong_106 : decode cX1_goAlong 106 = .ok (.invokevirtual 112, 3) := dk_182 0 112 (dk_at dksX1_goAlong_4 12 rfl rfl)
theorem dX1_goAlong_109 : decode cX1_goAlong 109 = .ok (.aload 6, 2) := dk_25 6 (dk_at dksX1_goAlong_4 15 rfl rfl)
theorem dX1_goAlong_111 : decode cX1_goAlong 111 = .ok (.athrow, 1) := dk_191 (dk_at dksX1_goAlong_4 17 rfl rfl)
theorem dX1_goAlong_112 : decode cX1_goAlong 112 = .ok (.return_, 1) := dk_177 (dk_at dksX1_goAlong_4 18 rfl rfl)
abbrev cX1_lambda_goAlong_0 : ByteArray := prog_1_method_54_code
def yX1_lambda_goAlong_0 : MethodName := ⟨RX1, "lambda$goAlong$0", "(LCoreplug$Core;LCoreplug$Step;LCoreplug$Way;I)V"⟩
def dkwX1_lambda_goAlong_0_0 : List UInt8 := [42, 43, 44, 45, 182, 1, 85, 21, 4, 182, 1, 89, 177]
abbrev dktX1_lambda_goAlong_0_0 : List UInt8 := dkwX1_lambda_goAlong_0_0 ++ []
theorem dksX1_lambda_goAlong_0_0 : cX1_lambda_goAlong_0.data.toList.drop 0 = dktX1_lambda_goAlong_0_0 := by decide +kernel
theorem dX1_lambda_goAlong_0_0 : decode cX1_lambda_goAlong_0 0 = .ok (.aload_n 0, 1) := dk_42 (dk_at dksX1_lambda_goAlong_0_0 0 rfl rfl)
theorem dX1_lambda_goAlong_0_1 : decode cX1_lambda_goAlong_0 1 = .ok (.aload_n 1, 1) := dk_43 (dk_at dksX1_lambda_goAlong_0_0 1 rfl rfl)
theorem dX1_lambda_goAlong_0_2 : decode cX1_lambda_goAlong_0 2 = .ok (.aload_n 2, 1) := dk_44 (dk_at dksX1_lambda_goAlong_0_0 2 rfl rfl)
theorem dX1_lambda_goAlong_0_3 : decode cX1_lambda_goAlong_0 3 = .ok (.aload_n 3, 1) := dk_45 (dk_at dksX1_lambda_goAlong_0_0 3 rfl rfl)
theorem dX1_lambda_goAlong_0_4 : decode cX1_lambda_goAlong_0 4 = .ok (.invokevirtual 341, 3) := dk_182 1 85 (dk_at dksX1_lambda_goAlong_0_0 4 rfl rfl)
theorem dX1_lambda_goAlong_0_7 : decode cX1_lambda_goAlong_0 7 = .ok (.iload 4, 2) := dk_21 4 (dk_at dksX1_lambda_goAlong_0_0 7 rfl rfl)
theorem dX1_lambda_goAlong_0_9 : decode cX1_lambda_goAlong_0 9 = .ok (.invokevirtual 345, 3) := dk_182 1 89 (dk_at dksX1_lambda_goAlong_0_0 9 rfl rfl)
theorem dX1_lambda_goAlong_0_12 : decode cX1_lambda_goAlong_0 12 = .ok (.return_, 1) := dk_177 (dk_at dksX1_lambda_goAlong_0_0 12 rfl rfl)
abbrev cX1_goFrom : ByteArray := prog_1_method_6_code
def yX1_goFrom : MethodName := ⟨RX1, "goFrom", "(LCoreplug$Core;LCoreplug$Step;LCoreplug$Way;I)V"⟩
def dkwX1_goFrom_2 : List UInt8 := [45, 182, 0, 102, 167, 255, 226, 177]
abbrev dktX1_goFrom_2 : List UInt8 := dkwX1_goFrom_2 ++ []
def dkwX1_goFrom_1 : List UInt8 := [185, 0, 88, 1, 0, 153, 0, 26, 42, 43, 44, 25, 5, 185, 0, 93, 1, 0, 192, 0, 97, 182, 0, 99]
abbrev dktX1_goFrom_1 : List UInt8 := dkwX1_goFrom_1 ++ dktX1_goFrom_2
def dkwX1_goFrom_0 : List UInt8 := [44, 45, 178, 0, 62, 166, 0, 7, 4, 167, 0, 4, 3, 21, 4, 182, 0, 84, 58, 5, 25, 5]
abbrev dktX1_goFrom_0 : List UInt8 := dkwX1_goFrom_0 ++ dktX1_goFrom_1
theorem dksX1_goFrom_0 : cX1_goFrom.data.toList.drop 0 = dktX1_goFrom_0 := by decide +kernel
theorem dksX1_goFrom_1 : cX1_goFrom.data.toList.drop 22 = dktX1_goFrom_1 := dk_seg dksX1_goFrom_0 22 rfl rfl
theorem dksX1_goFrom_2 : cX1_goFrom.data.toList.drop 46 = dktX1_goFrom_2 := dk_seg dksX1_goFrom_1 24 rfl rfl
theorem dX1_goFrom_0 : decode cX1_goFrom 0 = .ok (.aload_n 2, 1) := dk_44 (dk_at dksX1_goFrom_0 0 rfl rfl)
theorem dX1_goFrom_1 : decode cX1_goFrom 1 = .ok (.aload_n 3, 1) := dk_45 (dk_at dksX1_goFrom_0 1 rfl rfl)
theorem dX1_goFrom_2 : decode cX1_goFrom 2 = .ok (.getstatic 62, 3) := dk_178 0 62 (dk_at dksX1_goFrom_0 2 rfl rfl)
theorem dX1_goFrom_5 : decode cX1_goFrom 5 = .ok (.if_acmp .ne 7, 3) := dk_166 0 7 (dk_at dksX1_goFrom_0 5 rfl rfl)
theorem dX1_goFrom_8 : decode cX1_goFrom 8 = .ok (.iconst 1, 1) := dk_4 (dk_at dksX1_goFrom_0 8 rfl rfl)
theorem dX1_goFrom_9 : decode cX1_goFrom 9 = .ok (.goto 4, 3) := dk_167 0 4 (dk_at dksX1_goFrom_0 9 rfl rfl)
theorem dX1_goFrom_12 : decode cX1_goFrom 12 = .ok (.iconst 0, 1) := dk_3 (dk_at dksX1_goFrom_0 12 rfl rfl)
theorem dX1_goFrom_13 : decode cX1_goFrom 13 = .ok (.iload 4, 2) := dk_21 4 (dk_at dksX1_goFrom_0 13 rfl rfl)
theorem dX1_goFrom_15 : decode cX1_goFrom 15 = .ok (.invokevirtual 84, 3) := dk_182 0 84 (dk_at dksX1_goFrom_0 15 rfl rfl)
theorem dX1_goFrom_18 : decode cX1_goFrom 18 = .ok (.astore 5, 2) := dk_58 5 (dk_at dksX1_goFrom_0 18 rfl rfl)
theorem dX1_goFrom_20 : decode cX1_goFrom 20 = .ok (.aload 5, 2) := dk_25 5 (dk_at dksX1_goFrom_0 20 rfl rfl)
theorem dX1_goFrom_22 : decode cX1_goFrom 22 = .ok (.invokeinterface 88 1, 5) := by decide +kernel
theorem dX1_goFrom_27 : decode cX1_goFrom 27 = .ok (.ifCond .eq 26, 3) := dk_153 0 26 (dk_at dksX1_goFrom_1 5 rfl rfl)
theorem dX1_goFrom_30 : decode cX1_goFrom 30 = .ok (.aload_n 0, 1) := dk_42 (dk_at dksX1_goFrom_1 8 rfl rfl)
theorem dX1_goFrom_31 : decode cX1_goFrom 31 = .ok (.aload_n 1, 1) := dk_43 (dk_at dksX1_goFrom_1 9 rfl rfl)
theorem dX1_goFrom_32 : decode cX1_goFrom 32 = .ok (.aload_n 2, 1) := dk_44 (dk_at dksX1_goFrom_1 10 rfl rfl)
theorem dX1_goFrom_33 : decode cX1_goFrom 33 = .ok (.aload 5, 2) := dk_25 5 (dk_at dksX1_goFrom_1 11 rfl rfl)
theorem dX1_goFrom_35 : decode cX1_goFrom 35 = .ok (.invokeinterface 93 1, 5) := by decide +kernel
theorem dX1_goFrom_40 : decode cX1_goFrom 40 = .ok (.checkcast 97, 3) := dk_192 0 97 (dk_at dksX1_goFrom_1 18 rfl rfl)
theorem dX1_goFrom_43 : decode cX1_goFrom 43 = .ok (.invokevirtual 99, 3) := dk_182 0 99 (dk_at dksX1_goFrom_1 21 rfl rfl)
theorem dX1_goFrom_46 : decode cX1_goFrom 46 = .ok (.aload_n 3, 1) := dk_45 (dk_at dksX1_goFrom_2 0 rfl rfl)
theorem dX1_goFrom_47 : decode cX1_goFrom 47 = .ok (.invokevirtual 102, 3) := dk_182 0 102 (dk_at dksX1_goFrom_2 1 rfl rfl)
theorem dX1_goFrom_50 : decode cX1_goFrom 50 = .ok (.goto (-30), 3) := dk_167 255 226 (dk_at dksX1_goFrom_2 4 rfl rfl)
theorem dX1_goFrom_53 : decode cX1_goFrom 53 = .ok (.return_, 1) := dk_177 (dk_at dksX1_goFrom_2 7 rfl rfl)
abbrev cX1_gather : ByteArray := prog_1_method_15_code
def yX1_gather : MethodName := ⟨RX1, "gather", "(LCoreplug$Core;)V"⟩
def dkwX1_gather_5 : List UInt8 := [182, 0, 169, 153, 0, 12, 45, 42, 45, 182, 0, 208, 182, 0, 195, 167, 255, 209, 177]
abbrev dktX1_gather_5 : List UInt8 := dkwX1_gather_5 ++ []
def dkwX1_gather_4 : List UInt8 := [185, 0, 93, 1, 0, 192, 0, 164, 78, 45, 180, 0, 166, 2, 160, 0, 23, 45, 43, 180, 0, 33]
abbrev dktX1_gather_4 : List UInt8 := dkwX1_gather_4 ++ dktX1_gather_5
def dkwX1_gather_3 : List UInt8 := [167, 255, 201, 42, 180, 0, 157, 185, 0, 160, 1, 0, 77, 44, 185, 0, 88, 1, 0, 153, 0, 44, 44]
abbrev dktX1_gather_3 : List UInt8 := dkwX1_gather_3 ++ dktX1_gather_4
def dkwX1_gather_2 : List UInt8 := [180, 0, 33, 182, 0, 169, 153, 0, 17, 25, 4, 43, 180, 0, 33, 182, 0, 195, 45, 3, 181, 0, 183]
abbrev dktX1_gather_2 : List UInt8 := dkwX1_gather_2 ++ dktX1_gather_3
def dkwX1_gather_1 : List UInt8 := [185, 0, 93, 1, 0, 192, 0, 184, 78, 45, 58, 4, 45, 180, 0, 183, 153, 0, 29, 25, 4, 43]
abbrev dktX1_gather_1 : List UInt8 := dkwX1_gather_1 ++ dktX1_gather_2
def dkwX1_gather_0 : List UInt8 := [42, 180, 0, 198, 185, 0, 160, 1, 0, 77, 44, 185, 0, 88, 1, 0, 153, 0, 52, 44]
abbrev dktX1_gather_0 : List UInt8 := dkwX1_gather_0 ++ dktX1_gather_1
theorem dksX1_gather_0 : cX1_gather.data.toList.drop 0 = dktX1_gather_0 := by decide +kernel
theorem dksX1_gather_1 : cX1_gather.data.toList.drop 20 = dktX1_gather_1 := dk_seg dksX1_gather_0 20 rfl rfl
theorem dksX1_gather_2 : cX1_gather.data.toList.drop 42 = dktX1_gather_2 := dk_seg dksX1_gather_1 22 rfl rfl
theorem dksX1_gather_3 : cX1_gather.data.toList.drop 65 = dktX1_gather_3 := dk_seg dksX1_gather_2 23 rfl rfl
theorem dksX1_gather_4 : cX1_gather.data.toList.drop 88 = dktX1_gather_4 := dk_seg dksX1_gather_3 23 rfl rfl
theorem dksX1_gather_5 : cX1_gather.data.toList.drop 110 = dktX1_gather_5 := dk_seg dksX1_gather_4 22 rfl rfl
theorem dX1_gather_0 : decode cX1_gather 0 = .ok (.aload_n 0, 1) := dk_42 (dk_at dksX1_gather_0 0 rfl rfl)
theorem dX1_gather_1 : decode cX1_gather 1 = .ok (.getfield 198, 3) := dk_180 0 198 (dk_at dksX1_gather_0 1 rfl rfl)
theorem dX1_gather_4 : decode cX1_gather 4 = .ok (.invokeinterface 160 1, 5) := by decide +kernel
theorem dX1_gather_9 : decode cX1_gather 9 = .ok (.astore_n 2, 1) := dk_77 (dk_at dksX1_gather_0 9 rfl rfl)
theorem dX1_gather_10 : decode cX1_gather 10 = .ok (.aload_n 2, 1) := dk_44 (dk_at dksX1_gather_0 10 rfl rfl)
theorem dX1_gather_11 : decode cX1_gather 11 = .ok (.invokeinterface 88 1, 5) := by decide +kernel
theorem dX1_gather_16 : decode cX1_gather 16 = .ok (.ifCond .eq 52, 3) := dk_153 0 52 (dk_at dksX1_gather_0 16 rfl rfl)
theorem dX1_gather_19 : decode cX1_gather 19 = .ok (.aload_n 2, 1) := dk_44 (dk_at dksX1_gather_0 19 rfl rfl)
theorem dX1_gather_20 : decode cX1_gather 20 = .ok (.invokeinterface 93 1, 5) := by decide +kernel
theorem dX1_gather_25 : decode cX1_gather 25 = .ok (.checkcast 184, 3) := dk_192 0 184 (dk_at dksX1_gather_1 5 rfl rfl)
theorem dX1_gather_28 : decode cX1_gather 28 = .ok (.astore_n 3, 1) := dk_78 (dk_at dksX1_gather_1 8 rfl rfl)
theorem dX1_gather_29 : decode cX1_gather 29 = .ok (.aload_n 3, 1) := dk_45 (dk_at dksX1_gather_1 9 rfl rfl)
theorem dX1_gather_30 : decode cX1_gather 30 = .ok (.astore 4, 2) := dk_58 4 (dk_at dksX1_gather_1 10 rfl rfl)
theorem dX1_gather_32 : decode cX1_gather 32 = .ok (.aload_n 3, 1) := dk_45 (dk_at dksX1_gather_1 12 rfl rfl)
theorem dX1_gather_33 : decode cX1_gather 33 = .ok (.getfield 183, 3) := dk_180 0 183 (dk_at dksX1_gather_1 13 rfl rfl)
theorem dX1_gather_36 : decode cX1_gather 36 = .ok (.ifCond .eq 29, 3) := dk_153 0 29 (dk_at dksX1_gather_1 16 rfl rfl)
theorem dX1_gather_39 : decode cX1_gather 39 = .ok (.aload 4, 2) := dk_25 4 (dk_at dksX1_gather_1 19 rfl rfl)
theorem dX1_gather_41 : decode cX1_gather 41 = .ok (.aload_n 1, 1) := dk_43 (dk_at dksX1_gather_1 21 rfl rfl)
theorem dX1_gather_42 : decode cX1_gather 42 = .ok (.getfield 33, 3) := dk_180 0 33 (dk_at dksX1_gather_2 0 rfl rfl)
theorem dX1_gather_45 : decode cX1_gather 45 = .ok (.invokevirtual 169, 3) := dk_182 0 169 (dk_at dksX1_gather_2 3 rfl rfl)
theorem dX1_gather_48 : decode cX1_gather 48 = .ok (.ifCond .eq 17, 3) := dk_153 0 17 (dk_at dksX1_gather_2 6 rfl rfl)
theorem dX1_gather_51 : decode cX1_gather 51 = .ok (.aload 4, 2) := dk_25 4 (dk_at dksX1_gather_2 9 rfl rfl)
theorem dX1_gather_53 : decode cX1_gather 53 = .ok (.aload_n 1, 1) := dk_43 (dk_at dksX1_gather_2 11 rfl rfl)
theorem dX1_gather_54 : decode cX1_gather 54 = .ok (.getfield 33, 3) := dk_180 0 33 (dk_at dksX1_gather_2 12 rfl rfl)
theorem dX1_gather_57 : decode cX1_gather 57 = .ok (.invokevirtual 195, 3) := dk_182 0 195 (dk_at dksX1_gather_2 15 rfl rfl)
theorem dX1_gather_60 : decode cX1_gather 60 = .ok (.aload_n 3, 1) := dk_45 (dk_at dksX1_gather_2 18 rfl rfl)
theorem dX1_gather_61 : decode cX1_gather 61 = .ok (.iconst 0, 1) := dk_3 (dk_at dksX1_gather_2 19 rfl rfl)
theorem dX1_gather_62 : decode cX1_gather 62 = .ok (.putfield 183, 3) := dk_181 0 183 (dk_at dksX1_gather_2 20 rfl rfl)
theorem dX1_gather_65 : decode cX1_gather 65 = .ok (.goto (-55), 3) := dk_167 255 201 (dk_at dksX1_gather_3 0 rfl rfl)
theorem dX1_gather_68 : decode cX1_gather 68 = .ok (.aload_n 0, 1) := dk_42 (dk_at dksX1_gather_3 3 rfl rfl)
theorem dX1_gather_69 : decode cX1_gather 69 = .ok (.getfield 157, 3) := dk_180 0 157 (dk_at dksX1_gather_3 4 rfl rfl)
theorem dX1_gather_72 : decode cX1_gather 72 = .ok (.invokeinterface 160 1, 5) := by decide +kernel
theorem dX1_gather_77 : decode cX1_gather 77 = .ok (.astore_n 2, 1) := dk_77 (dk_at dksX1_gather_3 12 rfl rfl)
theorem dX1_gather_78 : decode cX1_gather 78 = .ok (.aload_n 2, 1) := dk_44 (dk_at dksX1_gather_3 13 rfl rfl)
theorem dX1_gather_79 : decode cX1_gather 79 = .ok (.invokeinterface 88 1, 5) := by decide +kernel
theorem dX1_gather_84 : decode cX1_gather 84 = .ok (.ifCond .eq 44, 3) := dk_153 0 44 (dk_at dksX1_gather_3 19 rfl rfl)
theorem dX1_gather_87 : decode cX1_gather 87 = .ok (.aload_n 2, 1) := dk_44 (dk_at dksX1_gather_3 22 rfl rfl)
theorem dX1_gather_88 : decode cX1_gather 88 = .ok (.invokeinterface 93 1, 5) := by decide +kernel
theorem dX1_gather_93 : decode cX1_gather 93 = .ok (.checkcast 164, 3) := dk_192 0 164 (dk_at dksX1_gather_4 5 rfl rfl)
theorem dX1_gather_96 : decode cX1_gather 96 = .ok (.astore_n 3, 1) := dk_78 (dk_at dksX1_gather_4 8 rfl rfl)
theorem dX1_gather_97 : decode cX1_gather 97 = .ok (.aload_n 3, 1) := dk_45 (dk_at dksX1_gather_4 9 rfl rfl)
theorem dX1_gather_98 : decode cX1_gather 98 = .ok (.getfield 166, 3) := dk_180 0 166 (dk_at dksX1_gather_4 10 rfl rfl)
theorem dX1_gather_101 : decode cX1_gather 101 = .ok (.iconst (-1), 1) := dk_2 (dk_at dksX1_gather_4 13 rfl rfl)
theorem dX1_gather_102 : decode cX1_gather 102 = .ok (.if_icmp .ne 23, 3) := dk_160 0 23 (dk_at dksX1_gather_4 14 rfl rfl)
theorem dX1_gather_105 : decode cX1_gather 105 = .ok (.aload_n 3, 1) := dk_45 (dk_at dksX1_gather_4 17 rfl rfl)
theorem dX1_gather_106 : decode cX1_gather 106 = .ok (.aload_n 1, 1) := dk_43 (dk_at dksX1_gather_4 18 rfl rfl)
theorem dX1_gather_107 : decode cX1_gather 107 = .ok (.getfield 33, 3) := dk_180 0 33 (dk_at dksX1_gather_4 19 rfl rfl)
theorem dX1_gather_110 : decode cX1_gather 110 = .ok (.invokevirtual 169, 3) := dk_182 0 169 (dk_at dksX1_gather_5 0 rfl rfl)
theorem dX1_gather_113 : decode cX1_gather 113 = .ok (.ifCond .eq 12, 3) := dk_153 0 12 (dk_at dksX1_gather_5 3 rfl rfl)
theorem dX1_gather_116 : decode cX1_gather 116 = .ok (.aload_n 3, 1) := dk_45 (dk_at dksX1_gather_5 6 rfl rfl)
theorem dX1_gather_117 : decode cX1_gather 117 = .ok (.aload_n 0, 1) := dk_42 (dk_at dksX1_gather_5 7 rfl rfl)
theorem dX1_gather_118 : decode cX1_gather 118 = .ok (.aload_n 3, 1) := dk_45 (dk_at dksX1_gather_5 8 rfl rfl)
theorem dX1_gather_119 : decode cX1_gather 119 = .ok (.invokevirtual 208, 3) := dk_182 0 208 (dk_at dksX1_gather_5 9 rfl rfl)
theorem dX1_gather_122 : decode cX1_gather 122 = .ok (.invokevirtual 195, 3) := dk_182 0 195 (dk_at dksX1_gather_5 12 rfl rfl)
theorem dX1_gather_125 : decode cX1_gather 125 = .ok (.goto (-47), 3) := dk_167 255 209 (dk_at dksX1_gather_5 15 rfl rfl)
theorem dX1_gather_128 : decode cX1_gather 128 = .ok (.return_, 1) := dk_177 (dk_at dksX1_gather_5 18 rfl rfl)
abbrev cX1_placeFor : ByteArray := prog_1_method_11_code
def yX1_placeFor : MethodName := ⟨RX1, "placeFor", "(LCoreplug$Thing;)I"⟩
def dkwX1_placeFor_3 : List UInt8 := [159, 0, 9, 21, 5, 29, 162, 0, 9, 21, 4, 61, 21, 5, 62, 132, 4, 1, 167, 255, 175, 28, 172]
abbrev dktX1_placeFor_3 : List UInt8 := dkwX1_placeFor_3 ++ []
def dkwX1_placeFor_2 : List UInt8 := [153, 0, 12, 42, 21, 4, 182, 0, 173, 167, 0, 4, 2, 54, 5, 21, 5, 2, 159, 0, 20, 28, 2]
abbrev dktX1_placeFor_2 : List UInt8 := dkwX1_placeFor_2 ++ dktX1_placeFor_3
def dkwX1_placeFor_1 : List UInt8 := [182, 0, 169, 153, 0, 32, 42, 180, 0, 1, 21, 4, 185, 0, 13, 2, 0, 192, 0, 17, 182, 0, 19]
abbrev dktX1_placeFor_1 : List UInt8 := dkwX1_placeFor_1 ++ dktX1_placeFor_2
def dkwX1_placeFor_0 : List UInt8 := [2, 61, 3, 62, 3, 54, 4, 21, 4, 42, 180, 0, 1, 185, 0, 7, 1, 0, 162, 0, 73, 43, 21, 4]
abbrev dktX1_placeFor_0 : List UInt8 := dkwX1_placeFor_0 ++ dktX1_placeFor_1
theorem dksX1_placeFor_0 : cX1_placeFor.data.toList.drop 0 = dktX1_placeFor_0 := by decide +kernel
theorem dksX1_placeFor_1 : cX1_placeFor.data.toList.drop 24 = dktX1_placeFor_1 := dk_seg dksX1_placeFor_0 24 rfl rfl
theorem dksX1_placeFor_2 : cX1_placeFor.data.toList.drop 47 = dktX1_placeFor_2 := dk_seg dksX1_placeFor_1 23 rfl rfl
theorem dksX1_placeFor_3 : cX1_placeFor.data.toList.drop 70 = dktX1_placeFor_3 := dk_seg dksX1_placeFor_2 23 rfl rfl
theorem dX1_placeFor_0 : decode cX1_placeFor 0 = .ok (.iconst (-1), 1) := dk_2 (dk_at dksX1_placeFor_0 0 rfl rfl)
theorem dX1_placeFor_1 : decode cX1_placeFor 1 = .ok (.istore_n 2, 1) := dk_61 (dk_at dksX1_placeFor_0 1 rfl rfl)
theorem dX1_placeFor_2 : decode cX1_placeFor 2 = .ok (.iconst 0, 1) := dk_3 (dk_at dksX1_placeFor_0 2 rfl rfl)
theorem dX1_placeFor_3 : decode cX1_placeFor 3 = .ok (.istore_n 3, 1) := dk_62 (dk_at dksX1_placeFor_0 3 rfl rfl)
theorem dX1_placeFor_4 : decode cX1_placeFor 4 = .ok (.iconst 0, 1) := dk_3 (dk_at dksX1_placeFor_0 4 rfl rfl)
theorem dX1_placeFor_5 : decode cX1_placeFor 5 = .ok (.istore 4, 2) := dk_54 4 (dk_at dksX1_placeFor_0 5 rfl rfl)
theorem dX1_placeFor_7 : decode cX1_placeFor 7 = .ok (.iload 4, 2) := dk_21 4 (dk_at dksX1_placeFor_0 7 rfl rfl)
theorem dX1_placeFor_9 : decode cX1_placeFor 9 = .ok (.aload_n 0, 1) := dk_42 (dk_at dksX1_placeFor_0 9 rfl rfl)
theorem dX1_placeFor_10 : decode cX1_placeFor 10 = .ok (.getfield 1, 3) := dk_180 0 1 (dk_at dksX1_placeFor_0 10 rfl rfl)
theorem dX1_placeFor_13 : decode cX1_placeFor 13 = .ok (.invokeinterface 7 1, 5) := by decide +kernel
theorem dX1_placeFor_18 : decode cX1_placeFor 18 = .ok (.if_icmp .ge 73, 3) := dk_162 0 73 (dk_at dksX1_placeFor_0 18 rfl rfl)
theorem dX1_placeFor_21 : decode cX1_placeFor 21 = .ok (.aload_n 1, 1) := dk_43 (dk_at dksX1_placeFor_0 21 rfl rfl)
theorem dX1_placeFor_22 : decode cX1_placeFor 22 = .ok (.iload 4, 2) := dk_21 4 (dk_at dksX1_placeFor_0 22 rfl rfl)
theorem dX1_placeFor_24 : decode cX1_placeFor 24 = .ok (.invokevirtual 169, 3) := dk_182 0 169 (dk_at dksX1_placeFor_1 0 rfl rfl)
theorem dX1_placeFor_27 : decode cX1_placeFor 27 = .ok (.ifCond .eq 32, 3) := dk_153 0 32 (dk_at dksX1_placeFor_1 3 rfl rfl)
theorem dX1_placeFor_30 : decode cX1_placeFor 30 = .ok (.aload_n 0, 1) := dk_42 (dk_at dksX1_placeFor_1 6 rfl rfl)
theorem dX1_placeFor_31 : decode cX1_placeFor 31 = .ok (.getfield 1, 3) := dk_180 0 1 (dk_at dksX1_placeFor_1 7 rfl rfl)
theorem dX1_placeFor_34 : decode cX1_placeFor 34 = .ok (.iload 4, 2) := dk_21 4 (dk_at dksX1_placeFor_1 10 rfl rfl)
theorem dX1_placeFor_36 : decode cX1_placeFor 36 = .ok (.invokeinterface 13 2, 5) := by decide +kernel
theorem dX1_placeFor_41 : decode cX1_placeFor 41 = .ok (.checkcast 17, 3) := dk_192 0 17 (dk_at dksX1_placeFor_1 17 rfl rfl)
theorem dX1_placeFor_44 : decode cX1_placeFor 44 = .ok (.invokevirtual 19, 3) := dk_182 0 19 (dk_at dksX1_placeFor_1 20 rfl rfl)
theorem dX1_placeFor_47 : decode cX1_placeFor 47 = .ok (.ifCond .eq 12, 3) := dk_153 0 12 (dk_at dksX1_placeFor_2 0 rfl rfl)
theorem dX1_placeFor_50 : decode cX1_placeFor 50 = .ok (.aload_n 0, 1) := dk_42 (dk_at dksX1_placeFor_2 3 rfl rfl)
theorem dX1_placeFor_51 : decode cX1_placeFor 51 = .ok (.iload 4, 2) := dk_21 4 (dk_at dksX1_placeFor_2 4 rfl rfl)
theorem dX1_placeFor_53 : decode cX1_placeFor 53 = .ok (.invokevirtual 173, 3) := dk_182 0 173 (dk_at dksX1_placeFor_2 6 rfl rfl)
theorem dX1_placeFor_56 : decode cX1_placeFor 56 = .ok (.goto 4, 3) := dk_167 0 4 (dk_at dksX1_placeFor_2 9 rfl rfl)
theorem dX1_placeFor_59 : decode cX1_placeFor 59 = .ok (.iconst (-1), 1) := dk_2 (dk_at dksX1_placeFor_2 12 rfl rfl)
theorem dX1_placeFor_60 : decode cX1_placeFor 60 = .ok (.istore 5, 2) := dk_54 5 (dk_at dksX1_placeFor_2 13 rfl rfl)
theorem dX1_placeFor_62 : decode cX1_placeFor 62 = .ok (.iload 5, 2) := dk_21 5 (dk_at dksX1_placeFor_2 15 rfl rfl)
theorem dX1_placeFor_64 : decode cX1_placeFor 64 = .ok (.iconst (-1), 1) := dk_2 (dk_at dksX1_placeFor_2 17 rfl rfl)
theorem dX1_placeFor_65 : decode cX1_placeFor 65 = .ok (.if_icmp .eq 20, 3) := dk_159 0 20 (dk_at dksX1_placeFor_2 18 rfl rfl)
theorem dX1_placeFor_68 : decode cX1_placeFor 68 = .ok (.iload_n 2, 1) := dk_28 (dk_at dksX1_placeFor_2 21 rfl rfl)
theorem dX1_placeFor_69 : decode cX1_placeFor 69 = .ok (.iconst (-1), 1) := dk_2 (dk_at dksX1_placeFor_2 22 rfl rfl)
theorem dX1_placeFor_70 : decode cX1_placeFor 70 = .ok (.if_icmp .eq 9, 3) := dk_159 0 9 (dk_at dksX1_placeFor_3 0 rfl rfl)
theorem dX1_placeFor_73 : decode cX1_placeFor 73 = .ok (.iload 5, 2) := dk_21 5 (dk_at dksX1_placeFor_3 3 rfl rfl)
theorem dX1_placeFor_75 : decode cX1_placeFor 75 = .ok (.iload_n 3, 1) := dk_29 (dk_at dksX1_placeFor_3 5 rfl rfl)
theorem dX1_placeFor_76 : decode cX1_placeFor 76 = .ok (.if_icmp .ge 9, 3) := dk_162 0 9 (dk_at dksX1_placeFor_3 6 rfl rfl)
theorem dX1_placeFor_79 : decode cX1_placeFor 79 = .ok (.iload 4, 2) := dk_21 4 (dk_at dksX1_placeFor_3 9 rfl rfl)
theorem dX1_placeFor_81 : decode cX1_placeFor 81 = .ok (.istore_n 2, 1) := dk_61 (dk_at dksX1_placeFor_3 11 rfl rfl)
theorem dX1_placeFor_82 : decode cX1_placeFor 82 = .ok (.iload 5, 2) := dk_21 5 (dk_at dksX1_placeFor_3 12 rfl rfl)
theorem dX1_placeFor_84 : decode cX1_placeFor 84 = .ok (.istore_n 3, 1) := dk_62 (dk_at dksX1_placeFor_3 14 rfl rfl)
theorem dX1_placeFor_85 : decode cX1_placeFor 85 = .ok (.iinc 4 1, 3) := dk_132 4 1 (dk_at dksX1_placeFor_3 15 rfl rfl)
theorem dX1_placeFor_88 : decode cX1_placeFor 88 = .ok (.goto (-81), 3) := dk_167 255 175 (dk_at dksX1_placeFor_3 18 rfl rfl)
theorem dX1_placeFor_91 : decode cX1_placeFor 91 = .ok (.iload_n 2, 1) := dk_28 (dk_at dksX1_placeFor_3 21 rfl rfl)
theorem dX1_placeFor_92 : decode cX1_placeFor 92 = .ok (.ireturn, 1) := dk_172 (dk_at dksX1_placeFor_3 22 rfl rfl)
abbrev cX1_loadOf : ByteArray := prog_1_method_10_code
def yX1_loadOf : MethodName := ⟨RX1, "loadOf", "(I)I"⟩
def dkwX1_loadOf_2 : List UInt8 := [3, 96, 61, 167, 255, 219, 28, 172]
abbrev dktX1_loadOf_2 : List UInt8 := dkwX1_loadOf_2 ++ []
def dkwX1_loadOf_1 : List UInt8 := [185, 0, 93, 1, 0, 192, 0, 164, 58, 4, 28, 25, 4, 180, 0, 166, 27, 160, 0, 7, 4, 167, 0, 4]
abbrev dktX1_loadOf_1 : List UInt8 := dkwX1_loadOf_1 ++ dktX1_loadOf_2
def dkwX1_loadOf_0 : List UInt8 := [3, 61, 42, 180, 0, 157, 185, 0, 160, 1, 0, 78, 45, 185, 0, 88, 1, 0, 153, 0, 34, 45]
abbrev dktX1_loadOf_0 : List UInt8 := dkwX1_loadOf_0 ++ dktX1_loadOf_1
theorem dksX1_loadOf_0 : cX1_loadOf.data.toList.drop 0 = dktX1_loadOf_0 := by decide +kernel
theorem dksX1_loadOf_1 : cX1_loadOf.data.toList.drop 22 = dktX1_loadOf_1 := dk_seg dksX1_loadOf_0 22 rfl rfl
theorem dksX1_loadOf_2 : cX1_loadOf.data.toList.drop 46 = dktX1_loadOf_2 := dk_seg dksX1_loadOf_1 24 rfl rfl
theorem dX1_loadOf_0 : decode cX1_loadOf 0 = .ok (.iconst 0, 1) := dk_3 (dk_at dksX1_loadOf_0 0 rfl rfl)
theorem dX1_loadOf_1 : decode cX1_loadOf 1 = .ok (.istore_n 2, 1) := dk_61 (dk_at dksX1_loadOf_0 1 rfl rfl)
theorem dX1_loadOf_2 : decode cX1_loadOf 2 = .ok (.aload_n 0, 1) := dk_42 (dk_at dksX1_loadOf_0 2 rfl rfl)
theorem dX1_loadOf_3 : decode cX1_loadOf 3 = .ok (.getfield 157, 3) := dk_180 0 157 (dk_at dksX1_loadOf_0 3 rfl rfl)
theorem dX1_loadOf_6 : decode cX1_loadOf 6 = .ok (.invokeinterface 160 1, 5) := by decide +kernel
theorem dX1_loadOf_11 : decode cX1_loadOf 11 = .ok (.astore_n 3, 1) := dk_78 (dk_at dksX1_loadOf_0 11 rfl rfl)
theorem dX1_loadOf_12 : decode cX1_loadOf 12 = .ok (.aload_n 3, 1) := dk_45 (dk_at dksX1_loadOf_0 12 rfl rfl)
theorem dX1_loadOf_13 : decode cX1_loadOf 13 = .ok (.invokeinterface 88 1, 5) := by decide +kernel
theorem dX1_loadOf_18 : decode cX1_loadOf 18 = .ok (.ifCond .eq 34, 3) := dk_153 0 34 (dk_at dksX1_loadOf_0 18 rfl rfl)
theorem dX1_loadOf_21 : decode cX1_loadOf 21 = .ok (.aload_n 3, 1) := dk_45 (dk_at dksX1_loadOf_0 21 rfl rfl)
theorem dX1_loadOf_22 : decode cX1_loadOf 22 = .ok (.invokeinterface 93 1, 5) := by decide +kernel
theorem dX1_loadOf_27 : decode cX1_loadOf 27 = .ok (.checkcast 164, 3) := dk_192 0 164 (dk_at dksX1_loadOf_1 5 rfl rfl)
theorem dX1_loadOf_30 : decode cX1_loadOf 30 = .ok (.astore 4, 2) := dk_58 4 (dk_at dksX1_loadOf_1 8 rfl rfl)
theorem dX1_loadOf_32 : decode cX1_loadOf 32 = .ok (.iload_n 2, 1) := dk_28 (dk_at dksX1_loadOf_1 10 rfl rfl)
theorem dX1_loadOf_33 : decode cX1_loadOf 33 = .ok (.aload 4, 2) := dk_25 4 (dk_at dksX1_loadOf_1 11 rfl rfl)
theorem dX1_loadOf_35 : decode cX1_loadOf 35 = .ok (.getfield 166, 3) := dk_180 0 166 (dk_at dksX1_loadOf_1 13 rfl rfl)
theorem dX1_loadOf_38 : decode cX1_loadOf 38 = .ok (.iload_n 1, 1) := dk_27 (dk_at dksX1_loadOf_1 16 rfl rfl)
theorem dX1_loadOf_39 : decode cX1_loadOf 39 = .ok (.if_icmp .ne 7, 3) := dk_160 0 7 (dk_at dksX1_loadOf_1 17 rfl rfl)
theorem dX1_loadOf_42 : decode cX1_loadOf 42 = .ok (.iconst 1, 1) := dk_4 (dk_at dksX1_loadOf_1 20 rfl rfl)
theorem dX1_loadOf_43 : decode cX1_loadOf 43 = .ok (.goto 4, 3) := dk_167 0 4 (dk_at dksX1_loadOf_1 21 rfl rfl)
theorem dX1_loadOf_46 : decode cX1_loadOf 46 = .ok (.iconst 0, 1) := dk_3 (dk_at dksX1_loadOf_2 0 rfl rfl)
theorem dX1_loadOf_47 : decode cX1_loadOf 47 = .ok (.iadd, 1) := dk_96 (dk_at dksX1_loadOf_2 1 rfl rfl)
theorem dX1_loadOf_48 : decode cX1_loadOf 48 = .ok (.istore_n 2, 1) := dk_61 (dk_at dksX1_loadOf_2 2 rfl rfl)
theorem dX1_loadOf_49 : decode cX1_loadOf 49 = .ok (.goto (-37), 3) := dk_167 255 219 (dk_at dksX1_loadOf_2 3 rfl rfl)
theorem dX1_loadOf_52 : decode cX1_loadOf 52 = .ok (.iload_n 2, 1) := dk_28 (dk_at dksX1_loadOf_2 6 rfl rfl)
theorem dX1_loadOf_53 : decode cX1_loadOf 53 = .ok (.ireturn, 1) := dk_172 (dk_at dksX1_loadOf_2 7 rfl rfl)
abbrev cX1_scatter : ByteArray := prog_1_method_14_code
def yX1_scatter : MethodName := ⟨RX1, "scatter", "(LCoreplug$Core;)V"⟩
def dkwX1_scatter_7 : List UInt8 := [45, 42, 45, 182, 0, 208, 182, 0, 195, 167, 255, 217, 177]
abbrev dktX1_scatter_7 : List UInt8 := dkwX1_scatter_7 ++ []
def dkwX1_scatter_6 : List UInt8 := [153, 0, 36, 44, 185, 0, 93, 1, 0, 192, 0, 164, 78, 45, 180, 0, 166, 43, 180, 0, 33, 160, 0, 12]
abbrev dktX1_scatter_6 : List UInt8 := dkwX1_scatter_6 ++ dktX1_scatter_7
def dkwX1_scatter_5 : List UInt8 := [42, 45, 182, 0, 204, 167, 255, 203, 42, 180, 0, 157, 185, 0, 160, 1, 0, 77, 44, 185, 0, 88, 1, 0]
abbrev dktX1_scatter_5 : List UInt8 := dkwX1_scatter_5 ++ dktX1_scatter_6
def dkwX1_scatter_4 : List UInt8 := [180, 0, 166, 43, 180, 0, 33, 160, 0, 22, 25, 4, 42, 25, 4, 180, 0, 180, 182, 0, 201, 182, 0, 195]
abbrev dktX1_scatter_4 : List UInt8 := dkwX1_scatter_4 ++ dktX1_scatter_5
def dkwX1_scatter_3 : List UInt8 := [185, 0, 88, 1, 0, 153, 0, 50, 44, 185, 0, 93, 1, 0, 192, 0, 184, 78, 45, 58, 4, 25, 4]
abbrev dktX1_scatter_3 : List UInt8 := dkwX1_scatter_3 ++ dktX1_scatter_4
def dkwX1_scatter_2 : List UInt8 := [180, 0, 166, 182, 0, 195, 167, 255, 211, 42, 180, 0, 198, 185, 0, 160, 1, 0, 77, 44]
abbrev dktX1_scatter_2 : List UInt8 := dkwX1_scatter_2 ++ dktX1_scatter_3
def dkwX1_scatter_1 : List UInt8 := [192, 0, 164, 78, 45, 45, 180, 0, 166, 43, 180, 0, 33, 160, 0, 10, 42, 182, 0, 46, 167, 0, 7, 45]
abbrev dktX1_scatter_1 : List UInt8 := dkwX1_scatter_1 ++ dktX1_scatter_2
def dkwX1_scatter_0 : List UInt8 := [42, 180, 0, 188, 182, 0, 192, 77, 44, 185, 0, 88, 1, 0, 153, 0, 42, 44, 185, 0, 93, 1, 0]
abbrev dktX1_scatter_0 : List UInt8 := dkwX1_scatter_0 ++ dktX1_scatter_1
theorem dksX1_scatter_0 : cX1_scatter.data.toList.drop 0 = dktX1_scatter_0 := by decide +kernel
theorem dksX1_scatter_1 : cX1_scatter.data.toList.drop 23 = dktX1_scatter_1 := dk_seg dksX1_scatter_0 23 rfl rfl
theorem dksX1_scatter_2 : cX1_scatter.data.toList.drop 47 = dktX1_scatter_2 := dk_seg dksX1_scatter_1 24 rfl rfl
theorem dksX1_scatter_3 : cX1_scatter.data.toList.drop 67 = dktX1_scatter_3 := dk_seg dksX1_scatter_2 20 rfl rfl
theorem dksX1_scatter_4 : cX1_scatter.data.toList.drop 90 = dktX1_scatter_4 := dk_seg dksX1_scatter_3 23 rfl rfl
theorem dksX1_scatter_5 : cX1_scatter.data.toList.drop 114 = dktX1_scatter_5 := dk_seg dksX1_scatter_4 24 rfl rfl
theorem dksX1_scatter_6 : cX1_scatter.data.toList.drop 138 = dktX1_scatter_6 := dk_seg dksX1_scatter_5 24 rfl rfl
theorem dksX1_scatter_7 : cX1_scatter.data.toList.drop 162 = dktX1_scatter_7 := dk_seg dksX1_scatter_6 24 rfl rfl
theorem dX1_scatter_0 : decode cX1_scatter 0 = .ok (.aload_n 0, 1) := dk_42 (dk_at dksX1_scatter_0 0 rfl rfl)
theorem dX1_scatter_1 : decode cX1_scatter 1 = .ok (.getfield 188, 3) := dk_180 0 188 (dk_at dksX1_scatter_0 1 rfl rfl)
theorem dX1_scatter_4 : decode cX1_scatter 4 = .ok (.invokevirtual 192, 3) := dk_182 0 192 (dk_at dksX1_scatter_0 4 rfl rfl)
theorem dX1_scatter_7 : decode cX1_scatter 7 = .ok (.astore_n 2, 1) := dk_77 (dk_at dksX1_scatter_0 7 rfl rfl)
theorem dX1_scatter_8 : decode cX1_scatter 8 = .ok (.aload_n 2, 1) := dk_44 (dk_at dksX1_scatter_0 8 rfl rfl)
theorem dX1_scatter_9 : decode cX1_scatter 9 = .ok (.invokeinterface 88 1, 5) := by decide +kernel
theorem dX1_scatter_14 : decode cX1_scatter 14 = .ok (.ifCond .eq 42, 3) := dk_153 0 42 (dk_at dksX1_scatter_0 14 rfl rfl)
theorem dX1_scatter_17 : decode cX1_scatter 17 = .ok (.aload_n 2, 1) := dk_44 (dk_at dksX1_scatter_0 17 rfl rfl)
theorem dX1_scatter_18 : decode cX1_scatter 18 = .ok (.invokeinterface 93 1, 5) := by decide +kernel
theorem dX1_scatter_23 : decode cX1_scatter 23 = .ok (.checkcast 164, 3) := dk_192 0 164 (dk_at dksX1_scatter_1 0 rfl rfl)
theorem dX1_scatter_26 : decode cX1_scatter 26 = .ok (.astore_n 3, 1) := dk_78 (dk_at dksX1_scatter_1 3 rfl rfl)
theorem dX1_scatter_27 : decode cX1_scatter 27 = .ok (.aload_n 3, 1) := dk_45 (dk_at dksX1_scatter_1 4 rfl rfl)
theorem dX1_scatter_28 : decode cX1_scatter 28 = .ok (.aload_n 3, 1) := dk_45 (dk_at dksX1_scatter_1 5 rfl rfl)
theorem dX1_scatter_29 : decode cX1_scatter 29 = .ok (.getfield 166, 3) := dk_180 0 166 (dk_at dksX1_scatter_1 6 rfl rfl)
theorem dX1_scatter_32 : decode cX1_scatter 32 = .ok (.aload_n 1, 1) := dk_43 (dk_at dksX1_scatter_1 9 rfl rfl)
theorem dX1_scatter_33 : decode cX1_scatter 33 = .ok (.getfield 33, 3) := dk_180 0 33 (dk_at dksX1_scatter_1 10 rfl rfl)
theorem dX1_scatter_36 : decode cX1_scatter 36 = .ok (.if_icmp .ne 10, 3) := dk_160 0 10 (dk_at dksX1_scatter_1 13 rfl rfl)
theorem dX1_scatter_39 : decode cX1_scatter 39 = .ok (.aload_n 0, 1) := dk_42 (dk_at dksX1_scatter_1 16 rfl rfl)
theorem dX1_scatter_40 : decode cX1_scatter 40 = .ok (.invokevirtual 46, 3) := dk_182 0 46 (dk_at dksX1_scatter_1 17 rfl rfl)
theorem dX1_scatter_43 : decode cX1_scatter 43 = .ok (.goto 7, 3) := dk_167 0 7 (dk_at dksX1_scatter_1 20 rfl rfl)
theorem dX1_scatter_46 : decode cX1_scatter 46 = .ok (.aload_n 3, 1) := dk_45 (dk_at dksX1_scatter_1 23 rfl rfl)
theorem dX1_scatter_47 : decode cX1_scatter 47 = .ok (.getfield 166, 3) := dk_180 0 166 (dk_at dksX1_scatter_2 0 rfl rfl)
theorem dX1_scatter_50 : decode cX1_scatter 50 = .ok (.invokevirtual 195, 3) := dk_182 0 195 (dk_at dksX1_scatter_2 3 rfl rfl)
theorem dX1_scatter_53 : decode cX1_scatter 53 = .ok (.goto (-45), 3) := dk_167 255 211 (dk_at dksX1_scatter_2 6 rfl rfl)
theorem dX1_scatter_56 : decode cX1_scatter 56 = .ok (.aload_n 0, 1) := dk_42 (dk_at dksX1_scatter_2 9 rfl rfl)
theorem dX1_scatter_57 : decode cX1_scatter 57 = .ok (.getfield 198, 3) := dk_180 0 198 (dk_at dksX1_scatter_2 10 rfl rfl)
theorem dX1_scatter_60 : decode cX1_scatter 60 = .ok (.invokeinterface 160 1, 5) := by decide +kernel
theorem dX1_scatter_65 : decode cX1_scatter 65 = .ok (.astore_n 2, 1) := dk_77 (dk_at dksX1_scatter_2 18 rfl rfl)
theorem dX1_scatter_66 : decode cX1_scatter 66 = .ok (.aload_n 2, 1) := dk_44 (dk_at dksX1_scatter_2 19 rfl rfl)
theorem dX1_scatter_67 : decode cX1_scatter 67 = .ok (.invokeinterface 88 1, 5) := by decide +kernel
theorem dX1_scatter_72 : decode cX1_scatter 72 = .ok (.ifCond .eq 50, 3) := dk_153 0 50 (dk_at dksX1_scatter_3 5 rfl rfl)
theorem dX1_scatter_75 : decode cX1_scatter 75 = .ok (.aload_n 2, 1) := dk_44 (dk_at dksX1_scatter_3 8 rfl rfl)
theorem dX1_scatter_76 : decode cX1_scatter 76 = .ok (.invokeinterface 93 1, 5) := by decide +kernel
theorem dX1_scatter_81 : decode cX1_scatter 81 = .ok (.checkcast 184, 3) := dk_192 0 184 (dk_at dksX1_scatter_3 14 rfl rfl)
theorem dX1_scatter_84 : decode cX1_scatter 84 = .ok (.astore_n 3, 1) := dk_78 (dk_at dksX1_scatter_3 17 rfl rfl)
theorem dX1_scatter_85 : decode cX1_scatter 85 = .ok (.aload_n 3, 1) := dk_45 (dk_at dksX1_scatter_3 18 rfl rfl)
theorem dX1_scatter_86 : decode cX1_scatter 86 = .ok (.astore 4, 2) := dk_58 4 (dk_at dksX1_scatter_3 19 rfl rfl)
theorem dX1_scatter_88 : decode cX1_scatter 88 = .ok (.aload 4, 2) := dk_25 4 (dk_at dksX1_scatter_3 21 rfl rfl)
theorem dX1_scatter_90 : decode cX1_scatter 90 = .ok (.getfield 166, 3) := dk_180 0 166 (dk_at dksX1_scatter_4 0 rfl rfl)
theorem dX1_scatter_93 : decode cX1_scatter 93 = .ok (.aload_n 1, 1) := dk_43 (dk_at dksX1_scatter_4 3 rfl rfl)
theorem dX1_scatter_94 : decode cX1_scatter 94 = .ok (.getfield 33, 3) := dk_180 0 33 (dk_at dksX1_scatter_4 4 rfl rfl)
theorem dX1_scatter_97 : decode cX1_scatter 97 = .ok (.if_icmp .ne 22, 3) := dk_160 0 22 (dk_at dksX1_scatter_4 7 rfl rfl)
theorem dX1_scatter_100 : decode cX1_scatter 100 = .ok (.aload 4, 2) := dk_25 4 (dk_at dksX1_scatter_4 10 rfl rfl)
theorem dX1_scatter_102 : decode cX1_scatter 102 = .ok (.aload_n 0, 1) := dk_42 (dk_at dksX1_scatter_4 12 rfl rfl)
theorem dX1_scatter_103 : decode cX1_scatter 103 = .ok (.aload 4, 2) := dk_25 4 (dk_at dksX1_scatter_4 13 rfl rfl)
theorem dX1_scatter_105 : decode cX1_scatter 105 = .ok (.getfield 180, 3) := dk_180 0 180 (dk_at dksX1_scatter_4 15 rfl rfl)
theorem dX1_scatter_108 : decode cX1_scatter 108 = .ok (.invokevirtual 201, 3) := dk_182 0 201 (dk_at dksX1_scatter_4 18 rfl rfl)
theorem dX1_scatter_111 : decode cX1_scatter 111 = .ok (.invokevirtual 195, 3) := dk_182 0 195 (dk_at dksX1_scatter_4 21 rfl rfl)
theorem dX1_scatter_114 : decode cX1_scatter 114 = .ok (.aload_n 0, 1) := dk_42 (dk_at dksX1_scatter_5 0 rfl rfl)
theorem dX1_scatter_115 : decode cX1_scatter 115 = .ok (.aload_n 3, 1) := dk_45 (dk_at dksX1_scatter_5 1 rfl rfl)
theorem dX1_scatter_116 : decode cX1_scatter 116 = .ok (.invokevirtual 204, 3) := dk_182 0 204 (dk_at dksX1_scatter_5 2 rfl rfl)
theorem dX1_scatter_119 : decode cX1_scatter 119 = .ok (.goto (-53), 3) := dk_167 255 203 (dk_at dksX1_scatter_5 5 rfl rfl)
theorem dX1_scatter_122 : decode cX1_scatter 122 = .ok (.aload_n 0, 1) := dk_42 (dk_at dksX1_scatter_5 8 rfl rfl)
theorem dX1_scatter_123 : decode cX1_scatter 123 = .ok (.getfield 157, 3) := dk_180 0 157 (dk_at dksX1_scatter_5 9 rfl rfl)
theorem dX1_scatter_126 : decode cX1_scatter 126 = .ok (.invokeinterface 160 1, 5) := by decide +kernel
theorem dX1_scatter_131 : decode cX1_scatter 131 = .ok (.astore_n 2, 1) := dk_77 (dk_at dksX1_scatter_5 17 rfl rfl)
theorem dX1_scatter_132 : decode cX1_scatter 132 = .ok (.aload_n 2, 1) := dk_44 (dk_at dksX1_scatter_5 18 rfl rfl)
theorem dX1_scatter_133 : decode cX1_scatter 133 = .ok (.invokeinterface 88 1, 5) := by decide +kernel
theorem dX1_scatter_138 : decode cX1_scatter 138 = .ok (.ifCond .eq 36, 3) := dk_153 0 36 (dk_at dksX1_scatter_6 0 rfl rfl)
theorem dX1_scatter_141 : decode cX1_scatter 141 = .ok (.aload_n 2, 1) := dk_44 (dk_at dksX1_scatter_6 3 rfl rfl)
theorem dX1_scatter_142 : decode cX1_scatter 142 = .ok (.invokeinterface 93 1, 5) := by decide +kernel
theorem dX1_scatter_147 : decode cX1_scatter 147 = .ok (.checkcast 164, 3) := dk_192 0 164 (dk_at dksX1_scatter_6 9 rfl rfl)
theorem dX1_scatter_150 : decode cX1_scatter 150 = .ok (.astore_n 3, 1) := dk_78 (dk_at dksX1_scatter_6 12 rfl rfl)
theorem dX1_scatter_151 : decode cX1_scatter 151 = .ok (.aload_n 3, 1) := dk_45 (dk_at dksX1_scatter_6 13 rfl rfl)
theorem dX1_scatter_152 : decode cX1_scatter 152 = .ok (.getfield 166, 3) := dk_180 0 166 (dk_at dksX1_scatter_6 14 rfl rfl)
theorem dX1_scatter_155 : decode cX1_scatter 155 = .ok (.aload_n 1, 1) := dk_43 (dk_at dksX1_scatter_6 17 rfl rfl)
theorem dX1_scatter_156 : decode cX1_scatter 156 = .ok (.getfield 33, 3) := dk_180 0 33 (dk_at dksX1_scatter_6 18 rfl rfl)
theorem dX1_scatter_159 : decode cX1_scatter 159 = .ok (.if_icmp .ne 12, 3) := dk_160 0 12 (dk_at dksX1_scatter_6 21 rfl rfl)
theorem dX1_scatter_162 : decode cX1_scatter 162 = .ok (.aload_n 3, 1) := dk_45 (dk_at dksX1_scatter_7 0 rfl rfl)
theorem dX1_scatter_163 : decode cX1_scatter 163 = .ok (.aload_n 0, 1) := dk_42 (dk_at dksX1_scatter_7 1 rfl rfl)
theorem dX1_scatter_164 : decode cX1_scatter 164 = .ok (.aload_n 3, 1) := dk_45 (dk_at dksX1_scatter_7 2 rfl rfl)
theorem dX1_scatter_165 : decode cX1_scatter 165 = .ok (.invokevirtual 208, 3) := dk_182 0 208 (dk_at dksX1_scatter_7 3 rfl rfl)
theorem dX1_scatter_168 : decode cX1_scatter 168 = .ok (.invokevirtual 195, 3) := dk_182 0 195 (dk_at dksX1_scatter_7 6 rfl rfl)
theorem dX1_scatter_171 : decode cX1_scatter 171 = .ok (.goto (-39), 3) := dk_167 255 217 (dk_at dksX1_scatter_7 9 rfl rfl)
theorem dX1_scatter_174 : decode cX1_scatter 174 = .ok (.return_, 1) := dk_177 (dk_at dksX1_scatter_7 12 rfl rfl)
abbrev cX1_targetOf : ByteArray := prog_1_method_12_code
def yX1_targetOf : MethodName := ⟨RX1, "targetOf", "(I)I"⟩
def dkwX1_targetOf_0 : List UInt8 := [42, 182, 0, 131, 27, 126, 61, 28, 154, 0, 10, 42, 182, 0, 46, 167, 0, 7, 28, 184, 0, 177, 172]
abbrev dktX1_targetOf_0 : List UInt8 := dkwX1_targetOf_0 ++ []
theorem dksX1_targetOf_0 : cX1_targetOf.data.toList.drop 0 = dktX1_targetOf_0 := by decide +kernel
theorem dX1_targetOf_0 : decode cX1_targetOf 0 = .ok (.aload_n 0, 1) := dk_42 (dk_at dksX1_targetOf_0 0 rfl rfl)
theorem dX1_targetOf_1 : decode cX1_targetOf 1 = .ok (.invokevirtual 131, 3) := dk_182 0 131 (dk_at dksX1_targetOf_0 1 rfl rfl)
theorem dX1_targetOf_4 : decode cX1_targetOf 4 = .ok (.iload_n 1, 1) := dk_27 (dk_at dksX1_targetOf_0 4 rfl rfl)
theorem dX1_targetOf_5 : decode cX1_targetOf 5 = .ok (.iand, 1) := dk_126 (dk_at dksX1_targetOf_0 5 rfl rfl)
theorem dX1_targetOf_6 : decode cX1_targetOf 6 = .ok (.istore_n 2, 1) := dk_61 (dk_at dksX1_targetOf_0 6 rfl rfl)
theorem dX1_targetOf_7 : decode cX1_targetOf 7 = .ok (.iload_n 2, 1) := dk_28 (dk_at dksX1_targetOf_0 7 rfl rfl)
theorem dX1_targetOf_8 : decode cX1_targetOf 8 = .ok (.ifCond .ne 10, 3) := dk_154 0 10 (dk_at dksX1_targetOf_0 8 rfl rfl)
theorem dX1_targetOf_11 : decode cX1_targetOf 11 = .ok (.aload_n 0, 1) := dk_42 (dk_at dksX1_targetOf_0 11 rfl rfl)
theorem dX1_targetOf_12 : decode cX1_targetOf 12 = .ok (.invokevirtual 46, 3) := dk_182 0 46 (dk_at dksX1_targetOf_0 12 rfl rfl)
theorem dX1_targetOf_15 : decode cX1_targetOf 15 = .ok (.goto 7, 3) := dk_167 0 7 (dk_at dksX1_targetOf_0 15 rfl rfl)
theorem dX1_targetOf_18 : decode cX1_targetOf 18 = .ok (.iload_n 2, 1) := dk_28 (dk_at dksX1_targetOf_0 18 rfl rfl)
theorem dX1_targetOf_19 : decode cX1_targetOf 19 = .ok (.invokestatic 177, 3) := dk_184 0 177 (dk_at dksX1_targetOf_0 19 rfl rfl)
theorem dX1_targetOf_22 : decode cX1_targetOf 22 = .ok (.ireturn, 1) := dk_172 (dk_at dksX1_targetOf_0 22 rfl rfl)
abbrev cX1_direct : ByteArray := prog_1_method_13_code
def yX1_direct : MethodName := ⟨RX1, "direct", "(LCoreplug$Interrupt;)V"⟩
def dkwX1_direct_0 : List UInt8 := [43, 77, 43, 42, 182, 0, 131, 44, 180, 0, 180, 126, 154, 0, 7, 4, 167, 0, 4, 3, 181, 0, 183, 177]
abbrev dktX1_direct_0 : List UInt8 := dkwX1_direct_0 ++ []
theorem dksX1_direct_0 : cX1_direct.data.toList.drop 0 = dktX1_direct_0 := by decide +kernel
theorem dX1_direct_0 : decode cX1_direct 0 = .ok (.aload_n 1, 1) := dk_43 (dk_at dksX1_direct_0 0 rfl rfl)
theorem dX1_direct_1 : decode cX1_direct 1 = .ok (.astore_n 2, 1) := dk_77 (dk_at dksX1_direct_0 1 rfl rfl)
theorem dX1_direct_2 : decode cX1_direct 2 = .ok (.aload_n 1, 1) := dk_43 (dk_at dksX1_direct_0 2 rfl rfl)
theorem dX1_direct_3 : decode cX1_direct 3 = .ok (.aload_n 0, 1) := dk_42 (dk_at dksX1_direct_0 3 rfl rfl)
theorem dX1_direct_4 : decode cX1_direct 4 = .ok (.invokevirtual 131, 3) := dk_182 0 131 (dk_at dksX1_direct_0 4 rfl rfl)
theorem dX1_direct_7 : decode cX1_direct 7 = .ok (.aload_n 2, 1) := dk_44 (dk_at dksX1_direct_0 7 rfl rfl)
theorem dX1_direct_8 : decode cX1_direct 8 = .ok (.getfield 180, 3) := dk_180 0 180 (dk_at dksX1_direct_0 8 rfl rfl)
theorem dX1_direct_11 : decode cX1_direct 11 = .ok (.iand, 1) := dk_126 (dk_at dksX1_direct_0 11 rfl rfl)
theorem dX1_direct_12 : decode cX1_direct 12 = .ok (.ifCond .ne 7, 3) := dk_154 0 7 (dk_at dksX1_direct_0 12 rfl rfl)
theorem dX1_direct_15 : decode cX1_direct 15 = .ok (.iconst 1, 1) := dk_4 (dk_at dksX1_direct_0 15 rfl rfl)
theorem dX1_direct_16 : decode cX1_direct 16 = .ok (.goto 4, 3) := dk_167 0 4 (dk_at dksX1_direct_0 16 rfl rfl)
theorem dX1_direct_19 : decode cX1_direct 19 = .ok (.iconst 0, 1) := dk_3 (dk_at dksX1_direct_0 19 rfl rfl)
theorem dX1_direct_20 : decode cX1_direct 20 = .ok (.putfield 183, 3) := dk_181 0 183 (dk_at dksX1_direct_0 20 rfl rfl)
theorem dX1_direct_23 : decode cX1_direct 23 = .ok (.return_, 1) := dk_177 (dk_at dksX1_direct_0 23 rfl rfl)
abbrev cX1_lambda_go_1 : ByteArray := prog_1_method_53_code
def yX1_lambda_go_1 : MethodName := ⟨RX1, "lambda$go$1", "(LCoreplug$Core;I)V"⟩
def dkwX1_lambda_go_1_0 : List UInt8 := [42, 43, 28, 182, 0, 153, 177]
abbrev dktX1_lambda_go_1_0 : List UInt8 := dkwX1_lambda_go_1_0 ++ []
theorem dksX1_lambda_go_1_0 : cX1_lambda_go_1.data.toList.drop 0 = dktX1_lambda_go_1_0 := by decide +kernel
theorem dX1_lambda_go_1_0 : decode cX1_lambda_go_1 0 = .ok (.aload_n 0, 1) := dk_42 (dk_at dksX1_lambda_go_1_0 0 rfl rfl)
theorem dX1_lambda_go_1_1 : decode cX1_lambda_go_1 1 = .ok (.aload_n 1, 1) := dk_43 (dk_at dksX1_lambda_go_1_0 1 rfl rfl)
theorem dX1_lambda_go_1_2 : decode cX1_lambda_go_1 2 = .ok (.iload_n 2, 1) := dk_28 (dk_at dksX1_lambda_go_1_0 2 rfl rfl)
theorem dX1_lambda_go_1_3 : decode cX1_lambda_go_1 3 = .ok (.invokevirtual 153, 3) := dk_182 0 153 (dk_at dksX1_lambda_go_1_0 3 rfl rfl)
theorem dX1_lambda_go_1_6 : decode cX1_lambda_go_1 6 = .ok (.return_, 1) := dk_177 (dk_at dksX1_lambda_go_1_0 6 rfl rfl)
abbrev cX1_down : ByteArray := prog_1_method_32_code
def yX1_down : MethodName := ⟨RX1, "down", "(II)I"⟩
def dkwX1_down_1 : List UInt8 := [185, 0, 13, 2, 0, 192, 0, 17, 180, 0, 124, 4, 100, 184, 1, 18, 42, 27, 28, 182, 1, 48, 172]
abbrev dktX1_down_1 : List UInt8 := dkwX1_down_1 ++ []
def dkwX1_down_0 : List UInt8 := [27, 42, 180, 0, 1, 185, 0, 7, 1, 0, 184, 0, 235, 28, 3, 42, 180, 0, 1, 27]
abbrev dktX1_down_0 : List UInt8 := dkwX1_down_0 ++ dktX1_down_1
theorem dksX1_down_0 : cX1_down.data.toList.drop 0 = dktX1_down_0 := by decide +kernel
theorem dksX1_down_1 : cX1_down.data.toList.drop 20 = dktX1_down_1 := dk_seg dksX1_down_0 20 rfl rfl
theorem dX1_down_0 : decode cX1_down 0 = .ok (.iload_n 1, 1) := dk_27 (dk_at dksX1_down_0 0 rfl rfl)
theorem dX1_down_1 : decode cX1_down 1 = .ok (.aload_n 0, 1) := dk_42 (dk_at dksX1_down_0 1 rfl rfl)
theorem dX1_down_2 : decode cX1_down 2 = .ok (.getfield 1, 3) := dk_180 0 1 (dk_at dksX1_down_0 2 rfl rfl)
theorem dX1_down_5 : decode cX1_down 5 = .ok (.invokeinterface 7 1, 5) := by decide +kernel
theorem dX1_down_10 : decode cX1_down 10 = .ok (.invokestatic 235, 3) := dk_184 0 235 (dk_at dksX1_down_0 10 rfl rfl)
theorem dX1_down_13 : decode cX1_down 13 = .ok (.iload_n 2, 1) := dk_28 (dk_at dksX1_down_0 13 rfl rfl)
theorem dX1_down_14 : decode cX1_down 14 = .ok (.iconst 0, 1) := dk_3 (dk_at dksX1_down_0 14 rfl rfl)
theorem dX1_down_15 : decode cX1_down 15 = .ok (.aload_n 0, 1) := dk_42 (dk_at dksX1_down_0 15 rfl rfl)
theorem dX1_down_16 : decode cX1_down 16 = .ok (.getfield 1, 3) := dk_180 0 1 (dk_at dksX1_down_0 16 rfl rfl)
theorem dX1_down_19 : decode cX1_down 19 = .ok (.iload_n 1, 1) := dk_27 (dk_at dksX1_down_0 19 rfl rfl)
theorem dX1_down_20 : decode cX1_down 20 = .ok (.invokeinterface 13 2, 5) := by decide +kernel
theorem dX1_down_25 : decode cX1_down 25 = .ok (.checkcast 17, 3) := dk_192 0 17 (dk_at dksX1_down_1 5 rfl rfl)
theorem dX1_down_28 : decode cX1_down 28 = .ok (.getfield 124, 3) := dk_180 0 124 (dk_at dksX1_down_1 8 rfl rfl)
theorem dX1_down_31 : decode cX1_down 31 = .ok (.iconst 1, 1) := dk_4 (dk_at dksX1_down_1 11 rfl rfl)
theorem dX1_down_32 : decode cX1_down 32 = .ok (.isub, 1) := dk_100 (dk_at dksX1_down_1 12 rfl rfl)
theorem dX1_down_33 : decode cX1_down 33 = .ok (.invokestatic 274, 3) := dk_184 1 18 (dk_at dksX1_down_1 13 rfl rfl)
theorem dX1_down_36 : decode cX1_down 36 = .ok (.aload_n 0, 1) := dk_42 (dk_at dksX1_down_1 16 rfl rfl)
theorem dX1_down_37 : decode cX1_down 37 = .ok (.iload_n 1, 1) := dk_27 (dk_at dksX1_down_1 17 rfl rfl)
theorem dX1_down_38 : decode cX1_down 38 = .ok (.iload_n 2, 1) := dk_28 (dk_at dksX1_down_1 18 rfl rfl)
theorem dX1_down_39 : decode cX1_down 39 = .ok (.invokevirtual 304, 3) := dk_182 1 48 (dk_at dksX1_down_1 19 rfl rfl)
theorem dX1_down_42 : decode cX1_down 42 = .ok (.ireturn, 1) := dk_172 (dk_at dksX1_down_1 22 rfl rfl)
abbrev cX1_thread : ByteArray := prog_1_method_33_code
def yX1_thread : MethodName := ⟨RX1, "thread", "(I)I"⟩
def dkwX1_thread_3 : List UInt8 := [100, 172]
abbrev dktX1_thread_3 : List UInt8 := dkwX1_thread_3 ++ []
def dkwX1_thread_2 : List UInt8 := [181, 0, 166, 42, 180, 0, 157, 44, 185, 0, 221, 2, 0, 87, 42, 180, 0, 157, 185, 0, 7, 1, 0, 4]
abbrev dktX1_thread_2 : List UInt8 := dkwX1_thread_2 ++ dktX1_thread_3
def dkwX1_thread_1 : List UInt8 := [167, 0, 4, 3, 184, 0, 243, 187, 0, 164, 89, 27, 2, 183, 1, 52, 77, 44, 42, 44, 182, 0, 208]
abbrev dktX1_thread_1 : List UInt8 := dkwX1_thread_1 ++ dktX1_thread_2
def dkwX1_thread_0 : List UInt8 := [27, 4, 17, 0, 255, 184, 1, 18, 42, 180, 0, 157, 185, 0, 7, 1, 0, 16, 16, 162, 0, 7, 4]
abbrev dktX1_thread_0 : List UInt8 := dkwX1_thread_0 ++ dktX1_thread_1
theorem dksX1_thread_0 : cX1_thread.data.toList.drop 0 = dktX1_thread_0 := by decide +kernel
theorem dksX1_thread_1 : cX1_thread.data.toList.drop 23 = dktX1_thread_1 := dk_seg dksX1_thread_0 23 rfl rfl
theorem dksX1_thread_2 : cX1_thread.data.toList.drop 46 = dktX1_thread_2 := dk_seg dksX1_thread_1 23 rfl rfl
theorem dksX1_thread_3 : cX1_thread.data.toList.drop 70 = dktX1_thread_3 := dk_seg dksX1_thread_2 24 rfl rfl
theorem dX1_thread_0 : decode cX1_thread 0 = .ok (.iload_n 1, 1) := dk_27 (dk_at dksX1_thread_0 0 rfl rfl)
theorem dX1_thread_1 : decode cX1_thread 1 = .ok (.iconst 1, 1) := dk_4 (dk_at dksX1_thread_0 1 rfl rfl)
theorem dX1_thread_2 : decode cX1_thread 2 = .ok (.sipush 255, 3) := dk_17 0 255 (dk_at dksX1_thread_0 2 rfl rfl)
theorem dX1_thread_5 : decode cX1_thread 5 = .ok (.invokestatic 274, 3) := dk_184 1 18 (dk_at dksX1_thread_0 5 rfl rfl)
theorem dX1_thread_8 : decode cX1_thread 8 = .ok (.aload_n 0, 1) := dk_42 (dk_at dksX1_thread_0 8 rfl rfl)
theorem dX1_thread_9 : decode cX1_thread 9 = .ok (.getfield 157, 3) := dk_180 0 157 (dk_at dksX1_thread_0 9 rfl rfl)
theorem dX1_thread_12 : decode cX1_thread 12 = .ok (.invokeinterface 7 1, 5) := by decide +kernel
theorem dX1_thread_17 : decode cX1_thread 17 = .ok (.bipush 16, 2) := dk_16 16 (dk_at dksX1_thread_0 17 rfl rfl)
theorem dX1_thread_19 : decode cX1_thread 19 = .ok (.if_icmp .ge 7, 3) := dk_162 0 7 (dk_at dksX1_thread_0 19 rfl rfl)
theorem dX1_thread_22 : decode cX1_thread 22 = .ok (.iconst 1, 1) := dk_4 (dk_at dksX1_thread_0 22 rfl rfl)
theorem dX1_thread_23 : decode cX1_thread 23 = .ok (.goto 4, 3) := dk_167 0 4 (dk_at dksX1_thread_1 0 rfl rfl)
theorem dX1_thread_26 : decode cX1_thread 26 = .ok (.iconst 0, 1) := dk_3 (dk_at dksX1_thread_1 3 rfl rfl)
theorem dX1_thread_27 : decode cX1_thread 27 = .ok (.invokestatic 243, 3) := dk_184 0 243 (dk_at dksX1_thread_1 4 rfl rfl)
theorem dX1_thread_30 : decode cX1_thread 30 = .ok (.new 164, 3) := dk_187 0 164 (dk_at dksX1_thread_1 7 rfl rfl)
theorem dX1_thread_33 : decode cX1_thread 33 = .ok (.dup, 1) := dk_89 (dk_at dksX1_thread_1 10 rfl rfl)
theorem dX1_thread_34 : decode cX1_thread 34 = .ok (.iload_n 1, 1) := dk_27 (dk_at dksX1_thread_1 11 rfl rfl)
theorem dX1_thread_35 : decode cX1_thread 35 = .ok (.iconst (-1), 1) := dk_2 (dk_at dksX1_thread_1 12 rfl rfl)
theorem dX1_thread_36 : decode cX1_thread 36 = .ok (.invokespecial 308, 3) := dk_183 1 52 (dk_at dksX1_thread_1 13 rfl rfl)
theorem dX1_thread_39 : decode cX1_thread 39 = .ok (.astore_n 2, 1) := dk_77 (dk_at dksX1_thread_1 16 rfl rfl)
theorem dX1_thread_40 : decode cX1_thread 40 = .ok (.aload_n 2, 1) := dk_44 (dk_at dksX1_thread_1 17 rfl rfl)
theorem dX1_thread_41 : decode cX1_thread 41 = .ok (.aload_n 0, 1) := dk_42 (dk_at dksX1_thread_1 18 rfl rfl)
theorem dX1_thread_42 : decode cX1_thread 42 = .ok (.aload_n 2, 1) := dk_44 (dk_at dksX1_thread_1 19 rfl rfl)
theorem dX1_thread_43 : decode cX1_thread 43 = .ok (.invokevirtual 208, 3) := dk_182 0 208 (dk_at dksX1_thread_1 20 rfl rfl)
theorem dX1_thread_46 : decode cX1_thread 46 = .ok (.putfield 166, 3) := dk_181 0 166 (dk_at dksX1_thread_2 0 rfl rfl)
theorem dX1_thread_49 : decode cX1_thread 49 = .ok (.aload_n 0, 1) := dk_42 (dk_at dksX1_thread_2 3 rfl rfl)
theorem dX1_thread_50 : decode cX1_thread 50 = .ok (.getfield 157, 3) := dk_180 0 157 (dk_at dksX1_thread_2 4 rfl rfl)
theorem dX1_thread_53 : decode cX1_thread 53 = .ok (.aload_n 2, 1) := dk_44 (dk_at dksX1_thread_2 7 rfl rfl)
theorem dX1_thread_54 : decode cX1_thread 54 = .ok (.invokeinterface 221 2, 5) := by decide +kernel
theorem dX1_thread_59 : decode cX1_thread 59 = .ok (.pop, 1) := dk_87 (dk_at dksX1_thread_2 13 rfl rfl)
theorem dX1_thread_60 : decode cX1_thread 60 = .ok (.aload_n 0, 1) := dk_42 (dk_at dksX1_thread_2 14 rfl rfl)
theorem dX1_thread_61 : decode cX1_thread 61 = .ok (.getfield 157, 3) := dk_180 0 157 (dk_at dksX1_thread_2 15 rfl rfl)
theorem dX1_thread_64 : decode cX1_thread 64 = .ok (.invokeinterface 7 1, 5) := by decide +kernel
theorem dX1_thread_69 : decode cX1_thread 69 = .ok (.iconst 1, 1) := dk_4 (dk_at dksX1_thread_2 23 rfl rfl)
theorem dX1_thread_70 : decode cX1_thread 70 = .ok (.isub, 1) := dk_100 (dk_at dksX1_thread_3 0 rfl rfl)
theorem dX1_thread_71 : decode cX1_thread 71 = .ok (.ireturn, 1) := dk_172 (dk_at dksX1_thread_3 1 rfl rfl)
abbrev cX1_interrupt : ByteArray := prog_1_method_34_code
def yX1_interrupt : MethodName := ⟨RX1, "interrupt", "(I)I"⟩
def dkwX1_interrupt_3 : List UInt8 := [185, 0, 7, 1, 0, 4, 100, 172]
abbrev dktX1_interrupt_3 : List UInt8 := dkwX1_interrupt_3 ++ []
def dkwX1_interrupt_2 : List UInt8 := [181, 0, 166, 42, 44, 182, 0, 204, 42, 180, 0, 198, 44, 185, 0, 221, 2, 0, 87, 42, 180, 0, 198]
abbrev dktX1_interrupt_2 : List UInt8 := dkwX1_interrupt_2 ++ dktX1_interrupt_3
def dkwX1_interrupt_1 : List UInt8 := [167, 0, 4, 3, 184, 0, 243, 187, 0, 184, 89, 27, 183, 1, 54, 77, 44, 78, 45, 42, 27, 182, 0, 201]
abbrev dktX1_interrupt_1 : List UInt8 := dkwX1_interrupt_1 ++ dktX1_interrupt_2
def dkwX1_interrupt_0 : List UInt8 := [27, 4, 17, 0, 255, 184, 1, 18, 42, 180, 0, 198, 185, 0, 7, 1, 0, 16, 12, 162, 0, 7, 4]
abbrev dktX1_interrupt_0 : List UInt8 := dkwX1_interrupt_0 ++ dktX1_interrupt_1
theorem dksX1_interrupt_0 : cX1_interrupt.data.toList.drop 0 = dktX1_interrupt_0 := by decide +kernel
theorem dksX1_interrupt_1 : cX1_interrupt.data.toList.drop 23 = dktX1_interrupt_1 := dk_seg dksX1_interrupt_0 23 rfl rfl
theorem dksX1_interrupt_2 : cX1_interrupt.data.toList.drop 47 = dktX1_interrupt_2 := dk_seg dksX1_interrupt_1 24 rfl rfl
theorem dksX1_interrupt_3 : cX1_interrupt.data.toList.drop 70 = dktX1_interrupt_3 := dk_seg dksX1_interrupt_2 23 rfl rfl
theorem dX1_interrupt_0 : decode cX1_interrupt 0 = .ok (.iload_n 1, 1) := dk_27 (dk_at dksX1_interrupt_0 0 rfl rfl)
theorem dX1_interrupt_1 : decode cX1_interrupt 1 = .ok (.iconst 1, 1) := dk_4 (dk_at dksX1_interrupt_0 1 rfl rfl)
theorem dX1_interrupt_2 : decode cX1_interrupt 2 = .ok (.sipush 255, 3) := dk_17 0 255 (dk_at dksX1_interrupt_0 2 rfl rfl)
theorem dX1_interrupt_5 : decode cX1_interrupt 5 = .ok (.invokestatic 274, 3) := dk_184 1 18 (dk_at dksX1_interrupt_0 5 rfl rfl)
theorem dX1_interrupt_8 : decode cX1_interrupt 8 = .ok (.aload_n 0, 1) := dk_42 (dk_at dksX1_interrupt_0 8 rfl rfl)
theorem dX1_interrupt_9 : decode cX1_interrupt 9 = .ok (.getfield 198, 3) := dk_180 0 198 (dk_at dksX1_interrupt_0 9 rfl rfl)
theorem dX1_interrupt_12 : decode cX1_interrupt 12 = .ok (.invokeinterface 7 1, 5) := by decide +kernel
theorem dX1_interrupt_17 : decode cX1_interrupt 17 = .ok (.bipush 12, 2) := dk_16 12 (dk_at dksX1_interrupt_0 17 rfl rfl)
theorem dX1_interrupt_19 : decode cX1_interrupt 19 = .ok (.if_icmp .ge 7, 3) := dk_162 0 7 (dk_at dksX1_interrupt_0 19 rfl rfl)
theorem dX1_interrupt_22 : decode cX1_interrupt 22 = .ok (.iconst 1, 1) := dk_4 (dk_at dksX1_interrupt_0 22 rfl rfl)
theorem dX1_interrupt_23 : decode cX1_interrupt 23 = .ok (.goto 4, 3) := dk_167 0 4 (dk_at dksX1_interrupt_1 0 rfl rfl)
theorem dX1_interrupt_26 : decode cX1_interrupt 26 = .ok (.iconst 0, 1) := dk_3 (dk_at dksX1_interrupt_1 3 rfl rfl)
theorem dX1_interrupt_27 : decode cX1_interrupt 27 = .ok (.invokestatic 243, 3) := dk_184 0 243 (dk_at dksX1_interrupt_1 4 rfl rfl)
theorem dX1_interrupt_30 : decode cX1_interrupt 30 = .ok (.new 184, 3) := dk_187 0 184 (dk_at dksX1_interrupt_1 7 rfl rfl)
theorem dX1_interrupt_33 : decode cX1_interrupt 33 = .ok (.dup, 1) := dk_89 (dk_at dksX1_interrupt_1 10 rfl rfl)
theorem dX1_interrupt_34 : decode cX1_interrupt 34 = .ok (.iload_n 1, 1) := dk_27 (dk_at dksX1_interrupt_1 11 rfl rfl)
theorem dX1_interrupt_35 : decode cX1_interrupt 35 = .ok (.invokespecial 310, 3) := dk_183 1 54 (dk_at dksX1_interrupt_1 12 rfl rfl)
theorem dX1_interrupt_38 : decode cX1_interrupt 38 = .ok (.astore_n 2, 1) := dk_77 (dk_at dksX1_interrupt_1 15 rfl rfl)
theorem dX1_interrupt_39 : decode cX1_interrupt 39 = .ok (.aload_n 2, 1) := dk_44 (dk_at dksX1_interrupt_1 16 rfl rfl)
theorem dX1_interrupt_40 : decode cX1_interrupt 40 = .ok (.astore_n 3, 1) := dk_78 (dk_at dksX1_interrupt_1 17 rfl rfl)
theorem dX1_interrupt_41 : decode cX1_interrupt 41 = .ok (.aload_n 3, 1) := dk_45 (dk_at dksX1_interrupt_1 18 rfl rfl)
theorem dX1_interrupt_42 : decode cX1_interrupt 42 = .ok (.aload_n 0, 1) := dk_42 (dk_at dksX1_interrupt_1 19 rfl rfl)
theorem dX1_interrupt_43 : decode cX1_interrupt 43 = .ok (.iload_n 1, 1) := dk_27 (dk_at dksX1_interrupt_1 20 rfl rfl)
theorem dX1_interrupt_44 : decode cX1_interrupt 44 = .ok (.invokevirtual 201, 3) := dk_182 0 201 (dk_at dksX1_interrupt_1 21 rfl rfl)
theorem dX1_interrupt_47 : decode cX1_interrupt 47 = .ok (.putfield 166, 3) := dk_181 0 166 (dk_at dksX1_interrupt_2 0 rfl rfl)
theorem dX1_interrupt_50 : decode cX1_interrupt 50 = .ok (.aload_n 0, 1) := dk_42 (dk_at dksX1_interrupt_2 3 rfl rfl)
theorem dX1_interrupt_51 : decode cX1_interrupt 51 = .ok (.aload_n 2, 1) := dk_44 (dk_at dksX1_interrupt_2 4 rfl rfl)
theorem dX1_interrupt_52 : decode cX1_interrupt 52 = .ok (.invokevirtual 204, 3) := dk_182 0 204 (dk_at dksX1_interrupt_2 5 rfl rfl)
theorem dX1_interrupt_55 : decode cX1_interrupt 55 = .ok (.aload_n 0, 1) := dk_42 (dk_at dksX1_interrupt_2 8 rfl rfl)
theorem dX1_interrupt_56 : decode cX1_interrupt 56 = .ok (.getfield 198, 3) := dk_180 0 198 (dk_at dksX1_interrupt_2 9 rfl rfl)
theorem dX1_interrupt_59 : decode cX1_interrupt 59 = .ok (.aload_n 2, 1) := dk_44 (dk_at dksX1_interrupt_2 12 rfl rfl)
theorem dX1_interrupt_60 : decode cX1_interrupt 60 = .ok (.invokeinterface 221 2, 5) := by decide +kernel
theorem dX1_interrupt_65 : decode cX1_interrupt 65 = .ok (.pop, 1) := dk_87 (dk_at dksX1_interrupt_2 18 rfl rfl)
theorem dX1_interrupt_66 : decode cX1_interrupt 66 = .ok (.aload_n 0, 1) := dk_42 (dk_at dksX1_interrupt_2 19 rfl rfl)
theorem dX1_interrupt_67 : decode cX1_interrupt 67 = .ok (.getfield 198, 3) := dk_180 0 198 (dk_at dksX1_interrupt_2 20 rfl rfl)
theorem dX1_interrupt_70 : decode cX1_interrupt 70 = .ok (.invokeinterface 7 1, 5) := by decide +kernel
theorem dX1_interrupt_75 : decode cX1_interrupt 75 = .ok (.iconst 1, 1) := dk_4 (dk_at dksX1_interrupt_3 5 rfl rfl)
theorem dX1_interrupt_76 : decode cX1_interrupt 76 = .ok (.isub, 1) := dk_100 (dk_at dksX1_interrupt_3 6 rfl rfl)
theorem dX1_interrupt_77 : decode cX1_interrupt 77 = .ok (.ireturn, 1) := dk_172 (dk_at dksX1_interrupt_3 7 rfl rfl)
abbrev cX1_timer : ByteArray := prog_1_method_35_code
def yX1_timer : MethodName := ⟨RX1, "timer", "(I)I"⟩
def dkwX1_timer_3 : List UInt8 := [182, 1, 56, 42, 180, 0, 188, 182, 1, 55, 4, 100, 172]
abbrev dktX1_timer_3 : List UInt8 := dkwX1_timer_3 ++ []
def dkwX1_timer_2 : List UInt8 := [167, 0, 4, 3, 184, 0, 243, 42, 180, 0, 188, 187, 0, 164, 89, 17, 0, 255, 27, 183, 1, 52]
abbrev dktX1_timer_2 : List UInt8 := dkwX1_timer_2 ++ dktX1_timer_3
def dkwX1_timer_1 : List UInt8 := [192, 0, 17, 182, 0, 19, 153, 0, 19, 42, 180, 0, 188, 182, 1, 55, 16, 16, 162, 0, 7, 4]
abbrev dktX1_timer_1 : List UInt8 := dkwX1_timer_1 ++ dktX1_timer_2
def dkwX1_timer_0 : List UInt8 := [27, 42, 180, 0, 1, 185, 0, 7, 1, 0, 184, 0, 235, 42, 180, 0, 1, 27, 185, 0, 13, 2, 0]
abbrev dktX1_timer_0 : List UInt8 := dkwX1_timer_0 ++ dktX1_timer_1
theorem dksX1_timer_0 : cX1_timer.data.toList.drop 0 = dktX1_timer_0 := by decide +kernel
theorem dksX1_timer_1 : cX1_timer.data.toList.drop 23 = dktX1_timer_1 := dk_seg dksX1_timer_0 23 rfl rfl
theorem dksX1_timer_2 : cX1_timer.data.toList.drop 45 = dktX1_timer_2 := dk_seg dksX1_timer_1 22 rfl rfl
theorem dksX1_timer_3 : cX1_timer.data.toList.drop 67 = dktX1_timer_3 := dk_seg dksX1_timer_2 22 rfl rfl
theorem dX1_timer_0 : decode cX1_timer 0 = .ok (.iload_n 1, 1) := dk_27 (dk_at dksX1_timer_0 0 rfl rfl)
theorem dX1_timer_1 : decode cX1_timer 1 = .ok (.aload_n 0, 1) := dk_42 (dk_at dksX1_timer_0 1 rfl rfl)
theorem dX1_timer_2 : decode cX1_timer 2 = .ok (.getfield 1, 3) := dk_180 0 1 (dk_at dksX1_timer_0 2 rfl rfl)
theorem dX1_timer_5 : decode cX1_timer 5 = .ok (.invokeinterface 7 1, 5) := by decide +kernel
theorem dX1_timer_10 : decode cX1_timer 10 = .ok (.invokestatic 235, 3) := dk_184 0 235 (dk_at dksX1_timer_0 10 rfl rfl)
theorem dX1_timer_13 : decode cX1_timer 13 = .ok (.aload_n 0, 1) := dk_42 (dk_at dksX1_timer_0 13 rfl rfl)
theorem dX1_timer_14 : decode cX1_timer 14 = .ok (.getfield 1, 3) := dk_180 0 1 (dk_at dksX1_timer_0 14 rfl rfl)
theorem dX1_timer_17 : decode cX1_timer 17 = .ok (.iload_n 1, 1) := dk_27 (dk_at dksX1_timer_0 17 rfl rfl)
theorem dX1_timer_18 : decode cX1_timer 18 = .ok (.invokeinterface 13 2, 5) := by decide +kernel
theorem dX1_timer_23 : decode cX1_timer 23 = .ok (.checkcast 17, 3) := dk_192 0 17 (dk_at dksX1_timer_1 0 rfl rfl)
theorem dX1_timer_26 : decode cX1_timer 26 = .ok (.invokevirtual 19, 3) := dk_182 0 19 (dk_at dksX1_timer_1 3 rfl rfl)
theorem dX1_timer_29 : decode cX1_timer 29 = .ok (.ifCond .eq 19, 3) := dk_153 0 19 (dk_at dksX1_timer_1 6 rfl rfl)
theorem dX1_timer_32 : decode cX1_timer 32 = .ok (.aload_n 0, 1) := dk_42 (dk_at dksX1_timer_1 9 rfl rfl)
theorem dX1_timer_33 : decode cX1_timer 33 = .ok (.getfield 188, 3) := dk_180 0 188 (dk_at dksX1_timer_1 10 rfl rfl)
theorem dX1_timer_36 : decode cX1_timer 36 = .ok (.invokevirtual 311, 3) := dk_182 1 55 (dk_at dksX1_timer_1 13 rfl rfl)
theorem dX1_timer_39 : decode cX1_timer 39 = .ok (.bipush 16, 2) := dk_16 16 (dk_at dksX1_timer_1 16 rfl rfl)
theorem dX1_timer_41 : decode cX1_timer 41 = .ok (.if_icmp .ge 7, 3) := dk_162 0 7 (dk_at dksX1_timer_1 18 rfl rfl)
theorem dX1_timer_44 : decode cX1_timer 44 = .ok (.iconst 1, 1) := dk_4 (dk_at dksX1_timer_1 21 rfl rfl)
theorem dX1_timer_45 : decode cX1_timer 45 = .ok (.goto 4, 3) := dk_167 0 4 (dk_at dksX1_timer_2 0 rfl rfl)
theorem dX1_timer_48 : decode cX1_timer 48 = .ok (.iconst 0, 1) := dk_3 (dk_at dksX1_timer_2 3 rfl rfl)
theorem dX1_timer_49 : decode cX1_timer 49 = .ok (.invokestatic 243, 3) := dk_184 0 243 (dk_at dksX1_timer_2 4 rfl rfl)
theorem dX1_timer_52 : decode cX1_timer 52 = .ok (.aload_n 0, 1) := dk_42 (dk_at dksX1_timer_2 7 rfl rfl)
theorem dX1_timer_53 : decode cX1_timer 53 = .ok (.getfield 188, 3) := dk_180 0 188 (dk_at dksX1_timer_2 8 rfl rfl)
theorem dX1_timer_56 : decode cX1_timer 56 = .ok (.new 164, 3) := dk_187 0 164 (dk_at dksX1_timer_2 11 rfl rfl)
theorem dX1_timer_59 : decode cX1_timer 59 = .ok (.dup, 1) := dk_89 (dk_at dksX1_timer_2 14 rfl rfl)
theorem dX1_timer_60 : decode cX1_timer 60 = .ok (.sipush 255, 3) := dk_17 0 255 (dk_at dksX1_timer_2 15 rfl rfl)
theorem dX1_timer_63 : decode cX1_timer 63 = .ok (.iload_n 1, 1) := dk_27 (dk_at dksX1_timer_2 18 rfl rfl)
theorem dX1_timer_64 : decode cX1_timer 64 = .ok (.invokespecial 308, 3) := dk_183 1 52 (dk_at dksX1_timer_2 19 rfl rfl)
theorem dX1_timer_67 : decode cX1_timer 67 = .ok (.invokevirtual 312, 3) := dk_182 1 56 (dk_at dksX1_timer_3 0 rfl rfl)
theorem dX1_timer_70 : decode cX1_timer 70 = .ok (.aload_n 0, 1) := dk_42 (dk_at dksX1_timer_3 3 rfl rfl)
theorem dX1_timer_71 : decode cX1_timer 71 = .ok (.getfield 188, 3) := dk_180 0 188 (dk_at dksX1_timer_3 4 rfl rfl)
theorem dX1_timer_74 : decode cX1_timer 74 = .ok (.invokevirtual 311, 3) := dk_182 1 55 (dk_at dksX1_timer_3 7 rfl rfl)
theorem dX1_timer_77 : decode cX1_timer 77 = .ok (.iconst 1, 1) := dk_4 (dk_at dksX1_timer_3 10 rfl rfl)
theorem dX1_timer_78 : decode cX1_timer 78 = .ok (.isub, 1) := dk_100 (dk_at dksX1_timer_3 11 rfl rfl)
theorem dX1_timer_79 : decode cX1_timer 79 = .ok (.ireturn, 1) := dk_172 (dk_at dksX1_timer_3 12 rfl rfl)
abbrev cX1_level : ByteArray := prog_1_method_37_code
def yX1_level : MethodName := ⟨RX1, "level", "(I)I"⟩
def dkwX1_level_1 : List UInt8 := [192, 0, 17, 180, 0, 124, 172]
abbrev dktX1_level_1 : List UInt8 := dkwX1_level_1 ++ []
def dkwX1_level_0 : List UInt8 := [27, 42, 180, 0, 1, 185, 0, 7, 1, 0, 184, 0, 235, 42, 180, 0, 1, 27, 185, 0, 13, 2, 0]
abbrev dktX1_level_0 : List UInt8 := dkwX1_level_0 ++ dktX1_level_1
theorem dksX1_level_0 : cX1_level.data.toList.drop 0 = dktX1_level_0 := by decide +kernel
theorem dksX1_level_1 : cX1_level.data.toList.drop 23 = dktX1_level_1 := dk_seg dksX1_level_0 23 rfl rfl
theorem dX1_level_0 : decode cX1_level 0 = .ok (.iload_n 1, 1) := dk_27 (dk_at dksX1_level_0 0 rfl rfl)
theorem dX1_level_1 : decode cX1_level 1 = .ok (.aload_n 0, 1) := dk_42 (dk_at dksX1_level_0 1 rfl rfl)
theorem dX1_level_2 : decode cX1_level 2 = .ok (.getfield 1, 3) := dk_180 0 1 (dk_at dksX1_level_0 2 rfl rfl)
theorem dX1_level_5 : decode cX1_level 5 = .ok (.invokeinterface 7 1, 5) := by decide +kernel
theorem dX1_level_10 : decode cX1_level 10 = .ok (.invokestatic 235, 3) := dk_184 0 235 (dk_at dksX1_level_0 10 rfl rfl)
theorem dX1_level_13 : decode cX1_level 13 = .ok (.aload_n 0, 1) := dk_42 (dk_at dksX1_level_0 13 rfl rfl)
theorem dX1_level_14 : decode cX1_level 14 = .ok (.getfield 1, 3) := dk_180 0 1 (dk_at dksX1_level_0 14 rfl rfl)
theorem dX1_level_17 : decode cX1_level 17 = .ok (.iload_n 1, 1) := dk_27 (dk_at dksX1_level_0 17 rfl rfl)
theorem dX1_level_18 : decode cX1_level 18 = .ok (.invokeinterface 13 2, 5) := by decide +kernel
theorem dX1_level_23 : decode cX1_level 23 = .ok (.checkcast 17, 3) := dk_192 0 17 (dk_at dksX1_level_1 0 rfl rfl)
theorem dX1_level_26 : decode cX1_level 26 = .ok (.getfield 124, 3) := dk_180 0 124 (dk_at dksX1_level_1 3 rfl rfl)
theorem dX1_level_29 : decode cX1_level 29 = .ok (.ireturn, 1) := dk_172 (dk_at dksX1_level_1 6 rfl rfl)
abbrev cX1_instances : ByteArray := prog_1_method_39_code
def yX1_instances : MethodName := ⟨RX1, "instances", "(I)I"⟩
def dkwX1_instances_1 : List UInt8 := [44, 185, 0, 93, 1, 0, 192, 0, 97, 182, 0, 99, 120, 128, 62, 167, 255, 230, 29, 172]
abbrev dktX1_instances_1 : List UInt8 := dkwX1_instances_1 ++ []
def dkwX1_instances_0 : List UInt8 := [42, 27, 182, 1, 32, 4, 3, 182, 0, 84, 77, 3, 62, 44, 185, 0, 88, 1, 0, 153, 0, 23, 29, 4]
abbrev dktX1_instances_0 : List UInt8 := dkwX1_instances_0 ++ dktX1_instances_1
theorem dksX1_instances_0 : cX1_instances.data.toList.drop 0 = dktX1_instances_0 := by decide +kernel
theorem dksX1_instances_1 : cX1_instances.data.toList.drop 24 = dktX1_instances_1 := dk_seg dksX1_instances_0 24 rfl rfl
theorem dX1_instances_0 : decode cX1_instances 0 = .ok (.aload_n 0, 1) := dk_42 (dk_at dksX1_instances_0 0 rfl rfl)
theorem dX1_instances_1 : decode cX1_instances 1 = .ok (.iload_n 1, 1) := dk_27 (dk_at dksX1_instances_0 1 rfl rfl)
theorem dX1_instances_2 : decode cX1_instances 2 = .ok (.invokevirtual 288, 3) := dk_182 1 32 (dk_at dksX1_instances_0 2 rfl rfl)
theorem dX1_instances_5 : decode cX1_instances 5 = .ok (.iconst 1, 1) := dk_4 (dk_at dksX1_instances_0 5 rfl rfl)
theorem dX1_instances_6 : decode cX1_instances 6 = .ok (.iconst 0, 1) := dk_3 (dk_at dksX1_instances_0 6 rfl rfl)
theorem dX1_instances_7 : decode cX1_instances 7 = .ok (.invokevirtual 84, 3) := dk_182 0 84 (dk_at dksX1_instances_0 7 rfl rfl)
theorem dX1_instances_10 : decode cX1_instances 10 = .ok (.astore_n 2, 1) := dk_77 (dk_at dksX1_instances_0 10 rfl rfl)
theorem dX1_instances_11 : decode cX1_instances 11 = .ok (.iconst 0, 1) := dk_3 (dk_at dksX1_instances_0 11 rfl rfl)
theorem dX1_instances_12 : decode cX1_instances 12 = .ok (.istore_n 3, 1) := dk_62 (dk_at dksX1_instances_0 12 rfl rfl)
theorem dX1_instances_13 : decode cX1_instances 13 = .ok (.aload_n 2, 1) := dk_44 (dk_at dksX1_instances_0 13 rfl rfl)
theorem dX1_instances_14 : decode cX1_instances 14 = .ok (.invokeinterface 88 1, 5) := by decide +kernel
theorem dX1_instances_19 : decode cX1_instances 19 = .ok (.ifCond .eq 23, 3) := dk_153 0 23 (dk_at dksX1_instances_0 19 rfl rfl)
theorem dX1_instances_22 : decode cX1_instances 22 = .ok (.iload_n 3, 1) := dk_29 (dk_at dksX1_instances_0 22 rfl rfl)
theorem dX1_instances_23 : decode cX1_instances 23 = .ok (.iconst 1, 1) := dk_4 (dk_at dksX1_instances_0 23 rfl rfl)
theorem dX1_instances_24 : decode cX1_instances 24 = .ok (.aload_n 2, 1) := dk_44 (dk_at dksX1_instances_1 0 rfl rfl)
theorem dX1_instances_25 : decode cX1_instances 25 = .ok (.invokeinterface 93 1, 5) := by decide +kernel
theorem dX1_instances_30 : decode cX1_instances 30 = .ok (.checkcast 97, 3) := dk_192 0 97 (dk_at dksX1_instances_1 6 rfl rfl)
theorem dX1_instances_33 : decode cX1_instances 33 = .ok (.invokevirtual 99, 3) := dk_182 0 99 (dk_at dksX1_instances_1 9 rfl rfl)
theorem dX1_instances_36 : decode cX1_instances 36 = .ok (.ishl, 1) := dk_120 (dk_at dksX1_instances_1 12 rfl rfl)
theorem dX1_instances_37 : decode cX1_instances 37 = .ok (.ior, 1) := dk_128 (dk_at dksX1_instances_1 13 rfl rfl)
theorem dX1_instances_38 : decode cX1_instances 38 = .ok (.istore_n 3, 1) := dk_62 (dk_at dksX1_instances_1 14 rfl rfl)
theorem dX1_instances_39 : decode cX1_instances 39 = .ok (.goto (-26), 3) := dk_167 255 230 (dk_at dksX1_instances_1 15 rfl rfl)
theorem dX1_instances_42 : decode cX1_instances 42 = .ok (.iload_n 3, 1) := dk_29 (dk_at dksX1_instances_1 18 rfl rfl)
theorem dX1_instances_43 : decode cX1_instances 43 = .ok (.ireturn, 1) := dk_172 (dk_at dksX1_instances_1 19 rfl rfl)
abbrev cX1_coreOf : ByteArray := prog_1_method_41_code
def yX1_coreOf : MethodName := ⟨RX1, "coreOf", "(II)I"⟩
def dkwX1_coreOf_0 : List UInt8 := [42, 27, 28, 182, 1, 59, 180, 0, 166, 172]
abbrev dktX1_coreOf_0 : List UInt8 := dkwX1_coreOf_0 ++ []
theorem dksX1_coreOf_0 : cX1_coreOf.data.toList.drop 0 = dktX1_coreOf_0 := by decide +kernel
theorem dX1_coreOf_0 : decode cX1_coreOf 0 = .ok (.aload_n 0, 1) := dk_42 (dk_at dksX1_coreOf_0 0 rfl rfl)
theorem dX1_coreOf_1 : decode cX1_coreOf 1 = .ok (.iload_n 1, 1) := dk_27 (dk_at dksX1_coreOf_0 1 rfl rfl)
theorem dX1_coreOf_2 : decode cX1_coreOf 2 = .ok (.iload_n 2, 1) := dk_28 (dk_at dksX1_coreOf_0 2 rfl rfl)
theorem dX1_coreOf_3 : decode cX1_coreOf 3 = .ok (.invokevirtual 315, 3) := dk_182 1 59 (dk_at dksX1_coreOf_0 3 rfl rfl)
theorem dX1_coreOf_6 : decode cX1_coreOf 6 = .ok (.getfield 166, 3) := dk_180 0 166 (dk_at dksX1_coreOf_0 6 rfl rfl)
theorem dX1_coreOf_9 : decode cX1_coreOf 9 = .ok (.ireturn, 1) := dk_172 (dk_at dksX1_coreOf_0 9 rfl rfl)
abbrev cX1_thingAt : ByteArray := prog_1_method_40_code
def yX1_thingAt : MethodName := ⟨RX1, "thingAt", "(II)LCoreplug$Thing;"⟩
def dkwX1_thingAt_5 : List UInt8 := [45, 185, 0, 93, 1, 0, 192, 0, 164, 58, 4, 132, 5, 1, 167, 255, 236, 25, 4, 176]
abbrev dktX1_thingAt_5 : List UInt8 := dkwX1_thingAt_5 ++ []
def dkwX1_thingAt_4 : List UInt8 := [182, 0, 192, 78, 45, 185, 0, 93, 1, 0, 192, 0, 164, 58, 4, 3, 54, 5, 21, 5, 28, 162, 0, 20]
abbrev dktX1_thingAt_4 : List UInt8 := dkwX1_thingAt_4 ++ dktX1_thingAt_5
def dkwX1_thingAt_3 : List UInt8 := [192, 0, 164, 167, 0, 16, 42, 180, 0, 198, 28, 185, 0, 13, 2, 0, 192, 0, 164, 176, 42, 180, 0, 188]
abbrev dktX1_thingAt_3 : List UInt8 := dkwX1_thingAt_3 ++ dktX1_thingAt_4
def dkwX1_thingAt_2 : List UInt8 := [184, 0, 235, 27, 5, 159, 0, 37, 27, 154, 0, 19, 42, 180, 0, 157, 28, 185, 0, 13, 2, 0]
abbrev dktX1_thingAt_2 : List UInt8 := dkwX1_thingAt_2 ++ dktX1_thingAt_3
def dkwX1_thingAt_1 : List UInt8 := [4, 160, 0, 15, 42, 180, 0, 198, 185, 0, 7, 1, 0, 167, 0, 10, 42, 180, 0, 188, 182, 1, 55]
abbrev dktX1_thingAt_1 : List UInt8 := dkwX1_thingAt_1 ++ dktX1_thingAt_2
def dkwX1_thingAt_0 : List UInt8 := [27, 3, 5, 184, 1, 18, 28, 27, 154, 0, 15, 42, 180, 0, 157, 185, 0, 7, 1, 0, 167, 0, 27, 27]
abbrev dktX1_thingAt_0 : List UInt8 := dkwX1_thingAt_0 ++ dktX1_thingAt_1
theorem dksX1_thingAt_0 : cX1_thingAt.data.toList.drop 0 = dktX1_thingAt_0 := by decide +kernel
theorem dksX1_thingAt_1 : cX1_thingAt.data.toList.drop 24 = dktX1_thingAt_1 := dk_seg dksX1_thingAt_0 24 rfl rfl
theorem dksX1_thingAt_2 : cX1_thingAt.data.toList.drop 47 = dktX1_thingAt_2 := dk_seg dksX1_thingAt_1 23 rfl rfl
theorem dksX1_thingAt_3 : cX1_thingAt.data.toList.drop 69 = dktX1_thingAt_3 := dk_seg dksX1_thingAt_2 22 rfl rfl
theorem dksX1_thingAt_4 : cX1_thingAt.data.toList.drop 93 = dktX1_thingAt_4 := dk_seg dksX1_thingAt_3 24 rfl rfl
theorem dksX1_thingAt_5 : cX1_thingAt.data.toList.drop 117 = dktX1_thingAt_5 := dk_seg dksX1_thingAt_4 24 rfl rfl
theorem dX1_thingAt_0 : decode cX1_thingAt 0 = .ok (.iload_n 1, 1) := dk_27 (dk_at dksX1_thingAt_0 0 rfl rfl)
theorem dX1_thingAt_1 : decode cX1_thingAt 1 = .ok (.iconst 0, 1) := dk_3 (dk_at dksX1_thingAt_0 1 rfl rfl)
theorem dX1_thingAt_2 : decode cX1_thingAt 2 = .ok (.iconst 2, 1) := dk_5 (dk_at dksX1_thingAt_0 2 rfl rfl)
theorem dX1_thingAt_3 : decode cX1_thingAt 3 = .ok (.invokestatic 274, 3) := dk_184 1 18 (dk_at dksX1_thingAt_0 3 rfl rfl)
theorem dX1_thingAt_6 : decode cX1_thingAt 6 = .ok (.iload_n 2, 1) := dk_28 (dk_at dksX1_thingAt_0 6 rfl rfl)
theorem dX1_thingAt_7 : decode cX1_thingAt 7 = .ok (.iload_n 1, 1) := dk_27 (dk_at dksX1_thingAt_0 7 rfl rfl)
theorem dX1_thingAt_8 : decode cX1_thingAt 8 = .ok (.ifCond .ne 15, 3) := dk_154 0 15 (dk_at dksX1_thingAt_0 8 rfl rfl)
theorem dX1_thingAt_11 : decode cX1_thingAt 11 = .ok (.aload_n 0, 1) := dk_42 (dk_at dksX1_thingAt_0 11 rfl rfl)
theorem dX1_thingAt_12 : decode cX1_thingAt 12 = .ok (.getfield 157, 3) := dk_180 0 157 (dk_at dksX1_thingAt_0 12 rfl rfl)
theorem dX1_thingAt_15 : decode cX1_thingAt 15 = .ok (.invokeinterface 7 1, 5) := by decide +kernel
theorem dX1_thingAt_20 : decode cX1_thingAt 20 = .ok (.goto 27, 3) := dk_167 0 27 (dk_at dksX1_thingAt_0 20 rfl rfl)
theorem dX1_thingAt_23 : decode cX1_thingAt 23 = .ok (.iload_n 1, 1) := dk_27 (dk_at dksX1_thingAt_0 23 rfl rfl)
theorem dX1_thingAt_24 : decode cX1_thingAt 24 = .ok (.iconst 1, 1) := dk_4 (dk_at dksX1_thingAt_1 0 rfl rfl)
theorem dX1_thingAt_25 : decode cX1_thingAt 25 = .ok (.if_icmp .ne 15, 3) := dk_160 0 15 (dk_at dksX1_thingAt_1 1 rfl rfl)
theorem dX1_thingAt_28 : decode cX1_thingAt 28 = .ok (.aload_n 0, 1) := dk_42 (dk_at dksX1_thingAt_1 4 rfl rfl)
theorem dX1_thingAt_29 : decode cX1_thingAt 29 = .ok (.getfield 198, 3) := dk_180 0 198 (dk_at dksX1_thingAt_1 5 rfl rfl)
theorem dX1_thingAt_32 : decode cX1_thingAt 32 = .ok (.invokeinterface 7 1, 5) := by decide +kernel
theorem dX1_thingAt_37 : decode cX1_thingAt 37 = .ok (.goto 10, 3) := dk_167 0 10 (dk_at dksX1_thingAt_1 13 rfl rfl)
theorem dX1_thingAt_40 : decode cX1_thingAt 40 = .ok (.aload_n 0, 1) := dk_42 (dk_at dksX1_thingAt_1 16 rfl rfl)
theorem dX1_thingAt_41 : decode cX1_thingAt 41 = .ok (.getfield 188, 3) := dk_180 0 188 (dk_at dksX1_thingAt_1 17 rfl rfl)
theorem dX1_thingAt_44 : decode cX1_thingAt 44 = .ok (.invokevirtual 311, 3) := dk_182 1 55 (dk_at dksX1_thingAt_1 20 rfl rfl)
theorem dX1_thingAt_47 : decode cX1_thingAt 47 = .ok (.invokestatic 235, 3) := dk_184 0 235 (dk_at dksX1_thingAt_2 0 rfl rfl)
theorem dX1_thingAt_50 : decode cX1_thingAt 50 = .ok (.iload_n 1, 1) := dk_27 (dk_at dksX1_thingAt_2 3 rfl rfl)
theorem dX1_thingAt_51 : decode cX1_thingAt 51 = .ok (.iconst 2, 1) := dk_5 (dk_at dksX1_thingAt_2 4 rfl rfl)
theorem dX1_thingAt_52 : decode cX1_thingAt 52 = .ok (.if_icmp .eq 37, 3) := dk_159 0 37 (dk_at dksX1_thingAt_2 5 rfl rfl)
theorem dX1_thingAt_55 : decode cX1_thingAt 55 = .ok (.iload_n 1, 1) := dk_27 (dk_at dksX1_thingAt_2 8 rfl rfl)
theorem dX1_thingAt_56 : decode cX1_thingAt 56 = .ok (.ifCond .ne 19, 3) := dk_154 0 19 (dk_at dksX1_thingAt_2 9 rfl rfl)
theorem dX1_thingAt_59 : decode cX1_thingAt 59 = .ok (.aload_n 0, 1) := dk_42 (dk_at dksX1_thingAt_2 12 rfl rfl)
theorem dX1_thingAt_60 : decode cX1_thingAt 60 = .ok (.getfield 157, 3) := dk_180 0 157 (dk_at dksX1_thingAt_2 13 rfl rfl)
theorem dX1_thingAt_63 : decode cX1_thingAt 63 = .ok (.iload_n 2, 1) := dk_28 (dk_at dksX1_thingAt_2 16 rfl rfl)
theorem dX1_thingAt_64 : decode cX1_thingAt 64 = .ok (.invokeinterface 13 2, 5) := by decide +kernel
theorem dX1_thingAt_69 : decode cX1_thingAt 69 = .ok (.checkcast 164, 3) := dk_192 0 164 (dk_at dksX1_thingAt_3 0 rfl rfl)
theorem dX1_thingAt_72 : decode cX1_thingAt 72 = .ok (.goto 16, 3) := dk_167 0 16 (dk_at dksX1_thingAt_3 3 rfl rfl)
theorem dX1_thingAt_75 : decode cX1_thingAt 75 = .ok (.aload_n 0, 1) := dk_42 (dk_at dksX1_thingAt_3 6 rfl rfl)
theorem dX1_thingAt_76 : decode cX1_thingAt 76 = .ok (.getfield 198, 3) := dk_180 0 198 (dk_at dksX1_thingAt_3 7 rfl rfl)
theorem dX1_thingAt_79 : decode cX1_thingAt 79 = .ok (.iload_n 2, 1) := dk_28 (dk_at dksX1_thingAt_3 10 rfl rfl)
theorem dX1_thingAt_80 : decode cX1_thingAt 80 = .ok (.invokeinterface 13 2, 5) := by decide +kernel
theorem dX1_thingAt_85 : decode cX1_thingAt 85 = .ok (.checkcast 164, 3) := dk_192 0 164 (dk_at dksX1_thingAt_3 16 rfl rfl)
theorem dX1_thingAt_88 : decode cX1_thingAt 88 = .ok (.areturn, 1) := dk_176 (dk_at dksX1_thingAt_3 19 rfl rfl)
theorem dX1_thingAt_89 : decode cX1_thingAt 89 = .ok (.aload_n 0, 1) := dk_42 (dk_at dksX1_thingAt_3 20 rfl rfl)
theorem dX1_thingAt_90 : decode cX1_thingAt 90 = .ok (.getfield 188, 3) := dk_180 0 188 (dk_at dksX1_thingAt_3 21 rfl rfl)
theorem dX1_thingAt_93 : decode cX1_thingAt 93 = .ok (.invokevirtual 192, 3) := dk_182 0 192 (dk_at dksX1_thingAt_4 0 rfl rfl)
theorem dX1_thingAt_96 : decode cX1_thingAt 96 = .ok (.astore_n 3, 1) := dk_78 (dk_at dksX1_thingAt_4 3 rfl rfl)
theorem dX1_thingAt_97 : decode cX1_thingAt 97 = .ok (.aload_n 3, 1) := dk_45 (dk_at dksX1_thingAt_4 4 rfl rfl)
theorem dX1_thingAt_98 : decode cX1_thingAt 98 = .ok (.invokeinterface 93 1, 5) := by decide +kernel
theorem dX1_thingAt_103 : decode cX1_thingAt 103 = .ok (.checkcast 164, 3) := dk_192 0 164 (dk_at dksX1_thingAt_4 10 rfl rfl)
theorem dX1_thingAt_106 : decode cX1_thingAt 106 = .ok (.astore 4, 2) := dk_58 4 (dk_at dksX1_thingAt_4 13 rfl rfl)
theorem dX1_thingAt_108 : decode cX1_thingAt 108 = .ok (.iconst 0, 1) := dk_3 (dk_at dksX1_thingAt_4 15 rfl rfl)
theorem dX1_thingAt_109 : decode cX1_thingAt 109 = .ok (.istore 5, 2) := dk_54 5 (dk_at dksX1_thingAt_4 16 rfl rfl)
theorem dX1_thingAt_111 : decode cX1_thingAt 111 = .ok (.iload 5, 2) := dk_21 5 (dk_at dksX1_thingAt_4 18 rfl rfl)
theorem dX1_thingAt_113 : decode cX1_thingAt 113 = .ok (.iload_n 2, 1) := dk_28 (dk_at dksX1_thingAt_4 20 rfl rfl)
theorem dX1_thingAt_114 : decode cX1_thingAt 114 = .ok (.if_icmp .ge 20, 3) := dk_162 0 20 (dk_at dksX1_thingAt_4 21 rfl rfl)
theorem dX1_thingAt_117 : decode cX1_thingAt 117 = .ok (.aload_n 3, 1) := dk_45 (dk_at dksX1_thingAt_5 0 rfl rfl)
theorem dX1_thingAt_118 : decode cX1_thingAt 118 = .ok (.invokeinterface 93 1, 5) := by decide +kernel
theorem dX1_thingAt_123 : decode cX1_thingAt 123 = .ok (.checkcast 164, 3) := dk_192 0 164 (dk_at dksX1_thingAt_5 6 rfl rfl)
theorem dX1_thingAt_126 : decode cX1_thingAt 126 = .ok (.astore 4, 2) := dk_58 4 (dk_at dksX1_thingAt_5 9 rfl rfl)
theorem dX1_thingAt_128 : decode cX1_thingAt 128 = .ok (.iinc 5 1, 3) := dk_132 5 1 (dk_at dksX1_thingAt_5 11 rfl rfl)
theorem dX1_thingAt_131 : decode cX1_thingAt 131 = .ok (.goto (-20), 3) := dk_167 255 236 (dk_at dksX1_thingAt_5 14 rfl rfl)
theorem dX1_thingAt_134 : decode cX1_thingAt 134 = .ok (.aload 4, 2) := dk_25 4 (dk_at dksX1_thingAt_5 17 rfl rfl)
theorem dX1_thingAt_136 : decode cX1_thingAt 136 = .ok (.areturn, 1) := dk_176 (dk_at dksX1_thingAt_5 19 rfl rfl)
abbrev cX1_isBroken : ByteArray := prog_1_method_42_code
def yX1_isBroken : MethodName := ⟨RX1, "isBroken", "(I)Z"⟩
def dkwX1_isBroken_1 : List UInt8 := [192, 0, 184, 180, 0, 183, 172]
abbrev dktX1_isBroken_1 : List UInt8 := dkwX1_isBroken_1 ++ []
def dkwX1_isBroken_0 : List UInt8 := [27, 42, 180, 0, 198, 185, 0, 7, 1, 0, 184, 0, 235, 42, 180, 0, 198, 27, 185, 0, 13, 2, 0]
abbrev dktX1_isBroken_0 : List UInt8 := dkwX1_isBroken_0 ++ dktX1_isBroken_1
theorem dksX1_isBroken_0 : cX1_isBroken.data.toList.drop 0 = dktX1_isBroken_0 := by decide +kernel
theorem dksX1_isBroken_1 : cX1_isBroken.data.toList.drop 23 = dktX1_isBroken_1 := dk_seg dksX1_isBroken_0 23 rfl rfl
theorem dX1_isBroken_0 : decode cX1_isBroken 0 = .ok (.iload_n 1, 1) := dk_27 (dk_at dksX1_isBroken_0 0 rfl rfl)
theorem dX1_isBroken_1 : decode cX1_isBroken 1 = .ok (.aload_n 0, 1) := dk_42 (dk_at dksX1_isBroken_0 1 rfl rfl)
theorem dX1_isBroken_2 : decode cX1_isBroken 2 = .ok (.getfield 198, 3) := dk_180 0 198 (dk_at dksX1_isBroken_0 2 rfl rfl)
theorem dX1_isBroken_5 : decode cX1_isBroken 5 = .ok (.invokeinterface 7 1, 5) := by decide +kernel
theorem dX1_isBroken_10 : decode cX1_isBroken 10 = .ok (.invokestatic 235, 3) := dk_184 0 235 (dk_at dksX1_isBroken_0 10 rfl rfl)
theorem dX1_isBroken_13 : decode cX1_isBroken 13 = .ok (.aload_n 0, 1) := dk_42 (dk_at dksX1_isBroken_0 13 rfl rfl)
theorem dX1_isBroken_14 : decode cX1_isBroken 14 = .ok (.getfield 198, 3) := dk_180 0 198 (dk_at dksX1_isBroken_0 14 rfl rfl)
theorem dX1_isBroken_17 : decode cX1_isBroken 17 = .ok (.iload_n 1, 1) := dk_27 (dk_at dksX1_isBroken_0 17 rfl rfl)
theorem dX1_isBroken_18 : decode cX1_isBroken 18 = .ok (.invokeinterface 13 2, 5) := by decide +kernel
theorem dX1_isBroken_23 : decode cX1_isBroken 23 = .ok (.checkcast 184, 3) := dk_192 0 184 (dk_at dksX1_isBroken_1 0 rfl rfl)
theorem dX1_isBroken_26 : decode cX1_isBroken 26 = .ok (.getfield 183, 3) := dk_180 0 183 (dk_at dksX1_isBroken_1 3 rfl rfl)
theorem dX1_isBroken_29 : decode cX1_isBroken 29 = .ok (.ireturn, 1) := dk_172 (dk_at dksX1_isBroken_1 6 rfl rfl)
abbrev cX1_moves : ByteArray := prog_1_method_43_code
def yX1_moves : MethodName := ⟨RX1, "moves", "(II)I"⟩
def dkwX1_moves_0 : List UInt8 := [42, 27, 28, 182, 1, 59, 180, 1, 63, 172]
abbrev dktX1_moves_0 : List UInt8 := dkwX1_moves_0 ++ []
theorem dksX1_moves_0 : cX1_moves.data.toList.drop 0 = dktX1_moves_0 := by decide +kernel
theorem dX1_moves_0 : decode cX1_moves 0 = .ok (.aload_n 0, 1) := dk_42 (dk_at dksX1_moves_0 0 rfl rfl)
theorem dX1_moves_1 : decode cX1_moves 1 = .ok (.iload_n 1, 1) := dk_27 (dk_at dksX1_moves_0 1 rfl rfl)
theorem dX1_moves_2 : decode cX1_moves 2 = .ok (.iload_n 2, 1) := dk_28 (dk_at dksX1_moves_0 2 rfl rfl)
theorem dX1_moves_3 : decode cX1_moves 3 = .ok (.invokevirtual 315, 3) := dk_182 1 59 (dk_at dksX1_moves_0 3 rfl rfl)
theorem dX1_moves_6 : decode cX1_moves 6 = .ok (.getfield 319, 3) := dk_180 1 63 (dk_at dksX1_moves_0 6 rfl rfl)
theorem dX1_moves_9 : decode cX1_moves 9 = .ok (.ireturn, 1) := dk_172 (dk_at dksX1_moves_0 9 rfl rfl)
abbrev cX1_load : ByteArray := prog_1_method_44_code
def yX1_load : MethodName := ⟨RX1, "load", "(I)I"⟩
def dkwX1_load_0 : List UInt8 := [27, 42, 180, 0, 1, 185, 0, 7, 1, 0, 184, 0, 235, 42, 27, 182, 0, 173, 172]
abbrev dktX1_load_0 : List UInt8 := dkwX1_load_0 ++ []
theorem dksX1_load_0 : cX1_load.data.toList.drop 0 = dktX1_load_0 := by decide +kernel
theorem dX1_load_0 : decode cX1_load 0 = .ok (.iload_n 1, 1) := dk_27 (dk_at dksX1_load_0 0 rfl rfl)
theorem dX1_load_1 : decode cX1_load 1 = .ok (.aload_n 0, 1) := dk_42 (dk_at dksX1_load_0 1 rfl rfl)
theorem dX1_load_2 : decode cX1_load 2 = .ok (.getfield 1, 3) := dk_180 0 1 (dk_at dksX1_load_0 2 rfl rfl)
theorem dX1_load_5 : decode cX1_load 5 = .ok (.invokeinterface 7 1, 5) := by decide +kernel
theorem dX1_load_10 : decode cX1_load 10 = .ok (.invokestatic 235, 3) := dk_184 0 235 (dk_at dksX1_load_0 10 rfl rfl)
theorem dX1_load_13 : decode cX1_load 13 = .ok (.aload_n 0, 1) := dk_42 (dk_at dksX1_load_0 13 rfl rfl)
theorem dX1_load_14 : decode cX1_load 14 = .ok (.iload_n 1, 1) := dk_27 (dk_at dksX1_load_0 14 rfl rfl)
theorem dX1_load_15 : decode cX1_load 15 = .ok (.invokevirtual 173, 3) := dk_182 0 173 (dk_at dksX1_load_0 15 rfl rfl)
theorem dX1_load_18 : decode cX1_load 18 = .ok (.ireturn, 1) := dk_172 (dk_at dksX1_load_0 18 rfl rfl)
abbrev cX1_entry : ByteArray := prog_1_method_46_code
def yX1_entry : MethodName := ⟨RX1, "entry", "(I)I"⟩
def dkwX1_entry_1 : List UInt8 := [27, 46, 172]
abbrev dktX1_entry_1 : List UInt8 := dkwX1_entry_1 ++ []
def dkwX1_entry_0 : List UInt8 := [27, 155, 0, 11, 27, 42, 180, 0, 49, 161, 0, 11, 187, 1, 66, 89, 183, 1, 68, 191, 42, 180, 0, 52]
abbrev dktX1_entry_0 : List UInt8 := dkwX1_entry_0 ++ dktX1_entry_1
theorem dksX1_entry_0 : cX1_entry.data.toList.drop 0 = dktX1_entry_0 := by decide +kernel
theorem dksX1_entry_1 : cX1_entry.data.toList.drop 24 = dktX1_entry_1 := dk_seg dksX1_entry_0 24 rfl rfl
theorem dX1_entry_0 : decode cX1_entry 0 = .ok (.iload_n 1, 1) := dk_27 (dk_at dksX1_entry_0 0 rfl rfl)
theorem dX1_entry_1 : decode cX1_entry 1 = .ok (.ifCond .lt 11, 3) := dk_155 0 11 (dk_at dksX1_entry_0 1 rfl rfl)
theorem dX1_entry_4 : decode cX1_entry 4 = .ok (.iload_n 1, 1) := dk_27 (dk_at dksX1_entry_0 4 rfl rfl)
theorem dX1_entry_5 : decode cX1_entry 5 = .ok (.aload_n 0, 1) := dk_42 (dk_at dksX1_entry_0 5 rfl rfl)
theorem dX1_entry_6 : decode cX1_entry 6 = .ok (.getfield 49, 3) := dk_180 0 49 (dk_at dksX1_entry_0 6 rfl rfl)
theorem dX1_entry_9 : decode cX1_entry 9 = .ok (.if_icmp .lt 11, 3) := dk_161 0 11 (dk_at dksX1_entry_0 9 rfl rfl)
theorem dX1_entry_12 : decode cX1_entry 12 = .ok (.new 322, 3) := dk_187 1 66 (dk_at dksX1_entry_0 12 rfl rfl)
theorem dX1_entry_15 : decode cX1_entry 15 = .ok (.dup, 1) := dk_89 (dk_at dksX1_entry_0 15 rfl rfl)
theorem dX1_entry_16 : decode cX1_entry 16 = .ok (.invokespecial 324, 3) := dk_183 1 68 (dk_at dksX1_entry_0 16 rfl rfl)
theorem dX1_entry_19 : decode cX1_entry 19 = .ok (.athrow, 1) := dk_191 (dk_at dksX1_entry_0 19 rfl rfl)
theorem dX1_entry_20 : decode cX1_entry 20 = .ok (.aload_n 0, 1) := dk_42 (dk_at dksX1_entry_0 20 rfl rfl)
theorem dX1_entry_21 : decode cX1_entry 21 = .ok (.getfield 52, 3) := dk_180 0 52 (dk_at dksX1_entry_0 21 rfl rfl)
theorem dX1_entry_24 : decode cX1_entry 24 = .ok (.iload_n 1, 1) := dk_27 (dk_at dksX1_entry_1 0 rfl rfl)
theorem dX1_entry_25 : decode cX1_entry 25 = .ok (.iaload, 1) := dk_46 (dk_at dksX1_entry_1 1 rfl rfl)
theorem dX1_entry_26 : decode cX1_entry 26 = .ok (.ireturn, 1) := dk_172 (dk_at dksX1_entry_1 2 rfl rfl)
theorem q70 : (Jvm.Cond.initialized "Coreplug") ∈ lw_all := lw_g (lw_at lw_m1 1 rfl) rfl
theorem q122 : (Jvm.Cond.instantiable "Coreplug" (8 : Nat)) ∈ lw_all := lw_g (lw_at lw_m1 53 rfl) rfl
theorem q124 : (Jvm.Cond.instanceMethod ({ cls := "Coreplug", name := "<init>", desc := "()V" } : Jvm.MethodName)) ∈ lw_all := lw_g (lw_at lw_m1 55 rfl) rfl
theorem q125 : (Jvm.Cond.code ({ cls := "Coreplug", name := "<init>", desc := "()V" } : Jvm.MethodName) prog_1_method_16_code (1 : Nat) (Option.none : Option Jvm.ClassFile.FieldType)) ∈ lw_all := lw_g (lw_at lw_m1 56 rfl) rfl
theorem q126 : (Jvm.Cond.methodLink "Coreplug" (212 : Nat) ({ cls := "java/lang/Object", name := "<init>", desc := "()V" } : Jvm.MethodName)) ∈ lw_all := lw_g (lw_at lw_m1 57 rfl) rfl
theorem q129 : (Jvm.Cond.classLink "Coreplug" (38 : Nat) "Coreplug$Step") ∈ lw_all := lw_g (lw_at lw_m1 60 rfl) rfl
theorem q131 : (Jvm.Cond.classLink "Coreplug" (215 : Nat) "java/util/ArrayList") ∈ lw_all := lw_g (lw_at lw_m1 62 rfl) rfl
theorem q133 : (Jvm.Cond.methodLink "Coreplug" (217 : Nat) ({ cls := "java/util/ArrayList", name := "<init>", desc := "()V" } : Jvm.MethodName)) ∈ lw_all := lw_g (lw_at lw_m1 64 rfl) rfl
theorem q164 : (Jvm.Cond.classLink "Coreplug" (17 : Nat) "Coreplug$Core") ∈ lw_all := lw_g (lw_at lw_m1 95 rfl) rfl
theorem q166 : (Jvm.Cond.methodLink "Coreplug" (218 : Nat) ({ cls := "Coreplug$Core", name := "<init>", desc := "(LCoreplug;II)V" } : Jvm.MethodName)) ∈ lw_all := lw_g (lw_at lw_m1 97 rfl) rfl
theorem q171 : (Jvm.Cond.fieldLinkNest "Coreplug" (33 : Nat) "Coreplug$Core" "number" "I" "Coreplug") ∈ lw_tbl := lw_at lw_m1 102 rfl
theorem q173 : (Jvm.Cond.fieldLinkNest "Coreplug" (124 : Nat) "Coreplug$Core" "level" "I" "Coreplug") ∈ lw_tbl := lw_at lw_m1 104 rfl
theorem q183 : (Jvm.Cond.interfaceEntry "Coreplug" (221 : Nat)) ∈ lw_tbl := lw_at lw_m1 114 rfl
theorem q184 : (Jvm.Cond.methodLink "Coreplug" (221 : Nat) ({ cls := "java/util/List", name := "add", desc := "(Ljava/lang/Object;)Z" } : Jvm.MethodName)) ∈ lw_all := lw_g (lw_at lw_m1 115 rfl) rfl
theorem q221 : (Jvm.Cond.selects "Coreplug" ({ cls := "java/lang/Object", name := "getClass", desc := "()Ljava/lang/Class;" } : Jvm.MethodName) ({ cls := "java/lang/Object", name := "getClass", desc := "()Ljava/lang/Class;" } : Jvm.MethodName)) ∈ lw_all := lw_g (lw_at lw_m1 152 rfl) rfl
theorem q297 : (Jvm.Cond.classLink "Coreplug" (225 : Nat) "java/util/LinkedList") ∈ lw_all := lw_g (lw_at lw_m1 228 rfl) rfl
theorem q299 : (Jvm.Cond.methodLink "Coreplug" (227 : Nat) ({ cls := "java/util/LinkedList", name := "<init>", desc := "()V" } : Jvm.MethodName)) ∈ lw_all := lw_g (lw_at lw_m1 230 rfl) rfl
theorem q318 : (Jvm.Cond.classLink "Coreplug" (193 : Nat) "java/util/ArrayDeque") ∈ lw_all := lw_g (lw_at lw_m2 9 rfl) rfl
theorem q320 : (Jvm.Cond.methodLink "Coreplug" (228 : Nat) ({ cls := "java/util/ArrayDeque", name := "<init>", desc := "()V" } : Jvm.MethodName)) ∈ lw_all := lw_g (lw_at lw_m2 11 rfl) rfl
theorem q337 : (Jvm.Cond.fieldLink "Coreplug" (116 : Nat) "Coreplug" "steps" "[LCoreplug$Step;") ∈ lw_all := lw_g (lw_at lw_m2 28 rfl) rfl
theorem q338 : (Jvm.Cond.fieldLink "Coreplug" (1 : Nat) "Coreplug" "cores" "Ljava/util/List;") ∈ lw_all := lw_g (lw_at lw_m2 29 rfl) rfl
theorem q339 : (Jvm.Cond.fieldLink "Coreplug" (52 : Nat) "Coreplug" "list" "[I") ∈ lw_all := lw_g (lw_at lw_m2 30 rfl) rfl
theorem q340 : (Jvm.Cond.fieldLink "Coreplug" (49 : Nat) "Coreplug" "entries" "I") ∈ lw_all := lw_g (lw_at lw_m2 31 rfl) rfl
theorem q341 : (Jvm.Cond.fieldLink "Coreplug" (29 : Nat) "Coreplug" "isUndoing" "Z") ∈ lw_all := lw_g (lw_at lw_m2 32 rfl) rfl
theorem q342 : (Jvm.Cond.fieldLink "Coreplug" (157 : Nat) "Coreplug" "threads" "Ljava/util/List;") ∈ lw_all := lw_g (lw_at lw_m2 33 rfl) rfl
theorem q343 : (Jvm.Cond.fieldLink "Coreplug" (198 : Nat) "Coreplug" "interrupts" "Ljava/util/List;") ∈ lw_all := lw_g (lw_at lw_m2 34 rfl) rfl
theorem q344 : (Jvm.Cond.fieldLink "Coreplug" (188 : Nat) "Coreplug" "timers" "Ljava/util/ArrayDeque;") ∈ lw_all := lw_g (lw_at lw_m2 35 rfl) rfl
theorem q345 : (Jvm.Cond.laysFinal "Coreplug" "Coreplug" "steps" "[LCoreplug$Step;") ∈ lw_all := lw_g (lw_at lw_m2 36 rfl) rfl
theorem q346 : (Jvm.Cond.soleField "Coreplug" "steps") ∈ lw_all := lw_g (lw_at lw_m2 37 rfl) rfl
theorem q347 : (Jvm.Cond.laysFinal "Coreplug" "Coreplug" "cores" "Ljava/util/List;") ∈ lw_all := lw_g (lw_at lw_m2 38 rfl) rfl
theorem q348 : (Jvm.Cond.soleField "Coreplug" "cores") ∈ lw_all := lw_g (lw_at lw_m2 39 rfl) rfl
theorem q349 : (Jvm.Cond.lays "Coreplug" "Coreplug" "list" "[I") ∈ lw_all := lw_g (lw_at lw_m2 40 rfl) rfl
theorem q350 : (Jvm.Cond.soleField "Coreplug" "list") ∈ lw_all := lw_g (lw_at lw_m2 41 rfl) rfl
theorem q351 : (Jvm.Cond.lays "Coreplug" "Coreplug" "entries" "I") ∈ lw_all := lw_g (lw_at lw_m2 42 rfl) rfl
theorem q352 : (Jvm.Cond.soleField "Coreplug" "entries") ∈ lw_all := lw_g (lw_at lw_m2 43 rfl) rfl
theorem q353 : (Jvm.Cond.lays "Coreplug" "Coreplug" "isUndoing" "Z") ∈ lw_all := lw_g (lw_at lw_m2 44 rfl) rfl
theorem q354 : (Jvm.Cond.soleField "Coreplug" "isUndoing") ∈ lw_all := lw_g (lw_at lw_m2 45 rfl) rfl
theorem q355 : (Jvm.Cond.laysFinal "Coreplug" "Coreplug" "threads" "Ljava/util/List;") ∈ lw_all := lw_g (lw_at lw_m2 46 rfl) rfl
theorem q356 : (Jvm.Cond.soleField "Coreplug" "threads") ∈ lw_all := lw_g (lw_at lw_m2 47 rfl) rfl
theorem q357 : (Jvm.Cond.laysFinal "Coreplug" "Coreplug" "interrupts" "Ljava/util/List;") ∈ lw_all := lw_g (lw_at lw_m2 48 rfl) rfl
theorem q358 : (Jvm.Cond.soleField "Coreplug" "interrupts") ∈ lw_all := lw_g (lw_at lw_m2 49 rfl) rfl
theorem q359 : (Jvm.Cond.laysFinal "Coreplug" "Coreplug" "timers" "Ljava/util/ArrayDeque;") ∈ lw_all := lw_g (lw_at lw_m2 50 rfl) rfl
theorem q360 : (Jvm.Cond.soleField "Coreplug" "timers") ∈ lw_all := lw_g (lw_at lw_m2 51 rfl) rfl
theorem q361 : (Jvm.Cond.superclass "Coreplug" "java/lang/Object") ∈ lw_all := lw_g (lw_at lw_m2 52 rfl) rfl
theorem q363 : (Jvm.Cond.instanceMethod ({ cls := "Coreplug", name := "clear", desc := "()I" } : Jvm.MethodName)) ∈ lw_all := lw_g (lw_at lw_m2 54 rfl) rfl
theorem q364 : (Jvm.Cond.selects "Coreplug" ({ cls := "Coreplug", name := "clear", desc := "()I" } : Jvm.MethodName) ({ cls := "Coreplug", name := "clear", desc := "()I" } : Jvm.MethodName)) ∈ lw_all := lw_g (lw_at lw_m2 55 rfl) rfl
theorem q365 : (Jvm.Cond.code ({ cls := "Coreplug", name := "clear", desc := "()I" } : Jvm.MethodName) prog_1_method_21_code (3 : Nat) (Option.some Jvm.ClassFile.FieldType.int)) ∈ lw_all := lw_g (lw_at lw_m2 56 rfl) rfl
theorem q366 : (Jvm.Cond.interfaceEntry "Coreplug" (239 : Nat)) ∈ lw_tbl := lw_at lw_m2 57 rfl
theorem q367 : (Jvm.Cond.methodLink "Coreplug" (239 : Nat) ({ cls := "java/util/List", name := "clear", desc := "()V" } : Jvm.MethodName)) ∈ lw_all := lw_g (lw_at lw_m2 58 rfl) rfl
theorem q380 : (Jvm.Cond.methodLink "Coreplug" (242 : Nat) ({ cls := "java/util/ArrayDeque", name := "clear", desc := "()V" } : Jvm.MethodName)) ∈ lw_all := lw_g (lw_at lw_m2 71 rfl) rfl
theorem q388 : (Jvm.Cond.instanceMethod ({ cls := "Coreplug", name := "cores", desc := "()I" } : Jvm.MethodName)) ∈ lw_all := lw_g (lw_at lw_m2 79 rfl) rfl
theorem q389 : (Jvm.Cond.selects "Coreplug" ({ cls := "Coreplug", name := "cores", desc := "()I" } : Jvm.MethodName) ({ cls := "Coreplug", name := "cores", desc := "()I" } : Jvm.MethodName)) ∈ lw_all := lw_g (lw_at lw_m2 80 rfl) rfl
theorem q390 : (Jvm.Cond.code ({ cls := "Coreplug", name := "cores", desc := "()I" } : Jvm.MethodName) prog_1_method_36_code (1 : Nat) (Option.some Jvm.ClassFile.FieldType.int)) ∈ lw_all := lw_g (lw_at lw_m2 81 rfl) rfl
theorem q391 : (Jvm.Cond.interfaceEntry "Coreplug" (7 : Nat)) ∈ lw_tbl := lw_at lw_m2 82 rfl
theorem q392 : (Jvm.Cond.methodLink "Coreplug" (7 : Nat) ({ cls := "java/util/List", name := "size", desc := "()I" } : Jvm.MethodName)) ∈ lw_all := lw_g (lw_at lw_m2 83 rfl) rfl
theorem q406 : (Jvm.Cond.instanceMethod ({ cls := "Coreplug", name := "upCores", desc := "()I" } : Jvm.MethodName)) ∈ lw_all := lw_g (lw_at lw_m2 97 rfl) rfl
theorem q407 : (Jvm.Cond.selects "Coreplug" ({ cls := "Coreplug", name := "upCores", desc := "()I" } : Jvm.MethodName) ({ cls := "Coreplug", name := "upCores", desc := "()I" } : Jvm.MethodName)) ∈ lw_all := lw_g (lw_at lw_m2 98 rfl) rfl
theorem q408 : (Jvm.Cond.code ({ cls := "Coreplug", name := "upCores", desc := "()I" } : Jvm.MethodName) prog_1_method_38_code (1 : Nat) (Option.some Jvm.ClassFile.FieldType.int)) ∈ lw_all := lw_g (lw_at lw_m2 99 rfl) rfl
theorem q409 : (Jvm.Cond.methodLink "Coreplug" (131 : Nat) ({ cls := "Coreplug", name := "upSet", desc := "()I" } : Jvm.MethodName)) ∈ lw_all := lw_g (lw_at lw_m2 100 rfl) rfl
theorem q410 : (Jvm.Cond.privateMethod ({ cls := "Coreplug", name := "upSet", desc := "()I" } : Jvm.MethodName)) ∈ lw_tbl := lw_at lw_m2 101 rfl
theorem q411 : (Jvm.Cond.instanceMethod ({ cls := "Coreplug", name := "upSet", desc := "()I" } : Jvm.MethodName)) ∈ lw_all := lw_g (lw_at lw_m2 102 rfl) rfl
theorem q412 : (Jvm.Cond.code ({ cls := "Coreplug", name := "upSet", desc := "()I" } : Jvm.MethodName) prog_1_method_2_code (3 : Nat) (Option.some Jvm.ClassFile.FieldType.int)) ∈ lw_all := lw_g (lw_at lw_m2 103 rfl) rfl
theorem q413 : (Jvm.Cond.interfaceEntry "Coreplug" (13 : Nat)) ∈ lw_tbl := lw_at lw_m2 104 rfl
theorem q414 : (Jvm.Cond.methodLink "Coreplug" (13 : Nat) ({ cls := "java/util/List", name := "get", desc := "(I)Ljava/lang/Object;" } : Jvm.MethodName)) ∈ lw_all := lw_g (lw_at lw_m2 105 rfl) rfl
theorem q769 : (Jvm.Cond.methodLink "Coreplug" (19 : Nat) ({ cls := "Coreplug$Core", name := "isUp", desc := "()Z" } : Jvm.MethodName)) ∈ lw_all := lw_g (lw_at lw_m3 220 rfl) rfl
theorem q774 : (Jvm.Cond.instanceMethod ({ cls := "Coreplug", name := "entries", desc := "()I" } : Jvm.MethodName)) ∈ lw_all := lw_g (lw_at lw_m3 225 rfl) rfl
theorem q775 : (Jvm.Cond.selects "Coreplug" ({ cls := "Coreplug", name := "entries", desc := "()I" } : Jvm.MethodName) ({ cls := "Coreplug", name := "entries", desc := "()I" } : Jvm.MethodName)) ∈ lw_all := lw_g (lw_at lw_m3 226 rfl) rfl
theorem q776 : (Jvm.Cond.code ({ cls := "Coreplug", name := "entries", desc := "()I" } : Jvm.MethodName) prog_1_method_45_code (1 : Nat) (Option.some Jvm.ClassFile.FieldType.int)) ∈ lw_all := lw_g (lw_at lw_m3 227 rfl) rfl
theorem q778 : (Jvm.Cond.instanceMethod ({ cls := "Coreplug", name := "meanLoad", desc := "()D" } : Jvm.MethodName)) ∈ lw_all := lw_g (lw_at lw_m3 229 rfl) rfl
theorem q779 : (Jvm.Cond.selects "Coreplug" ({ cls := "Coreplug", name := "meanLoad", desc := "()D" } : Jvm.MethodName) ({ cls := "Coreplug", name := "meanLoad", desc := "()D" } : Jvm.MethodName)) ∈ lw_all := lw_g (lw_at lw_m3 230 rfl) rfl
theorem q780 : (Jvm.Cond.code ({ cls := "Coreplug", name := "meanLoad", desc := "()D" } : Jvm.MethodName) prog_1_method_47_code (4 : Nat) (Option.some Jvm.ClassFile.FieldType.double)) ∈ lw_all := lw_g (lw_at lw_m3 231 rfl) rfl
theorem q781 : (Jvm.Cond.interfaceEntry "Coreplug" (160 : Nat)) ∈ lw_tbl := lw_at lw_m3 232 rfl
theorem q782 : (Jvm.Cond.methodLink "Coreplug" (160 : Nat) ({ cls := "java/util/List", name := "iterator", desc := "()Ljava/util/Iterator;" } : Jvm.MethodName)) ∈ lw_all := lw_g (lw_at lw_m3 233 rfl) rfl
theorem q894 : (Jvm.Cond.interfaceEntry "Coreplug" (88 : Nat)) ∈ lw_tbl := lw_at lw_m4 105 rfl
theorem q895 : (Jvm.Cond.methodLink "Coreplug" (88 : Nat) ({ cls := "java/util/Iterator", name := "hasNext", desc := "()Z" } : Jvm.MethodName)) ∈ lw_all := lw_g (lw_at lw_m4 106 rfl) rfl
theorem q936 : (Jvm.Cond.interfaceEntry "Coreplug" (93 : Nat)) ∈ lw_tbl := lw_at lw_m4 147 rfl
theorem q937 : (Jvm.Cond.methodLink "Coreplug" (93 : Nat) ({ cls := "java/util/Iterator", name := "next", desc := "()Ljava/lang/Object;" } : Jvm.MethodName)) ∈ lw_all := lw_g (lw_at lw_m4 148 rfl) rfl
theorem q1148 : (Jvm.Cond.classLink "Coreplug" (164 : Nat) "Coreplug$Thing") ∈ lw_all := lw_g (lw_at lw_m5 119 rfl) rfl
theorem q1149 : (Jvm.Cond.methodLink "Coreplug" (325 : Nat) ({ cls := "java/lang/Integer", name := "bitCount", desc := "(I)I" } : Jvm.MethodName)) ∈ lw_all := lw_g (lw_at lw_m5 120 rfl) rfl
theorem q1156 : (Jvm.Cond.instanceMethod ({ cls := "Coreplug", name := "failed", desc := "()F" } : Jvm.MethodName)) ∈ lw_all := lw_g (lw_at lw_m5 127 rfl) rfl
theorem q1157 : (Jvm.Cond.selects "Coreplug" ({ cls := "Coreplug", name := "failed", desc := "()F" } : Jvm.MethodName) ({ cls := "Coreplug", name := "failed", desc := "()F" } : Jvm.MethodName)) ∈ lw_all := lw_g (lw_at lw_m5 128 rfl) rfl
theorem q1158 : (Jvm.Cond.code ({ cls := "Coreplug", name := "failed", desc := "()F" } : Jvm.MethodName) prog_1_method_48_code (3 : Nat) (Option.some Jvm.ClassFile.FieldType.float)) ∈ lw_all := lw_g (lw_at lw_m5 129 rfl) rfl
theorem q1160 : (Jvm.Cond.instanceMethod ({ cls := "Coreplug", name := "errors", desc := "()I" } : Jvm.MethodName)) ∈ lw_all := lw_g (lw_at lw_m5 131 rfl) rfl
theorem q1161 : (Jvm.Cond.selects "Coreplug" ({ cls := "Coreplug", name := "errors", desc := "()I" } : Jvm.MethodName) ({ cls := "Coreplug", name := "errors", desc := "()I" } : Jvm.MethodName)) ∈ lw_all := lw_g (lw_at lw_m5 132 rfl) rfl
theorem q1162 : (Jvm.Cond.code ({ cls := "Coreplug", name := "errors", desc := "()I" } : Jvm.MethodName) prog_1_method_50_code (9 : Nat) (Option.some Jvm.ClassFile.FieldType.int)) ∈ lw_all := lw_g (lw_at lw_m5 133 rfl) rfl
theorem q1163 : (Jvm.Cond.methodLink "Coreplug" (334 : Nat) ({ cls := "java/util/BitSet", name := "nextSetBit", desc := "(I)I" } : Jvm.MethodName)) ∈ lw_all := lw_g (lw_at lw_m5 134 rfl) rfl
theorem q1164 : (Jvm.Cond.methodLink "Coreplug" (337 : Nat) ({ cls := "Coreplug", name := "isRight", desc := "(LCoreplug$Step;ILCoreplug$Core;)Z" } : Jvm.MethodName)) ∈ lw_all := lw_g (lw_at lw_m5 135 rfl) rfl
theorem q1165 : (Jvm.Cond.privateMethod ({ cls := "Coreplug", name := "isRight", desc := "(LCoreplug$Step;ILCoreplug$Core;)Z" } : Jvm.MethodName)) ∈ lw_tbl := lw_at lw_m5 136 rfl
theorem q1166 : (Jvm.Cond.instanceMethod ({ cls := "Coreplug", name := "isRight", desc := "(LCoreplug$Step;ILCoreplug$Core;)Z" } : Jvm.MethodName)) ∈ lw_all := lw_g (lw_at lw_m5 137 rfl) rfl
theorem q1167 : (Jvm.Cond.code ({ cls := "Coreplug", name := "isRight", desc := "(LCoreplug$Step;ILCoreplug$Core;)Z" } : Jvm.MethodName) prog_1_method_49_code (10 : Nat) (Option.some Jvm.ClassFile.FieldType.boolean)) ∈ lw_all := lw_g (lw_at lw_m5 138 rfl) rfl
theorem q1173 : (Jvm.Cond.instanceMethod ({ cls := "Coreplug", name := "core", desc := "()I" } : Jvm.MethodName)) ∈ lw_all := lw_g (lw_at lw_m5 144 rfl) rfl
theorem q1174 : (Jvm.Cond.selects "Coreplug" ({ cls := "Coreplug", name := "core", desc := "()I" } : Jvm.MethodName) ({ cls := "Coreplug", name := "core", desc := "()I" } : Jvm.MethodName)) ∈ lw_all := lw_g (lw_at lw_m5 145 rfl) rfl
theorem q1175 : (Jvm.Cond.code ({ cls := "Coreplug", name := "core", desc := "()I" } : Jvm.MethodName) prog_1_method_22_code (1 : Nat) (Option.some Jvm.ClassFile.FieldType.int)) ∈ lw_all := lw_g (lw_at lw_m5 146 rfl) rfl
theorem q1176 : (Jvm.Cond.methodLink "Coreplug" (243 : Nat) ({ cls := "Coreplug", name := "checkState", desc := "(Z)V" } : Jvm.MethodName)) ∈ lw_all := lw_g (lw_at lw_m5 147 rfl) rfl
theorem q1177 : (Jvm.Cond.static ({ cls := "Coreplug", name := "checkState", desc := "(Z)V" } : Jvm.MethodName)) ∈ lw_all := lw_g (lw_at lw_m5 148 rfl) rfl
theorem q1178 : (Jvm.Cond.code ({ cls := "Coreplug", name := "checkState", desc := "(Z)V" } : Jvm.MethodName) prog_1_method_19_code (1 : Nat) (Option.none : Option Jvm.ClassFile.FieldType)) ∈ lw_all := lw_g (lw_at lw_m5 149 rfl) rfl
theorem q1179 : (Jvm.Cond.classLink "Coreplug" (80 : Nat) "java/lang/IllegalStateException") ∈ lw_all := lw_g (lw_at lw_m5 150 rfl) rfl
theorem q1188 : (Jvm.Cond.methodLink "Coreplug" (82 : Nat) ({ cls := "java/lang/IllegalStateException", name := "<init>", desc := "()V" } : Jvm.MethodName)) ∈ lw_all := lw_g (lw_at lw_m5 159 rfl) rfl
theorem q1199 : (Jvm.Cond.instanceMethod ({ cls := "Coreplug", name := "add", desc := "(IZZZ)I" } : Jvm.MethodName)) ∈ lw_all := lw_g (lw_at lw_m5 170 rfl) rfl
theorem q1200 : (Jvm.Cond.selects "Coreplug" ({ cls := "Coreplug", name := "add", desc := "(IZZZ)I" } : Jvm.MethodName) ({ cls := "Coreplug", name := "add", desc := "(IZZZ)I" } : Jvm.MethodName)) ∈ lw_all := lw_g (lw_at lw_m5 171 rfl) rfl
theorem q1201 : (Jvm.Cond.code ({ cls := "Coreplug", name := "add", desc := "(IZZZ)I" } : Jvm.MethodName) prog_1_method_26_code (6 : Nat) (Option.some Jvm.ClassFile.FieldType.int)) ∈ lw_all := lw_g (lw_at lw_m5 172 rfl) rfl
theorem q1202 : (Jvm.Cond.methodLink "Coreplug" (274 : Nat) ({ cls := "Coreplug", name := "checkRange", desc := "(III)V" } : Jvm.MethodName)) ∈ lw_all := lw_g (lw_at lw_m5 173 rfl) rfl
theorem q1203 : (Jvm.Cond.static ({ cls := "Coreplug", name := "checkRange", desc := "(III)V" } : Jvm.MethodName)) ∈ lw_all := lw_g (lw_at lw_m5 174 rfl) rfl
theorem q1204 : (Jvm.Cond.code ({ cls := "Coreplug", name := "checkRange", desc := "(III)V" } : Jvm.MethodName) prog_1_method_17_code (3 : Nat) (Option.none : Option Jvm.ClassFile.FieldType)) ∈ lw_all := lw_g (lw_at lw_m5 175 rfl) rfl
theorem q1205 : (Jvm.Cond.classLink "Coreplug" (229 : Nat) "java/lang/IllegalArgumentException") ∈ lw_all := lw_g (lw_at lw_m5 176 rfl) rfl
theorem q1206 : (Jvm.Cond.methodLink "Coreplug" (231 : Nat) ({ cls := "java/lang/IllegalArgumentException", name := "<init>", desc := "()V" } : Jvm.MethodName)) ∈ lw_all := lw_g (lw_at lw_m5 177 rfl) rfl
theorem q1211 : (Jvm.Cond.methodLink "Coreplug" (278 : Nat) ({ cls := "Coreplug$Step", name := "<init>", desc := "(IZZZ)V" } : Jvm.MethodName)) ∈ lw_all := lw_g (lw_at lw_m5 182 rfl) rfl
theorem q1236 : (Jvm.Cond.fieldLinkNest "Coreplug" (43 : Nat) "Coreplug$Step" "place" "I" "Coreplug") ∈ lw_tbl := lw_at lw_m5 207 rfl
theorem q1239 : (Jvm.Cond.fieldLinkNest "Coreplug" (328 : Nat) "Coreplug$Step" "starts" "Z" "Coreplug") ∈ lw_tbl := lw_at lw_m5 210 rfl
theorem q1242 : (Jvm.Cond.fieldLinkNest "Coreplug" (331 : Nat) "Coreplug$Step" "stops" "Z" "Coreplug") ∈ lw_tbl := lw_at lw_m5 213 rfl
theorem q1244 : (Jvm.Cond.fieldLinkNest "Coreplug" (301 : Nat) "Coreplug$Step" "single" "Z" "Coreplug") ∈ lw_tbl := lw_at lw_m5 215 rfl
theorem q1247 : (Jvm.Cond.fieldLinkNest "Coreplug" (247 : Nat) "Coreplug$Step" "instances" "Ljava/util/BitSet;" "Coreplug") ∈ lw_tbl := lw_at lw_m5 218 rfl
theorem q1249 : (Jvm.Cond.fieldLinkNest "Coreplug" (255 : Nat) "Coreplug$Step" "since" "[I" "Coreplug") ∈ lw_tbl := lw_at lw_m5 220 rfl
theorem q1266 : (Jvm.Cond.methodLink "Coreplug" (281 : Nat) ({ cls := "Coreplug", name := "begins", desc := "(LCoreplug$Step;I)Z" } : Jvm.MethodName)) ∈ lw_all := lw_g (lw_at lw_m5 237 rfl) rfl
theorem q1267 : (Jvm.Cond.privateMethod ({ cls := "Coreplug", name := "begins", desc := "(LCoreplug$Step;I)Z" } : Jvm.MethodName)) ∈ lw_tbl := lw_at lw_m5 238 rfl
theorem q1268 : (Jvm.Cond.instanceMethod ({ cls := "Coreplug", name := "begins", desc := "(LCoreplug$Step;I)Z" } : Jvm.MethodName)) ∈ lw_all := lw_g (lw_at lw_m5 239 rfl) rfl
theorem q1269 : (Jvm.Cond.codeWith ({ cls := "Coreplug", name := "begins", desc := "(LCoreplug$Step;I)Z" } : Jvm.MethodName) prog_1_method_24_code (6 : Nat) (Option.some Jvm.ClassFile.FieldType.boolean) [((26 : Nat), (92 : Nat), (93 : Nat), (66 : Nat))]) ∈ lw_all := lw_g (lw_at lw_m6 0 rfl) rfl
theorem q1270 : (Jvm.Cond.classLink "Coreplug" (66 : Nat) "Coreplug$BadCall") ∈ lw_all := lw_g (lw_at lw_m6 1 rfl) rfl
theorem q1271 : (Jvm.Cond.methodLink "Coreplug" (251 : Nat) ({ cls := "java/util/BitSet", name := "set", desc := "(I)V" } : Jvm.MethodName)) ∈ lw_all := lw_g (lw_at lw_m6 2 rfl) rfl
theorem q1293 : (Jvm.Cond.fieldLink "Coreplug" (62 : Nat) "Coreplug$Way" "STARTING" "LCoreplug$Way;") ∈ lw_all := lw_g (lw_at lw_m6 24 rfl) rfl
theorem q1295 : (Jvm.Cond.methodLink "Coreplug" (102 : Nat) ({ cls := "Coreplug", name := "call", desc := "(LCoreplug$Core;LCoreplug$Step;ILCoreplug$Way;)V" } : Jvm.MethodName)) ∈ lw_all := lw_g (lw_at lw_m6 26 rfl) rfl
theorem q1296 : (Jvm.Cond.privateMethod ({ cls := "Coreplug", name := "call", desc := "(LCoreplug$Core;LCoreplug$Step;ILCoreplug$Way;)V" } : Jvm.MethodName)) ∈ lw_tbl := lw_at lw_m6 27 rfl
theorem q1297 : (Jvm.Cond.instanceMethod ({ cls := "Coreplug", name := "call", desc := "(LCoreplug$Core;LCoreplug$Step;ILCoreplug$Way;)V" } : Jvm.MethodName)) ∈ lw_all := lw_g (lw_at lw_m6 28 rfl) rfl
theorem q1298 : (Jvm.Cond.code ({ cls := "Coreplug", name := "call", desc := "(LCoreplug$Core;LCoreplug$Step;ILCoreplug$Way;)V" } : Jvm.MethodName) prog_1_method_3_code (8 : Nat) (Option.none : Option Jvm.ClassFile.FieldType)) ∈ lw_all := lw_g (lw_at lw_m6 29 rfl) rfl
theorem q1299 : (Jvm.Cond.methodLink "Coreplug" (23 : Nat) ({ cls := "Coreplug$Way", name := "has", desc := "(LCoreplug$Step;)Z" } : Jvm.MethodName)) ∈ lw_all := lw_g (lw_at lw_m6 30 rfl) rfl
theorem q1308 : (Jvm.Cond.methodLink "Coreplug" (37 : Nat) ({ cls := "Coreplug$Step", name := "takesFailure", desc := "(IILCoreplug$Way;)Z" } : Jvm.MethodName)) ∈ lw_all := lw_g (lw_at lw_m6 39 rfl) rfl
theorem q1322 : (Jvm.Cond.methodLink "Coreplug" (46 : Nat) ({ cls := "Coreplug", name := "control", desc := "()I" } : Jvm.MethodName)) ∈ lw_all := lw_g (lw_at lw_m6 53 rfl) rfl
theorem q1323 : (Jvm.Cond.privateMethod ({ cls := "Coreplug", name := "control", desc := "()I" } : Jvm.MethodName)) ∈ lw_tbl := lw_at lw_m6 54 rfl
theorem q1324 : (Jvm.Cond.instanceMethod ({ cls := "Coreplug", name := "control", desc := "()I" } : Jvm.MethodName)) ∈ lw_all := lw_g (lw_at lw_m6 55 rfl) rfl
theorem q1325 : (Jvm.Cond.code ({ cls := "Coreplug", name := "control", desc := "()I" } : Jvm.MethodName) prog_1_method_1_code (2 : Nat) (Option.some Jvm.ClassFile.FieldType.int)) ∈ lw_all := lw_g (lw_at lw_m6 56 rfl) rfl
theorem q1326 : (Jvm.Cond.methodLink "Coreplug" (56 : Nat) ({ cls := "java/lang/System", name := "arraycopy", desc := "(Ljava/lang/Object;ILjava/lang/Object;II)V" } : Jvm.MethodName)) ∈ lw_all := lw_g (lw_at lw_m6 57 rfl) rfl
theorem q1335 : (Jvm.Cond.methodLink "Coreplug" (68 : Nat) ({ cls := "Coreplug$BadCall", name := "<init>", desc := "(I)V" } : Jvm.MethodName)) ∈ lw_all := lw_g (lw_at lw_m6 66 rfl) rfl
theorem q1348 : (Jvm.Cond.fieldLinkNest "Coreplug" (106 : Nat) "Coreplug$BadCall" "instance" "I" "Coreplug") ∈ lw_tbl := lw_at lw_m6 79 rfl
theorem q1353 : (Jvm.Cond.methodLink "Coreplug" (258 : Nat) ({ cls := "java/util/ArrayDeque", name := "addFirst", desc := "(Ljava/lang/Object;)V" } : Jvm.MethodName)) ∈ lw_all := lw_g (lw_at lw_m6 84 rfl) rfl
theorem q1378 : (Jvm.Cond.privateMethod ({ cls := "Coreplug", name := "lambda$begins$2", desc := "(Ljava/util/ArrayDeque;LCoreplug$Step;I)V" } : Jvm.MethodName)) ∈ lw_tbl := lw_at lw_m6 109 rfl
theorem q1379 : (Jvm.Cond.instanceMethod ({ cls := "Coreplug", name := "lambda$begins$2", desc := "(Ljava/util/ArrayDeque;LCoreplug$Step;I)V" } : Jvm.MethodName)) ∈ lw_all := lw_g (lw_at lw_m6 110 rfl) rfl
theorem q1380 : (Jvm.Cond.code ({ cls := "Coreplug", name := "lambda$begins$2", desc := "(Ljava/util/ArrayDeque;LCoreplug$Step;I)V" } : Jvm.MethodName) prog_1_method_52_code (6 : Nat) (Option.none : Option Jvm.ClassFile.FieldType)) ∈ lw_all := lw_g (lw_at lw_m6 111 rfl) rfl
theorem q1381 : (Jvm.Cond.methodLink "Coreplug" (192 : Nat) ({ cls := "java/util/ArrayDeque", name := "iterator", desc := "()Ljava/util/Iterator;" } : Jvm.MethodName)) ∈ lw_all := lw_g (lw_at lw_m6 112 rfl) rfl
theorem q1411 : (Jvm.Cond.fieldLink "Coreplug" (144 : Nat) "Coreplug$Way" "STOPPING" "LCoreplug$Way;") ∈ lw_all := lw_g (lw_at lw_m6 142 rfl) rfl
theorem q1413 : (Jvm.Cond.methodLink "Coreplug" (112 : Nat) ({ cls := "Coreplug", name := "undo", desc := "(LCoreplug$Undone;)V" } : Jvm.MethodName)) ∈ lw_all := lw_g (lw_at lw_m6 144 rfl) rfl
theorem q1414 : (Jvm.Cond.privateMethod ({ cls := "Coreplug", name := "undo", desc := "(LCoreplug$Undone;)V" } : Jvm.MethodName)) ∈ lw_tbl := lw_at lw_m6 145 rfl
theorem q1415 : (Jvm.Cond.instanceMethod ({ cls := "Coreplug", name := "undo", desc := "(LCoreplug$Undone;)V" } : Jvm.MethodName)) ∈ lw_all := lw_g (lw_at lw_m6 146 rfl) rfl
theorem q1416 : (Jvm.Cond.codeWith ({ cls := "Coreplug", name := "undo", desc := "(LCoreplug$Undone;)V" } : Jvm.MethodName) prog_1_method_4_code (5 : Nat) (Option.none : Option Jvm.ClassFile.FieldType) [((10 : Nat), (16 : Nat), (24 : Nat), (78 : Nat)), ((10 : Nat), (16 : Nat), (33 : Nat), (0 : Nat)), ((24 : Nat), (35 : Nat), (33 : Nat), (0 : Nat))]) ∈ lw_all := lw_g (lw_at lw_m6 147 rfl) rfl
theorem q1417 : (Jvm.Cond.classLink "Coreplug" (78 : Nat) "Coreplug$Failed") ∈ lw_all := lw_g (lw_at lw_m6 148 rfl) rfl
theorem q1418 : (Jvm.Cond.interfaceEntry "Coreplug" (72 : Nat)) ∈ lw_tbl := lw_at lw_m6 149 rfl
theorem q1419 : (Jvm.Cond.methodLink "Coreplug" (72 : Nat) ({ cls := "Coreplug$Undone", name := "run", desc := "()V" } : Jvm.MethodName)) ∈ lw_all := lw_g (lw_at lw_m6 150 rfl) rfl
theorem q1422 : (Jvm.Cond.methodLink "Coreplug" (265 : Nat) ({ cls := "java/util/BitSet", name := "clear", desc := "(I)V" } : Jvm.MethodName)) ∈ lw_all := lw_g (lw_at lw_m6 153 rfl) rfl
theorem q1430 : (Jvm.Cond.methodLink "Coreplug" (285 : Nat) ({ cls := "Coreplug", name := "countSteps", desc := "()I" } : Jvm.MethodName)) ∈ lw_all := lw_g (lw_at lw_m6 161 rfl) rfl
theorem q1431 : (Jvm.Cond.privateMethod ({ cls := "Coreplug", name := "countSteps", desc := "()I" } : Jvm.MethodName)) ∈ lw_tbl := lw_at lw_m6 162 rfl
theorem q1432 : (Jvm.Cond.instanceMethod ({ cls := "Coreplug", name := "countSteps", desc := "()I" } : Jvm.MethodName)) ∈ lw_all := lw_g (lw_at lw_m6 163 rfl) rfl
theorem q1433 : (Jvm.Cond.code ({ cls := "Coreplug", name := "countSteps", desc := "()I" } : Jvm.MethodName) prog_1_method_23_code (6 : Nat) (Option.some Jvm.ClassFile.FieldType.int)) ∈ lw_all := lw_g (lw_at lw_m6 164 rfl) rfl
theorem q1454 : (Jvm.Cond.instanceMethod ({ cls := "Coreplug", name := "remove", desc := "(I)I" } : Jvm.MethodName)) ∈ lw_all := lw_g (lw_at lw_m6 185 rfl) rfl
theorem q1455 : (Jvm.Cond.selects "Coreplug" ({ cls := "Coreplug", name := "remove", desc := "(I)I" } : Jvm.MethodName) ({ cls := "Coreplug", name := "remove", desc := "(I)I" } : Jvm.MethodName)) ∈ lw_all := lw_g (lw_at lw_m6 186 rfl) rfl
theorem q1456 : (Jvm.Cond.code ({ cls := "Coreplug", name := "remove", desc := "(I)I" } : Jvm.MethodName) prog_1_method_27_code (5 : Nat) (Option.some Jvm.ClassFile.FieldType.int)) ∈ lw_all := lw_g (lw_at lw_m6 187 rfl) rfl
theorem q1457 : (Jvm.Cond.methodLink "Coreplug" (288 : Nat) ({ cls := "Coreplug", name := "stepAt", desc := "(I)LCoreplug$Step;" } : Jvm.MethodName)) ∈ lw_all := lw_g (lw_at lw_m6 188 rfl) rfl
theorem q1458 : (Jvm.Cond.privateMethod ({ cls := "Coreplug", name := "stepAt", desc := "(I)LCoreplug$Step;" } : Jvm.MethodName)) ∈ lw_tbl := lw_at lw_m6 189 rfl
theorem q1459 : (Jvm.Cond.instanceMethod ({ cls := "Coreplug", name := "stepAt", desc := "(I)LCoreplug$Step;" } : Jvm.MethodName)) ∈ lw_all := lw_g (lw_at lw_m6 190 rfl) rfl
theorem q1460 : (Jvm.Cond.code ({ cls := "Coreplug", name := "stepAt", desc := "(I)LCoreplug$Step;" } : Jvm.MethodName) prog_1_method_20_code (2 : Nat) (Option.some (Jvm.ClassFile.FieldType.object "Coreplug$Step"))) ∈ lw_all := lw_g (lw_at lw_m6 191 rfl) rfl
theorem q1461 : (Jvm.Cond.methodLink "Coreplug" (235 : Nat) ({ cls := "Coreplug", name := "checkIndex", desc := "(II)V" } : Jvm.MethodName)) ∈ lw_all := lw_g (lw_at lw_m6 192 rfl) rfl
theorem q1462 : (Jvm.Cond.static ({ cls := "Coreplug", name := "checkIndex", desc := "(II)V" } : Jvm.MethodName)) ∈ lw_all := lw_g (lw_at lw_m6 193 rfl) rfl
theorem q1463 : (Jvm.Cond.code ({ cls := "Coreplug", name := "checkIndex", desc := "(II)V" } : Jvm.MethodName) prog_1_method_18_code (2 : Nat) (Option.none : Option Jvm.ClassFile.FieldType)) ∈ lw_all := lw_g (lw_at lw_m6 194 rfl) rfl
theorem q1464 : (Jvm.Cond.classLink "Coreplug" (232 : Nat) "java/lang/IndexOutOfBoundsException") ∈ lw_all := lw_g (lw_at lw_m6 195 rfl) rfl
theorem q1465 : (Jvm.Cond.methodLink "Coreplug" (234 : Nat) ({ cls := "java/lang/IndexOutOfBoundsException", name := "<init>", desc := "()V" } : Jvm.MethodName)) ∈ lw_all := lw_g (lw_at lw_m6 196 rfl) rfl
theorem q1469 : (Jvm.Cond.methodLink "Coreplug" (292 : Nat) ({ cls := "java/util/BitSet", name := "get", desc := "(I)Z" } : Jvm.MethodName)) ∈ lw_all := lw_g (lw_at lw_m6 200 rfl) rfl
theorem q1473 : (Jvm.Cond.methodLink "Coreplug" (294 : Nat) ({ cls := "Coreplug", name := "ends", desc := "(LCoreplug$Step;I)V" } : Jvm.MethodName)) ∈ lw_all := lw_g (lw_at lw_m6 204 rfl) rfl
theorem q1474 : (Jvm.Cond.privateMethod ({ cls := "Coreplug", name := "ends", desc := "(LCoreplug$Step;I)V" } : Jvm.MethodName)) ∈ lw_tbl := lw_at lw_m6 205 rfl
theorem q1475 : (Jvm.Cond.instanceMethod ({ cls := "Coreplug", name := "ends", desc := "(LCoreplug$Step;I)V" } : Jvm.MethodName)) ∈ lw_all := lw_g (lw_at lw_m6 206 rfl) rfl
theorem q1476 : (Jvm.Cond.code ({ cls := "Coreplug", name := "ends", desc := "(LCoreplug$Step;I)V" } : Jvm.MethodName) prog_1_method_25_code (5 : Nat) (Option.none : Option Jvm.ClassFile.FieldType)) ∈ lw_all := lw_g (lw_at lw_m6 207 rfl) rfl
theorem q1477 : (Jvm.Cond.privateMethod ({ cls := "Coreplug", name := "lambda$ends$3", desc := "(LCoreplug$Step;I)V" } : Jvm.MethodName)) ∈ lw_tbl := lw_at lw_m6 208 rfl
theorem q1478 : (Jvm.Cond.instanceMethod ({ cls := "Coreplug", name := "lambda$ends$3", desc := "(LCoreplug$Step;I)V" } : Jvm.MethodName)) ∈ lw_all := lw_g (lw_at lw_m6 209 rfl) rfl
theorem q1479 : (Jvm.Cond.code ({ cls := "Coreplug", name := "lambda$ends$3", desc := "(LCoreplug$Step;I)V" } : Jvm.MethodName) prog_1_method_51_code (4 : Nat) (Option.none : Option Jvm.ClassFile.FieldType)) ∈ lw_all := lw_g (lw_at lw_m6 210 rfl) rfl
theorem q1480 : (Jvm.Cond.methodLink "Coreplug" (270 : Nat) ({ cls := "Coreplug$Step", name := "setFailures", desc := "(IILCoreplug$Way;I)I" } : Jvm.MethodName)) ∈ lw_all := lw_g (lw_at lw_m6 211 rfl) rfl
theorem q1488 : (Jvm.Cond.instanceMethod ({ cls := "Coreplug", name := "instance", desc := "(I)I" } : Jvm.MethodName)) ∈ lw_all := lw_g (lw_at lw_m6 219 rfl) rfl
theorem q1489 : (Jvm.Cond.selects "Coreplug" ({ cls := "Coreplug", name := "instance", desc := "(I)I" } : Jvm.MethodName) ({ cls := "Coreplug", name := "instance", desc := "(I)I" } : Jvm.MethodName)) ∈ lw_all := lw_g (lw_at lw_m6 220 rfl) rfl
theorem q1490 : (Jvm.Cond.code ({ cls := "Coreplug", name := "instance", desc := "(I)I" } : Jvm.MethodName) prog_1_method_28_code (4 : Nat) (Option.some Jvm.ClassFile.FieldType.int)) ∈ lw_all := lw_g (lw_at lw_m6 221 rfl) rfl
theorem q1491 : (Jvm.Cond.methodLink "Coreplug" (298 : Nat) ({ cls := "java/util/BitSet", name := "nextClearBit", desc := "(I)I" } : Jvm.MethodName)) ∈ lw_all := lw_g (lw_at lw_m6 222 rfl) rfl
theorem q1499 : (Jvm.Cond.instanceMethod ({ cls := "Coreplug", name := "retire", desc := "(II)I" } : Jvm.MethodName)) ∈ lw_all := lw_g (lw_at lw_m6 230 rfl) rfl
theorem q1500 : (Jvm.Cond.selects "Coreplug" ({ cls := "Coreplug", name := "retire", desc := "(II)I" } : Jvm.MethodName) ({ cls := "Coreplug", name := "retire", desc := "(II)I" } : Jvm.MethodName)) ∈ lw_all := lw_g (lw_at lw_m6 231 rfl) rfl
theorem q1501 : (Jvm.Cond.code ({ cls := "Coreplug", name := "retire", desc := "(II)I" } : Jvm.MethodName) prog_1_method_29_code (5 : Nat) (Option.some Jvm.ClassFile.FieldType.int)) ∈ lw_all := lw_g (lw_at lw_m6 232 rfl) rfl
theorem q1506 : (Jvm.Cond.instanceMethod ({ cls := "Coreplug", name := "fail", desc := "(IIIZI)I" } : Jvm.MethodName)) ∈ lw_all := lw_g (lw_at lw_m6 237 rfl) rfl
theorem q1507 : (Jvm.Cond.selects "Coreplug" ({ cls := "Coreplug", name := "fail", desc := "(IIIZI)I" } : Jvm.MethodName) ({ cls := "Coreplug", name := "fail", desc := "(IIIZI)I" } : Jvm.MethodName)) ∈ lw_all := lw_g (lw_at lw_m6 238 rfl) rfl
theorem q1508 : (Jvm.Cond.code ({ cls := "Coreplug", name := "fail", desc := "(IIIZI)I" } : Jvm.MethodName) prog_1_method_30_code (7 : Nat) (Option.some Jvm.ClassFile.FieldType.int)) ∈ lw_all := lw_g (lw_at lw_m6 239 rfl) rfl
theorem q1513 : (Jvm.Cond.instanceMethod ({ cls := "Coreplug", name := "up", desc := "(II)I" } : Jvm.MethodName)) ∈ lw_all := lw_g (lw_at lw_m7 4 rfl) rfl
theorem q1514 : (Jvm.Cond.selects "Coreplug" ({ cls := "Coreplug", name := "up", desc := "(II)I" } : Jvm.MethodName) ({ cls := "Coreplug", name := "up", desc := "(II)I" } : Jvm.MethodName)) ∈ lw_all := lw_g (lw_at lw_m7 5 rfl) rfl
theorem q1515 : (Jvm.Cond.code ({ cls := "Coreplug", name := "up", desc := "(II)I" } : Jvm.MethodName) prog_1_method_31_code (3 : Nat) (Option.some Jvm.ClassFile.FieldType.int)) ∈ lw_all := lw_g (lw_at lw_m7 6 rfl) rfl
theorem q1516 : (Jvm.Cond.methodLink "Coreplug" (304 : Nat) ({ cls := "Coreplug", name := "bring", desc := "(II)I" } : Jvm.MethodName)) ∈ lw_all := lw_g (lw_at lw_m7 7 rfl) rfl
theorem q1517 : (Jvm.Cond.privateMethod ({ cls := "Coreplug", name := "bring", desc := "(II)I" } : Jvm.MethodName)) ∈ lw_tbl := lw_at lw_m7 8 rfl
theorem q1518 : (Jvm.Cond.instanceMethod ({ cls := "Coreplug", name := "bring", desc := "(II)I" } : Jvm.MethodName)) ∈ lw_all := lw_g (lw_at lw_m7 9 rfl) rfl
theorem q1519 : (Jvm.Cond.codeWith ({ cls := "Coreplug", name := "bring", desc := "(II)I" } : Jvm.MethodName) prog_1_method_9_code (5 : Nat) (Option.some Jvm.ClassFile.FieldType.int) [((14 : Nat), (20 : Nat), (23 : Nat), (78 : Nat))]) ∈ lw_all := lw_g (lw_at lw_m7 10 rfl) rfl
theorem q1520 : (Jvm.Cond.methodLink "Coreplug" (153 : Nat) ({ cls := "Coreplug", name := "go", desc := "(LCoreplug$Core;I)V" } : Jvm.MethodName)) ∈ lw_all := lw_g (lw_at lw_m7 11 rfl) rfl
theorem q1521 : (Jvm.Cond.privateMethod ({ cls := "Coreplug", name := "go", desc := "(LCoreplug$Core;I)V" } : Jvm.MethodName)) ∈ lw_tbl := lw_at lw_m7 12 rfl
theorem q1522 : (Jvm.Cond.instanceMethod ({ cls := "Coreplug", name := "go", desc := "(LCoreplug$Core;I)V" } : Jvm.MethodName)) ∈ lw_all := lw_g (lw_at lw_m7 13 rfl) rfl
theorem q1523 : (Jvm.Cond.codeWith ({ cls := "Coreplug", name := "go", desc := "(LCoreplug$Core;I)V" } : Jvm.MethodName) prog_1_method_8_code (5 : Nat) (Option.none : Option Jvm.ClassFile.FieldType) [((5 : Nat), (53 : Nat), (56 : Nat), (66 : Nat)), ((5 : Nat), (53 : Nat), (56 : Nat), (134 : Nat))]) ∈ lw_all := lw_g (lw_at lw_m7 14 rfl) rfl
theorem q1524 : (Jvm.Cond.classLink "Coreplug" (134 : Nat) "Coreplug$LastCore") ∈ lw_all := lw_g (lw_at lw_m7 15 rfl) rfl
theorem q1525 : (Jvm.Cond.methodLink "Coreplug" (140 : Nat) ({ cls := "Coreplug", name := "pass", desc := "(LCoreplug$Core;ILCoreplug$Way;)V" } : Jvm.MethodName)) ∈ lw_all := lw_g (lw_at lw_m7 16 rfl) rfl
theorem q1526 : (Jvm.Cond.privateMethod ({ cls := "Coreplug", name := "pass", desc := "(LCoreplug$Core;ILCoreplug$Way;)V" } : Jvm.MethodName)) ∈ lw_tbl := lw_at lw_m7 17 rfl
theorem q1527 : (Jvm.Cond.instanceMethod ({ cls := "Coreplug", name := "pass", desc := "(LCoreplug$Core;ILCoreplug$Way;)V" } : Jvm.MethodName)) ∈ lw_all := lw_g (lw_at lw_m7 18 rfl) rfl
theorem q1528 : (Jvm.Cond.code ({ cls := "Coreplug", name := "pass", desc := "(LCoreplug$Core;ILCoreplug$Way;)V" } : Jvm.MethodName) prog_1_method_7_code (4 : Nat) (Option.none : Option Jvm.ClassFile.FieldType)) ∈ lw_all := lw_g (lw_at lw_m7 19 rfl) rfl
theorem q1529 : (Jvm.Cond.methodLink "Coreplug" (120 : Nat) ({ cls := "Coreplug", name := "goAlong", desc := "(LCoreplug$Core;LCoreplug$Step;LCoreplug$Way;)V" } : Jvm.MethodName)) ∈ lw_all := lw_g (lw_at lw_m7 20 rfl) rfl
theorem q1530 : (Jvm.Cond.privateMethod ({ cls := "Coreplug", name := "goAlong", desc := "(LCoreplug$Core;LCoreplug$Step;LCoreplug$Way;)V" } : Jvm.MethodName)) ∈ lw_tbl := lw_at lw_m7 21 rfl
theorem q1531 : (Jvm.Cond.instanceMethod ({ cls := "Coreplug", name := "goAlong", desc := "(LCoreplug$Core;LCoreplug$Step;LCoreplug$Way;)V" } : Jvm.MethodName)) ∈ lw_all := lw_g (lw_at lw_m7 22 rfl) rfl
theorem q1532 : (Jvm.Cond.codeWith ({ cls := "Coreplug", name := "goAlong", desc := "(LCoreplug$Core;LCoreplug$Step;LCoreplug$Way;)V" } : Jvm.MethodName) prog_1_method_5_code (8 : Nat) (Option.none : Option Jvm.ClassFile.FieldType) [((32 : Nat), (65 : Nat), (68 : Nat), (66 : Nat))]) ∈ lw_all := lw_g (lw_at lw_m7 23 rfl) rfl
theorem q1533 : (Jvm.Cond.methodLink "Coreplug" (84 : Nat) ({ cls := "Coreplug$Step", name := "along", desc := "(ZI)Ljava/util/Iterator;" } : Jvm.MethodName)) ∈ lw_all := lw_g (lw_at lw_m7 24 rfl) rfl
theorem q1555 : (Jvm.Cond.classLink "Coreplug" (97 : Nat) "java/lang/Integer") ∈ lw_all := lw_g (lw_at lw_m7 46 rfl) rfl
theorem q1556 : (Jvm.Cond.methodLink "Coreplug" (99 : Nat) ({ cls := "java/lang/Integer", name := "intValue", desc := "()I" } : Jvm.MethodName)) ∈ lw_all := lw_g (lw_at lw_m7 47 rfl) rfl
theorem q1560 : (Jvm.Cond.privateMethod ({ cls := "Coreplug", name := "lambda$goAlong$0", desc := "(LCoreplug$Core;LCoreplug$Step;LCoreplug$Way;I)V" } : Jvm.MethodName)) ∈ lw_tbl := lw_at lw_m7 51 rfl
theorem q1561 : (Jvm.Cond.instanceMethod ({ cls := "Coreplug", name := "lambda$goAlong$0", desc := "(LCoreplug$Core;LCoreplug$Step;LCoreplug$Way;I)V" } : Jvm.MethodName)) ∈ lw_all := lw_g (lw_at lw_m7 52 rfl) rfl
theorem q1562 : (Jvm.Cond.code ({ cls := "Coreplug", name := "lambda$goAlong$0", desc := "(LCoreplug$Core;LCoreplug$Step;LCoreplug$Way;I)V" } : Jvm.MethodName) prog_1_method_54_code (5 : Nat) (Option.none : Option Jvm.ClassFile.FieldType)) ∈ lw_all := lw_g (lw_at lw_m7 53 rfl) rfl
theorem q1563 : (Jvm.Cond.methodLink "Coreplug" (341 : Nat) ({ cls := "Coreplug$Way", name := "back", desc := "()LCoreplug$Way;" } : Jvm.MethodName)) ∈ lw_all := lw_g (lw_at lw_m7 54 rfl) rfl
theorem q1576 : (Jvm.Cond.methodLink "Coreplug" (345 : Nat) ({ cls := "Coreplug", name := "goFrom", desc := "(LCoreplug$Core;LCoreplug$Step;LCoreplug$Way;I)V" } : Jvm.MethodName)) ∈ lw_all := lw_g (lw_at lw_m7 67 rfl) rfl
theorem q1577 : (Jvm.Cond.privateMethod ({ cls := "Coreplug", name := "goFrom", desc := "(LCoreplug$Core;LCoreplug$Step;LCoreplug$Way;I)V" } : Jvm.MethodName)) ∈ lw_tbl := lw_at lw_m7 68 rfl
theorem q1578 : (Jvm.Cond.instanceMethod ({ cls := "Coreplug", name := "goFrom", desc := "(LCoreplug$Core;LCoreplug$Step;LCoreplug$Way;I)V" } : Jvm.MethodName)) ∈ lw_all := lw_g (lw_at lw_m7 69 rfl) rfl
theorem q1579 : (Jvm.Cond.code ({ cls := "Coreplug", name := "goFrom", desc := "(LCoreplug$Core;LCoreplug$Step;LCoreplug$Way;I)V" } : Jvm.MethodName) prog_1_method_6_code (6 : Nat) (Option.none : Option Jvm.ClassFile.FieldType)) ∈ lw_all := lw_g (lw_at lw_m7 70 rfl) rfl
theorem q1580 : (Jvm.Cond.methodLink "Coreplug" (127 : Nat) ({ cls := "Coreplug", name := "gather", desc := "(LCoreplug$Core;)V" } : Jvm.MethodName)) ∈ lw_all := lw_g (lw_at lw_m7 71 rfl) rfl
theorem q1581 : (Jvm.Cond.privateMethod ({ cls := "Coreplug", name := "gather", desc := "(LCoreplug$Core;)V" } : Jvm.MethodName)) ∈ lw_tbl := lw_at lw_m7 72 rfl
theorem q1582 : (Jvm.Cond.instanceMethod ({ cls := "Coreplug", name := "gather", desc := "(LCoreplug$Core;)V" } : Jvm.MethodName)) ∈ lw_all := lw_g (lw_at lw_m7 73 rfl) rfl
theorem q1583 : (Jvm.Cond.code ({ cls := "Coreplug", name := "gather", desc := "(LCoreplug$Core;)V" } : Jvm.MethodName) prog_1_method_15_code (5 : Nat) (Option.none : Option Jvm.ClassFile.FieldType)) ∈ lw_all := lw_g (lw_at lw_m7 74 rfl) rfl
theorem q1584 : (Jvm.Cond.classLink "Coreplug" (184 : Nat) "Coreplug$Interrupt") ∈ lw_all := lw_g (lw_at lw_m7 75 rfl) rfl
theorem q1585 : (Jvm.Cond.methodLink "Coreplug" (169 : Nat) ({ cls := "Coreplug$Thing", name := "mayBeOn", desc := "(I)Z" } : Jvm.MethodName)) ∈ lw_all := lw_g (lw_at lw_m7 76 rfl) rfl
theorem q1591 : (Jvm.Cond.methodLink "Coreplug" (195 : Nat) ({ cls := "Coreplug$Thing", name := "move", desc := "(I)V" } : Jvm.MethodName)) ∈ lw_all := lw_g (lw_at lw_m7 82 rfl) rfl
theorem q1597 : (Jvm.Cond.methodLink "Coreplug" (208 : Nat) ({ cls := "Coreplug", name := "placeFor", desc := "(LCoreplug$Thing;)I" } : Jvm.MethodName)) ∈ lw_all := lw_g (lw_at lw_m7 88 rfl) rfl
theorem q1598 : (Jvm.Cond.privateMethod ({ cls := "Coreplug", name := "placeFor", desc := "(LCoreplug$Thing;)I" } : Jvm.MethodName)) ∈ lw_tbl := lw_at lw_m7 89 rfl
theorem q1599 : (Jvm.Cond.instanceMethod ({ cls := "Coreplug", name := "placeFor", desc := "(LCoreplug$Thing;)I" } : Jvm.MethodName)) ∈ lw_all := lw_g (lw_at lw_m7 90 rfl) rfl
theorem q1600 : (Jvm.Cond.code ({ cls := "Coreplug", name := "placeFor", desc := "(LCoreplug$Thing;)I" } : Jvm.MethodName) prog_1_method_11_code (6 : Nat) (Option.some Jvm.ClassFile.FieldType.int)) ∈ lw_all := lw_g (lw_at lw_m7 91 rfl) rfl
theorem q1601 : (Jvm.Cond.methodLink "Coreplug" (173 : Nat) ({ cls := "Coreplug", name := "loadOf", desc := "(I)I" } : Jvm.MethodName)) ∈ lw_all := lw_g (lw_at lw_m7 92 rfl) rfl
theorem q1602 : (Jvm.Cond.privateMethod ({ cls := "Coreplug", name := "loadOf", desc := "(I)I" } : Jvm.MethodName)) ∈ lw_tbl := lw_at lw_m7 93 rfl
theorem q1603 : (Jvm.Cond.instanceMethod ({ cls := "Coreplug", name := "loadOf", desc := "(I)I" } : Jvm.MethodName)) ∈ lw_all := lw_g (lw_at lw_m7 94 rfl) rfl
theorem q1604 : (Jvm.Cond.code ({ cls := "Coreplug", name := "loadOf", desc := "(I)I" } : Jvm.MethodName) prog_1_method_10_code (5 : Nat) (Option.some Jvm.ClassFile.FieldType.int)) ∈ lw_all := lw_g (lw_at lw_m7 95 rfl) rfl
theorem q1613 : (Jvm.Cond.methodLink "Coreplug" (136 : Nat) ({ cls := "Coreplug$LastCore", name := "<init>", desc := "()V" } : Jvm.MethodName)) ∈ lw_all := lw_g (lw_at lw_m7 104 rfl) rfl
theorem q1619 : (Jvm.Cond.methodLink "Coreplug" (137 : Nat) ({ cls := "Coreplug", name := "scatter", desc := "(LCoreplug$Core;)V" } : Jvm.MethodName)) ∈ lw_all := lw_g (lw_at lw_m7 110 rfl) rfl
theorem q1620 : (Jvm.Cond.privateMethod ({ cls := "Coreplug", name := "scatter", desc := "(LCoreplug$Core;)V" } : Jvm.MethodName)) ∈ lw_tbl := lw_at lw_m7 111 rfl
theorem q1621 : (Jvm.Cond.instanceMethod ({ cls := "Coreplug", name := "scatter", desc := "(LCoreplug$Core;)V" } : Jvm.MethodName)) ∈ lw_all := lw_g (lw_at lw_m7 112 rfl) rfl
theorem q1622 : (Jvm.Cond.code ({ cls := "Coreplug", name := "scatter", desc := "(LCoreplug$Core;)V" } : Jvm.MethodName) prog_1_method_14_code (5 : Nat) (Option.none : Option Jvm.ClassFile.FieldType)) ∈ lw_all := lw_g (lw_at lw_m7 113 rfl) rfl
theorem q1623 : (Jvm.Cond.methodLink "Coreplug" (201 : Nat) ({ cls := "Coreplug", name := "targetOf", desc := "(I)I" } : Jvm.MethodName)) ∈ lw_all := lw_g (lw_at lw_m7 114 rfl) rfl
theorem q1624 : (Jvm.Cond.privateMethod ({ cls := "Coreplug", name := "targetOf", desc := "(I)I" } : Jvm.MethodName)) ∈ lw_tbl := lw_at lw_m7 115 rfl
theorem q1625 : (Jvm.Cond.instanceMethod ({ cls := "Coreplug", name := "targetOf", desc := "(I)I" } : Jvm.MethodName)) ∈ lw_all := lw_g (lw_at lw_m7 116 rfl) rfl
theorem q1626 : (Jvm.Cond.code ({ cls := "Coreplug", name := "targetOf", desc := "(I)I" } : Jvm.MethodName) prog_1_method_12_code (3 : Nat) (Option.some Jvm.ClassFile.FieldType.int)) ∈ lw_all := lw_g (lw_at lw_m7 117 rfl) rfl
theorem q1627 : (Jvm.Cond.methodLink "Coreplug" (177 : Nat) ({ cls := "java/lang/Integer", name := "numberOfTrailingZeros", desc := "(I)I" } : Jvm.MethodName)) ∈ lw_all := lw_g (lw_at lw_m7 118 rfl) rfl
theorem q1628 : (Jvm.Cond.methodLink "Coreplug" (204 : Nat) ({ cls := "Coreplug", name := "direct", desc := "(LCoreplug$Interrupt;)V" } : Jvm.MethodName)) ∈ lw_all := lw_g (lw_at lw_m7 119 rfl) rfl
theorem q1629 : (Jvm.Cond.privateMethod ({ cls := "Coreplug", name := "direct", desc := "(LCoreplug$Interrupt;)V" } : Jvm.MethodName)) ∈ lw_tbl := lw_at lw_m7 120 rfl
theorem q1630 : (Jvm.Cond.instanceMethod ({ cls := "Coreplug", name := "direct", desc := "(LCoreplug$Interrupt;)V" } : Jvm.MethodName)) ∈ lw_all := lw_g (lw_at lw_m7 121 rfl) rfl
theorem q1631 : (Jvm.Cond.code ({ cls := "Coreplug", name := "direct", desc := "(LCoreplug$Interrupt;)V" } : Jvm.MethodName) prog_1_method_13_code (3 : Nat) (Option.none : Option Jvm.ClassFile.FieldType)) ∈ lw_all := lw_g (lw_at lw_m7 122 rfl) rfl
theorem q1632 : (Jvm.Cond.privateMethod ({ cls := "Coreplug", name := "lambda$go$1", desc := "(LCoreplug$Core;I)V" } : Jvm.MethodName)) ∈ lw_tbl := lw_at lw_m7 123 rfl
theorem q1633 : (Jvm.Cond.instanceMethod ({ cls := "Coreplug", name := "lambda$go$1", desc := "(LCoreplug$Core;I)V" } : Jvm.MethodName)) ∈ lw_all := lw_g (lw_at lw_m7 124 rfl) rfl
theorem q1634 : (Jvm.Cond.code ({ cls := "Coreplug", name := "lambda$go$1", desc := "(LCoreplug$Core;I)V" } : Jvm.MethodName) prog_1_method_53_code (3 : Nat) (Option.none : Option Jvm.ClassFile.FieldType)) ∈ lw_all := lw_g (lw_at lw_m7 125 rfl) rfl
theorem q1643 : (Jvm.Cond.methodLink "Coreplug" (150 : Nat) ({ cls := "Coreplug$Failed", name := "<init>", desc := "(Ljava/lang/Exception;)V" } : Jvm.MethodName)) ∈ lw_all := lw_g (lw_at lw_m7 134 rfl) rfl
theorem q1650 : (Jvm.Cond.instanceMethod ({ cls := "Coreplug", name := "down", desc := "(II)I" } : Jvm.MethodName)) ∈ lw_all := lw_g (lw_at lw_m7 141 rfl) rfl
theorem q1651 : (Jvm.Cond.selects "Coreplug" ({ cls := "Coreplug", name := "down", desc := "(II)I" } : Jvm.MethodName) ({ cls := "Coreplug", name := "down", desc := "(II)I" } : Jvm.MethodName)) ∈ lw_all := lw_g (lw_at lw_m7 142 rfl) rfl
theorem q1652 : (Jvm.Cond.code ({ cls := "Coreplug", name := "down", desc := "(II)I" } : Jvm.MethodName) prog_1_method_32_code (3 : Nat) (Option.some Jvm.ClassFile.FieldType.int)) ∈ lw_all := lw_g (lw_at lw_m7 143 rfl) rfl
theorem q1657 : (Jvm.Cond.instanceMethod ({ cls := "Coreplug", name := "thread", desc := "(I)I" } : Jvm.MethodName)) ∈ lw_all := lw_g (lw_at lw_m7 148 rfl) rfl
theorem q1658 : (Jvm.Cond.selects "Coreplug" ({ cls := "Coreplug", name := "thread", desc := "(I)I" } : Jvm.MethodName) ({ cls := "Coreplug", name := "thread", desc := "(I)I" } : Jvm.MethodName)) ∈ lw_all := lw_g (lw_at lw_m7 149 rfl) rfl
theorem q1659 : (Jvm.Cond.code ({ cls := "Coreplug", name := "thread", desc := "(I)I" } : Jvm.MethodName) prog_1_method_33_code (3 : Nat) (Option.some Jvm.ClassFile.FieldType.int)) ∈ lw_all := lw_g (lw_at lw_m7 150 rfl) rfl
theorem q1661 : (Jvm.Cond.methodLink "Coreplug" (308 : Nat) ({ cls := "Coreplug$Thing", name := "<init>", desc := "(II)V" } : Jvm.MethodName)) ∈ lw_all := lw_g (lw_at lw_m7 152 rfl) rfl
theorem q1666 : (Jvm.Cond.fieldLinkNest "Coreplug" (180 : Nat) "Coreplug$Thing" "set" "I" "Coreplug") ∈ lw_tbl := lw_at lw_m7 157 rfl
theorem q1668 : (Jvm.Cond.fieldLinkNest "Coreplug" (166 : Nat) "Coreplug$Thing" "core" "I" "Coreplug") ∈ lw_tbl := lw_at lw_m7 159 rfl
theorem q1670 : (Jvm.Cond.fieldLinkNest "Coreplug" (319 : Nat) "Coreplug$Thing" "moves" "I" "Coreplug") ∈ lw_tbl := lw_at lw_m7 161 rfl
theorem q1682 : (Jvm.Cond.instanceMethod ({ cls := "Coreplug", name := "interrupt", desc := "(I)I" } : Jvm.MethodName)) ∈ lw_all := lw_g (lw_at lw_m7 173 rfl) rfl
theorem q1683 : (Jvm.Cond.selects "Coreplug" ({ cls := "Coreplug", name := "interrupt", desc := "(I)I" } : Jvm.MethodName) ({ cls := "Coreplug", name := "interrupt", desc := "(I)I" } : Jvm.MethodName)) ∈ lw_all := lw_g (lw_at lw_m7 174 rfl) rfl
theorem q1684 : (Jvm.Cond.code ({ cls := "Coreplug", name := "interrupt", desc := "(I)I" } : Jvm.MethodName) prog_1_method_34_code (4 : Nat) (Option.some Jvm.ClassFile.FieldType.int)) ∈ lw_all := lw_g (lw_at lw_m7 175 rfl) rfl
theorem q1686 : (Jvm.Cond.methodLink "Coreplug" (310 : Nat) ({ cls := "Coreplug$Interrupt", name := "<init>", desc := "(I)V" } : Jvm.MethodName)) ∈ lw_all := lw_g (lw_at lw_m7 177 rfl) rfl
theorem q1690 : (Jvm.Cond.fieldLinkNest "Coreplug" (183 : Nat) "Coreplug$Interrupt" "isBroken" "Z" "Coreplug") ∈ lw_tbl := lw_at lw_m7 181 rfl
theorem q1701 : (Jvm.Cond.instanceMethod ({ cls := "Coreplug", name := "timer", desc := "(I)I" } : Jvm.MethodName)) ∈ lw_all := lw_g (lw_at lw_m7 192 rfl) rfl
theorem q1702 : (Jvm.Cond.selects "Coreplug" ({ cls := "Coreplug", name := "timer", desc := "(I)I" } : Jvm.MethodName) ({ cls := "Coreplug", name := "timer", desc := "(I)I" } : Jvm.MethodName)) ∈ lw_all := lw_g (lw_at lw_m7 193 rfl) rfl
theorem q1703 : (Jvm.Cond.code ({ cls := "Coreplug", name := "timer", desc := "(I)I" } : Jvm.MethodName) prog_1_method_35_code (2 : Nat) (Option.some Jvm.ClassFile.FieldType.int)) ∈ lw_all := lw_g (lw_at lw_m7 194 rfl) rfl
theorem q1704 : (Jvm.Cond.methodLink "Coreplug" (311 : Nat) ({ cls := "java/util/ArrayDeque", name := "size", desc := "()I" } : Jvm.MethodName)) ∈ lw_all := lw_g (lw_at lw_m7 195 rfl) rfl
theorem q1705 : (Jvm.Cond.methodLink "Coreplug" (312 : Nat) ({ cls := "java/util/ArrayDeque", name := "addLast", desc := "(Ljava/lang/Object;)V" } : Jvm.MethodName)) ∈ lw_all := lw_g (lw_at lw_m7 196 rfl) rfl
theorem q1714 : (Jvm.Cond.instanceMethod ({ cls := "Coreplug", name := "level", desc := "(I)I" } : Jvm.MethodName)) ∈ lw_all := lw_g (lw_at lw_m7 205 rfl) rfl
theorem q1715 : (Jvm.Cond.selects "Coreplug" ({ cls := "Coreplug", name := "level", desc := "(I)I" } : Jvm.MethodName) ({ cls := "Coreplug", name := "level", desc := "(I)I" } : Jvm.MethodName)) ∈ lw_all := lw_g (lw_at lw_m7 206 rfl) rfl
theorem q1716 : (Jvm.Cond.code ({ cls := "Coreplug", name := "level", desc := "(I)I" } : Jvm.MethodName) prog_1_method_37_code (2 : Nat) (Option.some Jvm.ClassFile.FieldType.int)) ∈ lw_all := lw_g (lw_at lw_m7 207 rfl) rfl
theorem q1721 : (Jvm.Cond.instanceMethod ({ cls := "Coreplug", name := "instances", desc := "(I)I" } : Jvm.MethodName)) ∈ lw_all := lw_g (lw_at lw_m7 212 rfl) rfl
theorem q1722 : (Jvm.Cond.selects "Coreplug" ({ cls := "Coreplug", name := "instances", desc := "(I)I" } : Jvm.MethodName) ({ cls := "Coreplug", name := "instances", desc := "(I)I" } : Jvm.MethodName)) ∈ lw_all := lw_g (lw_at lw_m7 213 rfl) rfl
theorem q1723 : (Jvm.Cond.code ({ cls := "Coreplug", name := "instances", desc := "(I)I" } : Jvm.MethodName) prog_1_method_39_code (4 : Nat) (Option.some Jvm.ClassFile.FieldType.int)) ∈ lw_all := lw_g (lw_at lw_m7 214 rfl) rfl
theorem q1728 : (Jvm.Cond.instanceMethod ({ cls := "Coreplug", name := "coreOf", desc := "(II)I" } : Jvm.MethodName)) ∈ lw_all := lw_g (lw_at lw_m7 219 rfl) rfl
theorem q1729 : (Jvm.Cond.selects "Coreplug" ({ cls := "Coreplug", name := "coreOf", desc := "(II)I" } : Jvm.MethodName) ({ cls := "Coreplug", name := "coreOf", desc := "(II)I" } : Jvm.MethodName)) ∈ lw_all := lw_g (lw_at lw_m7 220 rfl) rfl
theorem q1730 : (Jvm.Cond.code ({ cls := "Coreplug", name := "coreOf", desc := "(II)I" } : Jvm.MethodName) prog_1_method_41_code (3 : Nat) (Option.some Jvm.ClassFile.FieldType.int)) ∈ lw_all := lw_g (lw_at lw_m7 221 rfl) rfl
theorem q1731 : (Jvm.Cond.methodLink "Coreplug" (315 : Nat) ({ cls := "Coreplug", name := "thingAt", desc := "(II)LCoreplug$Thing;" } : Jvm.MethodName)) ∈ lw_all := lw_g (lw_at lw_m7 222 rfl) rfl
theorem q1732 : (Jvm.Cond.privateMethod ({ cls := "Coreplug", name := "thingAt", desc := "(II)LCoreplug$Thing;" } : Jvm.MethodName)) ∈ lw_tbl := lw_at lw_m7 223 rfl
theorem q1733 : (Jvm.Cond.instanceMethod ({ cls := "Coreplug", name := "thingAt", desc := "(II)LCoreplug$Thing;" } : Jvm.MethodName)) ∈ lw_all := lw_g (lw_at lw_m7 224 rfl) rfl
theorem q1734 : (Jvm.Cond.code ({ cls := "Coreplug", name := "thingAt", desc := "(II)LCoreplug$Thing;" } : Jvm.MethodName) prog_1_method_40_code (6 : Nat) (Option.some (Jvm.ClassFile.FieldType.object "Coreplug$Thing"))) ∈ lw_all := lw_g (lw_at lw_m7 225 rfl) rfl
theorem q1739 : (Jvm.Cond.instanceMethod ({ cls := "Coreplug", name := "isBroken", desc := "(I)Z" } : Jvm.MethodName)) ∈ lw_all := lw_g (lw_at lw_m7 230 rfl) rfl
theorem q1740 : (Jvm.Cond.selects "Coreplug" ({ cls := "Coreplug", name := "isBroken", desc := "(I)Z" } : Jvm.MethodName) ({ cls := "Coreplug", name := "isBroken", desc := "(I)Z" } : Jvm.MethodName)) ∈ lw_all := lw_g (lw_at lw_m7 231 rfl) rfl
theorem q1741 : (Jvm.Cond.code ({ cls := "Coreplug", name := "isBroken", desc := "(I)Z" } : Jvm.MethodName) prog_1_method_42_code (2 : Nat) (Option.some Jvm.ClassFile.FieldType.boolean)) ∈ lw_all := lw_g (lw_at lw_m7 232 rfl) rfl
theorem q1746 : (Jvm.Cond.instanceMethod ({ cls := "Coreplug", name := "moves", desc := "(II)I" } : Jvm.MethodName)) ∈ lw_all := lw_g (lw_at lw_m7 237 rfl) rfl
theorem q1747 : (Jvm.Cond.selects "Coreplug" ({ cls := "Coreplug", name := "moves", desc := "(II)I" } : Jvm.MethodName) ({ cls := "Coreplug", name := "moves", desc := "(II)I" } : Jvm.MethodName)) ∈ lw_all := lw_g (lw_at lw_m7 238 rfl) rfl
theorem q1748 : (Jvm.Cond.code ({ cls := "Coreplug", name := "moves", desc := "(II)I" } : Jvm.MethodName) prog_1_method_43_code (3 : Nat) (Option.some Jvm.ClassFile.FieldType.int)) ∈ lw_all := lw_g (lw_at lw_m7 239 rfl) rfl
theorem q1753 : (Jvm.Cond.instanceMethod ({ cls := "Coreplug", name := "load", desc := "(I)I" } : Jvm.MethodName)) ∈ lw_all := lw_g (lw_at lw_m8 4 rfl) rfl
theorem q1754 : (Jvm.Cond.selects "Coreplug" ({ cls := "Coreplug", name := "load", desc := "(I)I" } : Jvm.MethodName) ({ cls := "Coreplug", name := "load", desc := "(I)I" } : Jvm.MethodName)) ∈ lw_all := lw_g (lw_at lw_m8 5 rfl) rfl
theorem q1755 : (Jvm.Cond.code ({ cls := "Coreplug", name := "load", desc := "(I)I" } : Jvm.MethodName) prog_1_method_44_code (2 : Nat) (Option.some Jvm.ClassFile.FieldType.int)) ∈ lw_all := lw_g (lw_at lw_m8 6 rfl) rfl
theorem q1761 : (Jvm.Cond.instanceMethod ({ cls := "Coreplug", name := "entry", desc := "(I)I" } : Jvm.MethodName)) ∈ lw_all := lw_g (lw_at lw_m8 12 rfl) rfl
theorem q1762 : (Jvm.Cond.selects "Coreplug" ({ cls := "Coreplug", name := "entry", desc := "(I)I" } : Jvm.MethodName) ({ cls := "Coreplug", name := "entry", desc := "(I)I" } : Jvm.MethodName)) ∈ lw_all := lw_g (lw_at lw_m8 13 rfl) rfl
theorem q1763 : (Jvm.Cond.code ({ cls := "Coreplug", name := "entry", desc := "(I)I" } : Jvm.MethodName) prog_1_method_46_code (2 : Nat) (Option.some Jvm.ClassFile.FieldType.int)) ∈ lw_all := lw_g (lw_at lw_m8 14 rfl) rfl
theorem q1764 : (Jvm.Cond.classLink "Coreplug" (322 : Nat) "java/util/NoSuchElementException") ∈ lw_all := lw_g (lw_at lw_m8 15 rfl) rfl
theorem q1765 : (Jvm.Cond.methodLink "Coreplug" (324 : Nat) ({ cls := "java/util/NoSuchElementException", name := "<init>", desc := "()V" } : Jvm.MethodName)) ∈ lw_all := lw_g (lw_at lw_m8 16 rfl) rfl
theorem q2061 : (Jvm.Cond.castable "Coreplug" "java/lang/Object") ∈ lw_tbl := lw_at lw_m9 72 rfl
theorem in_X1 : ∀ w ∈ wsX10, w ∈ lw_all := lw_in wsX10 [345, 347, 349, 351, 353, 355, 357, 359] (by decide +kernel) (by decide +kernel)
