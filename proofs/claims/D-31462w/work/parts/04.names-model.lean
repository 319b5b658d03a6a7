set_option maxRecDepth 100000
/-! CoreplugModel -/
set_option maxRecDepth 100000
def RX3 : String := "CoreplugModel"
def TX3 : u_T := fun k => match k with
  | 0 => ("CoreplugModel", "thrown", "I", false)
  | 1 => ("CoreplugModel", "coreMany", "I", false)
  | 2 => ("CoreplugModel", "levelOf", "[I", true)
  | 3 => ("CoreplugModel", "isStep", "[Z", true)
  | 4 => ("CoreplugModel", "hasStart", "[Z", true)
  | 5 => ("CoreplugModel", "hasStop", "[Z", true)
  | 6 => ("CoreplugModel", "isSingle", "[Z", true)
  | 7 => ("CoreplugModel", "instancesOf", "[I", true)
  | 8 => ("CoreplugModel", "failures", "[I", true)
  | 9 => ("CoreplugModel", "thingMany", "[I", true)
  | 10 => ("CoreplugModel", "setOf", "[I", true)
  | 11 => ("CoreplugModel", "livesOn", "[I", true)
  | 12 => ("CoreplugModel", "movedMany", "[I", true)
  | 13 => ("CoreplugModel", "isBroken", "[Z", true)
  | 14 => ("CoreplugModel", "entryMany", "I", false)
  | 15 => ("CoreplugModel", "failedMany", "I", false)
  | _ => ("CoreplugModel", "entryOf", "[I", true)
def tyX3 : Nat → FieldType := fun k => match k with
  | 0 => .int
  | 1 => .int
  | 2 => .array .int
  | 3 => .array .boolean
  | 4 => .array .boolean
  | 5 => .array .boolean
  | 6 => .array .boolean
  | 7 => .array .int
  | 8 => .array .int
  | 9 => .array .int
  | 10 => .array .int
  | 11 => .array .int
  | 12 => .array .int
  | 13 => .array .boolean
  | 14 => .int
  | 15 => .int
  | _ => .array .int
abbrev wsX30 : List Cond := u_ws RX3 TX3 17
set_option maxRecDepth 100000 in
theorem nmX3 : ∀ a, a < 17 → ∀ b, b < 17 → a ≠ b → (TX3 a).2.1 ≠ (TX3 b).2.1 := by decide +kernel
set_option maxRecDepth 100000 in
theorem tyX3_ok : ∀ k, k < 17 → parseFieldDescriptor (TX3 k).2.2.1 = some (tyX3 k) := by decide +kernel
abbrev cX3_init : ByteArray := prog_15_method_1_code
def yX3_init : MethodName := ⟨RX3, "<init>", "()V"⟩
def dkwX3_init_4 : List UInt8 := [188, 4, 181, 0, 44, 42, 18, 47, 188, 10, 181, 0, 48, 42, 182, 0, 51, 177]
abbrev dktX3_init_4 : List UInt8 := dkwX3_init_4 ++ []
def dkwX3_init_3 : List UInt8 := [188, 10, 181, 0, 35, 42, 16, 48, 188, 10, 181, 0, 38, 42, 16, 48, 188, 10, 181, 0, 41, 42, 16, 16]
abbrev dktX3_init_3 : List UInt8 := dkwX3_init_3 ++ dktX3_init_4
def dkwX3_init_2 : List UInt8 := [188, 10, 181, 0, 26, 42, 17, 5, 0, 188, 10, 181, 0, 29, 42, 6, 188, 10, 181, 0, 32, 42, 16, 48]
abbrev dktX3_init_2 : List UInt8 := dkwX3_init_2 ++ dktX3_init_3
def dkwX3_init_1 : List UInt8 := [188, 4, 181, 0, 17, 42, 16, 20, 188, 4, 181, 0, 20, 42, 16, 20, 188, 4, 181, 0, 23, 42, 16, 20]
abbrev dktX3_init_1 : List UInt8 := dkwX3_init_1 ++ dktX3_init_2
def dkwX3_init_0 : List UInt8 := [42, 183, 0, 1, 42, 16, 8, 188, 10, 181, 0, 7, 42, 16, 20, 188, 4, 181, 0, 13, 42, 16, 20]
abbrev dktX3_init_0 : List UInt8 := dkwX3_init_0 ++ dktX3_init_1
theorem dksX3_init_0 : cX3_init.data.toList.drop 0 = dktX3_init_0 := by decide +kernel
theorem dksX3_init_1 : cX3_init.data.toList.drop 23 = dktX3_init_1 := dk_seg dksX3_init_0 23 rfl rfl
theorem dksX3_init_2 : cX3_init.data.toList.drop 47 = dktX3_init_2 := dk_seg dksX3_init_1 24 rfl rfl
theorem dksX3_init_3 : cX3_init.data.toList.drop 71 = dktX3_init_3 := dk_seg dksX3_init_2 24 rfl rfl
theorem dksX3_init_4 : cX3_init.data.toList.drop 95 = dktX3_init_4 := dk_seg dksX3_init_3 24 rfl rfl
theorem dX3_init_0 : decode cX3_init 0 = .ok (.aload_n 0, 1) := dk_42 (dk_at dksX3_init_0 0 rfl rfl)
theorem dX3_init_1 : decode cX3_init 1 = .ok (.invokespecial 1, 3) := dk_183 0 1 (dk_at dksX3_init_0 1 rfl rfl)
theorem dX3_init_4 : decode cX3_init 4 = .ok (.aload_n 0, 1) := dk_42 (dk_at dksX3_init_0 4 rfl rfl)
theorem dX3_init_5 : decode cX3_init 5 = .ok (.bipush 8, 2) := dk_16 8 (dk_at dksX3_init_0 5 rfl rfl)
theorem dX3_init_7 : decode cX3_init 7 = .ok (.newarray .int, 2) := dk_188_10 (dk_at dksX3_init_0 7 rfl rfl)
theorem dX3_init_9 : decode cX3_init 9 = .ok (.putfield 7, 3) := dk_181 0 7 (dk_at dksX3_init_0 9 rfl rfl)
theorem dX3_init_12 : decode cX3_init 12 = .ok (.aload_n 0, 1) := dk_42 (dk_at dksX3_init_0 12 rfl rfl)
theorem dX3_init_13 : decode cX3_init 13 = .ok (.bipush 20, 2) := dk_16 20 (dk_at dksX3_init_0 13 rfl rfl)
theorem dX3_init_15 : decode cX3_init 15 = .ok (.newarray .boolean, 2) := dk_188_4 (dk_at dksX3_init_0 15 rfl rfl)
theorem dX3_init_17 : decode cX3_init 17 = .ok (.putfield 13, 3) := dk_181 0 13 (dk_at dksX3_init_0 17 rfl rfl)
theorem dX3_init_20 : decode cX3_init 20 = .ok (.aload_n 0, 1) := dk_42 (dk_at dksX3_init_0 20 rfl rfl)
theorem dX3_init_21 : decode cX3_init 21 = .ok (.bipush 20, 2) := dk_16 20 (dk_at dksX3_init_0 21 rfl rfl)
theorem dX3_init_23 : decode cX3_init 23 = .ok (.newarray .boolean, 2) := dk_188_4 (dk_at dksX3_init_1 0 rfl rfl)
theorem dX3_init_25 : decode cX3_init 25 = .ok (.putfield 17, 3) := dk_181 0 17 (dk_at dksX3_init_1 2 rfl rfl)
theorem dX3_init_28 : decode cX3_init 28 = .ok (.aload_n 0, 1) := dk_42 (dk_at dksX3_init_1 5 rfl rfl)
theorem dX3_init_29 : decode cX3_init 29 = .ok (.bipush 20, 2) := dk_16 20 (dk_at dksX3_init_1 6 rfl rfl)
theorem dX3_init_31 : decode cX3_init 31 = .ok (.newarray .boolean, 2) := dk_188_4 (dk_at dksX3_init_1 8 rfl rfl)
theorem dX3_init_33 : decode cX3_init 33 = .ok (.putfield 20, 3) := dk_181 0 20 (dk_at dksX3_init_1 10 rfl rfl)
theorem dX3_init_36 : decode cX3_init 36 = .ok (.aload_n 0, 1) := dk_42 (dk_at dksX3_init_1 13 rfl rfl)
theorem dX3_init_37 : decode cX3_init 37 = .ok (.bipush 20, 2) := dk_16 20 (dk_at dksX3_init_1 14 rfl rfl)
theorem dX3_init_39 : decode cX3_init 39 = .ok (.newarray .boolean, 2) := dk_188_4 (dk_at dksX3_init_1 16 rfl rfl)
theorem dX3_init_41 : decode cX3_init 41 = .ok (.putfield 23, 3) := dk_181 0 23 (dk_at dksX3_init_1 18 rfl rfl)
theorem dX3_init_44 : decode cX3_init 44 = .ok (.aload_n 0, 1) := dk_42 (dk_at dksX3_init_1 21 rfl rfl)
theorem dX3_init_45 : decode cX3_init 45 = .ok (.bipush 20, 2) := dk_16 20 (dk_at dksX3_init_1 22 rfl rfl)
theorem dX3_init_47 : decode cX3_init 47 = .ok (.newarray .int, 2) := dk_188_10 (dk_at dksX3_init_2 0 rfl rfl)
theorem dX3_init_49 : decode cX3_init 49 = .ok (.putfield 26, 3) := dk_181 0 26 (dk_at dksX3_init_2 2 rfl rfl)
theorem dX3_init_52 : decode cX3_init 52 = .ok (.aload_n 0, 1) := dk_42 (dk_at dksX3_init_2 5 rfl rfl)
theorem dX3_init_53 : decode cX3_init 53 = .ok (.sipush 1280, 3) := dk_17 5 0 (dk_at dksX3_init_2 6 rfl rfl)
theorem dX3_init_56 : decode cX3_init 56 = .ok (.newarray .int, 2) := dk_188_10 (dk_at dksX3_init_2 9 rfl rfl)
theorem dX3_init_58 : decode cX3_init 58 = .ok (.putfield 29, 3) := dk_181 0 29 (dk_at dksX3_init_2 11 rfl rfl)
theorem dX3_init_61 : decode cX3_init 61 = .ok (.aload_n 0, 1) := dk_42 (dk_at dksX3_init_2 14 rfl rfl)
theorem dX3_init_62 : decode cX3_init 62 = .ok (.iconst 3, 1) := dk_6 (dk_at dksX3_init_2 15 rfl rfl)
theorem dX3_init_63 : decode cX3_init 63 = .ok (.newarray .int, 2) := dk_188_10 (dk_at dksX3_init_2 16 rfl rfl)
theorem dX3_init_65 : decode cX3_init 65 = .ok (.putfield 32, 3) := dk_181 0 32 (dk_at dksX3_init_2 18 rfl rfl)
theorem dX3_init_68 : decode cX3_init 68 = .ok (.aload_n 0, 1) := dk_42 (dk_at dksX3_init_2 21 rfl rfl)
theorem dX3_init_69 : decode cX3_init 69 = .ok (.bipush 48, 2) := dk_16 48 (dk_at dksX3_init_2 22 rfl rfl)
theorem dX3_init_71 : decode cX3_init 71 = .ok (.newarray .int, 2) := dk_188_10 (dk_at dksX3_init_3 0 rfl rfl)
theorem dX3_init_73 : decode cX3_init 73 = .ok (.putfield 35, 3) := dk_181 0 35 (dk_at dksX3_init_3 2 rfl rfl)
theorem dX3_init_76 : decode cX3_init 76 = .ok (.aload_n 0, 1) := dk_42 (dk_at dksX3_init_3 5 rfl rfl)
theorem dX3_init_77 : decode cX3_init 77 = .ok (.bipush 48, 2) := dk_16 48 (dk_at dksX3_init_3 6 rfl rfl)
theorem dX3_init_79 : decode cX3_init 79 = .ok (.newarray .int, 2) := dk_188_10 (dk_at dksX3_init_3 8 rfl rfl)
theorem dX3_init_81 : decode cX3_init 81 = .ok (.putfield 38, 3) := dk_181 0 38 (dk_at dksX3_init_3 10 rfl rfl)
theorem dX3_init_84 : decode cX3_init 84 = .ok (.aload_n 0, 1) := dk_42 (dk_at dksX3_init_3 13 rfl rfl)
theorem dX3_init_85 : decode cX3_init 85 = .ok (.bipush 48, 2) := dk_16 48 (dk_at dksX3_init_3 14 rfl rfl)
theorem dX3_init_87 : decode cX3_init 87 = .ok (.newarray .int, 2) := dk_188_10 (dk_at dksX3_init_3 16 rfl rfl)
theorem dX3_init_89 : decode cX3_init 89 = .ok (.putfield 41, 3) := dk_181 0 41 (dk_at dksX3_init_3 18 rfl rfl)
theorem dX3_init_92 : decode cX3_init 92 = .ok (.aload_n 0, 1) := dk_42 (dk_at dksX3_init_3 21 rfl rfl)
theorem dX3_init_93 : decode cX3_init 93 = .ok (.bipush 16, 2) := dk_16 16 (dk_at dksX3_init_3 22 rfl rfl)
theorem dX3_init_95 : decode cX3_init 95 = .ok (.newarray .boolean, 2) := dk_188_4 (dk_at dksX3_init_4 0 rfl rfl)
theorem dX3_init_97 : decode cX3_init 97 = .ok (.putfield 44, 3) := dk_181 0 44 (dk_at dksX3_init_4 2 rfl rfl)
theorem dX3_init_100 : decode cX3_init 100 = .ok (.aload_n 0, 1) := dk_42 (dk_at dksX3_init_4 5 rfl rfl)
theorem dX3_init_101 : decode cX3_init 101 = .ok (.ldc 47, 2) := dk_18 47 (dk_at dksX3_init_4 6 rfl rfl)
theorem dX3_init_103 : decode cX3_init 103 = .ok (.newarray .int, 2) := dk_188_10 (dk_at dksX3_init_4 8 rfl rfl)
theorem dX3_init_105 : decode cX3_init 105 = .ok (.putfield 48, 3) := dk_181 0 48 (dk_at dksX3_init_4 10 rfl rfl)
theorem dX3_init_108 : decode cX3_init 108 = .ok (.aload_n 0, 1) := dk_42 (dk_at dksX3_init_4 13 rfl rfl)
theorem dX3_init_109 : decode cX3_init 109 = .ok (.invokevirtual 51, 3) := dk_182 0 51 (dk_at dksX3_init_4 14 rfl rfl)
theorem dX3_init_112 : decode cX3_init 112 = .ok (.return_, 1) := dk_177 (dk_at dksX3_init_4 17 rfl rfl)
abbrev cX3_begins : ByteArray := prog_15_method_9_code
def yX3_begins : MethodName := ⟨RX3, "begins", "()V"⟩
def dkwX3_begins_4 : List UInt8 := [181, 0, 68, 177]
abbrev dktX3_begins_4 : List UInt8 := dkwX3_begins_4 ++ []
def dkwX3_begins_3 : List UInt8 := [163, 0, 16, 42, 180, 0, 32, 27, 3, 79, 132, 1, 1, 167, 255, 241, 42, 3, 181, 0, 65, 42, 3]
abbrev dktX3_begins_3 : List UInt8 := dkwX3_begins_3 ++ dktX3_begins_4
def dkwX3_begins_2 : List UInt8 := [17, 5, 0, 162, 0, 16, 42, 180, 0, 29, 27, 3, 79, 132, 1, 1, 167, 255, 239, 3, 60, 27, 5]
abbrev dktX3_begins_2 : List UInt8 := dkwX3_begins_2 ++ dktX3_begins_3
def dkwX3_begins_1 : List UInt8 := [180, 0, 13, 27, 3, 84, 42, 180, 0, 26, 27, 3, 79, 132, 1, 1, 167, 255, 233, 3, 60, 27]
abbrev dktX3_begins_1 : List UInt8 := dkwX3_begins_1 ++ dktX3_begins_2
def dkwX3_begins_0 : List UInt8 := [42, 4, 181, 0, 58, 42, 180, 0, 7, 3, 16, 20, 79, 3, 60, 27, 16, 20, 162, 0, 23, 42]
abbrev dktX3_begins_0 : List UInt8 := dkwX3_begins_0 ++ dktX3_begins_1
theorem dksX3_begins_0 : cX3_begins.data.toList.drop 0 = dktX3_begins_0 := by decide +kernel
theorem dksX3_begins_1 : cX3_begins.data.toList.drop 22 = dktX3_begins_1 := dk_seg dksX3_begins_0 22 rfl rfl
theorem dksX3_begins_2 : cX3_begins.data.toList.drop 44 = dktX3_begins_2 := dk_seg dksX3_begins_1 22 rfl rfl
theorem dksX3_begins_3 : cX3_begins.data.toList.drop 67 = dktX3_begins_3 := dk_seg dksX3_begins_2 23 rfl rfl
theorem dksX3_begins_4 : cX3_begins.data.toList.drop 90 = dktX3_begins_4 := dk_seg dksX3_begins_3 23 rfl rfl
theorem dX3_begins_0 : decode cX3_begins 0 = .ok (.aload_n 0, 1) := dk_42 (dk_at dksX3_begins_0 0 rfl rfl)
theorem dX3_begins_1 : decode cX3_begins 1 = .ok (.iconst 1, 1) := dk_4 (dk_at dksX3_begins_0 1 rfl rfl)
theorem dX3_begins_2 : decode cX3_begins 2 = .ok (.putfield 58, 3) := dk_181 0 58 (dk_at dksX3_begins_0 2 rfl rfl)
theorem dX3_begins_5 : decode cX3_begins 5 = .ok (.aload_n 0, 1) := dk_42 (dk_at dksX3_begins_0 5 rfl rfl)
theorem dX3_begins_6 : decode cX3_begins 6 = .ok (.getfield 7, 3) := dk_180 0 7 (dk_at dksX3_begins_0 6 rfl rfl)
theorem dX3_begins_9 : decode cX3_begins 9 = .ok (.iconst 0, 1) := dk_3 (dk_at dksX3_begins_0 9 rfl rfl)
theorem dX3_begins_10 : decode cX3_begins 10 = .ok (.bipush 20, 2) := dk_16 20 (dk_at dksX3_begins_0 10 rfl rfl)
theorem dX3_begins_12 : decode cX3_begins 12 = .ok (.iastore, 1) := dk_79 (dk_at dksX3_begins_0 12 rfl rfl)
theorem dX3_begins_13 : decode cX3_begins 13 = .ok (.iconst 0, 1) := dk_3 (dk_at dksX3_begins_0 13 rfl rfl)
theorem dX3_begins_14 : decode cX3_begins 14 = .ok (.istore_n 1, 1) := dk_60 (dk_at dksX3_begins_0 14 rfl rfl)
theorem dX3_begins_15 : decode cX3_begins 15 = .ok (.iload_n 1, 1) := dk_27 (dk_at dksX3_begins_0 15 rfl rfl)
theorem dX3_begins_16 : decode cX3_begins 16 = .ok (.bipush 20, 2) := dk_16 20 (dk_at dksX3_begins_0 16 rfl rfl)
theorem dX3_begins_18 : decode cX3_begins 18 = .ok (.if_icmp .ge 23, 3) := dk_162 0 23 (dk_at dksX3_begins_0 18 rfl rfl)
theorem dX3_begins_21 : decode cX3_begins 21 = .ok (.aload_n 0, 1) := dk_42 (dk_at dksX3_begins_0 21 rfl rfl)
theorem dX3_begins_22 : decode cX3_begins 22 = .ok (.getfield 13, 3) := dk_180 0 13 (dk_at dksX3_begins_1 0 rfl rfl)
theorem dX3_begins_25 : decode cX3_begins 25 = .ok (.iload_n 1, 1) := dk_27 (dk_at dksX3_begins_1 3 rfl rfl)
theorem dX3_begins_26 : decode cX3_begins 26 = .ok (.iconst 0, 1) := dk_3 (dk_at dksX3_begins_1 4 rfl rfl)
theorem dX3_begins_27 : decode cX3_begins 27 = .ok (.bastore, 1) := dk_84 (dk_at dksX3_begins_1 5 rfl rfl)
theorem dX3_begins_28 : decode cX3_begins 28 = .ok (.aload_n 0, 1) := dk_42 (dk_at dksX3_begins_1 6 rfl rfl)
theorem dX3_begins_29 : decode cX3_begins 29 = .ok (.getfield 26, 3) := dk_180 0 26 (dk_at dksX3_begins_1 7 rfl rfl)
theorem dX3_begins_32 : decode cX3_begins 32 = .ok (.iload_n 1, 1) := dk_27 (dk_at dksX3_begins_1 10 rfl rfl)
theorem dX3_begins_33 : decode cX3_begins 33 = .ok (.iconst 0, 1) := dk_3 (dk_at dksX3_begins_1 11 rfl rfl)
theorem dX3_begins_34 : decode cX3_begins 34 = .ok (.iastore, 1) := dk_79 (dk_at dksX3_begins_1 12 rfl rfl)
theorem dX3_begins_35 : decode cX3_begins 35 = .ok (.iinc 1 1, 3) := dk_132 1 1 (dk_at dksX3_begins_1 13 rfl rfl)
theorem dX3_begins_38 : decode cX3_begins 38 = .ok (.goto (-23), 3) := dk_167 255 233 (dk_at dksX3_begins_1 16 rfl rfl)
theorem dX3_begins_41 : decode cX3_begins 41 = .ok (.iconst 0, 1) := dk_3 (dk_at dksX3_begins_1 19 rfl rfl)
theorem dX3_begins_42 : decode cX3_begins 42 = .ok (.istore_n 1, 1) := dk_60 (dk_at dksX3_begins_1 20 rfl rfl)
theorem dX3_begins_43 : decode cX3_begins 43 = .ok (.iload_n 1, 1) := dk_27 (dk_at dksX3_begins_1 21 rfl rfl)
theorem dX3_begins_44 : decode cX3_begins 44 = .ok (.sipush 1280, 3) := dk_17 5 0 (dk_at dksX3_begins_2 0 rfl rfl)
theorem dX3_begins_47 : decode cX3_begins 47 = .ok (.if_icmp .ge 16, 3) := dk_162 0 16 (dk_at dksX3_begins_2 3 rfl rfl)
theorem dX3_begins_50 : decode cX3_begins 50 = .ok (.aload_n 0, 1) := dk_42 (dk_at dksX3_begins_2 6 rfl rfl)
theorem dX3_begins_51 : decode cX3_begins 51 = .ok (.getfield 29, 3) := dk_180 0 29 (dk_at dksX3_begins_2 7 rfl rfl)
theorem dX3_begins_54 : decode cX3_begins 54 = .ok (.iload_n 1, 1) := dk_27 (dk_at dksX3_begins_2 10 rfl rfl)
theorem dX3_begins_55 : decode cX3_begins 55 = .ok (.iconst 0, 1) := dk_3 (dk_at dksX3_begins_2 11 rfl rfl)
theorem dX3_begins_56 : decode cX3_begins 56 = .ok (.iastore, 1) := dk_79 (dk_at dksX3_begins_2 12 rfl rfl)
theorem dX3_begins_57 : decode cX3_begins 57 = .ok (.iinc 1 1, 3) := dk_132 1 1 (dk_at dksX3_begins_2 13 rfl rfl)
theorem dX3_begins_60 : decode cX3_begins 60 = .ok (.goto (-17), 3) := dk_167 255 239 (dk_at dksX3_begins_2 16 rfl rfl)
theorem dX3_begins_63 : decode cX3_begins 63 = .ok (.iconst 0, 1) := dk_3 (dk_at dksX3_begins_2 19 rfl rfl)
theorem dX3_begins_64 : decode cX3_begins 64 = .ok (.istore_n 1, 1) := dk_60 (dk_at dksX3_begins_2 20 rfl rfl)
theorem dX3_begins_65 : decode cX3_begins 65 = .ok (.iload_n 1, 1) := dk_27 (dk_at dksX3_begins_2 21 rfl rfl)
theorem dX3_begins_66 : decode cX3_begins 66 = .ok (.iconst 2, 1) := dk_5 (dk_at dksX3_begins_2 22 rfl rfl)
theorem dX3_begins_67 : decode cX3_begins 67 = .ok (.if_icmp .gt 16, 3) := dk_163 0 16 (dk_at dksX3_begins_3 0 rfl rfl)
theorem dX3_begins_70 : decode cX3_begins 70 = .ok (.aload_n 0, 1) := dk_42 (dk_at dksX3_begins_3 3 rfl rfl)
theorem dX3_begins_71 : decode cX3_begins 71 = .ok (.getfield 32, 3) := dk_180 0 32 (dk_at dksX3_begins_3 4 rfl rfl)
theorem dX3_begins_74 : decode cX3_begins 74 = .ok (.iload_n 1, 1) := dk_27 (dk_at dksX3_begins_3 7 rfl rfl)
theorem dX3_begins_75 : decode cX3_begins 75 = .ok (.iconst 0, 1) := dk_3 (dk_at dksX3_begins_3 8 rfl rfl)
theorem dX3_begins_76 : decode cX3_begins 76 = .ok (.iastore, 1) := dk_79 (dk_at dksX3_begins_3 9 rfl rfl)
theorem dX3_begins_77 : decode cX3_begins 77 = .ok (.iinc 1 1, 3) := dk_132 1 1 (dk_at dksX3_begins_3 10 rfl rfl)
theorem dX3_begins_80 : decode cX3_begins 80 = .ok (.goto (-15), 3) := dk_167 255 241 (dk_at dksX3_begins_3 13 rfl rfl)
theorem dX3_begins_83 : decode cX3_begins 83 = .ok (.aload_n 0, 1) := dk_42 (dk_at dksX3_begins_3 16 rfl rfl)
theorem dX3_begins_84 : decode cX3_begins 84 = .ok (.iconst 0, 1) := dk_3 (dk_at dksX3_begins_3 17 rfl rfl)
theorem dX3_begins_85 : decode cX3_begins 85 = .ok (.putfield 65, 3) := dk_181 0 65 (dk_at dksX3_begins_3 18 rfl rfl)
theorem dX3_begins_88 : decode cX3_begins 88 = .ok (.aload_n 0, 1) := dk_42 (dk_at dksX3_begins_3 21 rfl rfl)
theorem dX3_begins_89 : decode cX3_begins 89 = .ok (.iconst 0, 1) := dk_3 (dk_at dksX3_begins_3 22 rfl rfl)
theorem dX3_begins_90 : decode cX3_begins 90 = .ok (.putfield 68, 3) := dk_181 0 68 (dk_at dksX3_begins_4 0 rfl rfl)
theorem dX3_begins_93 : decode cX3_begins 93 = .ok (.return_, 1) := dk_177 (dk_at dksX3_begins_4 3 rfl rfl)
abbrev cX3_thrown : ByteArray := prog_15_method_2_code
def yX3_thrown : MethodName := ⟨RX3, "thrown", "()I"⟩
theorem dX3_thrown_0 : decode cX3_thrown 0 = .ok (.aload_n 0, 1) := by decide +kernel
theorem dX3_thrown_1 : decode cX3_thrown 1 = .ok (.getfield 54, 3) := by decide +kernel
theorem dX3_thrown_4 : decode cX3_thrown 4 = .ok (.ireturn, 1) := by decide +kernel
abbrev cX3_clear : ByteArray := prog_15_method_26_code
def yX3_clear : MethodName := ⟨RX3, "clear", "()I"⟩
def dkwX3_clear_0 : List UInt8 := [42, 180, 0, 65, 60, 42, 182, 0, 51, 42, 27, 182, 0, 125, 172]
abbrev dktX3_clear_0 : List UInt8 := dkwX3_clear_0 ++ []
theorem dksX3_clear_0 : cX3_clear.data.toList.drop 0 = dktX3_clear_0 := by decide +kernel
theorem dX3_clear_0 : decode cX3_clear 0 = .ok (.aload_n 0, 1) := dk_42 (dk_at dksX3_clear_0 0 rfl rfl)
theorem dX3_clear_1 : decode cX3_clear 1 = .ok (.getfield 65, 3) := dk_180 0 65 (dk_at dksX3_clear_0 1 rfl rfl)
theorem dX3_clear_4 : decode cX3_clear 4 = .ok (.istore_n 1, 1) := dk_60 (dk_at dksX3_clear_0 4 rfl rfl)
theorem dX3_clear_5 : decode cX3_clear 5 = .ok (.aload_n 0, 1) := dk_42 (dk_at dksX3_clear_0 5 rfl rfl)
theorem dX3_clear_6 : decode cX3_clear 6 = .ok (.invokevirtual 51, 3) := dk_182 0 51 (dk_at dksX3_clear_0 6 rfl rfl)
theorem dX3_clear_9 : decode cX3_clear 9 = .ok (.aload_n 0, 1) := dk_42 (dk_at dksX3_clear_0 9 rfl rfl)
theorem dX3_clear_10 : decode cX3_clear 10 = .ok (.iload_n 1, 1) := dk_27 (dk_at dksX3_clear_0 10 rfl rfl)
theorem dX3_clear_11 : decode cX3_clear 11 = .ok (.invokevirtual 125, 3) := dk_182 0 125 (dk_at dksX3_clear_0 11 rfl rfl)
theorem dX3_clear_14 : decode cX3_clear 14 = .ok (.ireturn, 1) := dk_172 (dk_at dksX3_clear_0 14 rfl rfl)
abbrev cX3_told : ByteArray := prog_15_method_4_code
def yX3_told : MethodName := ⟨RX3, "told", "(I)I"⟩
def dkwX3_told_0 : List UInt8 := [42, 3, 181, 0, 54, 27, 172]
abbrev dktX3_told_0 : List UInt8 := dkwX3_told_0 ++ []
theorem dksX3_told_0 : cX3_told.data.toList.drop 0 = dktX3_told_0 := by decide +kernel
theorem dX3_told_0 : decode cX3_told 0 = .ok (.aload_n 0, 1) := dk_42 (dk_at dksX3_told_0 0 rfl rfl)
theorem dX3_told_1 : decode cX3_told 1 = .ok (.iconst 0, 1) := dk_3 (dk_at dksX3_told_0 1 rfl rfl)
theorem dX3_told_2 : decode cX3_told 2 = .ok (.putfield 54, 3) := dk_181 0 54 (dk_at dksX3_told_0 2 rfl rfl)
theorem dX3_told_5 : decode cX3_told 5 = .ok (.iload_n 1, 1) := dk_27 (dk_at dksX3_told_0 5 rfl rfl)
theorem dX3_told_6 : decode cX3_told 6 = .ok (.ireturn, 1) := dk_172 (dk_at dksX3_told_0 6 rfl rfl)
abbrev cX3_core : ByteArray := prog_15_method_27_code
def yX3_core : MethodName := ⟨RX3, "core", "()I"⟩
def dkwX3_core_1 : List UInt8 := [79, 42, 89, 180, 0, 58, 4, 96, 181, 0, 58, 42, 42, 180, 0, 58, 4, 100, 182, 0, 125, 172]
abbrev dktX3_core_1 : List UInt8 := dkwX3_core_1 ++ []
def dkwX3_core_0 : List UInt8 := [42, 180, 0, 58, 16, 8, 160, 0, 9, 42, 4, 182, 0, 128, 172, 42, 180, 0, 7, 42, 180, 0, 58, 3]
abbrev dktX3_core_0 : List UInt8 := dkwX3_core_0 ++ dktX3_core_1
theorem dksX3_core_0 : cX3_core.data.toList.drop 0 = dktX3_core_0 := by decide +kernel
theorem dksX3_core_1 : cX3_core.data.toList.drop 24 = dktX3_core_1 := dk_seg dksX3_core_0 24 rfl rfl
theorem dX3_core_0 : decode cX3_core 0 = .ok (.aload_n 0, 1) := dk_42 (dk_at dksX3_core_0 0 rfl rfl)
theorem dX3_core_1 : decode cX3_core 1 = .ok (.getfield 58, 3) := dk_180 0 58 (dk_at dksX3_core_0 1 rfl rfl)
theorem dX3_core_4 : decode cX3_core 4 = .ok (.bipush 8, 2) := dk_16 8 (dk_at dksX3_core_0 4 rfl rfl)
theorem dX3_core_6 : decode cX3_core 6 = .ok (.if_icmp .ne 9, 3) := dk_160 0 9 (dk_at dksX3_core_0 6 rfl rfl)
theorem dX3_core_9 : decode cX3_core 9 = .ok (.aload_n 0, 1) := dk_42 (dk_at dksX3_core_0 9 rfl rfl)
theorem dX3_core_10 : decode cX3_core 10 = .ok (.iconst 1, 1) := dk_4 (dk_at dksX3_core_0 10 rfl rfl)
theorem dX3_core_11 : decode cX3_core 11 = .ok (.invokevirtual 128, 3) := dk_182 0 128 (dk_at dksX3_core_0 11 rfl rfl)
theorem dX3_core_14 : decode cX3_core 14 = .ok (.ireturn, 1) := dk_172 (dk_at dksX3_core_0 14 rfl rfl)
theorem dX3_core_15 : decode cX3_core 15 = .ok (.aload_n 0, 1) := dk_42 (dk_at dksX3_core_0 15 rfl rfl)
theorem dX3_core_16 : decode cX3_core 16 = .ok (.getfield 7, 3) := dk_180 0 7 (dk_at dksX3_core_0 16 rfl rfl)
theorem dX3_core_19 : decode cX3_core 19 = .ok (.aload_n 0, 1) := dk_42 (dk_at dksX3_core_0 19 rfl rfl)
theorem dX3_core_20 : decode cX3_core 20 = .ok (.getfield 58, 3) := dk_180 0 58 (dk_at dksX3_core_0 20 rfl rfl)
theorem dX3_core_23 : decode cX3_core 23 = .ok (.iconst 0, 1) := dk_3 (dk_at dksX3_core_0 23 rfl rfl)
theorem dX3_core_24 : decode cX3_core 24 = .ok (.iastore, 1) := dk_79 (dk_at dksX3_core_1 0 rfl rfl)
theorem dX3_core_25 : decode cX3_core 25 = .ok (.aload_n 0, 1) := dk_42 (dk_at dksX3_core_1 1 rfl rfl)
theorem dX3_core_26 : decode cX3_core 26 = .ok (.dup, 1) := dk_89 (dk_at dksX3_core_1 2 rfl rfl)
theorem dX3_core_27 : decode cX3_core 27 = .ok (.getfield 58, 3) := dk_180 0 58 (dk_at dksX3_core_1 3 rfl rfl)
theorem dX3_core_30 : decode cX3_core 30 = .ok (.iconst 1, 1) := dk_4 (dk_at dksX3_core_1 6 rfl rfl)
theorem dX3_core_31 : decode cX3_core 31 = .ok (.iadd, 1) := dk_96 (dk_at dksX3_core_1 7 rfl rfl)
theorem dX3_core_32 : decode cX3_core 32 = .ok (.putfield 58, 3) := dk_181 0 58 (dk_at dksX3_core_1 8 rfl rfl)
theorem dX3_core_35 : decode cX3_core 35 = .ok (.aload_n 0, 1) := dk_42 (dk_at dksX3_core_1 11 rfl rfl)
theorem dX3_core_36 : decode cX3_core 36 = .ok (.aload_n 0, 1) := dk_42 (dk_at dksX3_core_1 12 rfl rfl)
theorem dX3_core_37 : decode cX3_core 37 = .ok (.getfield 58, 3) := dk_180 0 58 (dk_at dksX3_core_1 13 rfl rfl)
theorem dX3_core_40 : decode cX3_core 40 = .ok (.iconst 1, 1) := dk_4 (dk_at dksX3_core_1 16 rfl rfl)
theorem dX3_core_41 : decode cX3_core 41 = .ok (.isub, 1) := dk_100 (dk_at dksX3_core_1 17 rfl rfl)
theorem dX3_core_42 : decode cX3_core 42 = .ok (.invokevirtual 125, 3) := dk_182 0 125 (dk_at dksX3_core_1 18 rfl rfl)
theorem dX3_core_45 : decode cX3_core 45 = .ok (.ireturn, 1) := dk_172 (dk_at dksX3_core_1 21 rfl rfl)
abbrev cX3_refuse : ByteArray := prog_15_method_3_code
def yX3_refuse : MethodName := ⟨RX3, "refuse", "(I)I"⟩
def dkwX3_refuse_0 : List UInt8 := [42, 27, 181, 0, 54, 3, 172]
abbrev dktX3_refuse_0 : List UInt8 := dkwX3_refuse_0 ++ []
theorem dksX3_refuse_0 : cX3_refuse.data.toList.drop 0 = dktX3_refuse_0 := by decide +kernel
theorem dX3_refuse_0 : decode cX3_refuse 0 = .ok (.aload_n 0, 1) := dk_42 (dk_at dksX3_refuse_0 0 rfl rfl)
theorem dX3_refuse_1 : decode cX3_refuse 1 = .ok (.iload_n 1, 1) := dk_27 (dk_at dksX3_refuse_0 1 rfl rfl)
theorem dX3_refuse_2 : decode cX3_refuse 2 = .ok (.putfield 54, 3) := dk_181 0 54 (dk_at dksX3_refuse_0 2 rfl rfl)
theorem dX3_refuse_5 : decode cX3_refuse 5 = .ok (.iconst 0, 1) := dk_3 (dk_at dksX3_refuse_0 5 rfl rfl)
theorem dX3_refuse_6 : decode cX3_refuse 6 = .ok (.ireturn, 1) := dk_172 (dk_at dksX3_refuse_0 6 rfl rfl)
abbrev cX3_add : ByteArray := prog_15_method_32_code
def yX3_add : MethodName := ⟨RX3, "add", "(IZZZ)I"⟩
def dkwX3_add_4 : List UInt8 := [42, 180, 0, 26, 27, 4, 79, 42, 42, 182, 0, 134, 182, 0, 125, 172]
abbrev dktX3_add_4 : List UInt8 := dkwX3_add_4 ++ []
def dkwX3_add_3 : List UInt8 := [27, 21, 4, 84, 42, 180, 0, 26, 27, 3, 79, 21, 4, 153, 0, 18, 42, 27, 3, 182, 0, 131, 54, 5]
abbrev dktX3_add_3 : List UInt8 := dkwX3_add_3 ++ dktX3_add_4
def dkwX3_add_2 : List UInt8 := [180, 0, 13, 27, 4, 84, 42, 180, 0, 17, 27, 28, 84, 42, 180, 0, 20, 27, 29, 84, 42, 180, 0, 23]
abbrev dktX3_add_2 : List UInt8 := dkwX3_add_2 ++ dktX3_add_3
def dkwX3_add_1 : List UInt8 := [42, 4, 182, 0, 128, 172, 42, 180, 0, 13, 27, 51, 153, 0, 9, 42, 5, 182, 0, 128, 172, 42]
abbrev dktX3_add_1 : List UInt8 := dkwX3_add_1 ++ dktX3_add_2
def dkwX3_add_0 : List UInt8 := [27, 3, 16, 19, 184, 0, 61, 153, 0, 17, 27, 16, 10, 159, 0, 11, 28, 154, 0, 13, 29, 154, 0, 9]
abbrev dktX3_add_0 : List UInt8 := dkwX3_add_0 ++ dktX3_add_1
theorem dksX3_add_0 : cX3_add.data.toList.drop 0 = dktX3_add_0 := by decide +kernel
theorem dksX3_add_1 : cX3_add.data.toList.drop 24 = dktX3_add_1 := dk_seg dksX3_add_0 24 rfl rfl
theorem dksX3_add_2 : cX3_add.data.toList.drop 46 = dktX3_add_2 := dk_seg dksX3_add_1 22 rfl rfl
theorem dksX3_add_3 : cX3_add.data.toList.drop 70 = dktX3_add_3 := dk_seg dksX3_add_2 24 rfl rfl
theorem dksX3_add_4 : cX3_add.data.toList.drop 94 = dktX3_add_4 := dk_seg dksX3_add_3 24 rfl rfl
theorem dX3_add_0 : decode cX3_add 0 = .ok (.iload_n 1, 1) := dk_27 (dk_at dksX3_add_0 0 rfl rfl)
theorem dX3_add_1 : decode cX3_add 1 = .ok (.iconst 0, 1) := dk_3 (dk_at dksX3_add_0 1 rfl rfl)
theorem dX3_add_2 : decode cX3_add 2 = .ok (.bipush 19, 2) := dk_16 19 (dk_at dksX3_add_0 2 rfl rfl)
theorem dX3_add_4 : decode cX3_add 4 = .ok (.invokestatic 61, 3) := dk_184 0 61 (dk_at dksX3_add_0 4 rfl rfl)
theorem dX3_add_7 : decode cX3_add 7 = .ok (.ifCond .eq 17, 3) := dk_153 0 17 (dk_at dksX3_add_0 7 rfl rfl)
theorem dX3_add_10 : decode cX3_add 10 = .ok (.iload_n 1, 1) := dk_27 (dk_at dksX3_add_0 10 rfl rfl)
theorem dX3_add_11 : decode cX3_add 11 = .ok (.bipush 10, 2) := dk_16 10 (dk_at dksX3_add_0 11 rfl rfl)
theorem dX3_add_13 : decode cX3_add 13 = .ok (.if_icmp .eq 11, 3) := dk_159 0 11 (dk_at dksX3_add_0 13 rfl rfl)
theorem dX3_add_16 : decode cX3_add 16 = .ok (.iload_n 2, 1) := dk_28 (dk_at dksX3_add_0 16 rfl rfl)
theorem dX3_add_17 : decode cX3_add 17 = .ok (.ifCond .ne 13, 3) := dk_154 0 13 (dk_at dksX3_add_0 17 rfl rfl)
theorem dX3_add_20 : decode cX3_add 20 = .ok (.iload_n 3, 1) := dk_29 (dk_at dksX3_add_0 20 rfl rfl)
theorem dX3_add_21 : decode cX3_add 21 = .ok (.ifCond .ne 9, 3) := dk_154 0 9 (dk_at dksX3_add_0 21 rfl rfl)
theorem dX3_add_24 : decode cX3_add 24 = .ok (.aload_n 0, 1) := dk_42 (dk_at dksX3_add_1 0 rfl rfl)
theorem dX3_add_25 : decode cX3_add 25 = .ok (.iconst 1, 1) := dk_4 (dk_at dksX3_add_1 1 rfl rfl)
theorem dX3_add_26 : decode cX3_add 26 = .ok (.invokevirtual 128, 3) := dk_182 0 128 (dk_at dksX3_add_1 2 rfl rfl)
theorem dX3_add_29 : decode cX3_add 29 = .ok (.ireturn, 1) := dk_172 (dk_at dksX3_add_1 5 rfl rfl)
theorem dX3_add_30 : decode cX3_add 30 = .ok (.aload_n 0, 1) := dk_42 (dk_at dksX3_add_1 6 rfl rfl)
theorem dX3_add_31 : decode cX3_add 31 = .ok (.getfield 13, 3) := dk_180 0 13 (dk_at dksX3_add_1 7 rfl rfl)
theorem dX3_add_34 : decode cX3_add 34 = .ok (.iload_n 1, 1) := dk_27 (dk_at dksX3_add_1 10 rfl rfl)
theorem dX3_add_35 : decode cX3_add 35 = .ok (.baload, 1) := dk_51 (dk_at dksX3_add_1 11 rfl rfl)
theorem dX3_add_36 : decode cX3_add 36 = .ok (.ifCond .eq 9, 3) := dk_153 0 9 (dk_at dksX3_add_1 12 rfl rfl)
theorem dX3_add_39 : decode cX3_add 39 = .ok (.aload_n 0, 1) := dk_42 (dk_at dksX3_add_1 15 rfl rfl)
theorem dX3_add_40 : decode cX3_add 40 = .ok (.iconst 2, 1) := dk_5 (dk_at dksX3_add_1 16 rfl rfl)
theorem dX3_add_41 : decode cX3_add 41 = .ok (.invokevirtual 128, 3) := dk_182 0 128 (dk_at dksX3_add_1 17 rfl rfl)
theorem dX3_add_44 : decode cX3_add 44 = .ok (.ireturn, 1) := dk_172 (dk_at dksX3_add_1 20 rfl rfl)
theorem dX3_add_45 : decode cX3_add 45 = .ok (.aload_n 0, 1) := dk_42 (dk_at dksX3_add_1 21 rfl rfl)
theorem dX3_add_46 : decode cX3_add 46 = .ok (.getfield 13, 3) := dk_180 0 13 (dk_at dksX3_add_2 0 rfl rfl)
theorem dX3_add_49 : decode cX3_add 49 = .ok (.iload_n 1, 1) := dk_27 (dk_at dksX3_add_2 3 rfl rfl)
theorem dX3_add_50 : decode cX3_add 50 = .ok (.iconst 1, 1) := dk_4 (dk_at dksX3_add_2 4 rfl rfl)
theorem dX3_add_51 : decode cX3_add 51 = .ok (.bastore, 1) := dk_84 (dk_at dksX3_add_2 5 rfl rfl)
theorem dX3_add_52 : decode cX3_add 52 = .ok (.aload_n 0, 1) := dk_42 (dk_at dksX3_add_2 6 rfl rfl)
theorem dX3_add_53 : decode cX3_add 53 = .ok (.getfield 17, 3) := dk_180 0 17 (dk_at dksX3_add_2 7 rfl rfl)
theorem dX3_add_56 : decode cX3_add 56 = .ok (.iload_n 1, 1) := dk_27 (dk_at dksX3_add_2 10 rfl rfl)
theorem dX3_add_57 : decode cX3_add 57 = .ok (.iload_n 2, 1) := dk_28 (dk_at dksX3_add_2 11 rfl rfl)
theorem dX3_add_58 : decode cX3_add 58 = .ok (.bastore, 1) := dk_84 (dk_at dksX3_add_2 12 rfl rfl)
theorem dX3_add_59 : decode cX3_add 59 = .ok (.aload_n 0, 1) := dk_42 (dk_at dksX3_add_2 13 rfl rfl)
theorem dX3_add_60 : decode cX3_add 60 = .ok (.getfield 20, 3) := dk_180 0 20 (dk_at dksX3_add_2 14 rfl rfl)
theorem dX3_add_63 : decode cX3_add 63 = .ok (.iload_n 1, 1) := dk_27 (dk_at dksX3_add_2 17 rfl rfl)
theorem dX3_add_64 : decode cX3_add 64 = .ok (.iload_n 3, 1) := dk_29 (dk_at dksX3_add_2 18 rfl rfl)
theorem dX3_add_65 : decode cX3_add 65 = .ok (.bastore, 1) := dk_84 (dk_at dksX3_add_2 19 rfl rfl)
theorem dX3_add_66 : decode cX3_add 66 = .ok (.aload_n 0, 1) := dk_42 (dk_at dksX3_add_2 20 rfl rfl)
theorem dX3_add_67 : decode cX3_add 67 = .ok (.getfield 23, 3) := dk_180 0 23 (dk_at dksX3_add_2 21 rfl rfl)
theorem dX3_add_70 : decode cX3_add 70 = .ok (.iload_n 1, 1) := dk_27 (dk_at dksX3_add_3 0 rfl rfl)
theorem dX3_add_71 : decode cX3_add 71 = .ok (.iload 4, 2) := dk_21 4 (dk_at dksX3_add_3 1 rfl rfl)
theorem dX3_add_73 : decode cX3_add 73 = .ok (.bastore, 1) := dk_84 (dk_at dksX3_add_3 3 rfl rfl)
theorem dX3_add_74 : decode cX3_add 74 = .ok (.aload_n 0, 1) := dk_42 (dk_at dksX3_add_3 4 rfl rfl)
theorem dX3_add_75 : decode cX3_add 75 = .ok (.getfield 26, 3) := dk_180 0 26 (dk_at dksX3_add_3 5 rfl rfl)
theorem dX3_add_78 : decode cX3_add 78 = .ok (.iload_n 1, 1) := dk_27 (dk_at dksX3_add_3 8 rfl rfl)
theorem dX3_add_79 : decode cX3_add 79 = .ok (.iconst 0, 1) := dk_3 (dk_at dksX3_add_3 9 rfl rfl)
theorem dX3_add_80 : decode cX3_add 80 = .ok (.iastore, 1) := dk_79 (dk_at dksX3_add_3 10 rfl rfl)
theorem dX3_add_81 : decode cX3_add 81 = .ok (.iload 4, 2) := dk_21 4 (dk_at dksX3_add_3 11 rfl rfl)
theorem dX3_add_83 : decode cX3_add 83 = .ok (.ifCond .eq 18, 3) := dk_153 0 18 (dk_at dksX3_add_3 13 rfl rfl)
theorem dX3_add_86 : decode cX3_add 86 = .ok (.aload_n 0, 1) := dk_42 (dk_at dksX3_add_3 16 rfl rfl)
theorem dX3_add_87 : decode cX3_add 87 = .ok (.iload_n 1, 1) := dk_27 (dk_at dksX3_add_3 17 rfl rfl)
theorem dX3_add_88 : decode cX3_add 88 = .ok (.iconst 0, 1) := dk_3 (dk_at dksX3_add_3 18 rfl rfl)
theorem dX3_add_89 : decode cX3_add 89 = .ok (.invokevirtual 131, 3) := dk_182 0 131 (dk_at dksX3_add_3 19 rfl rfl)
theorem dX3_add_92 : decode cX3_add 92 = .ok (.istore 5, 2) := dk_54 5 (dk_at dksX3_add_3 22 rfl rfl)
theorem dX3_add_94 : decode cX3_add 94 = .ok (.aload_n 0, 1) := dk_42 (dk_at dksX3_add_4 0 rfl rfl)
theorem dX3_add_95 : decode cX3_add 95 = .ok (.getfield 26, 3) := dk_180 0 26 (dk_at dksX3_add_4 1 rfl rfl)
theorem dX3_add_98 : decode cX3_add 98 = .ok (.iload_n 1, 1) := dk_27 (dk_at dksX3_add_4 4 rfl rfl)
theorem dX3_add_99 : decode cX3_add 99 = .ok (.iconst 1, 1) := dk_4 (dk_at dksX3_add_4 5 rfl rfl)
theorem dX3_add_100 : decode cX3_add 100 = .ok (.iastore, 1) := dk_79 (dk_at dksX3_add_4 6 rfl rfl)
theorem dX3_add_101 : decode cX3_add 101 = .ok (.aload_n 0, 1) := dk_42 (dk_at dksX3_add_4 7 rfl rfl)
theorem dX3_add_102 : decode cX3_add 102 = .ok (.aload_n 0, 1) := dk_42 (dk_at dksX3_add_4 8 rfl rfl)
theorem dX3_add_103 : decode cX3_add 103 = .ok (.invokevirtual 134, 3) := dk_182 0 134 (dk_at dksX3_add_4 9 rfl rfl)
theorem dX3_add_106 : decode cX3_add 106 = .ok (.invokevirtual 125, 3) := dk_182 0 125 (dk_at dksX3_add_4 12 rfl rfl)
theorem dX3_add_109 : decode cX3_add 109 = .ok (.ireturn, 1) := dk_172 (dk_at dksX3_add_4 15 rfl rfl)
abbrev cX3_in : ByteArray := prog_15_method_5_code
def yX3_in : MethodName := ⟨RX3, "in", "(III)Z"⟩
def dkwX3_in_0 : List UInt8 := [26, 27, 161, 0, 12, 26, 28, 163, 0, 7, 4, 167, 0, 4, 3, 172]
abbrev dktX3_in_0 : List UInt8 := dkwX3_in_0 ++ []
theorem dksX3_in_0 : cX3_in.data.toList.drop 0 = dktX3_in_0 := by decide +kernel
theorem dX3_in_0 : decode cX3_in 0 = .ok (.iload_n 0, 1) := dk_26 (dk_at dksX3_in_0 0 rfl rfl)
theorem dX3_in_1 : decode cX3_in 1 = .ok (.iload_n 1, 1) := dk_27 (dk_at dksX3_in_0 1 rfl rfl)
theorem dX3_in_2 : decode cX3_in 2 = .ok (.if_icmp .lt 12, 3) := dk_161 0 12 (dk_at dksX3_in_0 2 rfl rfl)
theorem dX3_in_5 : decode cX3_in 5 = .ok (.iload_n 0, 1) := dk_26 (dk_at dksX3_in_0 5 rfl rfl)
theorem dX3_in_6 : decode cX3_in 6 = .ok (.iload_n 2, 1) := dk_28 (dk_at dksX3_in_0 6 rfl rfl)
theorem dX3_in_7 : decode cX3_in 7 = .ok (.if_icmp .gt 7, 3) := dk_163 0 7 (dk_at dksX3_in_0 7 rfl rfl)
theorem dX3_in_10 : decode cX3_in 10 = .ok (.iconst 1, 1) := dk_4 (dk_at dksX3_in_0 10 rfl rfl)
theorem dX3_in_11 : decode cX3_in 11 = .ok (.goto 4, 3) := dk_167 0 4 (dk_at dksX3_in_0 11 rfl rfl)
theorem dX3_in_14 : decode cX3_in 14 = .ok (.iconst 0, 1) := dk_3 (dk_at dksX3_in_0 14 rfl rfl)
theorem dX3_in_15 : decode cX3_in 15 = .ok (.ireturn, 1) := dk_172 (dk_at dksX3_in_0 15 rfl rfl)
abbrev cX3_startsOnAll : ByteArray := prog_15_method_29_code
def yX3_startsOnAll : MethodName := ⟨RX3, "startsOnAll", "(II)Z"⟩
def dkwX3_startsOnAll_3 : List UInt8 := [172, 132, 3, 1, 167, 255, 182, 4, 172]
abbrev dktX3_startsOnAll_3 : List UInt8 := dkwX3_startsOnAll_3 ++ []
def dkwX3_startsOnAll_2 : List UInt8 := [46, 27, 164, 0, 15, 42, 21, 4, 27, 28, 3, 3, 182, 0, 105, 54, 5, 132, 4, 255, 167, 255, 225, 3]
abbrev dktX3_startsOnAll_2 : List UInt8 := dkwX3_startsOnAll_2 ++ dktX3_startsOnAll_3
def dkwX3_startsOnAll_1 : List UInt8 := [4, 4, 182, 0, 105, 154, 0, 44, 29, 4, 100, 54, 4, 21, 4, 155, 0, 32, 42, 180, 0, 7, 21, 4]
abbrev dktX3_startsOnAll_1 : List UInt8 := dkwX3_startsOnAll_1 ++ dktX3_startsOnAll_2
def dkwX3_startsOnAll_0 : List UInt8 := [3, 62, 29, 42, 180, 0, 58, 162, 0, 72, 42, 180, 0, 7, 29, 46, 27, 164, 0, 56, 42, 29, 27, 28]
abbrev dktX3_startsOnAll_0 : List UInt8 := dkwX3_startsOnAll_0 ++ dktX3_startsOnAll_1
theorem dksX3_startsOnAll_0 : cX3_startsOnAll.data.toList.drop 0 = dktX3_startsOnAll_0 := by decide +kernel
theorem dksX3_startsOnAll_1 : cX3_startsOnAll.data.toList.drop 24 = dktX3_startsOnAll_1 := dk_seg dksX3_startsOnAll_0 24 rfl rfl
theorem dksX3_startsOnAll_2 : cX3_startsOnAll.data.toList.drop 48 = dktX3_startsOnAll_2 := dk_seg dksX3_startsOnAll_1 24 rfl rfl
theorem dksX3_startsOnAll_3 : cX3_startsOnAll.data.toList.drop 72 = dktX3_startsOnAll_3 := dk_seg dksX3_startsOnAll_2 24 rfl rfl
theorem dX3_startsOnAll_0 : decode cX3_startsOnAll 0 = .ok (.iconst 0, 1) := dk_3 (dk_at dksX3_startsOnAll_0 0 rfl rfl)
theorem dX3_startsOnAll_1 : decode cX3_startsOnAll 1 = .ok (.istore_n 3, 1) := dk_62 (dk_at dksX3_startsOnAll_0 1 rfl rfl)
theorem dX3_startsOnAll_2 : decode cX3_startsOnAll 2 = .ok (.iload_n 3, 1) := dk_29 (dk_at dksX3_startsOnAll_0 2 rfl rfl)
theorem dX3_startsOnAll_3 : decode cX3_startsOnAll 3 = .ok (.aload_n 0, 1) := dk_42 (dk_at dksX3_startsOnAll_0 3 rfl rfl)
theorem dX3_startsOnAll_4 : decode cX3_startsOnAll 4 = .ok (.getfield 58, 3) := dk_180 0 58 (dk_at dksX3_startsOnAll_0 4 rfl rfl)
theorem dX3_startsOnAll_7 : decode cX3_startsOnAll 7 = .ok (.if_icmp .ge 72, 3) := dk_162 0 72 (dk_at dksX3_startsOnAll_0 7 rfl rfl)
theorem dX3_startsOnAll_10 : decode cX3_startsOnAll 10 = .ok (.aload_n 0, 1) := dk_42 (dk_at dksX3_startsOnAll_0 10 rfl rfl)
theorem dX3_startsOnAll_11 : decode cX3_startsOnAll 11 = .ok (.getfield 7, 3) := dk_180 0 7 (dk_at dksX3_startsOnAll_0 11 rfl rfl)
theorem dX3_startsOnAll_14 : decode cX3_startsOnAll 14 = .ok (.iload_n 3, 1) := dk_29 (dk_at dksX3_startsOnAll_0 14 rfl rfl)
theorem dX3_startsOnAll_15 : decode cX3_startsOnAll 15 = .ok (.iaload, 1) := dk_46 (dk_at dksX3_startsOnAll_0 15 rfl rfl)
theorem dX3_startsOnAll_16 : decode cX3_startsOnAll 16 = .ok (.iload_n 1, 1) := dk_27 (dk_at dksX3_startsOnAll_0 16 rfl rfl)
theorem dX3_startsOnAll_17 : decode cX3_startsOnAll 17 = .ok (.if_icmp .le 56, 3) := dk_164 0 56 (dk_at dksX3_startsOnAll_0 17 rfl rfl)
theorem dX3_startsOnAll_20 : decode cX3_startsOnAll 20 = .ok (.aload_n 0, 1) := dk_42 (dk_at dksX3_startsOnAll_0 20 rfl rfl)
theorem dX3_startsOnAll_21 : decode cX3_startsOnAll 21 = .ok (.iload_n 3, 1) := dk_29 (dk_at dksX3_startsOnAll_0 21 rfl rfl)
theorem dX3_startsOnAll_22 : decode cX3_startsOnAll 22 = .ok (.iload_n 1, 1) := dk_27 (dk_at dksX3_startsOnAll_0 22 rfl rfl)
theorem dX3_startsOnAll_23 : decode cX3_startsOnAll 23 = .ok (.iload_n 2, 1) := dk_28 (dk_at dksX3_startsOnAll_0 23 rfl rfl)
theorem dX3_startsOnAll_24 : decode cX3_startsOnAll 24 = .ok (.iconst 1, 1) := dk_4 (dk_at dksX3_startsOnAll_1 0 rfl rfl)
theorem dX3_startsOnAll_25 : decode cX3_startsOnAll 25 = .ok (.iconst 1, 1) := dk_4 (dk_at dksX3_startsOnAll_1 1 rfl rfl)
theorem dX3_startsOnAll_26 : decode cX3_startsOnAll 26 = .ok (.invokevirtual 105, 3) := dk_182 0 105 (dk_at dksX3_startsOnAll_1 2 rfl rfl)
theorem dX3_startsOnAll_29 : decode cX3_startsOnAll 29 = .ok (.ifCond .ne 44, 3) := dk_154 0 44 (dk_at dksX3_startsOnAll_1 5 rfl rfl)
theorem dX3_startsOnAll_32 : decode cX3_startsOnAll 32 = .ok (.iload_n 3, 1) := dk_29 (dk_at dksX3_startsOnAll_1 8 rfl rfl)
theorem dX3_startsOnAll_33 : decode cX3_startsOnAll 33 = .ok (.iconst 1, 1) := dk_4 (dk_at dksX3_startsOnAll_1 9 rfl rfl)
theorem dX3_startsOnAll_34 : decode cX3_startsOnAll 34 = .ok (.isub, 1) := dk_100 (dk_at dksX3_startsOnAll_1 10 rfl rfl)
theorem dX3_startsOnAll_35 : decode cX3_startsOnAll 35 = .ok (.istore 4, 2) := dk_54 4 (dk_at dksX3_startsOnAll_1 11 rfl rfl)
theorem dX3_startsOnAll_37 : decode cX3_startsOnAll 37 = .ok (.iload 4, 2) := dk_21 4 (dk_at dksX3_startsOnAll_1 13 rfl rfl)
theorem dX3_startsOnAll_39 : decode cX3_startsOnAll 39 = .ok (.ifCond .lt 32, 3) := dk_155 0 32 (dk_at dksX3_startsOnAll_1 15 rfl rfl)
theorem dX3_startsOnAll_42 : decode cX3_startsOnAll 42 = .ok (.aload_n 0, 1) := dk_42 (dk_at dksX3_startsOnAll_1 18 rfl rfl)
theorem dX3_startsOnAll_43 : decode cX3_startsOnAll 43 = .ok (.getfield 7, 3) := dk_180 0 7 (dk_at dksX3_startsOnAll_1 19 rfl rfl)
theorem dX3_startsOnAll_46 : decode cX3_startsOnAll 46 = .ok (.iload 4, 2) := dk_21 4 (dk_at dksX3_startsOnAll_1 22 rfl rfl)
theorem dX3_startsOnAll_48 : decode cX3_startsOnAll 48 = .ok (.iaload, 1) := dk_46 (dk_at dksX3_startsOnAll_2 0 rfl rfl)
theorem dX3_startsOnAll_49 : decode cX3_startsOnAll 49 = .ok (.iload_n 1, 1) := dk_27 (dk_at dksX3_startsOnAll_2 1 rfl rfl)
theorem dX3_startsOnAll_50 : decode cX3_startsOnAll 50 = .ok (.if_icmp .le 15, 3) := dk_164 0 15 (dk_at dksX3_startsOnAll_2 2 rfl rfl)
theorem dX3_startsOnAll_53 : decode cX3_startsOnAll 53 = .ok (.aload_n 0, 1) := dk_42 (dk_at dksX3_startsOnAll_2 5 rfl rfl)
theorem dX3_startsOnAll_54 : decode cX3_startsOnAll 54 = .ok (.iload 4, 2) := dk_21 4 (dk_at dksX3_startsOnAll_2 6 rfl rfl)
theorem dX3_startsOnAll_56 : decode cX3_startsOnAll 56 = .ok (.iload_n 1, 1) := dk_27 (dk_at dksX3_startsOnAll_2 8 rfl rfl)
theorem dX3_startsOnAll_57 : decode cX3_startsOnAll 57 = .ok (.iload_n 2, 1) := dk_28 (dk_at dksX3_startsOnAll_2 9 rfl rfl)
theorem dX3_startsOnAll_58 : decode cX3_startsOnAll 58 = .ok (.iconst 0, 1) := dk_3 (dk_at dksX3_startsOnAll_2 10 rfl rfl)
theorem dX3_startsOnAll_59 : decode cX3_startsOnAll 59 = .ok (.iconst 0, 1) := dk_3 (dk_at dksX3_startsOnAll_2 11 rfl rfl)
theorem dX3_startsOnAll_60 : decode cX3_startsOnAll 60 = .ok (.invokevirtual 105, 3) := dk_182 0 105 (dk_at dksX3_startsOnAll_2 12 rfl rfl)
theorem dX3_startsOnAll_63 : decode cX3_startsOnAll 63 = .ok (.istore 5, 2) := dk_54 5 (dk_at dksX3_startsOnAll_2 15 rfl rfl)
theorem dX3_startsOnAll_65 : decode cX3_startsOnAll 65 = .ok (.iinc 4 (-1), 3) := dk_132 4 255 (dk_at dksX3_startsOnAll_2 17 rfl rfl)
theorem dX3_startsOnAll_68 : decode cX3_startsOnAll 68 = .ok (.goto (-31), 3) := dk_167 255 225 (dk_at dksX3_startsOnAll_2 20 rfl rfl)
theorem dX3_startsOnAll_71 : decode cX3_startsOnAll 71 = .ok (.iconst 0, 1) := dk_3 (dk_at dksX3_startsOnAll_2 23 rfl rfl)
theorem dX3_startsOnAll_72 : decode cX3_startsOnAll 72 = .ok (.ireturn, 1) := dk_172 (dk_at dksX3_startsOnAll_3 0 rfl rfl)
theorem dX3_startsOnAll_73 : decode cX3_startsOnAll 73 = .ok (.iinc 3 1, 3) := dk_132 3 1 (dk_at dksX3_startsOnAll_3 1 rfl rfl)
theorem dX3_startsOnAll_76 : decode cX3_startsOnAll 76 = .ok (.goto (-74), 3) := dk_167 255 182 (dk_at dksX3_startsOnAll_3 4 rfl rfl)
theorem dX3_startsOnAll_79 : decode cX3_startsOnAll 79 = .ok (.iconst 1, 1) := dk_4 (dk_at dksX3_startsOnAll_3 7 rfl rfl)
theorem dX3_startsOnAll_80 : decode cX3_startsOnAll 80 = .ok (.ireturn, 1) := dk_172 (dk_at dksX3_startsOnAll_3 8 rfl rfl)
abbrev cX3_calls : ByteArray := prog_15_method_20_code
def yX3_calls : MethodName := ⟨RX3, "calls", "(IIIZZ)Z"⟩
def dkwX3_calls_7 : List UInt8 := [154, 0, 7, 4, 167, 0, 4, 3, 172]
abbrev dktX3_calls_7 : List UInt8 := dkwX3_calls_7 ++ []
def dkwX3_calls_6 : List UInt8 := [180, 0, 48, 42, 180, 0, 65, 21, 8, 79, 42, 89, 180, 0, 65, 4, 96, 181, 0, 65, 21, 10]
abbrev dktX3_calls_6 : List UInt8 := dkwX3_calls_6 ++ dktX3_calls_7
def dkwX3_calls_5 : List UInt8 := [180, 0, 29, 21, 9, 92, 46, 4, 100, 79, 42, 89, 180, 0, 68, 4, 96, 181, 0, 68, 132, 8, 1, 42]
abbrev dktX3_calls_5 : List UInt8 := dkwX3_calls_5 ++ dktX3_calls_6
def dkwX3_calls_4 : List UInt8 := [180, 0, 29, 21, 9, 46, 158, 0, 7, 4, 167, 0, 4, 3, 54, 10, 21, 10, 153, 0, 27, 42]
abbrev dktX3_calls_4 : List UInt8 := dkwX3_calls_4 ++ dktX3_calls_5
def dkwX3_calls_3 : List UInt8 := [153, 0, 6, 132, 8, 2, 27, 28, 29, 21, 4, 184, 0, 101, 54, 9, 21, 5, 153, 0, 17, 42]
abbrev dktX3_calls_3 : List UInt8 := dkwX3_calls_3 ++ dktX3_calls_4
def dkwX3_calls_2 : List UInt8 := [16, 16, 21, 7, 4, 96, 104, 96, 17, 1, 0, 28, 104, 96, 17, 32, 0, 27, 104, 96, 54, 8, 21, 4]
abbrev dktX3_calls_2 : List UInt8 := dkwX3_calls_2 ++ dktX3_calls_3
def dkwX3_calls_1 : List UInt8 := [154, 0, 5, 4, 172, 27, 54, 7, 28, 16, 10, 162, 0, 9, 42, 182, 0, 90, 54, 7, 7, 29, 104]
abbrev dktX3_calls_1 : List UInt8 := dkwX3_calls_1 ++ dktX3_calls_2
def dkwX3_calls_0 : List UInt8 := [42, 180, 0, 20, 28, 51, 54, 6, 21, 4, 153, 0, 11, 42, 180, 0, 17, 28, 51, 54, 6, 21, 6]
abbrev dktX3_calls_0 : List UInt8 := dkwX3_calls_0 ++ dktX3_calls_1
theorem dksX3_calls_0 : cX3_calls.data.toList.drop 0 = dktX3_calls_0 := by decide +kernel
theorem dksX3_calls_1 : cX3_calls.data.toList.drop 23 = dktX3_calls_1 := dk_seg dksX3_calls_0 23 rfl rfl
theorem dksX3_calls_2 : cX3_calls.data.toList.drop 46 = dktX3_calls_2 := dk_seg dksX3_calls_1 23 rfl rfl
theorem dksX3_calls_3 : cX3_calls.data.toList.drop 70 = dktX3_calls_3 := dk_seg dksX3_calls_2 24 rfl rfl
theorem dksX3_calls_4 : cX3_calls.data.toList.drop 92 = dktX3_calls_4 := dk_seg dksX3_calls_3 22 rfl rfl
theorem dksX3_calls_5 : cX3_calls.data.toList.drop 114 = dktX3_calls_5 := dk_seg dksX3_calls_4 22 rfl rfl
theorem dksX3_calls_6 : cX3_calls.data.toList.drop 138 = dktX3_calls_6 := dk_seg dksX3_calls_5 24 rfl rfl
theorem dksX3_calls_7 : cX3_calls.data.toList.drop 160 = dktX3_calls_7 := dk_seg dksX3_calls_6 22 rfl rfl
theorem dX3_calls_0 : decode cX3_calls 0 = .ok (.aload_n 0, 1) := dk_42 (dk_at dksX3_calls_0 0 rfl rfl)
theorem dX3_calls_1 : decode cX3_calls 1 = .ok (.getfield 20, 3) := dk_180 0 20 (dk_at dksX3_calls_0 1 rfl rfl)
theorem dX3_calls_4 : decode cX3_calls 4 = .ok (.iload_n 2, 1) := dk_28 (dk_at dksX3_calls_0 4 rfl rfl)
theorem dX3_calls_5 : decode cX3_calls 5 = .ok (.baload, 1) := dk_51 (dk_at dksX3_calls_0 5 rfl rfl)
theorem dX3_calls_6 : decode cX3_calls 6 = .ok (.istore 6, 2) := dk_54 6 (dk_at dksX3_calls_0 6 rfl rfl)
theorem dX3_calls_8 : decode cX3_calls 8 = .ok (.iload 4, 2) := dk_21 4 (dk_at dksX3_calls_0 8 rfl rfl)
theorem dX3_calls_10 : decode cX3_calls 10 = .ok (.ifCond .eq 11, 3) := dk_153 0 11 (dk_at dksX3_calls_0 10 rfl rfl)
theorem dX3_calls_13 : decode cX3_calls 13 = .ok (.aload_n 0, 1) := dk_42 (dk_at dksX3_calls_0 13 rfl rfl)
theorem dX3_calls_14 : decode cX3_calls 14 = .ok (.getfield 17, 3) := dk_180 0 17 (dk_at dksX3_calls_0 14 rfl rfl)
theorem dX3_calls_17 : decode cX3_calls 17 = .ok (.iload_n 2, 1) := dk_28 (dk_at dksX3_calls_0 17 rfl rfl)
theorem dX3_calls_18 : decode cX3_calls 18 = .ok (.baload, 1) := dk_51 (dk_at dksX3_calls_0 18 rfl rfl)
theorem dX3_calls_19 : decode cX3_calls 19 = .ok (.istore 6, 2) := dk_54 6 (dk_at dksX3_calls_0 19 rfl rfl)
theorem dX3_calls_21 : decode cX3_calls 21 = .ok (.iload 6, 2) := dk_21 6 (dk_at dksX3_calls_0 21 rfl rfl)
theorem dX3_calls_23 : decode cX3_calls 23 = .ok (.ifCond .ne 5, 3) := dk_154 0 5 (dk_at dksX3_calls_1 0 rfl rfl)
theorem dX3_calls_26 : decode cX3_calls 26 = .ok (.iconst 1, 1) := dk_4 (dk_at dksX3_calls_1 3 rfl rfl)
theorem dX3_calls_27 : decode cX3_calls 27 = .ok (.ireturn, 1) := dk_172 (dk_at dksX3_calls_1 4 rfl rfl)
theorem dX3_calls_28 : decode cX3_calls 28 = .ok (.iload_n 1, 1) := dk_27 (dk_at dksX3_calls_1 5 rfl rfl)
theorem dX3_calls_29 : decode cX3_calls 29 = .ok (.istore 7, 2) := dk_54 7 (dk_at dksX3_calls_1 6 rfl rfl)
theorem dX3_calls_31 : decode cX3_calls 31 = .ok (.iload_n 2, 1) := dk_28 (dk_at dksX3_calls_1 8 rfl rfl)
theorem dX3_calls_32 : decode cX3_calls 32 = .ok (.bipush 10, 2) := dk_16 10 (dk_at dksX3_calls_1 9 rfl rfl)
theorem dX3_calls_34 : decode cX3_calls 34 = .ok (.if_icmp .ge 9, 3) := dk_162 0 9 (dk_at dksX3_calls_1 11 rfl rfl)
theorem dX3_calls_37 : decode cX3_calls 37 = .ok (.aload_n 0, 1) := dk_42 (dk_at dksX3_calls_1 14 rfl rfl)
theorem dX3_calls_38 : decode cX3_calls 38 = .ok (.invokevirtual 90, 3) := dk_182 0 90 (dk_at dksX3_calls_1 15 rfl rfl)
theorem dX3_calls_41 : decode cX3_calls 41 = .ok (.istore 7, 2) := dk_54 7 (dk_at dksX3_calls_1 18 rfl rfl)
theorem dX3_calls_43 : decode cX3_calls 43 = .ok (.iconst 4, 1) := dk_7 (dk_at dksX3_calls_1 20 rfl rfl)
theorem dX3_calls_44 : decode cX3_calls 44 = .ok (.iload_n 3, 1) := dk_29 (dk_at dksX3_calls_1 21 rfl rfl)
theorem dX3_calls_45 : decode cX3_calls 45 = .ok (.imul, 1) := dk_104 (dk_at dksX3_calls_1 22 rfl rfl)
theorem dX3_calls_46 : decode cX3_calls 46 = .ok (.bipush 16, 2) := dk_16 16 (dk_at dksX3_calls_2 0 rfl rfl)
theorem dX3_calls_48 : decode cX3_calls 48 = .ok (.iload 7, 2) := dk_21 7 (dk_at dksX3_calls_2 2 rfl rfl)
theorem dX3_calls_50 : decode cX3_calls 50 = .ok (.iconst 1, 1) := dk_4 (dk_at dksX3_calls_2 4 rfl rfl)
theorem dX3_calls_51 : decode cX3_calls 51 = .ok (.iadd, 1) := dk_96 (dk_at dksX3_calls_2 5 rfl rfl)
theorem dX3_calls_52 : decode cX3_calls 52 = .ok (.imul, 1) := dk_104 (dk_at dksX3_calls_2 6 rfl rfl)
theorem dX3_calls_53 : decode cX3_calls 53 = .ok (.iadd, 1) := dk_96 (dk_at dksX3_calls_2 7 rfl rfl)
theorem dX3_calls_54 : decode cX3_calls 54 = .ok (.sipush 256, 3) := dk_17 1 0 (dk_at dksX3_calls_2 8 rfl rfl)
theorem dX3_calls_57 : decode cX3_calls 57 = .ok (.iload_n 2, 1) := dk_28 (dk_at dksX3_calls_2 11 rfl rfl)
theorem dX3_calls_58 : decode cX3_calls 58 = .ok (.imul, 1) := dk_104 (dk_at dksX3_calls_2 12 rfl rfl)
theorem dX3_calls_59 : decode cX3_calls 59 = .ok (.iadd, 1) := dk_96 (dk_at dksX3_calls_2 13 rfl rfl)
theorem dX3_calls_60 : decode cX3_calls 60 = .ok (.sipush 8192, 3) := dk_17 32 0 (dk_at dksX3_calls_2 14 rfl rfl)
theorem dX3_calls_63 : decode cX3_calls 63 = .ok (.iload_n 1, 1) := dk_27 (dk_at dksX3_calls_2 17 rfl rfl)
theorem dX3_calls_64 : decode cX3_calls 64 = .ok (.imul, 1) := dk_104 (dk_at dksX3_calls_2 18 rfl rfl)
theorem dX3_calls_65 : decode cX3_calls 65 = .ok (.iadd, 1) := dk_96 (dk_at dksX3_calls_2 19 rfl rfl)
theorem dX3_calls_66 : decode cX3_calls 66 = .ok (.istore 8, 2) := dk_54 8 (dk_at dksX3_calls_2 20 rfl rfl)
theorem dX3_calls_68 : decode cX3_calls 68 = .ok (.iload 4, 2) := dk_21 4 (dk_at dksX3_calls_2 22 rfl rfl)
theorem dX3_calls_70 : decode cX3_calls 70 = .ok (.ifCond .eq 6, 3) := dk_153 0 6 (dk_at dksX3_calls_3 0 rfl rfl)
theorem dX3_calls_73 : decode cX3_calls 73 = .ok (.iinc 8 2, 3) := dk_132 8 2 (dk_at dksX3_calls_3 3 rfl rfl)
theorem dX3_calls_76 : decode cX3_calls 76 = .ok (.iload_n 1, 1) := dk_27 (dk_at dksX3_calls_3 6 rfl rfl)
theorem dX3_calls_77 : decode cX3_calls 77 = .ok (.iload_n 2, 1) := dk_28 (dk_at dksX3_calls_3 7 rfl rfl)
theorem dX3_calls_78 : decode cX3_calls 78 = .ok (.iload_n 3, 1) := dk_29 (dk_at dksX3_calls_3 8 rfl rfl)
theorem dX3_calls_79 : decode cX3_calls 79 = .ok (.iload 4, 2) := dk_21 4 (dk_at dksX3_calls_3 9 rfl rfl)
theorem dX3_calls_81 : decode cX3_calls 81 = .ok (.invokestatic 101, 3) := dk_184 0 101 (dk_at dksX3_calls_3 11 rfl rfl)
theorem dX3_calls_84 : decode cX3_calls 84 = .ok (.istore 9, 2) := dk_54 9 (dk_at dksX3_calls_3 14 rfl rfl)
theorem dX3_calls_86 : decode cX3_calls 86 = .ok (.iload 5, 2) := dk_21 5 (dk_at dksX3_calls_3 16 rfl rfl)
theorem dX3_calls_88 : decode cX3_calls 88 = .ok (.ifCond .eq 17, 3) := dk_153 0 17 (dk_at dksX3_calls_3 18 rfl rfl)
theorem dX3_calls_91 : decode cX3_calls 91 = .ok (.aload_n 0, 1) := dk_42 (dk_at dksX3_calls_3 21 rfl rfl)
theorem dX3_calls_92 : decode cX3_calls 92 = .ok (.getfield 29, 3) := dk_180 0 29 (dk_at dksX3_calls_4 0 rfl rfl)
theorem dX3_calls_95 : decode cX3_calls 95 = .ok (.iload 9, 2) := dk_21 9 (dk_at dksX3_calls_4 3 rfl rfl)
theorem dX3_calls_97 : decode cX3_calls 97 = .ok (.iaload, 1) := dk_46 (dk_at dksX3_calls_4 5 rfl rfl)
theorem dX3_calls_98 : decode cX3_calls 98 = .ok (.ifCond .le 7, 3) := dk_158 0 7 (dk_at dksX3_calls_4 6 rfl rfl)
theorem dX3_calls_101 : decode cX3_calls 101 = .ok (.iconst 1, 1) := dk_4 (dk_at dksX3_calls_4 9 rfl rfl)
theorem dX3_calls_102 : decode cX3_calls 102 = .ok (.goto 4, 3) := dk_167 0 4 (dk_at dksX3_calls_4 10 rfl rfl)
theorem dX3_calls_105 : decode cX3_calls 105 = .ok (.iconst 0, 1) := dk_3 (dk_at dksX3_calls_4 13 rfl rfl)
theorem dX3_calls_106 : decode cX3_calls 106 = .ok (.istore 10, 2) := dk_54 10 (dk_at dksX3_calls_4 14 rfl rfl)
theorem dX3_calls_108 : decode cX3_calls 108 = .ok (.iload 10, 2) := dk_21 10 (dk_at dksX3_calls_4 16 rfl rfl)
theorem dX3_calls_110 : decode cX3_calls 110 = .ok (.ifCond .eq 27, 3) := dk_153 0 27 (dk_at dksX3_calls_4 18 rfl rfl)
theorem dX3_calls_113 : decode cX3_calls 113 = .ok (.aload_n 0, 1) := dk_42 (dk_at dksX3_calls_4 21 rfl rfl)
theorem dX3_calls_114 : decode cX3_calls 114 = .ok (.getfield 29, 3) := dk_180 0 29 (dk_at dksX3_calls_5 0 rfl rfl)
theorem dX3_calls_117 : decode cX3_calls 117 = .ok (.iload 9, 2) := dk_21 9 (dk_at dksX3_calls_5 3 rfl rfl)
theorem dX3_calls_119 : decode cX3_calls 119 = .ok (.dup2, 1) := dk_92 (dk_at dksX3_calls_5 5 rfl rfl)
theorem dX3_calls_120 : decode cX3_calls 120 = .ok (.iaload, 1) := dk_46 (dk_at dksX3_calls_5 6 rfl rfl)
theorem dX3_calls_121 : decode cX3_calls 121 = .ok (.iconst 1, 1) := dk_4 (dk_at dksX3_calls_5 7 rfl rfl)
theorem dX3_calls_122 : decode cX3_calls 122 = .ok (.isub, 1) := dk_100 (dk_at dksX3_calls_5 8 rfl rfl)
theorem dX3_calls_123 : decode cX3_calls 123 = .ok (.iastore, 1) := dk_79 (dk_at dksX3_calls_5 9 rfl rfl)
theorem dX3_calls_124 : decode cX3_calls 124 = .ok (.aload_n 0, 1) := dk_42 (dk_at dksX3_calls_5 10 rfl rfl)
theorem dX3_calls_125 : decode cX3_calls 125 = .ok (.dup, 1) := dk_89 (dk_at dksX3_calls_5 11 rfl rfl)
theorem dX3_calls_126 : decode cX3_calls 126 = .ok (.getfield 68, 3) := dk_180 0 68 (dk_at dksX3_calls_5 12 rfl rfl)
theorem dX3_calls_129 : decode cX3_calls 129 = .ok (.iconst 1, 1) := dk_4 (dk_at dksX3_calls_5 15 rfl rfl)
theorem dX3_calls_130 : decode cX3_calls 130 = .ok (.iadd, 1) := dk_96 (dk_at dksX3_calls_5 16 rfl rfl)
theorem dX3_calls_131 : decode cX3_calls 131 = .ok (.putfield 68, 3) := dk_181 0 68 (dk_at dksX3_calls_5 17 rfl rfl)
theorem dX3_calls_134 : decode cX3_calls 134 = .ok (.iinc 8 1, 3) := dk_132 8 1 (dk_at dksX3_calls_5 20 rfl rfl)
theorem dX3_calls_137 : decode cX3_calls 137 = .ok (.aload_n 0, 1) := dk_42 (dk_at dksX3_calls_5 23 rfl rfl)
theorem dX3_calls_138 : decode cX3_calls 138 = .ok (.getfield 48, 3) := dk_180 0 48 (dk_at dksX3_calls_6 0 rfl rfl)
theorem dX3_calls_141 : decode cX3_calls 141 = .ok (.aload_n 0, 1) := dk_42 (dk_at dksX3_calls_6 3 rfl rfl)
theorem dX3_calls_142 : decode cX3_calls 142 = .ok (.getfield 65, 3) := dk_180 0 65 (dk_at dksX3_calls_6 4 rfl rfl)
theorem dX3_calls_145 : decode cX3_calls 145 = .ok (.iload 8, 2) := dk_21 8 (dk_at dksX3_calls_6 7 rfl rfl)
theorem dX3_calls_147 : decode cX3_calls 147 = .ok (.iastore, 1) := dk_79 (dk_at dksX3_calls_6 9 rfl rfl)
theorem dX3_calls_148 : decode cX3_calls 148 = .ok (.aload_n 0, 1) := dk_42 (dk_at dksX3_calls_6 10 rfl rfl)
theorem dX3_calls_149 : decode cX3_calls 149 = .ok (.dup, 1) := dk_89 (dk_at dksX3_calls_6 11 rfl rfl)
theorem dX3_calls_150 : decode cX3_calls 150 = .ok (.getfield 65, 3) := dk_180 0 65 (dk_at dksX3_calls_6 12 rfl rfl)
theorem dX3_calls_153 : decode cX3_calls 153 = .ok (.iconst 1, 1) := dk_4 (dk_at dksX3_calls_6 15 rfl rfl)
theorem dX3_calls_154 : decode cX3_calls 154 = .ok (.iadd, 1) := dk_96 (dk_at dksX3_calls_6 16 rfl rfl)
theorem dX3_calls_155 : decode cX3_calls 155 = .ok (.putfield 65, 3) := dk_181 0 65 (dk_at dksX3_calls_6 17 rfl rfl)
theorem dX3_calls_158 : decode cX3_calls 158 = .ok (.iload 10, 2) := dk_21 10 (dk_at dksX3_calls_6 20 rfl rfl)
theorem dX3_calls_160 : decode cX3_calls 160 = .ok (.ifCond .ne 7, 3) := dk_154 0 7 (dk_at dksX3_calls_7 0 rfl rfl)
theorem dX3_calls_163 : decode cX3_calls 163 = .ok (.iconst 1, 1) := dk_4 (dk_at dksX3_calls_7 3 rfl rfl)
theorem dX3_calls_164 : decode cX3_calls 164 = .ok (.goto 4, 3) := dk_167 0 4 (dk_at dksX3_calls_7 4 rfl rfl)
theorem dX3_calls_167 : decode cX3_calls 167 = .ok (.iconst 0, 1) := dk_3 (dk_at dksX3_calls_7 7 rfl rfl)
theorem dX3_calls_168 : decode cX3_calls 168 = .ok (.ireturn, 1) := dk_172 (dk_at dksX3_calls_7 8 rfl rfl)
abbrev cX3_control : ByteArray := prog_15_method_12_code
def yX3_control : MethodName := ⟨RX3, "control", "()I"⟩
def dkwX3_control_0 : List UInt8 := [42, 17, 0, 255, 182, 0, 79, 172]
abbrev dktX3_control_0 : List UInt8 := dkwX3_control_0 ++ []
theorem dksX3_control_0 : cX3_control.data.toList.drop 0 = dktX3_control_0 := by decide +kernel
theorem dX3_control_0 : decode cX3_control 0 = .ok (.aload_n 0, 1) := dk_42 (dk_at dksX3_control_0 0 rfl rfl)
theorem dX3_control_1 : decode cX3_control 1 = .ok (.sipush 255, 3) := dk_17 0 255 (dk_at dksX3_control_0 1 rfl rfl)
theorem dX3_control_4 : decode cX3_control 4 = .ok (.invokevirtual 79, 3) := dk_182 0 79 (dk_at dksX3_control_0 4 rfl rfl)
theorem dX3_control_7 : decode cX3_control 7 = .ok (.ireturn, 1) := dk_172 (dk_at dksX3_control_0 7 rfl rfl)
abbrev cX3_firstUp : ByteArray := prog_15_method_11_code
def yX3_firstUp : MethodName := ⟨RX3, "firstUp", "(I)I"⟩
def dkwX3_firstUp_1 : List UInt8 := [153, 0, 5, 28, 172, 132, 2, 1, 167, 255, 227, 2, 172]
abbrev dktX3_firstUp_1 : List UInt8 := dkwX3_firstUp_1 ++ []
def dkwX3_firstUp_0 : List UInt8 := [3, 61, 28, 42, 180, 0, 58, 162, 0, 27, 27, 28, 184, 0, 71, 153, 0, 13, 42, 28, 182, 0, 75]
abbrev dktX3_firstUp_0 : List UInt8 := dkwX3_firstUp_0 ++ dktX3_firstUp_1
theorem dksX3_firstUp_0 : cX3_firstUp.data.toList.drop 0 = dktX3_firstUp_0 := by decide +kernel
theorem dksX3_firstUp_1 : cX3_firstUp.data.toList.drop 23 = dktX3_firstUp_1 := dk_seg dksX3_firstUp_0 23 rfl rfl
theorem dX3_firstUp_0 : decode cX3_firstUp 0 = .ok (.iconst 0, 1) := dk_3 (dk_at dksX3_firstUp_0 0 rfl rfl)
theorem dX3_firstUp_1 : decode cX3_firstUp 1 = .ok (.istore_n 2, 1) := dk_61 (dk_at dksX3_firstUp_0 1 rfl rfl)
theorem dX3_firstUp_2 : decode cX3_firstUp 2 = .ok (.iload_n 2, 1) := dk_28 (dk_at dksX3_firstUp_0 2 rfl rfl)
theorem dX3_firstUp_3 : decode cX3_firstUp 3 = .ok (.aload_n 0, 1) := dk_42 (dk_at dksX3_firstUp_0 3 rfl rfl)
theorem dX3_firstUp_4 : decode cX3_firstUp 4 = .ok (.getfield 58, 3) := dk_180 0 58 (dk_at dksX3_firstUp_0 4 rfl rfl)
theorem dX3_firstUp_7 : decode cX3_firstUp 7 = .ok (.if_icmp .ge 27, 3) := dk_162 0 27 (dk_at dksX3_firstUp_0 7 rfl rfl)
theorem dX3_firstUp_10 : decode cX3_firstUp 10 = .ok (.iload_n 1, 1) := dk_27 (dk_at dksX3_firstUp_0 10 rfl rfl)
theorem dX3_firstUp_11 : decode cX3_firstUp 11 = .ok (.iload_n 2, 1) := dk_28 (dk_at dksX3_firstUp_0 11 rfl rfl)
theorem dX3_firstUp_12 : decode cX3_firstUp 12 = .ok (.invokestatic 71, 3) := dk_184 0 71 (dk_at dksX3_firstUp_0 12 rfl rfl)
theorem dX3_firstUp_15 : decode cX3_firstUp 15 = .ok (.ifCond .eq 13, 3) := dk_153 0 13 (dk_at dksX3_firstUp_0 15 rfl rfl)
theorem dX3_firstUp_18 : decode cX3_firstUp 18 = .ok (.aload_n 0, 1) := dk_42 (dk_at dksX3_firstUp_0 18 rfl rfl)
theorem dX3_firstUp_19 : decode cX3_firstUp 19 = .ok (.iload_n 2, 1) := dk_28 (dk_at dksX3_firstUp_0 19 rfl rfl)
theorem dX3_firstUp_20 : decode cX3_firstUp 20 = .ok (.invokevirtual 75, 3) := dk_182 0 75 (dk_at dksX3_firstUp_0 20 rfl rfl)
theorem dX3_firstUp_23 : decode cX3_firstUp 23 = .ok (.ifCond .eq 5, 3) := dk_153 0 5 (dk_at dksX3_firstUp_1 0 rfl rfl)
theorem dX3_firstUp_26 : decode cX3_firstUp 26 = .ok (.iload_n 2, 1) := dk_28 (dk_at dksX3_firstUp_1 3 rfl rfl)
theorem dX3_firstUp_27 : decode cX3_firstUp 27 = .ok (.ireturn, 1) := dk_172 (dk_at dksX3_firstUp_1 4 rfl rfl)
theorem dX3_firstUp_28 : decode cX3_firstUp 28 = .ok (.iinc 2 1, 3) := dk_132 2 1 (dk_at dksX3_firstUp_1 5 rfl rfl)
theorem dX3_firstUp_31 : decode cX3_firstUp 31 = .ok (.goto (-29), 3) := dk_167 255 227 (dk_at dksX3_firstUp_1 8 rfl rfl)
theorem dX3_firstUp_34 : decode cX3_firstUp 34 = .ok (.iconst (-1), 1) := dk_2 (dk_at dksX3_firstUp_1 11 rfl rfl)
theorem dX3_firstUp_35 : decode cX3_firstUp 35 = .ok (.ireturn, 1) := dk_172 (dk_at dksX3_firstUp_1 12 rfl rfl)
abbrev cX3_has : ByteArray := prog_15_method_6_code
def yX3_has : MethodName := ⟨RX3, "has", "(II)Z"⟩
def dkwX3_has_0 : List UInt8 := [26, 27, 122, 4, 126, 4, 160, 0, 7, 4, 167, 0, 4, 3, 172]
abbrev dktX3_has_0 : List UInt8 := dkwX3_has_0 ++ []
theorem dksX3_has_0 : cX3_has.data.toList.drop 0 = dktX3_has_0 := by decide +kernel
theorem dX3_has_0 : decode cX3_has 0 = .ok (.iload_n 0, 1) := dk_26 (dk_at dksX3_has_0 0 rfl rfl)
theorem dX3_has_1 : decode cX3_has 1 = .ok (.iload_n 1, 1) := dk_27 (dk_at dksX3_has_0 1 rfl rfl)
theorem dX3_has_2 : decode cX3_has 2 = .ok (.ishr, 1) := dk_122 (dk_at dksX3_has_0 2 rfl rfl)
theorem dX3_has_3 : decode cX3_has 3 = .ok (.iconst 1, 1) := dk_4 (dk_at dksX3_has_0 3 rfl rfl)
theorem dX3_has_4 : decode cX3_has 4 = .ok (.iand, 1) := dk_126 (dk_at dksX3_has_0 4 rfl rfl)
theorem dX3_has_5 : decode cX3_has 5 = .ok (.iconst 1, 1) := dk_4 (dk_at dksX3_has_0 5 rfl rfl)
theorem dX3_has_6 : decode cX3_has 6 = .ok (.if_icmp .ne 7, 3) := dk_160 0 7 (dk_at dksX3_has_0 6 rfl rfl)
theorem dX3_has_9 : decode cX3_has 9 = .ok (.iconst 1, 1) := dk_4 (dk_at dksX3_has_0 9 rfl rfl)
theorem dX3_has_10 : decode cX3_has 10 = .ok (.goto 4, 3) := dk_167 0 4 (dk_at dksX3_has_0 10 rfl rfl)
theorem dX3_has_13 : decode cX3_has 13 = .ok (.iconst 0, 1) := dk_3 (dk_at dksX3_has_0 13 rfl rfl)
theorem dX3_has_14 : decode cX3_has 14 = .ok (.ireturn, 1) := dk_172 (dk_at dksX3_has_0 14 rfl rfl)
abbrev cX3_isUp : ByteArray := prog_15_method_10_code
def yX3_isUp : MethodName := ⟨RX3, "isUp", "(I)Z"⟩
def dkwX3_isUp_0 : List UInt8 := [42, 180, 0, 7, 27, 46, 16, 10, 164, 0, 7, 4, 167, 0, 4, 3, 172]
abbrev dktX3_isUp_0 : List UInt8 := dkwX3_isUp_0 ++ []
theorem dksX3_isUp_0 : cX3_isUp.data.toList.drop 0 = dktX3_isUp_0 := by decide +kernel
theorem dX3_isUp_0 : decode cX3_isUp 0 = .ok (.aload_n 0, 1) := dk_42 (dk_at dksX3_isUp_0 0 rfl rfl)
theorem dX3_isUp_1 : decode cX3_isUp 1 = .ok (.getfield 7, 3) := dk_180 0 7 (dk_at dksX3_isUp_0 1 rfl rfl)
theorem dX3_isUp_4 : decode cX3_isUp 4 = .ok (.iload_n 1, 1) := dk_27 (dk_at dksX3_isUp_0 4 rfl rfl)
theorem dX3_isUp_5 : decode cX3_isUp 5 = .ok (.iaload, 1) := dk_46 (dk_at dksX3_isUp_0 5 rfl rfl)
theorem dX3_isUp_6 : decode cX3_isUp 6 = .ok (.bipush 10, 2) := dk_16 10 (dk_at dksX3_isUp_0 6 rfl rfl)
theorem dX3_isUp_8 : decode cX3_isUp 8 = .ok (.if_icmp .le 7, 3) := dk_164 0 7 (dk_at dksX3_isUp_0 8 rfl rfl)
theorem dX3_isUp_11 : decode cX3_isUp 11 = .ok (.iconst 1, 1) := dk_4 (dk_at dksX3_isUp_0 11 rfl rfl)
theorem dX3_isUp_12 : decode cX3_isUp 12 = .ok (.goto 4, 3) := dk_167 0 4 (dk_at dksX3_isUp_0 12 rfl rfl)
theorem dX3_isUp_15 : decode cX3_isUp 15 = .ok (.iconst 0, 1) := dk_3 (dk_at dksX3_isUp_0 15 rfl rfl)
theorem dX3_isUp_16 : decode cX3_isUp 16 = .ok (.ireturn, 1) := dk_172 (dk_at dksX3_isUp_0 16 rfl rfl)
abbrev cX3_failureAt : ByteArray := prog_15_method_19_code
def yX3_failureAt : MethodName := ⟨RX3, "failureAt", "(IIIZ)I"⟩
def dkwX3_failureAt_1 : List UInt8 := [21, 4, 172]
abbrev dktX3_failureAt_1 : List UInt8 := dkwX3_failureAt_1 ++ []
def dkwX3_failureAt_0 : List UInt8 := [5, 7, 16, 20, 26, 104, 27, 96, 104, 28, 96, 104, 54, 4, 29, 153, 0, 8, 21, 4, 4, 96, 172]
abbrev dktX3_failureAt_0 : List UInt8 := dkwX3_failureAt_0 ++ dktX3_failureAt_1
theorem dksX3_failureAt_0 : cX3_failureAt.data.toList.drop 0 = dktX3_failureAt_0 := by decide +kernel
theorem dksX3_failureAt_1 : cX3_failureAt.data.toList.drop 23 = dktX3_failureAt_1 := dk_seg dksX3_failureAt_0 23 rfl rfl
theorem dX3_failureAt_0 : decode cX3_failureAt 0 = .ok (.iconst 2, 1) := dk_5 (dk_at dksX3_failureAt_0 0 rfl rfl)
theorem dX3_failureAt_1 : decode cX3_failureAt 1 = .ok (.iconst 4, 1) := dk_7 (dk_at dksX3_failureAt_0 1 rfl rfl)
theorem dX3_failureAt_2 : decode cX3_failureAt 2 = .ok (.bipush 20, 2) := dk_16 20 (dk_at dksX3_failureAt_0 2 rfl rfl)
theorem dX3_failureAt_4 : decode cX3_failureAt 4 = .ok (.iload_n 0, 1) := dk_26 (dk_at dksX3_failureAt_0 4 rfl rfl)
theorem dX3_failureAt_5 : decode cX3_failureAt 5 = .ok (.imul, 1) := dk_104 (dk_at dksX3_failureAt_0 5 rfl rfl)
theorem dX3_failureAt_6 : decode cX3_failureAt 6 = .ok (.iload_n 1, 1) := dk_27 (dk_at dksX3_failureAt_0 6 rfl rfl)
theorem dX3_failureAt_7 : decode cX3_failureAt 7 = .ok (.iadd, 1) := dk_96 (dk_at dksX3_failureAt_0 7 rfl rfl)
theorem dX3_failureAt_8 : decode cX3_failureAt 8 = .ok (.imul, 1) := dk_104 (dk_at dksX3_failureAt_0 8 rfl rfl)
theorem dX3_failureAt_9 : decode cX3_failureAt 9 = .ok (.iload_n 2, 1) := dk_28 (dk_at dksX3_failureAt_0 9 rfl rfl)
theorem dX3_failureAt_10 : decode cX3_failureAt 10 = .ok (.iadd, 1) := dk_96 (dk_at dksX3_failureAt_0 10 rfl rfl)
theorem dX3_failureAt_11 : decode cX3_failureAt 11 = .ok (.imul, 1) := dk_104 (dk_at dksX3_failureAt_0 11 rfl rfl)
theorem dX3_failureAt_12 : decode cX3_failureAt 12 = .ok (.istore 4, 2) := dk_54 4 (dk_at dksX3_failureAt_0 12 rfl rfl)
theorem dX3_failureAt_14 : decode cX3_failureAt 14 = .ok (.iload_n 3, 1) := dk_29 (dk_at dksX3_failureAt_0 14 rfl rfl)
theorem dX3_failureAt_15 : decode cX3_failureAt 15 = .ok (.ifCond .eq 8, 3) := dk_153 0 8 (dk_at dksX3_failureAt_0 15 rfl rfl)
theorem dX3_failureAt_18 : decode cX3_failureAt 18 = .ok (.iload 4, 2) := dk_21 4 (dk_at dksX3_failureAt_0 18 rfl rfl)
theorem dX3_failureAt_20 : decode cX3_failureAt 20 = .ok (.iconst 1, 1) := dk_4 (dk_at dksX3_failureAt_0 20 rfl rfl)
theorem dX3_failureAt_21 : decode cX3_failureAt 21 = .ok (.iadd, 1) := dk_96 (dk_at dksX3_failureAt_0 21 rfl rfl)
theorem dX3_failureAt_22 : decode cX3_failureAt 22 = .ok (.ireturn, 1) := dk_172 (dk_at dksX3_failureAt_0 22 rfl rfl)
theorem dX3_failureAt_23 : decode cX3_failureAt 23 = .ok (.iload 4, 2) := dk_21 4 (dk_at dksX3_failureAt_1 0 rfl rfl)
theorem dX3_failureAt_25 : decode cX3_failureAt 25 = .ok (.ireturn, 1) := dk_172 (dk_at dksX3_failureAt_1 2 rfl rfl)
abbrev cX3_stepMany : ByteArray := prog_15_method_28_code
def yX3_stepMany : MethodName := ⟨RX3, "stepMany", "()I"⟩
def dkwX3_stepMany_1 : List UInt8 := [132, 2, 1, 167, 255, 235, 27, 172]
abbrev dktX3_stepMany_1 : List UInt8 := dkwX3_stepMany_1 ++ []
def dkwX3_stepMany_0 : List UInt8 := [3, 60, 3, 61, 28, 16, 20, 162, 0, 21, 42, 180, 0, 13, 28, 51, 153, 0, 6, 132, 1, 1]
abbrev dktX3_stepMany_0 : List UInt8 := dkwX3_stepMany_0 ++ dktX3_stepMany_1
theorem dksX3_stepMany_0 : cX3_stepMany.data.toList.drop 0 = dktX3_stepMany_0 := by decide +kernel
theorem dksX3_stepMany_1 : cX3_stepMany.data.toList.drop 22 = dktX3_stepMany_1 := dk_seg dksX3_stepMany_0 22 rfl rfl
theorem dX3_stepMany_0 : decode cX3_stepMany 0 = .ok (.iconst 0, 1) := dk_3 (dk_at dksX3_stepMany_0 0 rfl rfl)
theorem dX3_stepMany_1 : decode cX3_stepMany 1 = .ok (.istore_n 1, 1) := dk_60 (dk_at dksX3_stepMany_0 1 rfl rfl)
theorem dX3_stepMany_2 : decode cX3_stepMany 2 = .ok (.iconst 0, 1) := dk_3 (dk_at dksX3_stepMany_0 2 rfl rfl)
theorem dX3_stepMany_3 : decode cX3_stepMany 3 = .ok (.istore_n 2, 1) := dk_61 (dk_at dksX3_stepMany_0 3 rfl rfl)
theorem dX3_stepMany_4 : decode cX3_stepMany 4 = .ok (.iload_n 2, 1) := dk_28 (dk_at dksX3_stepMany_0 4 rfl rfl)
theorem dX3_stepMany_5 : decode cX3_stepMany 5 = .ok (.bipush 20, 2) := dk_16 20 (dk_at dksX3_stepMany_0 5 rfl rfl)
theorem dX3_stepMany_7 : decode cX3_stepMany 7 = .ok (.if_icmp .ge 21, 3) := dk_162 0 21 (dk_at dksX3_stepMany_0 7 rfl rfl)
theorem dX3_stepMany_10 : decode cX3_stepMany 10 = .ok (.aload_n 0, 1) := dk_42 (dk_at dksX3_stepMany_0 10 rfl rfl)
theorem dX3_stepMany_11 : decode cX3_stepMany 11 = .ok (.getfield 13, 3) := dk_180 0 13 (dk_at dksX3_stepMany_0 11 rfl rfl)
theorem dX3_stepMany_14 : decode cX3_stepMany 14 = .ok (.iload_n 2, 1) := dk_28 (dk_at dksX3_stepMany_0 14 rfl rfl)
theorem dX3_stepMany_15 : decode cX3_stepMany 15 = .ok (.baload, 1) := dk_51 (dk_at dksX3_stepMany_0 15 rfl rfl)
theorem dX3_stepMany_16 : decode cX3_stepMany 16 = .ok (.ifCond .eq 6, 3) := dk_153 0 6 (dk_at dksX3_stepMany_0 16 rfl rfl)
theorem dX3_stepMany_19 : decode cX3_stepMany 19 = .ok (.iinc 1 1, 3) := dk_132 1 1 (dk_at dksX3_stepMany_0 19 rfl rfl)
theorem dX3_stepMany_22 : decode cX3_stepMany 22 = .ok (.iinc 2 1, 3) := dk_132 2 1 (dk_at dksX3_stepMany_1 0 rfl rfl)
theorem dX3_stepMany_25 : decode cX3_stepMany 25 = .ok (.goto (-21), 3) := dk_167 255 235 (dk_at dksX3_stepMany_1 3 rfl rfl)
theorem dX3_stepMany_28 : decode cX3_stepMany 28 = .ok (.iload_n 1, 1) := dk_27 (dk_at dksX3_stepMany_1 6 rfl rfl)
theorem dX3_stepMany_29 : decode cX3_stepMany 29 = .ok (.ireturn, 1) := dk_172 (dk_at dksX3_stepMany_1 7 rfl rfl)
abbrev cX3_remove : ByteArray := prog_15_method_33_code
def yX3_remove : MethodName := ⟨RX3, "remove", "(I)I"⟩
def dkwX3_remove_3 : List UInt8 := [42, 42, 180, 0, 65, 28, 100, 182, 0, 125, 172]
abbrev dktX3_remove_3 : List UInt8 := dkwX3_remove_3 ++ []
def dkwX3_remove_2 : List UInt8 := [29, 182, 0, 144, 132, 3, 255, 167, 255, 224, 42, 180, 0, 13, 27, 3, 84, 42, 180, 0, 26, 27, 3, 79]
abbrev dktX3_remove_2 : List UInt8 := dkwX3_remove_2 ++ dktX3_remove_3
def dkwX3_remove_1 : List UInt8 := [155, 0, 34, 42, 180, 0, 26, 27, 46, 29, 184, 0, 71, 153, 0, 9, 42, 27, 29, 182, 0, 140, 42, 27]
abbrev dktX3_remove_1 : List UInt8 := dkwX3_remove_1 ++ dktX3_remove_2
def dkwX3_remove_0 : List UInt8 := [42, 27, 182, 0, 137, 154, 0, 9, 42, 4, 182, 0, 128, 172, 42, 180, 0, 65, 61, 6, 62, 29]
abbrev dktX3_remove_0 : List UInt8 := dkwX3_remove_0 ++ dktX3_remove_1
theorem dksX3_remove_0 : cX3_remove.data.toList.drop 0 = dktX3_remove_0 := by decide +kernel
theorem dksX3_remove_1 : cX3_remove.data.toList.drop 22 = dktX3_remove_1 := dk_seg dksX3_remove_0 22 rfl rfl
theorem dksX3_remove_2 : cX3_remove.data.toList.drop 46 = dktX3_remove_2 := dk_seg dksX3_remove_1 24 rfl rfl
theorem dksX3_remove_3 : cX3_remove.data.toList.drop 70 = dktX3_remove_3 := dk_seg dksX3_remove_2 24 rfl rfl
theorem dX3_remove_0 : decode cX3_remove 0 = .ok (.aload_n 0, 1) := dk_42 (dk_at dksX3_remove_0 0 rfl rfl)
theorem dX3_remove_1 : decode cX3_remove 1 = .ok (.iload_n 1, 1) := dk_27 (dk_at dksX3_remove_0 1 rfl rfl)
theorem dX3_remove_2 : decode cX3_remove 2 = .ok (.invokevirtual 137, 3) := dk_182 0 137 (dk_at dksX3_remove_0 2 rfl rfl)
theorem dX3_remove_5 : decode cX3_remove 5 = .ok (.ifCond .ne 9, 3) := dk_154 0 9 (dk_at dksX3_remove_0 5 rfl rfl)
theorem dX3_remove_8 : decode cX3_remove 8 = .ok (.aload_n 0, 1) := dk_42 (dk_at dksX3_remove_0 8 rfl rfl)
theorem dX3_remove_9 : decode cX3_remove 9 = .ok (.iconst 1, 1) := dk_4 (dk_at dksX3_remove_0 9 rfl rfl)
theorem dX3_remove_10 : decode cX3_remove 10 = .ok (.invokevirtual 128, 3) := dk_182 0 128 (dk_at dksX3_remove_0 10 rfl rfl)
theorem dX3_remove_13 : decode cX3_remove 13 = .ok (.ireturn, 1) := dk_172 (dk_at dksX3_remove_0 13 rfl rfl)
theorem dX3_remove_14 : decode cX3_remove 14 = .ok (.aload_n 0, 1) := dk_42 (dk_at dksX3_remove_0 14 rfl rfl)
theorem dX3_remove_15 : decode cX3_remove 15 = .ok (.getfield 65, 3) := dk_180 0 65 (dk_at dksX3_remove_0 15 rfl rfl)
theorem dX3_remove_18 : decode cX3_remove 18 = .ok (.istore_n 2, 1) := dk_61 (dk_at dksX3_remove_0 18 rfl rfl)
theorem dX3_remove_19 : decode cX3_remove 19 = .ok (.iconst 3, 1) := dk_6 (dk_at dksX3_remove_0 19 rfl rfl)
theorem dX3_remove_20 : decode cX3_remove 20 = .ok (.istore_n 3, 1) := dk_62 (dk_at dksX3_remove_0 20 rfl rfl)
theorem dX3_remove_21 : decode cX3_remove 21 = .ok (.iload_n 3, 1) := dk_29 (dk_at dksX3_remove_0 21 rfl rfl)
theorem dX3_remove_22 : decode cX3_remove 22 = .ok (.ifCond .lt 34, 3) := dk_155 0 34 (dk_at dksX3_remove_1 0 rfl rfl)
theorem dX3_remove_25 : decode cX3_remove 25 = .ok (.aload_n 0, 1) := dk_42 (dk_at dksX3_remove_1 3 rfl rfl)
theorem dX3_remove_26 : decode cX3_remove 26 = .ok (.getfield 26, 3) := dk_180 0 26 (dk_at dksX3_remove_1 4 rfl rfl)
theorem dX3_remove_29 : decode cX3_remove 29 = .ok (.iload_n 1, 1) := dk_27 (dk_at dksX3_remove_1 7 rfl rfl)
theorem dX3_remove_30 : decode cX3_remove 30 = .ok (.iaload, 1) := dk_46 (dk_at dksX3_remove_1 8 rfl rfl)
theorem dX3_remove_31 : decode cX3_remove 31 = .ok (.iload_n 3, 1) := dk_29 (dk_at dksX3_remove_1 9 rfl rfl)
theorem dX3_remove_32 : decode cX3_remove 32 = .ok (.invokestatic 71, 3) := dk_184 0 71 (dk_at dksX3_remove_1 10 rfl rfl)
theorem dX3_remove_35 : decode cX3_remove 35 = .ok (.ifCond .eq 9, 3) := dk_153 0 9 (dk_at dksX3_remove_1 13 rfl rfl)
theorem dX3_remove_38 : decode cX3_remove 38 = .ok (.aload_n 0, 1) := dk_42 (dk_at dksX3_remove_1 16 rfl rfl)
theorem dX3_remove_39 : decode cX3_remove 39 = .ok (.iload_n 1, 1) := dk_27 (dk_at dksX3_remove_1 17 rfl rfl)
theorem dX3_remove_40 : decode cX3_remove 40 = .ok (.iload_n 3, 1) := dk_29 (dk_at dksX3_remove_1 18 rfl rfl)
theorem dX3_remove_41 : decode cX3_remove 41 = .ok (.invokevirtual 140, 3) := dk_182 0 140 (dk_at dksX3_remove_1 19 rfl rfl)
theorem dX3_remove_44 : decode cX3_remove 44 = .ok (.aload_n 0, 1) := dk_42 (dk_at dksX3_remove_1 22 rfl rfl)
theorem dX3_remove_45 : decode cX3_remove 45 = .ok (.iload_n 1, 1) := dk_27 (dk_at dksX3_remove_1 23 rfl rfl)
theorem dX3_remove_46 : decode cX3_remove 46 = .ok (.iload_n 3, 1) := dk_29 (dk_at dksX3_remove_2 0 rfl rfl)
theorem dX3_remove_47 : decode cX3_remove 47 = .ok (.invokevirtual 144, 3) := dk_182 0 144 (dk_at dksX3_remove_2 1 rfl rfl)
theorem dX3_remove_50 : decode cX3_remove 50 = .ok (.iinc 3 (-1), 3) := dk_132 3 255 (dk_at dksX3_remove_2 4 rfl rfl)
theorem dX3_remove_53 : decode cX3_remove 53 = .ok (.goto (-32), 3) := dk_167 255 224 (dk_at dksX3_remove_2 7 rfl rfl)
theorem dX3_remove_56 : decode cX3_remove 56 = .ok (.aload_n 0, 1) := dk_42 (dk_at dksX3_remove_2 10 rfl rfl)
theorem dX3_remove_57 : decode cX3_remove 57 = .ok (.getfield 13, 3) := dk_180 0 13 (dk_at dksX3_remove_2 11 rfl rfl)
theorem dX3_remove_60 : decode cX3_remove 60 = .ok (.iload_n 1, 1) := dk_27 (dk_at dksX3_remove_2 14 rfl rfl)
theorem dX3_remove_61 : decode cX3_remove 61 = .ok (.iconst 0, 1) := dk_3 (dk_at dksX3_remove_2 15 rfl rfl)
theorem dX3_remove_62 : decode cX3_remove 62 = .ok (.bastore, 1) := dk_84 (dk_at dksX3_remove_2 16 rfl rfl)
theorem dX3_remove_63 : decode cX3_remove 63 = .ok (.aload_n 0, 1) := dk_42 (dk_at dksX3_remove_2 17 rfl rfl)
theorem dX3_remove_64 : decode cX3_remove 64 = .ok (.getfield 26, 3) := dk_180 0 26 (dk_at dksX3_remove_2 18 rfl rfl)
theorem dX3_remove_67 : decode cX3_remove 67 = .ok (.iload_n 1, 1) := dk_27 (dk_at dksX3_remove_2 21 rfl rfl)
theorem dX3_remove_68 : decode cX3_remove 68 = .ok (.iconst 0, 1) := dk_3 (dk_at dksX3_remove_2 22 rfl rfl)
theorem dX3_remove_69 : decode cX3_remove 69 = .ok (.iastore, 1) := dk_79 (dk_at dksX3_remove_2 23 rfl rfl)
theorem dX3_remove_70 : decode cX3_remove 70 = .ok (.aload_n 0, 1) := dk_42 (dk_at dksX3_remove_3 0 rfl rfl)
theorem dX3_remove_71 : decode cX3_remove 71 = .ok (.aload_n 0, 1) := dk_42 (dk_at dksX3_remove_3 1 rfl rfl)
theorem dX3_remove_72 : decode cX3_remove 72 = .ok (.getfield 65, 3) := dk_180 0 65 (dk_at dksX3_remove_3 2 rfl rfl)
theorem dX3_remove_75 : decode cX3_remove 75 = .ok (.iload_n 2, 1) := dk_28 (dk_at dksX3_remove_3 5 rfl rfl)
theorem dX3_remove_76 : decode cX3_remove 76 = .ok (.isub, 1) := dk_100 (dk_at dksX3_remove_3 6 rfl rfl)
theorem dX3_remove_77 : decode cX3_remove 77 = .ok (.invokevirtual 125, 3) := dk_182 0 125 (dk_at dksX3_remove_3 7 rfl rfl)
theorem dX3_remove_80 : decode cX3_remove 80 = .ok (.ireturn, 1) := dk_172 (dk_at dksX3_remove_3 10 rfl rfl)
abbrev cX3_isStepAt : ByteArray := prog_15_method_8_code
def yX3_isStepAt : MethodName := ⟨RX3, "isStepAt", "(I)Z"⟩
def dkwX3_isStepAt_0 : List UInt8 := [27, 3, 16, 19, 184, 0, 61, 154, 0, 5, 3, 172, 42, 180, 0, 13, 27, 51, 172]
abbrev dktX3_isStepAt_0 : List UInt8 := dkwX3_isStepAt_0 ++ []
theorem dksX3_isStepAt_0 : cX3_isStepAt.data.toList.drop 0 = dktX3_isStepAt_0 := by decide +kernel
theorem dX3_isStepAt_0 : decode cX3_isStepAt 0 = .ok (.iload_n 1, 1) := dk_27 (dk_at dksX3_isStepAt_0 0 rfl rfl)
theorem dX3_isStepAt_1 : decode cX3_isStepAt 1 = .ok (.iconst 0, 1) := dk_3 (dk_at dksX3_isStepAt_0 1 rfl rfl)
theorem dX3_isStepAt_2 : decode cX3_isStepAt 2 = .ok (.bipush 19, 2) := dk_16 19 (dk_at dksX3_isStepAt_0 2 rfl rfl)
theorem dX3_isStepAt_4 : decode cX3_isStepAt 4 = .ok (.invokestatic 61, 3) := dk_184 0 61 (dk_at dksX3_isStepAt_0 4 rfl rfl)
theorem dX3_isStepAt_7 : decode cX3_isStepAt 7 = .ok (.ifCond .ne 5, 3) := dk_154 0 5 (dk_at dksX3_isStepAt_0 7 rfl rfl)
theorem dX3_isStepAt_10 : decode cX3_isStepAt 10 = .ok (.iconst 0, 1) := dk_3 (dk_at dksX3_isStepAt_0 10 rfl rfl)
theorem dX3_isStepAt_11 : decode cX3_isStepAt 11 = .ok (.ireturn, 1) := dk_172 (dk_at dksX3_isStepAt_0 11 rfl rfl)
theorem dX3_isStepAt_12 : decode cX3_isStepAt 12 = .ok (.aload_n 0, 1) := dk_42 (dk_at dksX3_isStepAt_0 12 rfl rfl)
theorem dX3_isStepAt_13 : decode cX3_isStepAt 13 = .ok (.getfield 13, 3) := dk_180 0 13 (dk_at dksX3_isStepAt_0 13 rfl rfl)
theorem dX3_isStepAt_16 : decode cX3_isStepAt 16 = .ok (.iload_n 1, 1) := dk_27 (dk_at dksX3_isStepAt_0 16 rfl rfl)
theorem dX3_isStepAt_17 : decode cX3_isStepAt 17 = .ok (.baload, 1) := dk_51 (dk_at dksX3_isStepAt_0 17 rfl rfl)
theorem dX3_isStepAt_18 : decode cX3_isStepAt 18 = .ok (.ireturn, 1) := dk_172 (dk_at dksX3_isStepAt_0 18 rfl rfl)
abbrev cX3_stopsOnAll : ByteArray := prog_15_method_30_code
def yX3_stopsOnAll : MethodName := ⟨RX3, "stopsOnAll", "(II)V"⟩
def dkwX3_stopsOnAll_1 : List UInt8 := [28, 3, 3, 182, 0, 105, 54, 4, 132, 3, 255, 167, 255, 228, 177]
abbrev dktX3_stopsOnAll_1 : List UInt8 := dkwX3_stopsOnAll_1 ++ []
def dkwX3_stopsOnAll_0 : List UInt8 := [42, 180, 0, 58, 4, 100, 62, 29, 155, 0, 30, 42, 180, 0, 7, 29, 46, 27, 164, 0, 14, 42, 29, 27]
abbrev dktX3_stopsOnAll_0 : List UInt8 := dkwX3_stopsOnAll_0 ++ dktX3_stopsOnAll_1
theorem dksX3_stopsOnAll_0 : cX3_stopsOnAll.data.toList.drop 0 = dktX3_stopsOnAll_0 := by decide +kernel
theorem dksX3_stopsOnAll_1 : cX3_stopsOnAll.data.toList.drop 24 = dktX3_stopsOnAll_1 := dk_seg dksX3_stopsOnAll_0 24 rfl rfl
theorem dX3_stopsOnAll_0 : decode cX3_stopsOnAll 0 = .ok (.aload_n 0, 1) := dk_42 (dk_at dksX3_stopsOnAll_0 0 rfl rfl)
theorem dX3_stopsOnAll_1 : decode cX3_stopsOnAll 1 = .ok (.getfield 58, 3) := dk_180 0 58 (dk_at dksX3_stopsOnAll_0 1 rfl rfl)
theorem dX3_stopsOnAll_4 : decode cX3_stopsOnAll 4 = .ok (.iconst 1, 1) := dk_4 (dk_at dksX3_stopsOnAll_0 4 rfl rfl)
theorem dX3_stopsOnAll_5 : decode cX3_stopsOnAll 5 = .ok (.isub, 1) := dk_100 (dk_at dksX3_stopsOnAll_0 5 rfl rfl)
theorem dX3_stopsOnAll_6 : decode cX3_stopsOnAll 6 = .ok (.istore_n 3, 1) := dk_62 (dk_at dksX3_stopsOnAll_0 6 rfl rfl)
theorem dX3_stopsOnAll_7 : decode cX3_stopsOnAll 7 = .ok (.iload_n 3, 1) := dk_29 (dk_at dksX3_stopsOnAll_0 7 rfl rfl)
theorem dX3_stopsOnAll_8 : decode cX3_stopsOnAll 8 = .ok (.ifCond .lt 30, 3) := dk_155 0 30 (dk_at dksX3_stopsOnAll_0 8 rfl rfl)
theorem dX3_stopsOnAll_11 : decode cX3_stopsOnAll 11 = .ok (.aload_n 0, 1) := dk_42 (dk_at dksX3_stopsOnAll_0 11 rfl rfl)
theorem dX3_stopsOnAll_12 : decode cX3_stopsOnAll 12 = .ok (.getfield 7, 3) := dk_180 0 7 (dk_at dksX3_stopsOnAll_0 12 rfl rfl)
theorem dX3_stopsOnAll_15 : decode cX3_stopsOnAll 15 = .ok (.iload_n 3, 1) := dk_29 (dk_at dksX3_stopsOnAll_0 15 rfl rfl)
theorem dX3_stopsOnAll_16 : decode cX3_stopsOnAll 16 = .ok (.iaload, 1) := dk_46 (dk_at dksX3_stopsOnAll_0 16 rfl rfl)
theorem dX3_stopsOnAll_17 : decode cX3_stopsOnAll 17 = .ok (.iload_n 1, 1) := dk_27 (dk_at dksX3_stopsOnAll_0 17 rfl rfl)
theorem dX3_stopsOnAll_18 : decode cX3_stopsOnAll 18 = .ok (.if_icmp .le 14, 3) := dk_164 0 14 (dk_at dksX3_stopsOnAll_0 18 rfl rfl)
theorem dX3_stopsOnAll_21 : decode cX3_stopsOnAll 21 = .ok (.aload_n 0, 1) := dk_42 (dk_at dksX3_stopsOnAll_0 21 rfl rfl)
theorem dX3_stopsOnAll_22 : decode cX3_stopsOnAll 22 = .ok (.iload_n 3, 1) := dk_29 (dk_at dksX3_stopsOnAll_0 22 rfl rfl)
theorem dX3_stopsOnAll_23 : decode cX3_stopsOnAll 23 = .ok (.iload_n 1, 1) := dk_27 (dk_at dksX3_stopsOnAll_0 23 rfl rfl)
theorem dX3_stopsOnAll_24 : decode cX3_stopsOnAll 24 = .ok (.iload_n 2, 1) := dk_28 (dk_at dksX3_stopsOnAll_1 0 rfl rfl)
theorem dX3_stopsOnAll_25 : decode cX3_stopsOnAll 25 = .ok (.iconst 0, 1) := dk_3 (dk_at dksX3_stopsOnAll_1 1 rfl rfl)
theorem dX3_stopsOnAll_26 : decode cX3_stopsOnAll 26 = .ok (.iconst 0, 1) := dk_3 (dk_at dksX3_stopsOnAll_1 2 rfl rfl)
theorem dX3_stopsOnAll_27 : decode cX3_stopsOnAll 27 = .ok (.invokevirtual 105, 3) := dk_182 0 105 (dk_at dksX3_stopsOnAll_1 3 rfl rfl)
theorem dX3_stopsOnAll_30 : decode cX3_stopsOnAll 30 = .ok (.istore 4, 2) := dk_54 4 (dk_at dksX3_stopsOnAll_1 6 rfl rfl)
theorem dX3_stopsOnAll_32 : decode cX3_stopsOnAll 32 = .ok (.iinc 3 (-1), 3) := dk_132 3 255 (dk_at dksX3_stopsOnAll_1 8 rfl rfl)
theorem dX3_stopsOnAll_35 : decode cX3_stopsOnAll 35 = .ok (.goto (-28), 3) := dk_167 255 228 (dk_at dksX3_stopsOnAll_1 11 rfl rfl)
theorem dX3_stopsOnAll_38 : decode cX3_stopsOnAll 38 = .ok (.return_, 1) := dk_177 (dk_at dksX3_stopsOnAll_1 14 rfl rfl)
abbrev cX3_forgets : ByteArray := prog_15_method_31_code
def yX3_forgets : MethodName := ⟨RX3, "forgets", "(II)V"⟩
def dkwX3_forgets_1 : List UInt8 := [180, 0, 29, 29, 27, 28, 3, 184, 0, 101, 3, 79, 132, 3, 1, 167, 255, 221, 177]
abbrev dktX3_forgets_1 : List UInt8 := dkwX3_forgets_1 ++ []
def dkwX3_forgets_0 : List UInt8 := [3, 62, 29, 16, 8, 162, 0, 35, 42, 180, 0, 29, 29, 27, 28, 4, 184, 0, 101, 3, 79, 42]
abbrev dktX3_forgets_0 : List UInt8 := dkwX3_forgets_0 ++ dktX3_forgets_1
theorem dksX3_forgets_0 : cX3_forgets.data.toList.drop 0 = dktX3_forgets_0 := by decide +kernel
theorem dksX3_forgets_1 : cX3_forgets.data.toList.drop 22 = dktX3_forgets_1 := dk_seg dksX3_forgets_0 22 rfl rfl
theorem dX3_forgets_0 : decode cX3_forgets 0 = .ok (.iconst 0, 1) := dk_3 (dk_at dksX3_forgets_0 0 rfl rfl)
theorem dX3_forgets_1 : decode cX3_forgets 1 = .ok (.istore_n 3, 1) := dk_62 (dk_at dksX3_forgets_0 1 rfl rfl)
theorem dX3_forgets_2 : decode cX3_forgets 2 = .ok (.iload_n 3, 1) := dk_29 (dk_at dksX3_forgets_0 2 rfl rfl)
theorem dX3_forgets_3 : decode cX3_forgets 3 = .ok (.bipush 8, 2) := dk_16 8 (dk_at dksX3_forgets_0 3 rfl rfl)
theorem dX3_forgets_5 : decode cX3_forgets 5 = .ok (.if_icmp .ge 35, 3) := dk_162 0 35 (dk_at dksX3_forgets_0 5 rfl rfl)
theorem dX3_forgets_8 : decode cX3_forgets 8 = .ok (.aload_n 0, 1) := dk_42 (dk_at dksX3_forgets_0 8 rfl rfl)
theorem dX3_forgets_9 : decode cX3_forgets 9 = .ok (.getfield 29, 3) := dk_180 0 29 (dk_at dksX3_forgets_0 9 rfl rfl)
theorem dX3_forgets_12 : decode cX3_forgets 12 = .ok (.iload_n 3, 1) := dk_29 (dk_at dksX3_forgets_0 12 rfl rfl)
theorem dX3_forgets_13 : decode cX3_forgets 13 = .ok (.iload_n 1, 1) := dk_27 (dk_at dksX3_forgets_0 13 rfl rfl)
theorem dX3_forgets_14 : decode cX3_forgets 14 = .ok (.iload_n 2, 1) := dk_28 (dk_at dksX3_forgets_0 14 rfl rfl)
theorem dX3_forgets_15 : decode cX3_forgets 15 = .ok (.iconst 1, 1) := dk_4 (dk_at dksX3_forgets_0 15 rfl rfl)
theorem dX3_forgets_16 : decode cX3_forgets 16 = .ok (.invokestatic 101, 3) := dk_184 0 101 (dk_at dksX3_forgets_0 16 rfl rfl)
theorem dX3_forgets_19 : decode cX3_forgets 19 = .ok (.iconst 0, 1) := dk_3 (dk_at dksX3_forgets_0 19 rfl rfl)
theorem dX3_forgets_20 : decode cX3_forgets 20 = .ok (.iastore, 1) := dk_79 (dk_at dksX3_forgets_0 20 rfl rfl)
theorem dX3_forgets_21 : decode cX3_forgets 21 = .ok (.aload_n 0, 1) := dk_42 (dk_at dksX3_forgets_0 21 rfl rfl)
theorem dX3_forgets_22 : decode cX3_forgets 22 = .ok (.getfield 29, 3) := dk_180 0 29 (dk_at dksX3_forgets_1 0 rfl rfl)
theorem dX3_forgets_25 : decode cX3_forgets 25 = .ok (.iload_n 3, 1) := dk_29 (dk_at dksX3_forgets_1 3 rfl rfl)
theorem dX3_forgets_26 : decode cX3_forgets 26 = .ok (.iload_n 1, 1) := dk_27 (dk_at dksX3_forgets_1 4 rfl rfl)
theorem dX3_forgets_27 : decode cX3_forgets 27 = .ok (.iload_n 2, 1) := dk_28 (dk_at dksX3_forgets_1 5 rfl rfl)
theorem dX3_forgets_28 : decode cX3_forgets 28 = .ok (.iconst 0, 1) := dk_3 (dk_at dksX3_forgets_1 6 rfl rfl)
theorem dX3_forgets_29 : decode cX3_forgets 29 = .ok (.invokestatic 101, 3) := dk_184 0 101 (dk_at dksX3_forgets_1 7 rfl rfl)
theorem dX3_forgets_32 : decode cX3_forgets 32 = .ok (.iconst 0, 1) := dk_3 (dk_at dksX3_forgets_1 10 rfl rfl)
theorem dX3_forgets_33 : decode cX3_forgets 33 = .ok (.iastore, 1) := dk_79 (dk_at dksX3_forgets_1 11 rfl rfl)
theorem dX3_forgets_34 : decode cX3_forgets 34 = .ok (.iinc 3 1, 3) := dk_132 3 1 (dk_at dksX3_forgets_1 12 rfl rfl)
theorem dX3_forgets_37 : decode cX3_forgets 37 = .ok (.goto (-35), 3) := dk_167 255 221 (dk_at dksX3_forgets_1 15 rfl rfl)
theorem dX3_forgets_40 : decode cX3_forgets 40 = .ok (.return_, 1) := dk_177 (dk_at dksX3_forgets_1 18 rfl rfl)
abbrev cX3_instance : ByteArray := prog_15_method_34_code
def yX3_instance : MethodName := ⟨RX3, "instance", "(I)I"⟩
def dkwX3_instance_3 : List UInt8 := [182, 0, 125, 172, 42, 180, 0, 26, 27, 92, 46, 4, 28, 120, 128, 79, 42, 28, 182, 0, 125, 172]
abbrev dktX3_instance_3 : List UInt8 := dkwX3_instance_3 ++ []
def dkwX3_instance_2 : List UInt8 := [28, 184, 0, 71, 153, 0, 9, 132, 2, 1, 167, 255, 240, 42, 27, 28, 182, 0, 131, 154, 0, 9, 42, 2]
abbrev dktX3_instance_2 : List UInt8 := dkwX3_instance_2 ++ dktX3_instance_3
def dkwX3_instance_1 : List UInt8 := [180, 0, 26, 27, 46, 16, 15, 160, 0, 9, 42, 5, 182, 0, 128, 172, 3, 61, 42, 180, 0, 26, 27, 46]
abbrev dktX3_instance_1 : List UInt8 := dkwX3_instance_1 ++ dktX3_instance_2
def dkwX3_instance_0 : List UInt8 := [42, 27, 182, 0, 137, 154, 0, 9, 42, 4, 182, 0, 128, 172, 42, 180, 0, 23, 27, 51, 154, 0, 14, 42]
abbrev dktX3_instance_0 : List UInt8 := dkwX3_instance_0 ++ dktX3_instance_1
theorem dksX3_instance_0 : cX3_instance.data.toList.drop 0 = dktX3_instance_0 := by decide +kernel
theorem dksX3_instance_1 : cX3_instance.data.toList.drop 24 = dktX3_instance_1 := dk_seg dksX3_instance_0 24 rfl rfl
theorem dksX3_instance_2 : cX3_instance.data.toList.drop 48 = dktX3_instance_2 := dk_seg dksX3_instance_1 24 rfl rfl
theorem dksX3_instance_3 : cX3_instance.data.toList.drop 72 = dktX3_instance_3 := dk_seg dksX3_instance_2 24 rfl rfl
theorem dX3_instance_0 : decode cX3_instance 0 = .ok (.aload_n 0, 1) := dk_42 (dk_at dksX3_instance_0 0 rfl rfl)
theorem dX3_instance_1 : decode cX3_instance 1 = .ok (.iload_n 1, 1) := dk_27 (dk_at dksX3_instance_0 1 rfl rfl)
theorem dX3_instance_2 : decode cX3_instance 2 = .ok (.invokevirtual 137, 3) := dk_182 0 137 (dk_at dksX3_instance_0 2 rfl rfl)
theorem dX3_instance_5 : decode cX3_instance 5 = .ok (.ifCond .ne 9, 3) := dk_154 0 9 (dk_at dksX3_instance_0 5 rfl rfl)
theorem dX3_instance_8 : decode cX3_instance 8 = .ok (.aload_n 0, 1) := dk_42 (dk_at dksX3_instance_0 8 rfl rfl)
theorem dX3_instance_9 : decode cX3_instance 9 = .ok (.iconst 1, 1) := dk_4 (dk_at dksX3_instance_0 9 rfl rfl)
theorem dX3_instance_10 : decode cX3_instance 10 = .ok (.invokevirtual 128, 3) := dk_182 0 128 (dk_at dksX3_instance_0 10 rfl rfl)
theorem dX3_instance_13 : decode cX3_instance 13 = .ok (.ireturn, 1) := dk_172 (dk_at dksX3_instance_0 13 rfl rfl)
theorem dX3_instance_14 : decode cX3_instance 14 = .ok (.aload_n 0, 1) := dk_42 (dk_at dksX3_instance_0 14 rfl rfl)
theorem dX3_instance_15 : decode cX3_instance 15 = .ok (.getfield 23, 3) := dk_180 0 23 (dk_at dksX3_instance_0 15 rfl rfl)
theorem dX3_instance_18 : decode cX3_instance 18 = .ok (.iload_n 1, 1) := dk_27 (dk_at dksX3_instance_0 18 rfl rfl)
theorem dX3_instance_19 : decode cX3_instance 19 = .ok (.baload, 1) := dk_51 (dk_at dksX3_instance_0 19 rfl rfl)
theorem dX3_instance_20 : decode cX3_instance 20 = .ok (.ifCond .ne 14, 3) := dk_154 0 14 (dk_at dksX3_instance_0 20 rfl rfl)
theorem dX3_instance_23 : decode cX3_instance 23 = .ok (.aload_n 0, 1) := dk_42 (dk_at dksX3_instance_0 23 rfl rfl)
theorem dX3_instance_24 : decode cX3_instance 24 = .ok (.getfield 26, 3) := dk_180 0 26 (dk_at dksX3_instance_1 0 rfl rfl)
theorem dX3_instance_27 : decode cX3_instance 27 = .ok (.iload_n 1, 1) := dk_27 (dk_at dksX3_instance_1 3 rfl rfl)
theorem dX3_instance_28 : decode cX3_instance 28 = .ok (.iaload, 1) := dk_46 (dk_at dksX3_instance_1 4 rfl rfl)
theorem dX3_instance_29 : decode cX3_instance 29 = .ok (.bipush 15, 2) := dk_16 15 (dk_at dksX3_instance_1 5 rfl rfl)
theorem dX3_instance_31 : decode cX3_instance 31 = .ok (.if_icmp .ne 9, 3) := dk_160 0 9 (dk_at dksX3_instance_1 7 rfl rfl)
theorem dX3_instance_34 : decode cX3_instance 34 = .ok (.aload_n 0, 1) := dk_42 (dk_at dksX3_instance_1 10 rfl rfl)
theorem dX3_instance_35 : decode cX3_instance 35 = .ok (.iconst 2, 1) := dk_5 (dk_at dksX3_instance_1 11 rfl rfl)
theorem dX3_instance_36 : decode cX3_instance 36 = .ok (.invokevirtual 128, 3) := dk_182 0 128 (dk_at dksX3_instance_1 12 rfl rfl)
theorem dX3_instance_39 : decode cX3_instance 39 = .ok (.ireturn, 1) := dk_172 (dk_at dksX3_instance_1 15 rfl rfl)
theorem dX3_instance_40 : decode cX3_instance 40 = .ok (.iconst 0, 1) := dk_3 (dk_at dksX3_instance_1 16 rfl rfl)
theorem dX3_instance_41 : decode cX3_instance 41 = .ok (.istore_n 2, 1) := dk_61 (dk_at dksX3_instance_1 17 rfl rfl)
theorem dX3_instance_42 : decode cX3_instance 42 = .ok (.aload_n 0, 1) := dk_42 (dk_at dksX3_instance_1 18 rfl rfl)
theorem dX3_instance_43 : decode cX3_instance 43 = .ok (.getfield 26, 3) := dk_180 0 26 (dk_at dksX3_instance_1 19 rfl rfl)
theorem dX3_instance_46 : decode cX3_instance 46 = .ok (.iload_n 1, 1) := dk_27 (dk_at dksX3_instance_1 22 rfl rfl)
theorem dX3_instance_47 : decode cX3_instance 47 = .ok (.iaload, 1) := dk_46 (dk_at dksX3_instance_1 23 rfl rfl)
theorem dX3_instance_48 : decode cX3_instance 48 = .ok (.iload_n 2, 1) := dk_28 (dk_at dksX3_instance_2 0 rfl rfl)
theorem dX3_instance_49 : decode cX3_instance 49 = .ok (.invokestatic 71, 3) := dk_184 0 71 (dk_at dksX3_instance_2 1 rfl rfl)
theorem dX3_instance_52 : decode cX3_instance 52 = .ok (.ifCond .eq 9, 3) := dk_153 0 9 (dk_at dksX3_instance_2 4 rfl rfl)
theorem dX3_instance_55 : decode cX3_instance 55 = .ok (.iinc 2 1, 3) := dk_132 2 1 (dk_at dksX3_instance_2 7 rfl rfl)
theorem dX3_instance_58 : decode cX3_instance 58 = .ok (.goto (-16), 3) := dk_167 255 240 (dk_at dksX3_instance_2 10 rfl rfl)
theorem dX3_instance_61 : decode cX3_instance 61 = .ok (.aload_n 0, 1) := dk_42 (dk_at dksX3_instance_2 13 rfl rfl)
theorem dX3_instance_62 : decode cX3_instance 62 = .ok (.iload_n 1, 1) := dk_27 (dk_at dksX3_instance_2 14 rfl rfl)
theorem dX3_instance_63 : decode cX3_instance 63 = .ok (.iload_n 2, 1) := dk_28 (dk_at dksX3_instance_2 15 rfl rfl)
theorem dX3_instance_64 : decode cX3_instance 64 = .ok (.invokevirtual 131, 3) := dk_182 0 131 (dk_at dksX3_instance_2 16 rfl rfl)
theorem dX3_instance_67 : decode cX3_instance 67 = .ok (.ifCond .ne 9, 3) := dk_154 0 9 (dk_at dksX3_instance_2 19 rfl rfl)
theorem dX3_instance_70 : decode cX3_instance 70 = .ok (.aload_n 0, 1) := dk_42 (dk_at dksX3_instance_2 22 rfl rfl)
theorem dX3_instance_71 : decode cX3_instance 71 = .ok (.iconst (-1), 1) := dk_2 (dk_at dksX3_instance_2 23 rfl rfl)
theorem dX3_instance_72 : decode cX3_instance 72 = .ok (.invokevirtual 125, 3) := dk_182 0 125 (dk_at dksX3_instance_3 0 rfl rfl)
theorem dX3_instance_75 : decode cX3_instance 75 = .ok (.ireturn, 1) := dk_172 (dk_at dksX3_instance_3 3 rfl rfl)
theorem dX3_instance_76 : decode cX3_instance 76 = .ok (.aload_n 0, 1) := dk_42 (dk_at dksX3_instance_3 4 rfl rfl)
theorem dX3_instance_77 : decode cX3_instance 77 = .ok (.getfield 26, 3) := dk_180 0 26 (dk_at dksX3_instance_3 5 rfl rfl)
theorem dX3_instance_80 : decode cX3_instance 80 = .ok (.iload_n 1, 1) := dk_27 (dk_at dksX3_instance_3 8 rfl rfl)
theorem dX3_instance_81 : decode cX3_instance 81 = .ok (.dup2, 1) := dk_92 (dk_at dksX3_instance_3 9 rfl rfl)
theorem dX3_instance_82 : decode cX3_instance 82 = .ok (.iaload, 1) := dk_46 (dk_at dksX3_instance_3 10 rfl rfl)
theorem dX3_instance_83 : decode cX3_instance 83 = .ok (.iconst 1, 1) := dk_4 (dk_at dksX3_instance_3 11 rfl rfl)
theorem dX3_instance_84 : decode cX3_instance 84 = .ok (.iload_n 2, 1) := dk_28 (dk_at dksX3_instance_3 12 rfl rfl)
theorem dX3_instance_85 : decode cX3_instance 85 = .ok (.ishl, 1) := dk_120 (dk_at dksX3_instance_3 13 rfl rfl)
theorem dX3_instance_86 : decode cX3_instance 86 = .ok (.ior, 1) := dk_128 (dk_at dksX3_instance_3 14 rfl rfl)
theorem dX3_instance_87 : decode cX3_instance 87 = .ok (.iastore, 1) := dk_79 (dk_at dksX3_instance_3 15 rfl rfl)
theorem dX3_instance_88 : decode cX3_instance 88 = .ok (.aload_n 0, 1) := dk_42 (dk_at dksX3_instance_3 16 rfl rfl)
theorem dX3_instance_89 : decode cX3_instance 89 = .ok (.iload_n 2, 1) := dk_28 (dk_at dksX3_instance_3 17 rfl rfl)
theorem dX3_instance_90 : decode cX3_instance 90 = .ok (.invokevirtual 125, 3) := dk_182 0 125 (dk_at dksX3_instance_3 18 rfl rfl)
theorem dX3_instance_93 : decode cX3_instance 93 = .ok (.ireturn, 1) := dk_172 (dk_at dksX3_instance_3 21 rfl rfl)
abbrev cX3_retire : ByteArray := prog_15_method_35_code
def yX3_retire : MethodName := ⟨RX3, "retire", "(II)I"⟩
def dkwX3_retire_4 : List UInt8 := [182, 0, 125, 172]
abbrev dktX3_retire_4 : List UInt8 := dkwX3_retire_4 ++ []
def dkwX3_retire_3 : List UInt8 := [182, 0, 144, 42, 180, 0, 26, 27, 92, 46, 4, 28, 120, 2, 130, 126, 79, 42, 42, 180, 0, 65, 29, 100]
abbrev dktX3_retire_3 : List UInt8 := dkwX3_retire_3 ++ dktX3_retire_4
def dkwX3_retire_2 : List UInt8 := [153, 0, 9, 42, 5, 182, 0, 128, 172, 42, 180, 0, 65, 62, 42, 27, 28, 182, 0, 140, 42, 27, 28]
abbrev dktX3_retire_2 : List UInt8 := dkwX3_retire_2 ++ dktX3_retire_3
def dkwX3_retire_1 : List UInt8 := [180, 0, 26, 27, 46, 28, 184, 0, 71, 154, 0, 9, 42, 4, 182, 0, 128, 172, 42, 180, 0, 23, 27, 51]
abbrev dktX3_retire_1 : List UInt8 := dkwX3_retire_1 ++ dktX3_retire_2
def dkwX3_retire_0 : List UInt8 := [42, 27, 182, 0, 137, 153, 0, 12, 28, 3, 6, 184, 0, 61, 154, 0, 9, 42, 4, 182, 0, 128, 172, 42]
abbrev dktX3_retire_0 : List UInt8 := dkwX3_retire_0 ++ dktX3_retire_1
theorem dksX3_retire_0 : cX3_retire.data.toList.drop 0 = dktX3_retire_0 := by decide +kernel
theorem dksX3_retire_1 : cX3_retire.data.toList.drop 24 = dktX3_retire_1 := dk_seg dksX3_retire_0 24 rfl rfl
theorem dksX3_retire_2 : cX3_retire.data.toList.drop 48 = dktX3_retire_2 := dk_seg dksX3_retire_1 24 rfl rfl
theorem dksX3_retire_3 : cX3_retire.data.toList.drop 71 = dktX3_retire_3 := dk_seg dksX3_retire_2 23 rfl rfl
theorem dksX3_retire_4 : cX3_retire.data.toList.drop 95 = dktX3_retire_4 := dk_seg dksX3_retire_3 24 rfl rfl
theorem dX3_retire_0 : decode cX3_retire 0 = .ok (.aload_n 0, 1) := dk_42 (dk_at dksX3_retire_0 0 rfl rfl)
theorem dX3_retire_1 : decode cX3_retire 1 = .ok (.iload_n 1, 1) := dk_27 (dk_at dksX3_retire_0 1 rfl rfl)
theorem dX3_retire_2 : decode cX3_retire 2 = .ok (.invokevirtual 137, 3) := dk_182 0 137 (dk_at dksX3_retire_0 2 rfl rfl)
theorem dX3_retire_5 : decode cX3_retire 5 = .ok (.ifCond .eq 12, 3) := dk_153 0 12 (dk_at dksX3_retire_0 5 rfl rfl)
theorem dX3_retire_8 : decode cX3_retire 8 = .ok (.iload_n 2, 1) := dk_28 (dk_at dksX3_retire_0 8 rfl rfl)
theorem dX3_retire_9 : decode cX3_retire 9 = .ok (.iconst 0, 1) := dk_3 (dk_at dksX3_retire_0 9 rfl rfl)
theorem dX3_retire_10 : decode cX3_retire 10 = .ok (.iconst 3, 1) := dk_6 (dk_at dksX3_retire_0 10 rfl rfl)
theorem dX3_retire_11 : decode cX3_retire 11 = .ok (.invokestatic 61, 3) := dk_184 0 61 (dk_at dksX3_retire_0 11 rfl rfl)
theorem dX3_retire_14 : decode cX3_retire 14 = .ok (.ifCond .ne 9, 3) := dk_154 0 9 (dk_at dksX3_retire_0 14 rfl rfl)
theorem dX3_retire_17 : decode cX3_retire 17 = .ok (.aload_n 0, 1) := dk_42 (dk_at dksX3_retire_0 17 rfl rfl)
theorem dX3_retire_18 : decode cX3_retire 18 = .ok (.iconst 1, 1) := dk_4 (dk_at dksX3_retire_0 18 rfl rfl)
theorem dX3_retire_19 : decode cX3_retire 19 = .ok (.invokevirtual 128, 3) := dk_182 0 128 (dk_at dksX3_retire_0 19 rfl rfl)
theorem dX3_retire_22 : decode cX3_retire 22 = .ok (.ireturn, 1) := dk_172 (dk_at dksX3_retire_0 22 rfl rfl)
theorem dX3_retire_23 : decode cX3_retire 23 = .ok (.aload_n 0, 1) := dk_42 (dk_at dksX3_retire_0 23 rfl rfl)
theorem dX3_retire_24 : decode cX3_retire 24 = .ok (.getfield 26, 3) := dk_180 0 26 (dk_at dksX3_retire_1 0 rfl rfl)
theorem dX3_retire_27 : decode cX3_retire 27 = .ok (.iload_n 1, 1) := dk_27 (dk_at dksX3_retire_1 3 rfl rfl)
theorem dX3_retire_28 : decode cX3_retire 28 = .ok (.iaload, 1) := dk_46 (dk_at dksX3_retire_1 4 rfl rfl)
theorem dX3_retire_29 : decode cX3_retire 29 = .ok (.iload_n 2, 1) := dk_28 (dk_at dksX3_retire_1 5 rfl rfl)
theorem dX3_retire_30 : decode cX3_retire 30 = .ok (.invokestatic 71, 3) := dk_184 0 71 (dk_at dksX3_retire_1 6 rfl rfl)
theorem dX3_retire_33 : decode cX3_retire 33 = .ok (.ifCond .ne 9, 3) := dk_154 0 9 (dk_at dksX3_retire_1 9 rfl rfl)
theorem dX3_retire_36 : decode cX3_retire 36 = .ok (.aload_n 0, 1) := dk_42 (dk_at dksX3_retire_1 12 rfl rfl)
theorem dX3_retire_37 : decode cX3_retire 37 = .ok (.iconst 1, 1) := dk_4 (dk_at dksX3_retire_1 13 rfl rfl)
theorem dX3_retire_38 : decode cX3_retire 38 = .ok (.invokevirtual 128, 3) := dk_182 0 128 (dk_at dksX3_retire_1 14 rfl rfl)
theorem dX3_retire_41 : decode cX3_retire 41 = .ok (.ireturn, 1) := dk_172 (dk_at dksX3_retire_1 17 rfl rfl)
theorem dX3_retire_42 : decode cX3_retire 42 = .ok (.aload_n 0, 1) := dk_42 (dk_at dksX3_retire_1 18 rfl rfl)
theorem dX3_retire_43 : decode cX3_retire 43 = .ok (.getfield 23, 3) := dk_180 0 23 (dk_at dksX3_retire_1 19 rfl rfl)
theorem dX3_retire_46 : decode cX3_retire 46 = .ok (.iload_n 1, 1) := dk_27 (dk_at dksX3_retire_1 22 rfl rfl)
theorem dX3_retire_47 : decode cX3_retire 47 = .ok (.baload, 1) := dk_51 (dk_at dksX3_retire_1 23 rfl rfl)
theorem dX3_retire_48 : decode cX3_retire 48 = .ok (.ifCond .eq 9, 3) := dk_153 0 9 (dk_at dksX3_retire_2 0 rfl rfl)
theorem dX3_retire_51 : decode cX3_retire 51 = .ok (.aload_n 0, 1) := dk_42 (dk_at dksX3_retire_2 3 rfl rfl)
theorem dX3_retire_52 : decode cX3_retire 52 = .ok (.iconst 2, 1) := dk_5 (dk_at dksX3_retire_2 4 rfl rfl)
theorem dX3_retire_53 : decode cX3_retire 53 = .ok (.invokevirtual 128, 3) := dk_182 0 128 (dk_at dksX3_retire_2 5 rfl rfl)
theorem dX3_retire_56 : decode cX3_retire 56 = .ok (.ireturn, 1) := dk_172 (dk_at dksX3_retire_2 8 rfl rfl)
theorem dX3_retire_57 : decode cX3_retire 57 = .ok (.aload_n 0, 1) := dk_42 (dk_at dksX3_retire_2 9 rfl rfl)
theorem dX3_retire_58 : decode cX3_retire 58 = .ok (.getfield 65, 3) := dk_180 0 65 (dk_at dksX3_retire_2 10 rfl rfl)
theorem dX3_retire_61 : decode cX3_retire 61 = .ok (.istore_n 3, 1) := dk_62 (dk_at dksX3_retire_2 13 rfl rfl)
theorem dX3_retire_62 : decode cX3_retire 62 = .ok (.aload_n 0, 1) := dk_42 (dk_at dksX3_retire_2 14 rfl rfl)
theorem dX3_retire_63 : decode cX3_retire 63 = .ok (.iload_n 1, 1) := dk_27 (dk_at dksX3_retire_2 15 rfl rfl)
theorem dX3_retire_64 : decode cX3_retire 64 = .ok (.iload_n 2, 1) := dk_28 (dk_at dksX3_retire_2 16 rfl rfl)
theorem dX3_retire_65 : decode cX3_retire 65 = .ok (.invokevirtual 140, 3) := dk_182 0 140 (dk_at dksX3_retire_2 17 rfl rfl)
theorem dX3_retire_68 : decode cX3_retire 68 = .ok (.aload_n 0, 1) := dk_42 (dk_at dksX3_retire_2 20 rfl rfl)
theorem dX3_retire_69 : decode cX3_retire 69 = .ok (.iload_n 1, 1) := dk_27 (dk_at dksX3_retire_2 21 rfl rfl)
theorem dX3_retire_70 : decode cX3_retire 70 = .ok (.iload_n 2, 1) := dk_28 (dk_at dksX3_retire_2 22 rfl rfl)
theorem dX3_retire_71 : decode cX3_retire 71 = .ok (.invokevirtual 144, 3) := dk_182 0 144 (dk_at dksX3_retire_3 0 rfl rfl)
theorem dX3_retire_74 : decode cX3_retire 74 = .ok (.aload_n 0, 1) := dk_42 (dk_at dksX3_retire_3 3 rfl rfl)
theorem dX3_retire_75 : decode cX3_retire 75 = .ok (.getfield 26, 3) := dk_180 0 26 (dk_at dksX3_retire_3 4 rfl rfl)
theorem dX3_retire_78 : decode cX3_retire 78 = .ok (.iload_n 1, 1) := dk_27 (dk_at dksX3_retire_3 7 rfl rfl)
theorem dX3_retire_79 : decode cX3_retire 79 = .ok (.dup2, 1) := dk_92 (dk_at dksX3_retire_3 8 rfl rfl)
theorem dX3_retire_80 : decode cX3_retire 80 = .ok (.iaload, 1) := dk_46 (dk_at dksX3_retire_3 9 rfl rfl)
theorem dX3_retire_81 : decode cX3_retire 81 = .ok (.iconst 1, 1) := dk_4 (dk_at dksX3_retire_3 10 rfl rfl)
theorem dX3_retire_82 : decode cX3_retire 82 = .ok (.iload_n 2, 1) := dk_28 (dk_at dksX3_retire_3 11 rfl rfl)
theorem dX3_retire_83 : decode cX3_retire 83 = .ok (.ishl, 1) := dk_120 (dk_at dksX3_retire_3 12 rfl rfl)
theorem dX3_retire_84 : decode cX3_retire 84 = .ok (.iconst (-1), 1) := dk_2 (dk_at dksX3_retire_3 13 rfl rfl)
theorem dX3_retire_85 : decode cX3_retire 85 = .ok (.ixor, 1) := dk_130 (dk_at dksX3_retire_3 14 rfl rfl)
theorem dX3_retire_86 : decode cX3_retire 86 = .ok (.iand, 1) := dk_126 (dk_at dksX3_retire_3 15 rfl rfl)
theorem dX3_retire_87 : decode cX3_retire 87 = .ok (.iastore, 1) := dk_79 (dk_at dksX3_retire_3 16 rfl rfl)
theorem dX3_retire_88 : decode cX3_retire 88 = .ok (.aload_n 0, 1) := dk_42 (dk_at dksX3_retire_3 17 rfl rfl)
theorem dX3_retire_89 : decode cX3_retire 89 = .ok (.aload_n 0, 1) := dk_42 (dk_at dksX3_retire_3 18 rfl rfl)
theorem dX3_retire_90 : decode cX3_retire 90 = .ok (.getfield 65, 3) := dk_180 0 65 (dk_at dksX3_retire_3 19 rfl rfl)
theorem dX3_retire_93 : decode cX3_retire 93 = .ok (.iload_n 3, 1) := dk_29 (dk_at dksX3_retire_3 22 rfl rfl)
theorem dX3_retire_94 : decode cX3_retire 94 = .ok (.isub, 1) := dk_100 (dk_at dksX3_retire_3 23 rfl rfl)
theorem dX3_retire_95 : decode cX3_retire 95 = .ok (.invokevirtual 125, 3) := dk_182 0 125 (dk_at dksX3_retire_4 0 rfl rfl)
theorem dX3_retire_98 : decode cX3_retire 98 = .ok (.ireturn, 1) := dk_172 (dk_at dksX3_retire_4 3 rfl rfl)
abbrev cX3_fail : ByteArray := prog_15_method_36_code
def yX3_fail : MethodName := ⟨RX3, "fail", "(IIIZI)I"⟩
def dkwX3_fail_3 : List UInt8 := [21, 6, 21, 5, 79, 42, 21, 7, 182, 0, 125, 172]
abbrev dktX3_fail_3 : List UInt8 := dkwX3_fail_3 ++ []
def dkwX3_fail_2 : List UInt8 := [27, 28, 29, 21, 4, 184, 0, 101, 54, 6, 42, 180, 0, 29, 21, 6, 46, 54, 7, 42, 180, 0, 29]
abbrev dktX3_fail_2 : List UInt8 := dkwX3_fail_2 ++ dktX3_fail_3
def dkwX3_fail_1 : List UInt8 := [6, 184, 0, 61, 153, 0, 14, 21, 5, 3, 16, 9, 184, 0, 61, 154, 0, 9, 42, 5, 182, 0, 128, 172]
abbrev dktX3_fail_1 : List UInt8 := dkwX3_fail_1 ++ dktX3_fail_2
def dkwX3_fail_0 : List UInt8 := [42, 27, 182, 0, 147, 153, 0, 11, 42, 28, 182, 0, 137, 154, 0, 9, 42, 4, 182, 0, 128, 172, 29, 3]
abbrev dktX3_fail_0 : List UInt8 := dkwX3_fail_0 ++ dktX3_fail_1
theorem dksX3_fail_0 : cX3_fail.data.toList.drop 0 = dktX3_fail_0 := by decide +kernel
theorem dksX3_fail_1 : cX3_fail.data.toList.drop 24 = dktX3_fail_1 := dk_seg dksX3_fail_0 24 rfl rfl
theorem dksX3_fail_2 : cX3_fail.data.toList.drop 48 = dktX3_fail_2 := dk_seg dksX3_fail_1 24 rfl rfl
theorem dksX3_fail_3 : cX3_fail.data.toList.drop 71 = dktX3_fail_3 := dk_seg dksX3_fail_2 23 rfl rfl
theorem dX3_fail_0 : decode cX3_fail 0 = .ok (.aload_n 0, 1) := dk_42 (dk_at dksX3_fail_0 0 rfl rfl)
theorem dX3_fail_1 : decode cX3_fail 1 = .ok (.iload_n 1, 1) := dk_27 (dk_at dksX3_fail_0 1 rfl rfl)
theorem dX3_fail_2 : decode cX3_fail 2 = .ok (.invokevirtual 147, 3) := dk_182 0 147 (dk_at dksX3_fail_0 2 rfl rfl)
theorem dX3_fail_5 : decode cX3_fail 5 = .ok (.ifCond .eq 11, 3) := dk_153 0 11 (dk_at dksX3_fail_0 5 rfl rfl)
theorem dX3_fail_8 : decode cX3_fail 8 = .ok (.aload_n 0, 1) := dk_42 (dk_at dksX3_fail_0 8 rfl rfl)
theorem dX3_fail_9 : decode cX3_fail 9 = .ok (.iload_n 2, 1) := dk_28 (dk_at dksX3_fail_0 9 rfl rfl)
theorem dX3_fail_10 : decode cX3_fail 10 = .ok (.invokevirtual 137, 3) := dk_182 0 137 (dk_at dksX3_fail_0 10 rfl rfl)
theorem dX3_fail_13 : decode cX3_fail 13 = .ok (.ifCond .ne 9, 3) := dk_154 0 9 (dk_at dksX3_fail_0 13 rfl rfl)
theorem dX3_fail_16 : decode cX3_fail 16 = .ok (.aload_n 0, 1) := dk_42 (dk_at dksX3_fail_0 16 rfl rfl)
theorem dX3_fail_17 : decode cX3_fail 17 = .ok (.iconst 1, 1) := dk_4 (dk_at dksX3_fail_0 17 rfl rfl)
theorem dX3_fail_18 : decode cX3_fail 18 = .ok (.invokevirtual 128, 3) := dk_182 0 128 (dk_at dksX3_fail_0 18 rfl rfl)
theorem dX3_fail_21 : decode cX3_fail 21 = .ok (.ireturn, 1) := dk_172 (dk_at dksX3_fail_0 21 rfl rfl)
theorem dX3_fail_22 : decode cX3_fail 22 = .ok (.iload_n 3, 1) := dk_29 (dk_at dksX3_fail_0 22 rfl rfl)
theorem dX3_fail_23 : decode cX3_fail 23 = .ok (.iconst 0, 1) := dk_3 (dk_at dksX3_fail_0 23 rfl rfl)
theorem dX3_fail_24 : decode cX3_fail 24 = .ok (.iconst 3, 1) := dk_6 (dk_at dksX3_fail_1 0 rfl rfl)
theorem dX3_fail_25 : decode cX3_fail 25 = .ok (.invokestatic 61, 3) := dk_184 0 61 (dk_at dksX3_fail_1 1 rfl rfl)
theorem dX3_fail_28 : decode cX3_fail 28 = .ok (.ifCond .eq 14, 3) := dk_153 0 14 (dk_at dksX3_fail_1 4 rfl rfl)
theorem dX3_fail_31 : decode cX3_fail 31 = .ok (.iload 5, 2) := dk_21 5 (dk_at dksX3_fail_1 7 rfl rfl)
theorem dX3_fail_33 : decode cX3_fail 33 = .ok (.iconst 0, 1) := dk_3 (dk_at dksX3_fail_1 9 rfl rfl)
theorem dX3_fail_34 : decode cX3_fail 34 = .ok (.bipush 9, 2) := dk_16 9 (dk_at dksX3_fail_1 10 rfl rfl)
theorem dX3_fail_36 : decode cX3_fail 36 = .ok (.invokestatic 61, 3) := dk_184 0 61 (dk_at dksX3_fail_1 12 rfl rfl)
theorem dX3_fail_39 : decode cX3_fail 39 = .ok (.ifCond .ne 9, 3) := dk_154 0 9 (dk_at dksX3_fail_1 15 rfl rfl)
theorem dX3_fail_42 : decode cX3_fail 42 = .ok (.aload_n 0, 1) := dk_42 (dk_at dksX3_fail_1 18 rfl rfl)
theorem dX3_fail_43 : decode cX3_fail 43 = .ok (.iconst 2, 1) := dk_5 (dk_at dksX3_fail_1 19 rfl rfl)
theorem dX3_fail_44 : decode cX3_fail 44 = .ok (.invokevirtual 128, 3) := dk_182 0 128 (dk_at dksX3_fail_1 20 rfl rfl)
theorem dX3_fail_47 : decode cX3_fail 47 = .ok (.ireturn, 1) := dk_172 (dk_at dksX3_fail_1 23 rfl rfl)
theorem dX3_fail_48 : decode cX3_fail 48 = .ok (.iload_n 1, 1) := dk_27 (dk_at dksX3_fail_2 0 rfl rfl)
theorem dX3_fail_49 : decode cX3_fail 49 = .ok (.iload_n 2, 1) := dk_28 (dk_at dksX3_fail_2 1 rfl rfl)
theorem dX3_fail_50 : decode cX3_fail 50 = .ok (.iload_n 3, 1) := dk_29 (dk_at dksX3_fail_2 2 rfl rfl)
theorem dX3_fail_51 : decode cX3_fail 51 = .ok (.iload 4, 2) := dk_21 4 (dk_at dksX3_fail_2 3 rfl rfl)
theorem dX3_fail_53 : decode cX3_fail 53 = .ok (.invokestatic 101, 3) := dk_184 0 101 (dk_at dksX3_fail_2 5 rfl rfl)
theorem dX3_fail_56 : decode cX3_fail 56 = .ok (.istore 6, 2) := dk_54 6 (dk_at dksX3_fail_2 8 rfl rfl)
theorem dX3_fail_58 : decode cX3_fail 58 = .ok (.aload_n 0, 1) := dk_42 (dk_at dksX3_fail_2 10 rfl rfl)
theorem dX3_fail_59 : decode cX3_fail 59 = .ok (.getfield 29, 3) := dk_180 0 29 (dk_at dksX3_fail_2 11 rfl rfl)
theorem dX3_fail_62 : decode cX3_fail 62 = .ok (.iload 6, 2) := dk_21 6 (dk_at dksX3_fail_2 14 rfl rfl)
theorem dX3_fail_64 : decode cX3_fail 64 = .ok (.iaload, 1) := dk_46 (dk_at dksX3_fail_2 16 rfl rfl)
theorem dX3_fail_65 : decode cX3_fail 65 = .ok (.istore 7, 2) := dk_54 7 (dk_at dksX3_fail_2 17 rfl rfl)
theorem dX3_fail_67 : decode cX3_fail 67 = .ok (.aload_n 0, 1) := dk_42 (dk_at dksX3_fail_2 19 rfl rfl)
theorem dX3_fail_68 : decode cX3_fail 68 = .ok (.getfield 29, 3) := dk_180 0 29 (dk_at dksX3_fail_2 20 rfl rfl)
theorem dX3_fail_71 : decode cX3_fail 71 = .ok (.iload 6, 2) := dk_21 6 (dk_at dksX3_fail_3 0 rfl rfl)
theorem dX3_fail_73 : decode cX3_fail 73 = .ok (.iload 5, 2) := dk_21 5 (dk_at dksX3_fail_3 2 rfl rfl)
theorem dX3_fail_75 : decode cX3_fail 75 = .ok (.iastore, 1) := dk_79 (dk_at dksX3_fail_3 4 rfl rfl)
theorem dX3_fail_76 : decode cX3_fail 76 = .ok (.aload_n 0, 1) := dk_42 (dk_at dksX3_fail_3 5 rfl rfl)
theorem dX3_fail_77 : decode cX3_fail 77 = .ok (.iload 7, 2) := dk_21 7 (dk_at dksX3_fail_3 6 rfl rfl)
theorem dX3_fail_79 : decode cX3_fail 79 = .ok (.invokevirtual 125, 3) := dk_182 0 125 (dk_at dksX3_fail_3 8 rfl rfl)
theorem dX3_fail_82 : decode cX3_fail 82 = .ok (.ireturn, 1) := dk_172 (dk_at dksX3_fail_3 11 rfl rfl)
abbrev cX3_isCore : ByteArray := prog_15_method_7_code
def yX3_isCore : MethodName := ⟨RX3, "isCore", "(I)Z"⟩
def dkwX3_isCore_0 : List UInt8 := [27, 3, 42, 180, 0, 58, 4, 100, 184, 0, 61, 172]
abbrev dktX3_isCore_0 : List UInt8 := dkwX3_isCore_0 ++ []
theorem dksX3_isCore_0 : cX3_isCore.data.toList.drop 0 = dktX3_isCore_0 := by decide +kernel
theorem dX3_isCore_0 : decode cX3_isCore 0 = .ok (.iload_n 1, 1) := dk_27 (dk_at dksX3_isCore_0 0 rfl rfl)
theorem dX3_isCore_1 : decode cX3_isCore 1 = .ok (.iconst 0, 1) := dk_3 (dk_at dksX3_isCore_0 1 rfl rfl)
theorem dX3_isCore_2 : decode cX3_isCore 2 = .ok (.aload_n 0, 1) := dk_42 (dk_at dksX3_isCore_0 2 rfl rfl)
theorem dX3_isCore_3 : decode cX3_isCore 3 = .ok (.getfield 58, 3) := dk_180 0 58 (dk_at dksX3_isCore_0 3 rfl rfl)
theorem dX3_isCore_6 : decode cX3_isCore 6 = .ok (.iconst 1, 1) := dk_4 (dk_at dksX3_isCore_0 6 rfl rfl)
theorem dX3_isCore_7 : decode cX3_isCore 7 = .ok (.isub, 1) := dk_100 (dk_at dksX3_isCore_0 7 rfl rfl)
theorem dX3_isCore_8 : decode cX3_isCore 8 = .ok (.invokestatic 61, 3) := dk_184 0 61 (dk_at dksX3_isCore_0 8 rfl rfl)
theorem dX3_isCore_11 : decode cX3_isCore 11 = .ok (.ireturn, 1) := dk_172 (dk_at dksX3_isCore_0 11 rfl rfl)
abbrev cX3_up : ByteArray := prog_15_method_37_code
def yX3_up : MethodName := ⟨RX3, "up", "(II)I"⟩
def dkwX3_up_4 : List UInt8 := [54, 5, 167, 255, 233, 42, 42, 180, 0, 7, 27, 46, 182, 0, 125, 172]
abbrev dktX3_up_4 : List UInt8 := dkwX3_up_4 ++ []
def dkwX3_up_3 : List UInt8 := [167, 255, 233, 21, 4, 154, 0, 24, 42, 180, 0, 7, 27, 46, 29, 164, 0, 14, 42, 27, 3, 182, 0, 154]
abbrev dktX3_up_3 : List UInt8 := dkwX3_up_3 ++ dktX3_up_4
def dkwX3_up_2 : List UInt8 := [21, 4, 153, 0, 24, 42, 180, 0, 7, 27, 46, 28, 162, 0, 14, 42, 27, 4, 182, 0, 150, 54, 4]
abbrev dktX3_up_2 : List UInt8 := dkwX3_up_2 ++ dktX3_up_3
def dkwX3_up_1 : List UInt8 := [16, 20, 184, 0, 61, 154, 0, 9, 42, 5, 182, 0, 128, 172, 42, 180, 0, 7, 27, 46, 62, 4, 54, 4]
abbrev dktX3_up_1 : List UInt8 := dkwX3_up_1 ++ dktX3_up_2
def dkwX3_up_0 : List UInt8 := [42, 27, 182, 0, 147, 154, 0, 9, 42, 4, 182, 0, 128, 172, 28, 42, 180, 0, 7, 27, 46, 4, 96]
abbrev dktX3_up_0 : List UInt8 := dkwX3_up_0 ++ dktX3_up_1
theorem dksX3_up_0 : cX3_up.data.toList.drop 0 = dktX3_up_0 := by decide +kernel
theorem dksX3_up_1 : cX3_up.data.toList.drop 23 = dktX3_up_1 := dk_seg dksX3_up_0 23 rfl rfl
theorem dksX3_up_2 : cX3_up.data.toList.drop 47 = dktX3_up_2 := dk_seg dksX3_up_1 24 rfl rfl
theorem dksX3_up_3 : cX3_up.data.toList.drop 70 = dktX3_up_3 := dk_seg dksX3_up_2 23 rfl rfl
theorem dksX3_up_4 : cX3_up.data.toList.drop 94 = dktX3_up_4 := dk_seg dksX3_up_3 24 rfl rfl
theorem dX3_up_0 : decode cX3_up 0 = .ok (.aload_n 0, 1) := dk_42 (dk_at dksX3_up_0 0 rfl rfl)
theorem dX3_up_1 : decode cX3_up 1 = .ok (.iload_n 1, 1) := dk_27 (dk_at dksX3_up_0 1 rfl rfl)
theorem dX3_up_2 : decode cX3_up 2 = .ok (.invokevirtual 147, 3) := dk_182 0 147 (dk_at dksX3_up_0 2 rfl rfl)
theorem dX3_up_5 : decode cX3_up 5 = .ok (.ifCond .ne 9, 3) := dk_154 0 9 (dk_at dksX3_up_0 5 rfl rfl)
theorem dX3_up_8 : decode cX3_up 8 = .ok (.aload_n 0, 1) := dk_42 (dk_at dksX3_up_0 8 rfl rfl)
theorem dX3_up_9 : decode cX3_up 9 = .ok (.iconst 1, 1) := dk_4 (dk_at dksX3_up_0 9 rfl rfl)
theorem dX3_up_10 : decode cX3_up 10 = .ok (.invokevirtual 128, 3) := dk_182 0 128 (dk_at dksX3_up_0 10 rfl rfl)
theorem dX3_up_13 : decode cX3_up 13 = .ok (.ireturn, 1) := dk_172 (dk_at dksX3_up_0 13 rfl rfl)
theorem dX3_up_14 : decode cX3_up 14 = .ok (.iload_n 2, 1) := dk_28 (dk_at dksX3_up_0 14 rfl rfl)
theorem dX3_up_15 : decode cX3_up 15 = .ok (.aload_n 0, 1) := dk_42 (dk_at dksX3_up_0 15 rfl rfl)
theorem dX3_up_16 : decode cX3_up 16 = .ok (.getfield 7, 3) := dk_180 0 7 (dk_at dksX3_up_0 16 rfl rfl)
theorem dX3_up_19 : decode cX3_up 19 = .ok (.iload_n 1, 1) := dk_27 (dk_at dksX3_up_0 19 rfl rfl)
theorem dX3_up_20 : decode cX3_up 20 = .ok (.iaload, 1) := dk_46 (dk_at dksX3_up_0 20 rfl rfl)
theorem dX3_up_21 : decode cX3_up 21 = .ok (.iconst 1, 1) := dk_4 (dk_at dksX3_up_0 21 rfl rfl)
theorem dX3_up_22 : decode cX3_up 22 = .ok (.iadd, 1) := dk_96 (dk_at dksX3_up_0 22 rfl rfl)
theorem dX3_up_23 : decode cX3_up 23 = .ok (.bipush 20, 2) := dk_16 20 (dk_at dksX3_up_1 0 rfl rfl)
theorem dX3_up_25 : decode cX3_up 25 = .ok (.invokestatic 61, 3) := dk_184 0 61 (dk_at dksX3_up_1 2 rfl rfl)
theorem dX3_up_28 : decode cX3_up 28 = .ok (.ifCond .ne 9, 3) := dk_154 0 9 (dk_at dksX3_up_1 5 rfl rfl)
theorem dX3_up_31 : decode cX3_up 31 = .ok (.aload_n 0, 1) := dk_42 (dk_at dksX3_up_1 8 rfl rfl)
theorem dX3_up_32 : decode cX3_up 32 = .ok (.iconst 2, 1) := dk_5 (dk_at dksX3_up_1 9 rfl rfl)
theorem dX3_up_33 : decode cX3_up 33 = .ok (.invokevirtual 128, 3) := dk_182 0 128 (dk_at dksX3_up_1 10 rfl rfl)
theorem dX3_up_36 : decode cX3_up 36 = .ok (.ireturn, 1) := dk_172 (dk_at dksX3_up_1 13 rfl rfl)
theorem dX3_up_37 : decode cX3_up 37 = .ok (.aload_n 0, 1) := dk_42 (dk_at dksX3_up_1 14 rfl rfl)
theorem dX3_up_38 : decode cX3_up 38 = .ok (.getfield 7, 3) := dk_180 0 7 (dk_at dksX3_up_1 15 rfl rfl)
theorem dX3_up_41 : decode cX3_up 41 = .ok (.iload_n 1, 1) := dk_27 (dk_at dksX3_up_1 18 rfl rfl)
theorem dX3_up_42 : decode cX3_up 42 = .ok (.iaload, 1) := dk_46 (dk_at dksX3_up_1 19 rfl rfl)
theorem dX3_up_43 : decode cX3_up 43 = .ok (.istore_n 3, 1) := dk_62 (dk_at dksX3_up_1 20 rfl rfl)
theorem dX3_up_44 : decode cX3_up 44 = .ok (.iconst 1, 1) := dk_4 (dk_at dksX3_up_1 21 rfl rfl)
theorem dX3_up_45 : decode cX3_up 45 = .ok (.istore 4, 2) := dk_54 4 (dk_at dksX3_up_1 22 rfl rfl)
theorem dX3_up_47 : decode cX3_up 47 = .ok (.iload 4, 2) := dk_21 4 (dk_at dksX3_up_2 0 rfl rfl)
theorem dX3_up_49 : decode cX3_up 49 = .ok (.ifCond .eq 24, 3) := dk_153 0 24 (dk_at dksX3_up_2 2 rfl rfl)
theorem dX3_up_52 : decode cX3_up 52 = .ok (.aload_n 0, 1) := dk_42 (dk_at dksX3_up_2 5 rfl rfl)
theorem dX3_up_53 : decode cX3_up 53 = .ok (.getfield 7, 3) := dk_180 0 7 (dk_at dksX3_up_2 6 rfl rfl)
theorem dX3_up_56 : decode cX3_up 56 = .ok (.iload_n 1, 1) := dk_27 (dk_at dksX3_up_2 9 rfl rfl)
theorem dX3_up_57 : decode cX3_up 57 = .ok (.iaload, 1) := dk_46 (dk_at dksX3_up_2 10 rfl rfl)
theorem dX3_up_58 : decode cX3_up 58 = .ok (.iload_n 2, 1) := dk_28 (dk_at dksX3_up_2 11 rfl rfl)
theorem dX3_up_59 : decode cX3_up 59 = .ok (.if_icmp .ge 14, 3) := dk_162 0 14 (dk_at dksX3_up_2 12 rfl rfl)
theorem dX3_up_62 : decode cX3_up 62 = .ok (.aload_n 0, 1) := dk_42 (dk_at dksX3_up_2 15 rfl rfl)
theorem dX3_up_63 : decode cX3_up 63 = .ok (.iload_n 1, 1) := dk_27 (dk_at dksX3_up_2 16 rfl rfl)
theorem dX3_up_64 : decode cX3_up 64 = .ok (.iconst 1, 1) := dk_4 (dk_at dksX3_up_2 17 rfl rfl)
theorem dX3_up_65 : decode cX3_up 65 = .ok (.invokevirtual 150, 3) := dk_182 0 150 (dk_at dksX3_up_2 18 rfl rfl)
theorem dX3_up_68 : decode cX3_up 68 = .ok (.istore 4, 2) := dk_54 4 (dk_at dksX3_up_2 21 rfl rfl)
theorem dX3_up_70 : decode cX3_up 70 = .ok (.goto (-23), 3) := dk_167 255 233 (dk_at dksX3_up_3 0 rfl rfl)
theorem dX3_up_73 : decode cX3_up 73 = .ok (.iload 4, 2) := dk_21 4 (dk_at dksX3_up_3 3 rfl rfl)
theorem dX3_up_75 : decode cX3_up 75 = .ok (.ifCond .ne 24, 3) := dk_154 0 24 (dk_at dksX3_up_3 5 rfl rfl)
theorem dX3_up_78 : decode cX3_up 78 = .ok (.aload_n 0, 1) := dk_42 (dk_at dksX3_up_3 8 rfl rfl)
theorem dX3_up_79 : decode cX3_up 79 = .ok (.getfield 7, 3) := dk_180 0 7 (dk_at dksX3_up_3 9 rfl rfl)
theorem dX3_up_82 : decode cX3_up 82 = .ok (.iload_n 1, 1) := dk_27 (dk_at dksX3_up_3 12 rfl rfl)
theorem dX3_up_83 : decode cX3_up 83 = .ok (.iaload, 1) := dk_46 (dk_at dksX3_up_3 13 rfl rfl)
theorem dX3_up_84 : decode cX3_up 84 = .ok (.iload_n 3, 1) := dk_29 (dk_at dksX3_up_3 14 rfl rfl)
theorem dX3_up_85 : decode cX3_up 85 = .ok (.if_icmp .le 14, 3) := dk_164 0 14 (dk_at dksX3_up_3 15 rfl rfl)
theorem dX3_up_88 : decode cX3_up 88 = .ok (.aload_n 0, 1) := dk_42 (dk_at dksX3_up_3 18 rfl rfl)
theorem dX3_up_89 : decode cX3_up 89 = .ok (.iload_n 1, 1) := dk_27 (dk_at dksX3_up_3 19 rfl rfl)
theorem dX3_up_90 : decode cX3_up 90 = .ok (.iconst 0, 1) := dk_3 (dk_at dksX3_up_3 20 rfl rfl)
theorem dX3_up_91 : decode cX3_up 91 = .ok (.invokevirtual 154, 3) := dk_182 0 154 (dk_at dksX3_up_3 21 rfl rfl)
theorem dX3_up_94 : decode cX3_up 94 = .ok (.istore 5, 2) := dk_54 5 (dk_at dksX3_up_4 0 rfl rfl)
theorem dX3_up_96 : decode cX3_up 96 = .ok (.goto (-23), 3) := dk_167 255 233 (dk_at dksX3_up_4 2 rfl rfl)
theorem dX3_up_99 : decode cX3_up 99 = .ok (.aload_n 0, 1) := dk_42 (dk_at dksX3_up_4 5 rfl rfl)
theorem dX3_up_100 : decode cX3_up 100 = .ok (.aload_n 0, 1) := dk_42 (dk_at dksX3_up_4 6 rfl rfl)
theorem dX3_up_101 : decode cX3_up 101 = .ok (.getfield 7, 3) := dk_180 0 7 (dk_at dksX3_up_4 7 rfl rfl)
theorem dX3_up_104 : decode cX3_up 104 = .ok (.iload_n 1, 1) := dk_27 (dk_at dksX3_up_4 10 rfl rfl)
theorem dX3_up_105 : decode cX3_up 105 = .ok (.iaload, 1) := dk_46 (dk_at dksX3_up_4 11 rfl rfl)
theorem dX3_up_106 : decode cX3_up 106 = .ok (.invokevirtual 125, 3) := dk_182 0 125 (dk_at dksX3_up_4 12 rfl rfl)
theorem dX3_up_109 : decode cX3_up 109 = .ok (.ireturn, 1) := dk_172 (dk_at dksX3_up_4 15 rfl rfl)
abbrev cX3_goesUp : ByteArray := prog_15_method_23_code
def yX3_goesUp : MethodName := ⟨RX3, "goesUp", "(IZ)Z"⟩
def dkwX3_goesUp_1 : List UInt8 := [172, 42, 180, 0, 7, 27, 92, 46, 4, 96, 79, 29, 16, 10, 160, 0, 8, 42, 27, 182, 0, 113, 4, 172]
abbrev dktX3_goesUp_1 : List UInt8 := dkwX3_goesUp_1 ++ []
def dkwX3_goesUp_0 : List UInt8 := [42, 180, 0, 7, 27, 46, 62, 29, 16, 10, 159, 0, 15, 42, 27, 29, 28, 182, 0, 109, 154, 0, 5, 3]
abbrev dktX3_goesUp_0 : List UInt8 := dkwX3_goesUp_0 ++ dktX3_goesUp_1
theorem dksX3_goesUp_0 : cX3_goesUp.data.toList.drop 0 = dktX3_goesUp_0 := by decide +kernel
theorem dksX3_goesUp_1 : cX3_goesUp.data.toList.drop 24 = dktX3_goesUp_1 := dk_seg dksX3_goesUp_0 24 rfl rfl
theorem dX3_goesUp_0 : decode cX3_goesUp 0 = .ok (.aload_n 0, 1) := dk_42 (dk_at dksX3_goesUp_0 0 rfl rfl)
theorem dX3_goesUp_1 : decode cX3_goesUp 1 = .ok (.getfield 7, 3) := dk_180 0 7 (dk_at dksX3_goesUp_0 1 rfl rfl)
theorem dX3_goesUp_4 : decode cX3_goesUp 4 = .ok (.iload_n 1, 1) := dk_27 (dk_at dksX3_goesUp_0 4 rfl rfl)
theorem dX3_goesUp_5 : decode cX3_goesUp 5 = .ok (.iaload, 1) := dk_46 (dk_at dksX3_goesUp_0 5 rfl rfl)
theorem dX3_goesUp_6 : decode cX3_goesUp 6 = .ok (.istore_n 3, 1) := dk_62 (dk_at dksX3_goesUp_0 6 rfl rfl)
theorem dX3_goesUp_7 : decode cX3_goesUp 7 = .ok (.iload_n 3, 1) := dk_29 (dk_at dksX3_goesUp_0 7 rfl rfl)
theorem dX3_goesUp_8 : decode cX3_goesUp 8 = .ok (.bipush 10, 2) := dk_16 10 (dk_at dksX3_goesUp_0 8 rfl rfl)
theorem dX3_goesUp_10 : decode cX3_goesUp 10 = .ok (.if_icmp .eq 15, 3) := dk_159 0 15 (dk_at dksX3_goesUp_0 10 rfl rfl)
theorem dX3_goesUp_13 : decode cX3_goesUp 13 = .ok (.aload_n 0, 1) := dk_42 (dk_at dksX3_goesUp_0 13 rfl rfl)
theorem dX3_goesUp_14 : decode cX3_goesUp 14 = .ok (.iload_n 1, 1) := dk_27 (dk_at dksX3_goesUp_0 14 rfl rfl)
theorem dX3_goesUp_15 : decode cX3_goesUp 15 = .ok (.iload_n 3, 1) := dk_29 (dk_at dksX3_goesUp_0 15 rfl rfl)
theorem dX3_goesUp_16 : decode cX3_goesUp 16 = .ok (.iload_n 2, 1) := dk_28 (dk_at dksX3_goesUp_0 16 rfl rfl)
theorem dX3_goesUp_17 : decode cX3_goesUp 17 = .ok (.invokevirtual 109, 3) := dk_182 0 109 (dk_at dksX3_goesUp_0 17 rfl rfl)
theorem dX3_goesUp_20 : decode cX3_goesUp 20 = .ok (.ifCond .ne 5, 3) := dk_154 0 5 (dk_at dksX3_goesUp_0 20 rfl rfl)
theorem dX3_goesUp_23 : decode cX3_goesUp 23 = .ok (.iconst 0, 1) := dk_3 (dk_at dksX3_goesUp_0 23 rfl rfl)
theorem dX3_goesUp_24 : decode cX3_goesUp 24 = .ok (.ireturn, 1) := dk_172 (dk_at dksX3_goesUp_1 0 rfl rfl)
theorem dX3_goesUp_25 : decode cX3_goesUp 25 = .ok (.aload_n 0, 1) := dk_42 (dk_at dksX3_goesUp_1 1 rfl rfl)
theorem dX3_goesUp_26 : decode cX3_goesUp 26 = .ok (.getfield 7, 3) := dk_180 0 7 (dk_at dksX3_goesUp_1 2 rfl rfl)
theorem dX3_goesUp_29 : decode cX3_goesUp 29 = .ok (.iload_n 1, 1) := dk_27 (dk_at dksX3_goesUp_1 5 rfl rfl)
theorem dX3_goesUp_30 : decode cX3_goesUp 30 = .ok (.dup2, 1) := dk_92 (dk_at dksX3_goesUp_1 6 rfl rfl)
theorem dX3_goesUp_31 : decode cX3_goesUp 31 = .ok (.iaload, 1) := dk_46 (dk_at dksX3_goesUp_1 7 rfl rfl)
theorem dX3_goesUp_32 : decode cX3_goesUp 32 = .ok (.iconst 1, 1) := dk_4 (dk_at dksX3_goesUp_1 8 rfl rfl)
theorem dX3_goesUp_33 : decode cX3_goesUp 33 = .ok (.iadd, 1) := dk_96 (dk_at dksX3_goesUp_1 9 rfl rfl)
theorem dX3_goesUp_34 : decode cX3_goesUp 34 = .ok (.iastore, 1) := dk_79 (dk_at dksX3_goesUp_1 10 rfl rfl)
theorem dX3_goesUp_35 : decode cX3_goesUp 35 = .ok (.iload_n 3, 1) := dk_29 (dk_at dksX3_goesUp_1 11 rfl rfl)
theorem dX3_goesUp_36 : decode cX3_goesUp 36 = .ok (.bipush 10, 2) := dk_16 10 (dk_at dksX3_goesUp_1 12 rfl rfl)
theorem dX3_goesUp_38 : decode cX3_goesUp 38 = .ok (.if_icmp .ne 8, 3) := dk_160 0 8 (dk_at dksX3_goesUp_1 14 rfl rfl)
theorem dX3_goesUp_41 : decode cX3_goesUp 41 = .ok (.aload_n 0, 1) := dk_42 (dk_at dksX3_goesUp_1 17 rfl rfl)
theorem dX3_goesUp_42 : decode cX3_goesUp 42 = .ok (.iload_n 1, 1) := dk_27 (dk_at dksX3_goesUp_1 18 rfl rfl)
theorem dX3_goesUp_43 : decode cX3_goesUp 43 = .ok (.invokevirtual 113, 3) := dk_182 0 113 (dk_at dksX3_goesUp_1 19 rfl rfl)
theorem dX3_goesUp_46 : decode cX3_goesUp 46 = .ok (.iconst 1, 1) := dk_4 (dk_at dksX3_goesUp_1 22 rfl rfl)
theorem dX3_goesUp_47 : decode cX3_goesUp 47 = .ok (.ireturn, 1) := dk_172 (dk_at dksX3_goesUp_1 23 rfl rfl)
abbrev cX3_startsAll : ByteArray := prog_15_method_21_code
def yX3_startsAll : MethodName := ⟨RX3, "startsAll", "(IIZ)Z"⟩
def dkwX3_startsAll_3 : List UInt8 := [54, 6, 132, 5, 255, 167, 255, 222, 3, 172, 132, 4, 1, 167, 255, 175, 4, 172]
abbrev dktX3_startsAll_3 : List UInt8 := dkwX3_startsAll_3 ++ []
def dkwX3_startsAll_2 : List UInt8 := [180, 0, 26, 28, 46, 21, 5, 184, 0, 71, 153, 0, 15, 42, 27, 28, 21, 5, 3, 3, 182, 0, 105]
abbrev dktX3_startsAll_2 : List UInt8 := dkwX3_startsAll_2 ++ dktX3_startsAll_3
def dkwX3_startsAll_1 : List UInt8 := [27, 28, 21, 4, 4, 29, 182, 0, 105, 154, 0, 48, 21, 4, 4, 100, 54, 5, 21, 5, 155, 0, 35, 42]
abbrev dktX3_startsAll_1 : List UInt8 := dkwX3_startsAll_1 ++ dktX3_startsAll_2
def dkwX3_startsAll_0 : List UInt8 := [3, 54, 4, 21, 4, 7, 162, 0, 81, 42, 180, 0, 26, 28, 46, 21, 4, 184, 0, 71, 153, 0, 61, 42]
abbrev dktX3_startsAll_0 : List UInt8 := dkwX3_startsAll_0 ++ dktX3_startsAll_1
theorem dksX3_startsAll_0 : cX3_startsAll.data.toList.drop 0 = dktX3_startsAll_0 := by decide +kernel
theorem dksX3_startsAll_1 : cX3_startsAll.data.toList.drop 24 = dktX3_startsAll_1 := dk_seg dksX3_startsAll_0 24 rfl rfl
theorem dksX3_startsAll_2 : cX3_startsAll.data.toList.drop 48 = dktX3_startsAll_2 := dk_seg dksX3_startsAll_1 24 rfl rfl
theorem dksX3_startsAll_3 : cX3_startsAll.data.toList.drop 71 = dktX3_startsAll_3 := dk_seg dksX3_startsAll_2 23 rfl rfl
theorem dX3_startsAll_0 : decode cX3_startsAll 0 = .ok (.iconst 0, 1) := dk_3 (dk_at dksX3_startsAll_0 0 rfl rfl)
theorem dX3_startsAll_1 : decode cX3_startsAll 1 = .ok (.istore 4, 2) := dk_54 4 (dk_at dksX3_startsAll_0 1 rfl rfl)
theorem dX3_startsAll_3 : decode cX3_startsAll 3 = .ok (.iload 4, 2) := dk_21 4 (dk_at dksX3_startsAll_0 3 rfl rfl)
theorem dX3_startsAll_5 : decode cX3_startsAll 5 = .ok (.iconst 4, 1) := dk_7 (dk_at dksX3_startsAll_0 5 rfl rfl)
theorem dX3_startsAll_6 : decode cX3_startsAll 6 = .ok (.if_icmp .ge 81, 3) := dk_162 0 81 (dk_at dksX3_startsAll_0 6 rfl rfl)
theorem dX3_startsAll_9 : decode cX3_startsAll 9 = .ok (.aload_n 0, 1) := dk_42 (dk_at dksX3_startsAll_0 9 rfl rfl)
theorem dX3_startsAll_10 : decode cX3_startsAll 10 = .ok (.getfield 26, 3) := dk_180 0 26 (dk_at dksX3_startsAll_0 10 rfl rfl)
theorem dX3_startsAll_13 : decode cX3_startsAll 13 = .ok (.iload_n 2, 1) := dk_28 (dk_at dksX3_startsAll_0 13 rfl rfl)
theorem dX3_startsAll_14 : decode cX3_startsAll 14 = .ok (.iaload, 1) := dk_46 (dk_at dksX3_startsAll_0 14 rfl rfl)
theorem dX3_startsAll_15 : decode cX3_startsAll 15 = .ok (.iload 4, 2) := dk_21 4 (dk_at dksX3_startsAll_0 15 rfl rfl)
theorem dX3_startsAll_17 : decode cX3_startsAll 17 = .ok (.invokestatic 71, 3) := dk_184 0 71 (dk_at dksX3_startsAll_0 17 rfl rfl)
theorem dX3_startsAll_20 : decode cX3_startsAll 20 = .ok (.ifCond .eq 61, 3) := dk_153 0 61 (dk_at dksX3_startsAll_0 20 rfl rfl)
theorem dX3_startsAll_23 : decode cX3_startsAll 23 = .ok (.aload_n 0, 1) := dk_42 (dk_at dksX3_startsAll_0 23 rfl rfl)
theorem dX3_startsAll_24 : decode cX3_startsAll 24 = .ok (.iload_n 1, 1) := dk_27 (dk_at dksX3_startsAll_1 0 rfl rfl)
theorem dX3_startsAll_25 : decode cX3_startsAll 25 = .ok (.iload_n 2, 1) := dk_28 (dk_at dksX3_startsAll_1 1 rfl rfl)
theorem dX3_startsAll_26 : decode cX3_startsAll 26 = .ok (.iload 4, 2) := dk_21 4 (dk_at dksX3_startsAll_1 2 rfl rfl)
theorem dX3_startsAll_28 : decode cX3_startsAll 28 = .ok (.iconst 1, 1) := dk_4 (dk_at dksX3_startsAll_1 4 rfl rfl)
theorem dX3_startsAll_29 : decode cX3_startsAll 29 = .ok (.iload_n 3, 1) := dk_29 (dk_at dksX3_startsAll_1 5 rfl rfl)
theorem dX3_startsAll_30 : decode cX3_startsAll 30 = .ok (.invokevirtual 105, 3) := dk_182 0 105 (dk_at dksX3_startsAll_1 6 rfl rfl)
theorem dX3_startsAll_33 : decode cX3_startsAll 33 = .ok (.ifCond .ne 48, 3) := dk_154 0 48 (dk_at dksX3_startsAll_1 9 rfl rfl)
theorem dX3_startsAll_36 : decode cX3_startsAll 36 = .ok (.iload 4, 2) := dk_21 4 (dk_at dksX3_startsAll_1 12 rfl rfl)
theorem dX3_startsAll_38 : decode cX3_startsAll 38 = .ok (.iconst 1, 1) := dk_4 (dk_at dksX3_startsAll_1 14 rfl rfl)
theorem dX3_startsAll_39 : decode cX3_startsAll 39 = .ok (.isub, 1) := dk_100 (dk_at dksX3_startsAll_1 15 rfl rfl)
theorem dX3_startsAll_40 : decode cX3_startsAll 40 = .ok (.istore 5, 2) := dk_54 5 (dk_at dksX3_startsAll_1 16 rfl rfl)
theorem dX3_startsAll_42 : decode cX3_startsAll 42 = .ok (.iload 5, 2) := dk_21 5 (dk_at dksX3_startsAll_1 18 rfl rfl)
theorem dX3_startsAll_44 : decode cX3_startsAll 44 = .ok (.ifCond .lt 35, 3) := dk_155 0 35 (dk_at dksX3_startsAll_1 20 rfl rfl)
theorem dX3_startsAll_47 : decode cX3_startsAll 47 = .ok (.aload_n 0, 1) := dk_42 (dk_at dksX3_startsAll_1 23 rfl rfl)
theorem dX3_startsAll_48 : decode cX3_startsAll 48 = .ok (.getfield 26, 3) := dk_180 0 26 (dk_at dksX3_startsAll_2 0 rfl rfl)
theorem dX3_startsAll_51 : decode cX3_startsAll 51 = .ok (.iload_n 2, 1) := dk_28 (dk_at dksX3_startsAll_2 3 rfl rfl)
theorem dX3_startsAll_52 : decode cX3_startsAll 52 = .ok (.iaload, 1) := dk_46 (dk_at dksX3_startsAll_2 4 rfl rfl)
theorem dX3_startsAll_53 : decode cX3_startsAll 53 = .ok (.iload 5, 2) := dk_21 5 (dk_at dksX3_startsAll_2 5 rfl rfl)
theorem dX3_startsAll_55 : decode cX3_startsAll 55 = .ok (.invokestatic 71, 3) := dk_184 0 71 (dk_at dksX3_startsAll_2 7 rfl rfl)
theorem dX3_startsAll_58 : decode cX3_startsAll 58 = .ok (.ifCond .eq 15, 3) := dk_153 0 15 (dk_at dksX3_startsAll_2 10 rfl rfl)
theorem dX3_startsAll_61 : decode cX3_startsAll 61 = .ok (.aload_n 0, 1) := dk_42 (dk_at dksX3_startsAll_2 13 rfl rfl)
theorem dX3_startsAll_62 : decode cX3_startsAll 62 = .ok (.iload_n 1, 1) := dk_27 (dk_at dksX3_startsAll_2 14 rfl rfl)
theorem dX3_startsAll_63 : decode cX3_startsAll 63 = .ok (.iload_n 2, 1) := dk_28 (dk_at dksX3_startsAll_2 15 rfl rfl)
theorem dX3_startsAll_64 : decode cX3_startsAll 64 = .ok (.iload 5, 2) := dk_21 5 (dk_at dksX3_startsAll_2 16 rfl rfl)
theorem dX3_startsAll_66 : decode cX3_startsAll 66 = .ok (.iconst 0, 1) := dk_3 (dk_at dksX3_startsAll_2 18 rfl rfl)
theorem dX3_startsAll_67 : decode cX3_startsAll 67 = .ok (.iconst 0, 1) := dk_3 (dk_at dksX3_startsAll_2 19 rfl rfl)
theorem dX3_startsAll_68 : decode cX3_startsAll 68 = .ok (.invokevirtual 105, 3) := dk_182 0 105 (dk_at dksX3_startsAll_2 20 rfl rfl)
theorem dX3_startsAll_71 : decode cX3_startsAll 71 = .ok (.istore 6, 2) := dk_54 6 (dk_at dksX3_startsAll_3 0 rfl rfl)
theorem dX3_startsAll_73 : decode cX3_startsAll 73 = .ok (.iinc 5 (-1), 3) := dk_132 5 255 (dk_at dksX3_startsAll_3 2 rfl rfl)
theorem dX3_startsAll_76 : decode cX3_startsAll 76 = .ok (.goto (-34), 3) := dk_167 255 222 (dk_at dksX3_startsAll_3 5 rfl rfl)
theorem dX3_startsAll_79 : decode cX3_startsAll 79 = .ok (.iconst 0, 1) := dk_3 (dk_at dksX3_startsAll_3 8 rfl rfl)
theorem dX3_startsAll_80 : decode cX3_startsAll 80 = .ok (.ireturn, 1) := dk_172 (dk_at dksX3_startsAll_3 9 rfl rfl)
theorem dX3_startsAll_81 : decode cX3_startsAll 81 = .ok (.iinc 4 1, 3) := dk_132 4 1 (dk_at dksX3_startsAll_3 10 rfl rfl)
theorem dX3_startsAll_84 : decode cX3_startsAll 84 = .ok (.goto (-81), 3) := dk_167 255 175 (dk_at dksX3_startsAll_3 13 rfl rfl)
theorem dX3_startsAll_87 : decode cX3_startsAll 87 = .ok (.iconst 1, 1) := dk_4 (dk_at dksX3_startsAll_3 16 rfl rfl)
theorem dX3_startsAll_88 : decode cX3_startsAll 88 = .ok (.ireturn, 1) := dk_172 (dk_at dksX3_startsAll_3 17 rfl rfl)
abbrev cX3_comes : ByteArray := prog_15_method_18_code
def yX3_comes : MethodName := ⟨RX3, "comes", "(I)V"⟩
def dkwX3_comes_6 : List UInt8 := [132, 2, 1, 167, 255, 193, 177]
abbrev dktX3_comes_6 : List UInt8 := dkwX3_comes_6 ++ []
def dkwX3_comes_5 : List UInt8 := [153, 0, 22, 42, 28, 182, 0, 98, 42, 180, 0, 41, 3, 28, 184, 0, 83, 92, 46, 4, 96, 79]
abbrev dktX3_comes_5 : List UInt8 := dkwX3_comes_5 ++ dktX3_comes_6
def dkwX3_comes_4 : List UInt8 := [3, 28, 184, 0, 83, 46, 2, 160, 0, 39, 42, 180, 0, 35, 3, 28, 184, 0, 83, 46, 27, 184, 0, 71]
abbrev dktX3_comes_4 : List UInt8 := dkwX3_comes_4 ++ dktX3_comes_5
def dkwX3_comes_3 : List UInt8 := [96, 79, 132, 2, 1, 167, 255, 185, 3, 61, 28, 42, 180, 0, 32, 3, 46, 162, 0, 59, 42, 180, 0, 38]
abbrev dktX3_comes_3 : List UInt8 := dkwX3_comes_3 ++ dktX3_comes_4
def dkwX3_comes_2 : List UInt8 := [184, 0, 83, 27, 79, 42, 180, 0, 44, 28, 3, 84, 42, 180, 0, 41, 4, 28, 184, 0, 83, 92, 46, 4]
abbrev dktX3_comes_2 : List UInt8 := dkwX3_comes_2 ++ dktX3_comes_3
def dkwX3_comes_1 : List UInt8 := [180, 0, 35, 4, 28, 184, 0, 83, 46, 27, 184, 0, 71, 153, 0, 35, 42, 180, 0, 38, 4, 28]
abbrev dktX3_comes_1 : List UInt8 := dkwX3_comes_1 ++ dktX3_comes_2
def dkwX3_comes_0 : List UInt8 := [3, 61, 28, 42, 180, 0, 32, 4, 46, 162, 0, 67, 42, 180, 0, 44, 28, 51, 153, 0, 52, 42]
abbrev dktX3_comes_0 : List UInt8 := dkwX3_comes_0 ++ dktX3_comes_1
theorem dksX3_comes_0 : cX3_comes.data.toList.drop 0 = dktX3_comes_0 := by decide +kernel
theorem dksX3_comes_1 : cX3_comes.data.toList.drop 22 = dktX3_comes_1 := dk_seg dksX3_comes_0 22 rfl rfl
theorem dksX3_comes_2 : cX3_comes.data.toList.drop 44 = dktX3_comes_2 := dk_seg dksX3_comes_1 22 rfl rfl
theorem dksX3_comes_3 : cX3_comes.data.toList.drop 68 = dktX3_comes_3 := dk_seg dksX3_comes_2 24 rfl rfl
theorem dksX3_comes_4 : cX3_comes.data.toList.drop 92 = dktX3_comes_4 := dk_seg dksX3_comes_3 24 rfl rfl
theorem dksX3_comes_5 : cX3_comes.data.toList.drop 116 = dktX3_comes_5 := dk_seg dksX3_comes_4 24 rfl rfl
theorem dksX3_comes_6 : cX3_comes.data.toList.drop 138 = dktX3_comes_6 := dk_seg dksX3_comes_5 22 rfl rfl
theorem dX3_comes_0 : decode cX3_comes 0 = .ok (.iconst 0, 1) := dk_3 (dk_at dksX3_comes_0 0 rfl rfl)
theorem dX3_comes_1 : decode cX3_comes 1 = .ok (.istore_n 2, 1) := dk_61 (dk_at dksX3_comes_0 1 rfl rfl)
theorem dX3_comes_2 : decode cX3_comes 2 = .ok (.iload_n 2, 1) := dk_28 (dk_at dksX3_comes_0 2 rfl rfl)
theorem dX3_comes_3 : decode cX3_comes 3 = .ok (.aload_n 0, 1) := dk_42 (dk_at dksX3_comes_0 3 rfl rfl)
theorem dX3_comes_4 : decode cX3_comes 4 = .ok (.getfield 32, 3) := dk_180 0 32 (dk_at dksX3_comes_0 4 rfl rfl)
theorem dX3_comes_7 : decode cX3_comes 7 = .ok (.iconst 1, 1) := dk_4 (dk_at dksX3_comes_0 7 rfl rfl)
theorem dX3_comes_8 : decode cX3_comes 8 = .ok (.iaload, 1) := dk_46 (dk_at dksX3_comes_0 8 rfl rfl)
theorem dX3_comes_9 : decode cX3_comes 9 = .ok (.if_icmp .ge 67, 3) := dk_162 0 67 (dk_at dksX3_comes_0 9 rfl rfl)
theorem dX3_comes_12 : decode cX3_comes 12 = .ok (.aload_n 0, 1) := dk_42 (dk_at dksX3_comes_0 12 rfl rfl)
theorem dX3_comes_13 : decode cX3_comes 13 = .ok (.getfield 44, 3) := dk_180 0 44 (dk_at dksX3_comes_0 13 rfl rfl)
theorem dX3_comes_16 : decode cX3_comes 16 = .ok (.iload_n 2, 1) := dk_28 (dk_at dksX3_comes_0 16 rfl rfl)
theorem dX3_comes_17 : decode cX3_comes 17 = .ok (.baload, 1) := dk_51 (dk_at dksX3_comes_0 17 rfl rfl)
theorem dX3_comes_18 : decode cX3_comes 18 = .ok (.ifCond .eq 52, 3) := dk_153 0 52 (dk_at dksX3_comes_0 18 rfl rfl)
theorem dX3_comes_21 : decode cX3_comes 21 = .ok (.aload_n 0, 1) := dk_42 (dk_at dksX3_comes_0 21 rfl rfl)
theorem dX3_comes_22 : decode cX3_comes 22 = .ok (.getfield 35, 3) := dk_180 0 35 (dk_at dksX3_comes_1 0 rfl rfl)
theorem dX3_comes_25 : decode cX3_comes 25 = .ok (.iconst 1, 1) := dk_4 (dk_at dksX3_comes_1 3 rfl rfl)
theorem dX3_comes_26 : decode cX3_comes 26 = .ok (.iload_n 2, 1) := dk_28 (dk_at dksX3_comes_1 4 rfl rfl)
theorem dX3_comes_27 : decode cX3_comes 27 = .ok (.invokestatic 83, 3) := dk_184 0 83 (dk_at dksX3_comes_1 5 rfl rfl)
theorem dX3_comes_30 : decode cX3_comes 30 = .ok (.iaload, 1) := dk_46 (dk_at dksX3_comes_1 8 rfl rfl)
theorem dX3_comes_31 : decode cX3_comes 31 = .ok (.iload_n 1, 1) := dk_27 (dk_at dksX3_comes_1 9 rfl rfl)
theorem dX3_comes_32 : decode cX3_comes 32 = .ok (.invokestatic 71, 3) := dk_184 0 71 (dk_at dksX3_comes_1 10 rfl rfl)
theorem dX3_comes_35 : decode cX3_comes 35 = .ok (.ifCond .eq 35, 3) := dk_153 0 35 (dk_at dksX3_comes_1 13 rfl rfl)
theorem dX3_comes_38 : decode cX3_comes 38 = .ok (.aload_n 0, 1) := dk_42 (dk_at dksX3_comes_1 16 rfl rfl)
theorem dX3_comes_39 : decode cX3_comes 39 = .ok (.getfield 38, 3) := dk_180 0 38 (dk_at dksX3_comes_1 17 rfl rfl)
theorem dX3_comes_42 : decode cX3_comes 42 = .ok (.iconst 1, 1) := dk_4 (dk_at dksX3_comes_1 20 rfl rfl)
theorem dX3_comes_43 : decode cX3_comes 43 = .ok (.iload_n 2, 1) := dk_28 (dk_at dksX3_comes_1 21 rfl rfl)
theorem dX3_comes_44 : decode cX3_comes 44 = .ok (.invokestatic 83, 3) := dk_184 0 83 (dk_at dksX3_comes_2 0 rfl rfl)
theorem dX3_comes_47 : decode cX3_comes 47 = .ok (.iload_n 1, 1) := dk_27 (dk_at dksX3_comes_2 3 rfl rfl)
theorem dX3_comes_48 : decode cX3_comes 48 = .ok (.iastore, 1) := dk_79 (dk_at dksX3_comes_2 4 rfl rfl)
theorem dX3_comes_49 : decode cX3_comes 49 = .ok (.aload_n 0, 1) := dk_42 (dk_at dksX3_comes_2 5 rfl rfl)
theorem dX3_comes_50 : decode cX3_comes 50 = .ok (.getfield 44, 3) := dk_180 0 44 (dk_at dksX3_comes_2 6 rfl rfl)
theorem dX3_comes_53 : decode cX3_comes 53 = .ok (.iload_n 2, 1) := dk_28 (dk_at dksX3_comes_2 9 rfl rfl)
theorem dX3_comes_54 : decode cX3_comes 54 = .ok (.iconst 0, 1) := dk_3 (dk_at dksX3_comes_2 10 rfl rfl)
theorem dX3_comes_55 : decode cX3_comes 55 = .ok (.bastore, 1) := dk_84 (dk_at dksX3_comes_2 11 rfl rfl)
theorem dX3_comes_56 : decode cX3_comes 56 = .ok (.aload_n 0, 1) := dk_42 (dk_at dksX3_comes_2 12 rfl rfl)
theorem dX3_comes_57 : decode cX3_comes 57 = .ok (.getfield 41, 3) := dk_180 0 41 (dk_at dksX3_comes_2 13 rfl rfl)
theorem dX3_comes_60 : decode cX3_comes 60 = .ok (.iconst 1, 1) := dk_4 (dk_at dksX3_comes_2 16 rfl rfl)
theorem dX3_comes_61 : decode cX3_comes 61 = .ok (.iload_n 2, 1) := dk_28 (dk_at dksX3_comes_2 17 rfl rfl)
theorem dX3_comes_62 : decode cX3_comes 62 = .ok (.invokestatic 83, 3) := dk_184 0 83 (dk_at dksX3_comes_2 18 rfl rfl)
theorem dX3_comes_65 : decode cX3_comes 65 = .ok (.dup2, 1) := dk_92 (dk_at dksX3_comes_2 21 rfl rfl)
theorem dX3_comes_66 : decode cX3_comes 66 = .ok (.iaload, 1) := dk_46 (dk_at dksX3_comes_2 22 rfl rfl)
theorem dX3_comes_67 : decode cX3_comes 67 = .ok (.iconst 1, 1) := dk_4 (dk_at dksX3_comes_2 23 rfl rfl)
theorem dX3_comes_68 : decode cX3_comes 68 = .ok (.iadd, 1) := dk_96 (dk_at dksX3_comes_3 0 rfl rfl)
theorem dX3_comes_69 : decode cX3_comes 69 = .ok (.iastore, 1) := dk_79 (dk_at dksX3_comes_3 1 rfl rfl)
theorem dX3_comes_70 : decode cX3_comes 70 = .ok (.iinc 2 1, 3) := dk_132 2 1 (dk_at dksX3_comes_3 2 rfl rfl)
theorem dX3_comes_73 : decode cX3_comes 73 = .ok (.goto (-71), 3) := dk_167 255 185 (dk_at dksX3_comes_3 5 rfl rfl)
theorem dX3_comes_76 : decode cX3_comes 76 = .ok (.iconst 0, 1) := dk_3 (dk_at dksX3_comes_3 8 rfl rfl)
theorem dX3_comes_77 : decode cX3_comes 77 = .ok (.istore_n 2, 1) := dk_61 (dk_at dksX3_comes_3 9 rfl rfl)
theorem dX3_comes_78 : decode cX3_comes 78 = .ok (.iload_n 2, 1) := dk_28 (dk_at dksX3_comes_3 10 rfl rfl)
theorem dX3_comes_79 : decode cX3_comes 79 = .ok (.aload_n 0, 1) := dk_42 (dk_at dksX3_comes_3 11 rfl rfl)
theorem dX3_comes_80 : decode cX3_comes 80 = .ok (.getfield 32, 3) := dk_180 0 32 (dk_at dksX3_comes_3 12 rfl rfl)
theorem dX3_comes_83 : decode cX3_comes 83 = .ok (.iconst 0, 1) := dk_3 (dk_at dksX3_comes_3 15 rfl rfl)
theorem dX3_comes_84 : decode cX3_comes 84 = .ok (.iaload, 1) := dk_46 (dk_at dksX3_comes_3 16 rfl rfl)
theorem dX3_comes_85 : decode cX3_comes 85 = .ok (.if_icmp .ge 59, 3) := dk_162 0 59 (dk_at dksX3_comes_3 17 rfl rfl)
theorem dX3_comes_88 : decode cX3_comes 88 = .ok (.aload_n 0, 1) := dk_42 (dk_at dksX3_comes_3 20 rfl rfl)
theorem dX3_comes_89 : decode cX3_comes 89 = .ok (.getfield 38, 3) := dk_180 0 38 (dk_at dksX3_comes_3 21 rfl rfl)
theorem dX3_comes_92 : decode cX3_comes 92 = .ok (.iconst 0, 1) := dk_3 (dk_at dksX3_comes_4 0 rfl rfl)
theorem dX3_comes_93 : decode cX3_comes 93 = .ok (.iload_n 2, 1) := dk_28 (dk_at dksX3_comes_4 1 rfl rfl)
theorem dX3_comes_94 : decode cX3_comes 94 = .ok (.invokestatic 83, 3) := dk_184 0 83 (dk_at dksX3_comes_4 2 rfl rfl)
theorem dX3_comes_97 : decode cX3_comes 97 = .ok (.iaload, 1) := dk_46 (dk_at dksX3_comes_4 5 rfl rfl)
theorem dX3_comes_98 : decode cX3_comes 98 = .ok (.iconst (-1), 1) := dk_2 (dk_at dksX3_comes_4 6 rfl rfl)
theorem dX3_comes_99 : decode cX3_comes 99 = .ok (.if_icmp .ne 39, 3) := dk_160 0 39 (dk_at dksX3_comes_4 7 rfl rfl)
theorem dX3_comes_102 : decode cX3_comes 102 = .ok (.aload_n 0, 1) := dk_42 (dk_at dksX3_comes_4 10 rfl rfl)
theorem dX3_comes_103 : decode cX3_comes 103 = .ok (.getfield 35, 3) := dk_180 0 35 (dk_at dksX3_comes_4 11 rfl rfl)
theorem dX3_comes_106 : decode cX3_comes 106 = .ok (.iconst 0, 1) := dk_3 (dk_at dksX3_comes_4 14 rfl rfl)
theorem dX3_comes_107 : decode cX3_comes 107 = .ok (.iload_n 2, 1) := dk_28 (dk_at dksX3_comes_4 15 rfl rfl)
theorem dX3_comes_108 : decode cX3_comes 108 = .ok (.invokestatic 83, 3) := dk_184 0 83 (dk_at dksX3_comes_4 16 rfl rfl)
theorem dX3_comes_111 : decode cX3_comes 111 = .ok (.iaload, 1) := dk_46 (dk_at dksX3_comes_4 19 rfl rfl)
theorem dX3_comes_112 : decode cX3_comes 112 = .ok (.iload_n 1, 1) := dk_27 (dk_at dksX3_comes_4 20 rfl rfl)
theorem dX3_comes_113 : decode cX3_comes 113 = .ok (.invokestatic 71, 3) := dk_184 0 71 (dk_at dksX3_comes_4 21 rfl rfl)
theorem dX3_comes_116 : decode cX3_comes 116 = .ok (.ifCond .eq 22, 3) := dk_153 0 22 (dk_at dksX3_comes_5 0 rfl rfl)
theorem dX3_comes_119 : decode cX3_comes 119 = .ok (.aload_n 0, 1) := dk_42 (dk_at dksX3_comes_5 3 rfl rfl)
theorem dX3_comes_120 : decode cX3_comes 120 = .ok (.iload_n 2, 1) := dk_28 (dk_at dksX3_comes_5 4 rfl rfl)
theorem dX3_comes_121 : decode cX3_comes 121 = .ok (.invokevirtual 98, 3) := dk_182 0 98 (dk_at dksX3_comes_5 5 rfl rfl)
theorem dX3_comes_124 : decode cX3_comes 124 = .ok (.aload_n 0, 1) := dk_42 (dk_at dksX3_comes_5 8 rfl rfl)
theorem dX3_comes_125 : decode cX3_comes 125 = .ok (.getfield 41, 3) := dk_180 0 41 (dk_at dksX3_comes_5 9 rfl rfl)
theorem dX3_comes_128 : decode cX3_comes 128 = .ok (.iconst 0, 1) := dk_3 (dk_at dksX3_comes_5 12 rfl rfl)
theorem dX3_comes_129 : decode cX3_comes 129 = .ok (.iload_n 2, 1) := dk_28 (dk_at dksX3_comes_5 13 rfl rfl)
theorem dX3_comes_130 : decode cX3_comes 130 = .ok (.invokestatic 83, 3) := dk_184 0 83 (dk_at dksX3_comes_5 14 rfl rfl)
theorem dX3_comes_133 : decode cX3_comes 133 = .ok (.dup2, 1) := dk_92 (dk_at dksX3_comes_5 17 rfl rfl)
theorem dX3_comes_134 : decode cX3_comes 134 = .ok (.iaload, 1) := dk_46 (dk_at dksX3_comes_5 18 rfl rfl)
theorem dX3_comes_135 : decode cX3_comes 135 = .ok (.iconst 1, 1) := dk_4 (dk_at dksX3_comes_5 19 rfl rfl)
theorem dX3_comes_136 : decode cX3_comes 136 = .ok (.iadd, 1) := dk_96 (dk_at dksX3_comes_5 20 rfl rfl)
theorem dX3_comes_137 : decode cX3_comes 137 = .ok (.iastore, 1) := dk_79 (dk_at dksX3_comes_5 21 rfl rfl)
theorem dX3_comes_138 : decode cX3_comes 138 = .ok (.iinc 2 1, 3) := dk_132 2 1 (dk_at dksX3_comes_6 0 rfl rfl)
theorem dX3_comes_141 : decode cX3_comes 141 = .ok (.goto (-63), 3) := dk_167 255 193 (dk_at dksX3_comes_6 3 rfl rfl)
theorem dX3_comes_144 : decode cX3_comes 144 = .ok (.return_, 1) := dk_177 (dk_at dksX3_comes_6 6 rfl rfl)
abbrev cX3_at : ByteArray := prog_15_method_13_code
def yX3_at : MethodName := ⟨RX3, "at", "(II)I"⟩
def dkwX3_at_0 : List UInt8 := [16, 16, 26, 104, 27, 96, 172]
abbrev dktX3_at_0 : List UInt8 := dkwX3_at_0 ++ []
theorem dksX3_at_0 : cX3_at.data.toList.drop 0 = dktX3_at_0 := by decide +kernel
theorem dX3_at_0 : decode cX3_at 0 = .ok (.bipush 16, 2) := dk_16 16 (dk_at dksX3_at_0 0 rfl rfl)
theorem dX3_at_2 : decode cX3_at 2 = .ok (.iload_n 0, 1) := dk_26 (dk_at dksX3_at_0 2 rfl rfl)
theorem dX3_at_3 : decode cX3_at 3 = .ok (.imul, 1) := dk_104 (dk_at dksX3_at_0 3 rfl rfl)
theorem dX3_at_4 : decode cX3_at 4 = .ok (.iload_n 1, 1) := dk_27 (dk_at dksX3_at_0 4 rfl rfl)
theorem dX3_at_5 : decode cX3_at 5 = .ok (.iadd, 1) := dk_96 (dk_at dksX3_at_0 5 rfl rfl)
theorem dX3_at_6 : decode cX3_at 6 = .ok (.ireturn, 1) := dk_172 (dk_at dksX3_at_0 6 rfl rfl)
abbrev cX3_placesThread : ByteArray := prog_15_method_15_code
def yX3_placesThread : MethodName := ⟨RX3, "placesThread", "(I)V"⟩
def dkwX3_placesThread_3 : List UInt8 := [61, 132, 3, 1, 167, 255, 195, 42, 180, 0, 38, 3, 27, 184, 0, 83, 28, 79, 177]
abbrev dktX3_placesThread_3 : List UInt8 := dkwX3_placesThread_3 ++ []
def dkwX3_placesThread_2 : List UInt8 := [28, 2, 160, 0, 8, 29, 61, 167, 0, 18, 42, 29, 182, 0, 87, 42, 28, 182, 0, 87, 162, 0, 5, 29]
abbrev dktX3_placesThread_2 : List UInt8 := dkwX3_placesThread_2 ++ dktX3_placesThread_3
def dkwX3_placesThread_1 : List UInt8 := [180, 0, 35, 3, 27, 184, 0, 83, 46, 29, 184, 0, 71, 153, 0, 36, 42, 29, 182, 0, 75, 153, 0, 28]
abbrev dktX3_placesThread_1 : List UInt8 := dkwX3_placesThread_1 ++ dktX3_placesThread_2
def dkwX3_placesThread_0 : List UInt8 := [42, 180, 0, 38, 3, 27, 184, 0, 83, 2, 79, 2, 61, 3, 62, 29, 42, 180, 0, 58, 162, 0, 59, 42]
abbrev dktX3_placesThread_0 : List UInt8 := dkwX3_placesThread_0 ++ dktX3_placesThread_1
theorem dksX3_placesThread_0 : cX3_placesThread.data.toList.drop 0 = dktX3_placesThread_0 := by decide +kernel
theorem dksX3_placesThread_1 : cX3_placesThread.data.toList.drop 24 = dktX3_placesThread_1 := dk_seg dksX3_placesThread_0 24 rfl rfl
theorem dksX3_placesThread_2 : cX3_placesThread.data.toList.drop 48 = dktX3_placesThread_2 := dk_seg dksX3_placesThread_1 24 rfl rfl
theorem dksX3_placesThread_3 : cX3_placesThread.data.toList.drop 72 = dktX3_placesThread_3 := dk_seg dksX3_placesThread_2 24 rfl rfl
theorem dX3_placesThread_0 : decode cX3_placesThread 0 = .ok (.aload_n 0, 1) := dk_42 (dk_at dksX3_placesThread_0 0 rfl rfl)
theorem dX3_placesThread_1 : decode cX3_placesThread 1 = .ok (.getfield 38, 3) := dk_180 0 38 (dk_at dksX3_placesThread_0 1 rfl rfl)
theorem dX3_placesThread_4 : decode cX3_placesThread 4 = .ok (.iconst 0, 1) := dk_3 (dk_at dksX3_placesThread_0 4 rfl rfl)
theorem dX3_placesThread_5 : decode cX3_placesThread 5 = .ok (.iload_n 1, 1) := dk_27 (dk_at dksX3_placesThread_0 5 rfl rfl)
theorem dX3_placesThread_6 : decode cX3_placesThread 6 = .ok (.invokestatic 83, 3) := dk_184 0 83 (dk_at dksX3_placesThread_0 6 rfl rfl)
theorem dX3_placesThread_9 : decode cX3_placesThread 9 = .ok (.iconst (-1), 1) := dk_2 (dk_at dksX3_placesThread_0 9 rfl rfl)
theorem dX3_placesThread_10 : decode cX3_placesThread 10 = .ok (.iastore, 1) := dk_79 (dk_at dksX3_placesThread_0 10 rfl rfl)
theorem dX3_placesThread_11 : decode cX3_placesThread 11 = .ok (.iconst (-1), 1) := dk_2 (dk_at dksX3_placesThread_0 11 rfl rfl)
theorem dX3_placesThread_12 : decode cX3_placesThread 12 = .ok (.istore_n 2, 1) := dk_61 (dk_at dksX3_placesThread_0 12 rfl rfl)
theorem dX3_placesThread_13 : decode cX3_placesThread 13 = .ok (.iconst 0, 1) := dk_3 (dk_at dksX3_placesThread_0 13 rfl rfl)
theorem dX3_placesThread_14 : decode cX3_placesThread 14 = .ok (.istore_n 3, 1) := dk_62 (dk_at dksX3_placesThread_0 14 rfl rfl)
theorem dX3_placesThread_15 : decode cX3_placesThread 15 = .ok (.iload_n 3, 1) := dk_29 (dk_at dksX3_placesThread_0 15 rfl rfl)
theorem dX3_placesThread_16 : decode cX3_placesThread 16 = .ok (.aload_n 0, 1) := dk_42 (dk_at dksX3_placesThread_0 16 rfl rfl)
theorem dX3_placesThread_17 : decode cX3_placesThread 17 = .ok (.getfield 58, 3) := dk_180 0 58 (dk_at dksX3_placesThread_0 17 rfl rfl)
theorem dX3_placesThread_20 : decode cX3_placesThread 20 = .ok (.if_icmp .ge 59, 3) := dk_162 0 59 (dk_at dksX3_placesThread_0 20 rfl rfl)
theorem dX3_placesThread_23 : decode cX3_placesThread 23 = .ok (.aload_n 0, 1) := dk_42 (dk_at dksX3_placesThread_0 23 rfl rfl)
theorem dX3_placesThread_24 : decode cX3_placesThread 24 = .ok (.getfield 35, 3) := dk_180 0 35 (dk_at dksX3_placesThread_1 0 rfl rfl)
theorem dX3_placesThread_27 : decode cX3_placesThread 27 = .ok (.iconst 0, 1) := dk_3 (dk_at dksX3_placesThread_1 3 rfl rfl)
theorem dX3_placesThread_28 : decode cX3_placesThread 28 = .ok (.iload_n 1, 1) := dk_27 (dk_at dksX3_placesThread_1 4 rfl rfl)
theorem dX3_placesThread_29 : decode cX3_placesThread 29 = .ok (.invokestatic 83, 3) := dk_184 0 83 (dk_at dksX3_placesThread_1 5 rfl rfl)
theorem dX3_placesThread_32 : decode cX3_placesThread 32 = .ok (.iaload, 1) := dk_46 (dk_at dksX3_placesThread_1 8 rfl rfl)
theorem dX3_placesThread_33 : decode cX3_placesThread 33 = .ok (.iload_n 3, 1) := dk_29 (dk_at dksX3_placesThread_1 9 rfl rfl)
theorem dX3_placesThread_34 : decode cX3_placesThread 34 = .ok (.invokestatic 71, 3) := dk_184 0 71 (dk_at dksX3_placesThread_1 10 rfl rfl)
theorem dX3_placesThread_37 : decode cX3_placesThread 37 = .ok (.ifCond .eq 36, 3) := dk_153 0 36 (dk_at dksX3_placesThread_1 13 rfl rfl)
theorem dX3_placesThread_40 : decode cX3_placesThread 40 = .ok (.aload_n 0, 1) := dk_42 (dk_at dksX3_placesThread_1 16 rfl rfl)
theorem dX3_placesThread_41 : decode cX3_placesThread 41 = .ok (.iload_n 3, 1) := dk_29 (dk_at dksX3_placesThread_1 17 rfl rfl)
theorem dX3_placesThread_42 : decode cX3_placesThread 42 = .ok (.invokevirtual 75, 3) := dk_182 0 75 (dk_at dksX3_placesThread_1 18 rfl rfl)
theorem dX3_placesThread_45 : decode cX3_placesThread 45 = .ok (.ifCond .eq 28, 3) := dk_153 0 28 (dk_at dksX3_placesThread_1 21 rfl rfl)
theorem dX3_placesThread_48 : decode cX3_placesThread 48 = .ok (.iload_n 2, 1) := dk_28 (dk_at dksX3_placesThread_2 0 rfl rfl)
theorem dX3_placesThread_49 : decode cX3_placesThread 49 = .ok (.iconst (-1), 1) := dk_2 (dk_at dksX3_placesThread_2 1 rfl rfl)
theorem dX3_placesThread_50 : decode cX3_placesThread 50 = .ok (.if_icmp .ne 8, 3) := dk_160 0 8 (dk_at dksX3_placesThread_2 2 rfl rfl)
theorem dX3_placesThread_53 : decode cX3_placesThread 53 = .ok (.iload_n 3, 1) := dk_29 (dk_at dksX3_placesThread_2 5 rfl rfl)
theorem dX3_placesThread_54 : decode cX3_placesThread 54 = .ok (.istore_n 2, 1) := dk_61 (dk_at dksX3_placesThread_2 6 rfl rfl)
theorem dX3_placesThread_55 : decode cX3_placesThread 55 = .ok (.goto 18, 3) := dk_167 0 18 (dk_at dksX3_placesThread_2 7 rfl rfl)
theorem dX3_placesThread_58 : decode cX3_placesThread 58 = .ok (.aload_n 0, 1) := dk_42 (dk_at dksX3_placesThread_2 10 rfl rfl)
theorem dX3_placesThread_59 : decode cX3_placesThread 59 = .ok (.iload_n 3, 1) := dk_29 (dk_at dksX3_placesThread_2 11 rfl rfl)
theorem dX3_placesThread_60 : decode cX3_placesThread 60 = .ok (.invokevirtual 87, 3) := dk_182 0 87 (dk_at dksX3_placesThread_2 12 rfl rfl)
theorem dX3_placesThread_63 : decode cX3_placesThread 63 = .ok (.aload_n 0, 1) := dk_42 (dk_at dksX3_placesThread_2 15 rfl rfl)
theorem dX3_placesThread_64 : decode cX3_placesThread 64 = .ok (.iload_n 2, 1) := dk_28 (dk_at dksX3_placesThread_2 16 rfl rfl)
theorem dX3_placesThread_65 : decode cX3_placesThread 65 = .ok (.invokevirtual 87, 3) := dk_182 0 87 (dk_at dksX3_placesThread_2 17 rfl rfl)
theorem dX3_placesThread_68 : decode cX3_placesThread 68 = .ok (.if_icmp .ge 5, 3) := dk_162 0 5 (dk_at dksX3_placesThread_2 20 rfl rfl)
theorem dX3_placesThread_71 : decode cX3_placesThread 71 = .ok (.iload_n 3, 1) := dk_29 (dk_at dksX3_placesThread_2 23 rfl rfl)
theorem dX3_placesThread_72 : decode cX3_placesThread 72 = .ok (.istore_n 2, 1) := dk_61 (dk_at dksX3_placesThread_3 0 rfl rfl)
theorem dX3_placesThread_73 : decode cX3_placesThread 73 = .ok (.iinc 3 1, 3) := dk_132 3 1 (dk_at dksX3_placesThread_3 1 rfl rfl)
theorem dX3_placesThread_76 : decode cX3_placesThread 76 = .ok (.goto (-61), 3) := dk_167 255 195 (dk_at dksX3_placesThread_3 4 rfl rfl)
theorem dX3_placesThread_79 : decode cX3_placesThread 79 = .ok (.aload_n 0, 1) := dk_42 (dk_at dksX3_placesThread_3 7 rfl rfl)
theorem dX3_placesThread_80 : decode cX3_placesThread 80 = .ok (.getfield 38, 3) := dk_180 0 38 (dk_at dksX3_placesThread_3 8 rfl rfl)
theorem dX3_placesThread_83 : decode cX3_placesThread 83 = .ok (.iconst 0, 1) := dk_3 (dk_at dksX3_placesThread_3 11 rfl rfl)
theorem dX3_placesThread_84 : decode cX3_placesThread 84 = .ok (.iload_n 1, 1) := dk_27 (dk_at dksX3_placesThread_3 12 rfl rfl)
theorem dX3_placesThread_85 : decode cX3_placesThread 85 = .ok (.invokestatic 83, 3) := dk_184 0 83 (dk_at dksX3_placesThread_3 13 rfl rfl)
theorem dX3_placesThread_88 : decode cX3_placesThread 88 = .ok (.iload_n 2, 1) := dk_28 (dk_at dksX3_placesThread_3 16 rfl rfl)
theorem dX3_placesThread_89 : decode cX3_placesThread 89 = .ok (.iastore, 1) := dk_79 (dk_at dksX3_placesThread_3 17 rfl rfl)
theorem dX3_placesThread_90 : decode cX3_placesThread 90 = .ok (.return_, 1) := dk_177 (dk_at dksX3_placesThread_3 18 rfl rfl)
abbrev cX3_loadOf : ByteArray := prog_15_method_14_code
def yX3_loadOf : MethodName := ⟨RX3, "loadOf", "(I)I"⟩
def dkwX3_loadOf_1 : List UInt8 := [27, 160, 0, 6, 132, 2, 1, 132, 3, 1, 167, 255, 226, 28, 172]
abbrev dktX3_loadOf_1 : List UInt8 := dkwX3_loadOf_1 ++ []
def dkwX3_loadOf_0 : List UInt8 := [3, 61, 3, 62, 29, 42, 180, 0, 32, 3, 46, 162, 0, 26, 42, 180, 0, 38, 3, 29, 184, 0, 83, 46]
abbrev dktX3_loadOf_0 : List UInt8 := dkwX3_loadOf_0 ++ dktX3_loadOf_1
theorem dksX3_loadOf_0 : cX3_loadOf.data.toList.drop 0 = dktX3_loadOf_0 := by decide +kernel
theorem dksX3_loadOf_1 : cX3_loadOf.data.toList.drop 24 = dktX3_loadOf_1 := dk_seg dksX3_loadOf_0 24 rfl rfl
theorem dX3_loadOf_0 : decode cX3_loadOf 0 = .ok (.iconst 0, 1) := dk_3 (dk_at dksX3_loadOf_0 0 rfl rfl)
theorem dX3_loadOf_1 : decode cX3_loadOf 1 = .ok (.istore_n 2, 1) := dk_61 (dk_at dksX3_loadOf_0 1 rfl rfl)
theorem dX3_loadOf_2 : decode cX3_loadOf 2 = .ok (.iconst 0, 1) := dk_3 (dk_at dksX3_loadOf_0 2 rfl rfl)
theorem dX3_loadOf_3 : decode cX3_loadOf 3 = .ok (.istore_n 3, 1) := dk_62 (dk_at dksX3_loadOf_0 3 rfl rfl)
theorem dX3_loadOf_4 : decode cX3_loadOf 4 = .ok (.iload_n 3, 1) := dk_29 (dk_at dksX3_loadOf_0 4 rfl rfl)
theorem dX3_loadOf_5 : decode cX3_loadOf 5 = .ok (.aload_n 0, 1) := dk_42 (dk_at dksX3_loadOf_0 5 rfl rfl)
theorem dX3_loadOf_6 : decode cX3_loadOf 6 = .ok (.getfield 32, 3) := dk_180 0 32 (dk_at dksX3_loadOf_0 6 rfl rfl)
theorem dX3_loadOf_9 : decode cX3_loadOf 9 = .ok (.iconst 0, 1) := dk_3 (dk_at dksX3_loadOf_0 9 rfl rfl)
theorem dX3_loadOf_10 : decode cX3_loadOf 10 = .ok (.iaload, 1) := dk_46 (dk_at dksX3_loadOf_0 10 rfl rfl)
theorem dX3_loadOf_11 : decode cX3_loadOf 11 = .ok (.if_icmp .ge 26, 3) := dk_162 0 26 (dk_at dksX3_loadOf_0 11 rfl rfl)
theorem dX3_loadOf_14 : decode cX3_loadOf 14 = .ok (.aload_n 0, 1) := dk_42 (dk_at dksX3_loadOf_0 14 rfl rfl)
theorem dX3_loadOf_15 : decode cX3_loadOf 15 = .ok (.getfield 38, 3) := dk_180 0 38 (dk_at dksX3_loadOf_0 15 rfl rfl)
theorem dX3_loadOf_18 : decode cX3_loadOf 18 = .ok (.iconst 0, 1) := dk_3 (dk_at dksX3_loadOf_0 18 rfl rfl)
theorem dX3_loadOf_19 : decode cX3_loadOf 19 = .ok (.iload_n 3, 1) := dk_29 (dk_at dksX3_loadOf_0 19 rfl rfl)
theorem dX3_loadOf_20 : decode cX3_loadOf 20 = .ok (.invokestatic 83, 3) := dk_184 0 83 (dk_at dksX3_loadOf_0 20 rfl rfl)
theorem dX3_loadOf_23 : decode cX3_loadOf 23 = .ok (.iaload, 1) := dk_46 (dk_at dksX3_loadOf_0 23 rfl rfl)
theorem dX3_loadOf_24 : decode cX3_loadOf 24 = .ok (.iload_n 1, 1) := dk_27 (dk_at dksX3_loadOf_1 0 rfl rfl)
theorem dX3_loadOf_25 : decode cX3_loadOf 25 = .ok (.if_icmp .ne 6, 3) := dk_160 0 6 (dk_at dksX3_loadOf_1 1 rfl rfl)
theorem dX3_loadOf_28 : decode cX3_loadOf 28 = .ok (.iinc 2 1, 3) := dk_132 2 1 (dk_at dksX3_loadOf_1 4 rfl rfl)
theorem dX3_loadOf_31 : decode cX3_loadOf 31 = .ok (.iinc 3 1, 3) := dk_132 3 1 (dk_at dksX3_loadOf_1 7 rfl rfl)
theorem dX3_loadOf_34 : decode cX3_loadOf 34 = .ok (.goto (-30), 3) := dk_167 255 226 (dk_at dksX3_loadOf_1 10 rfl rfl)
theorem dX3_loadOf_37 : decode cX3_loadOf 37 = .ok (.iload_n 2, 1) := dk_28 (dk_at dksX3_loadOf_1 13 rfl rfl)
theorem dX3_loadOf_38 : decode cX3_loadOf 38 = .ok (.ireturn, 1) := dk_172 (dk_at dksX3_loadOf_1 14 rfl rfl)
abbrev cX3_goesDown : ByteArray := prog_15_method_25_code
def yX3_goesDown : MethodName := ⟨RX3, "goesDown", "(IZ)Z"⟩
def dkwX3_goesDown_2 : List UInt8 := [16, 10, 160, 0, 8, 42, 27, 182, 0, 122, 4, 172]
abbrev dktX3_goesDown_2 : List UInt8 := dkwX3_goesDown_2 ++ []
def dkwX3_goesDown_1 : List UInt8 := [172, 42, 27, 29, 28, 182, 0, 119, 154, 0, 5, 3, 172, 42, 180, 0, 7, 27, 92, 46, 4, 100, 79, 29]
abbrev dktX3_goesDown_1 : List UInt8 := dkwX3_goesDown_1 ++ dktX3_goesDown_2
def dkwX3_goesDown_0 : List UInt8 := [42, 180, 0, 7, 27, 46, 4, 100, 62, 29, 16, 10, 160, 0, 13, 42, 27, 182, 0, 116, 154, 0, 17, 3]
abbrev dktX3_goesDown_0 : List UInt8 := dkwX3_goesDown_0 ++ dktX3_goesDown_1
theorem dksX3_goesDown_0 : cX3_goesDown.data.toList.drop 0 = dktX3_goesDown_0 := by decide +kernel
theorem dksX3_goesDown_1 : cX3_goesDown.data.toList.drop 24 = dktX3_goesDown_1 := dk_seg dksX3_goesDown_0 24 rfl rfl
theorem dksX3_goesDown_2 : cX3_goesDown.data.toList.drop 48 = dktX3_goesDown_2 := dk_seg dksX3_goesDown_1 24 rfl rfl
theorem dX3_goesDown_0 : decode cX3_goesDown 0 = .ok (.aload_n 0, 1) := dk_42 (dk_at dksX3_goesDown_0 0 rfl rfl)
theorem dX3_goesDown_1 : decode cX3_goesDown 1 = .ok (.getfield 7, 3) := dk_180 0 7 (dk_at dksX3_goesDown_0 1 rfl rfl)
theorem dX3_goesDown_4 : decode cX3_goesDown 4 = .ok (.iload_n 1, 1) := dk_27 (dk_at dksX3_goesDown_0 4 rfl rfl)
theorem dX3_goesDown_5 : decode cX3_goesDown 5 = .ok (.iaload, 1) := dk_46 (dk_at dksX3_goesDown_0 5 rfl rfl)
theorem dX3_goesDown_6 : decode cX3_goesDown 6 = .ok (.iconst 1, 1) := dk_4 (dk_at dksX3_goesDown_0 6 rfl rfl)
theorem dX3_goesDown_7 : decode cX3_goesDown 7 = .ok (.isub, 1) := dk_100 (dk_at dksX3_goesDown_0 7 rfl rfl)
theorem dX3_goesDown_8 : decode cX3_goesDown 8 = .ok (.istore_n 3, 1) := dk_62 (dk_at dksX3_goesDown_0 8 rfl rfl)
theorem dX3_goesDown_9 : decode cX3_goesDown 9 = .ok (.iload_n 3, 1) := dk_29 (dk_at dksX3_goesDown_0 9 rfl rfl)
theorem dX3_goesDown_10 : decode cX3_goesDown 10 = .ok (.bipush 10, 2) := dk_16 10 (dk_at dksX3_goesDown_0 10 rfl rfl)
theorem dX3_goesDown_12 : decode cX3_goesDown 12 = .ok (.if_icmp .ne 13, 3) := dk_160 0 13 (dk_at dksX3_goesDown_0 12 rfl rfl)
theorem dX3_goesDown_15 : decode cX3_goesDown 15 = .ok (.aload_n 0, 1) := dk_42 (dk_at dksX3_goesDown_0 15 rfl rfl)
theorem dX3_goesDown_16 : decode cX3_goesDown 16 = .ok (.iload_n 1, 1) := dk_27 (dk_at dksX3_goesDown_0 16 rfl rfl)
theorem dX3_goesDown_17 : decode cX3_goesDown 17 = .ok (.invokevirtual 116, 3) := dk_182 0 116 (dk_at dksX3_goesDown_0 17 rfl rfl)
theorem dX3_goesDown_20 : decode cX3_goesDown 20 = .ok (.ifCond .ne 17, 3) := dk_154 0 17 (dk_at dksX3_goesDown_0 20 rfl rfl)
theorem dX3_goesDown_23 : decode cX3_goesDown 23 = .ok (.iconst 0, 1) := dk_3 (dk_at dksX3_goesDown_0 23 rfl rfl)
theorem dX3_goesDown_24 : decode cX3_goesDown 24 = .ok (.ireturn, 1) := dk_172 (dk_at dksX3_goesDown_1 0 rfl rfl)
theorem dX3_goesDown_25 : decode cX3_goesDown 25 = .ok (.aload_n 0, 1) := dk_42 (dk_at dksX3_goesDown_1 1 rfl rfl)
theorem dX3_goesDown_26 : decode cX3_goesDown 26 = .ok (.iload_n 1, 1) := dk_27 (dk_at dksX3_goesDown_1 2 rfl rfl)
theorem dX3_goesDown_27 : decode cX3_goesDown 27 = .ok (.iload_n 3, 1) := dk_29 (dk_at dksX3_goesDown_1 3 rfl rfl)
theorem dX3_goesDown_28 : decode cX3_goesDown 28 = .ok (.iload_n 2, 1) := dk_28 (dk_at dksX3_goesDown_1 4 rfl rfl)
theorem dX3_goesDown_29 : decode cX3_goesDown 29 = .ok (.invokevirtual 119, 3) := dk_182 0 119 (dk_at dksX3_goesDown_1 5 rfl rfl)
theorem dX3_goesDown_32 : decode cX3_goesDown 32 = .ok (.ifCond .ne 5, 3) := dk_154 0 5 (dk_at dksX3_goesDown_1 8 rfl rfl)
theorem dX3_goesDown_35 : decode cX3_goesDown 35 = .ok (.iconst 0, 1) := dk_3 (dk_at dksX3_goesDown_1 11 rfl rfl)
theorem dX3_goesDown_36 : decode cX3_goesDown 36 = .ok (.ireturn, 1) := dk_172 (dk_at dksX3_goesDown_1 12 rfl rfl)
theorem dX3_goesDown_37 : decode cX3_goesDown 37 = .ok (.aload_n 0, 1) := dk_42 (dk_at dksX3_goesDown_1 13 rfl rfl)
theorem dX3_goesDown_38 : decode cX3_goesDown 38 = .ok (.getfield 7, 3) := dk_180 0 7 (dk_at dksX3_goesDown_1 14 rfl rfl)
theorem dX3_goesDown_41 : decode cX3_goesDown 41 = .ok (.iload_n 1, 1) := dk_27 (dk_at dksX3_goesDown_1 17 rfl rfl)
theorem dX3_goesDown_42 : decode cX3_goesDown 42 = .ok (.dup2, 1) := dk_92 (dk_at dksX3_goesDown_1 18 rfl rfl)
theorem dX3_goesDown_43 : decode cX3_goesDown 43 = .ok (.iaload, 1) := dk_46 (dk_at dksX3_goesDown_1 19 rfl rfl)
theorem dX3_goesDown_44 : decode cX3_goesDown 44 = .ok (.iconst 1, 1) := dk_4 (dk_at dksX3_goesDown_1 20 rfl rfl)
theorem dX3_goesDown_45 : decode cX3_goesDown 45 = .ok (.isub, 1) := dk_100 (dk_at dksX3_goesDown_1 21 rfl rfl)
theorem dX3_goesDown_46 : decode cX3_goesDown 46 = .ok (.iastore, 1) := dk_79 (dk_at dksX3_goesDown_1 22 rfl rfl)
theorem dX3_goesDown_47 : decode cX3_goesDown 47 = .ok (.iload_n 3, 1) := dk_29 (dk_at dksX3_goesDown_1 23 rfl rfl)
theorem dX3_goesDown_48 : decode cX3_goesDown 48 = .ok (.bipush 10, 2) := dk_16 10 (dk_at dksX3_goesDown_2 0 rfl rfl)
theorem dX3_goesDown_50 : decode cX3_goesDown 50 = .ok (.if_icmp .ne 8, 3) := dk_160 0 8 (dk_at dksX3_goesDown_2 2 rfl rfl)
theorem dX3_goesDown_53 : decode cX3_goesDown 53 = .ok (.aload_n 0, 1) := dk_42 (dk_at dksX3_goesDown_2 5 rfl rfl)
theorem dX3_goesDown_54 : decode cX3_goesDown 54 = .ok (.iload_n 1, 1) := dk_27 (dk_at dksX3_goesDown_2 6 rfl rfl)
theorem dX3_goesDown_55 : decode cX3_goesDown 55 = .ok (.invokevirtual 122, 3) := dk_182 0 122 (dk_at dksX3_goesDown_2 7 rfl rfl)
theorem dX3_goesDown_58 : decode cX3_goesDown 58 = .ok (.iconst 1, 1) := dk_4 (dk_at dksX3_goesDown_2 10 rfl rfl)
theorem dX3_goesDown_59 : decode cX3_goesDown 59 = .ok (.ireturn, 1) := dk_172 (dk_at dksX3_goesDown_2 11 rfl rfl)
abbrev cX3_hasOtherUp : ByteArray := prog_15_method_24_code
def yX3_hasOtherUp : MethodName := ⟨RX3, "hasOtherUp", "(I)Z"⟩
def dkwX3_hasOtherUp_0 : List UInt8 := [42, 17, 0, 255, 4, 27, 120, 2, 130, 126, 182, 0, 79, 2, 159, 0, 7, 4, 167, 0, 4, 3, 172]
abbrev dktX3_hasOtherUp_0 : List UInt8 := dkwX3_hasOtherUp_0 ++ []
theorem dksX3_hasOtherUp_0 : cX3_hasOtherUp.data.toList.drop 0 = dktX3_hasOtherUp_0 := by decide +kernel
theorem dX3_hasOtherUp_0 : decode cX3_hasOtherUp 0 = .ok (.aload_n 0, 1) := dk_42 (dk_at dksX3_hasOtherUp_0 0 rfl rfl)
theorem dX3_hasOtherUp_1 : decode cX3_hasOtherUp 1 = .ok (.sipush 255, 3) := dk_17 0 255 (dk_at dksX3_hasOtherUp_0 1 rfl rfl)
theorem dX3_hasOtherUp_4 : decode cX3_hasOtherUp 4 = .ok (.iconst 1, 1) := dk_4 (dk_at dksX3_hasOtherUp_0 4 rfl rfl)
theorem dX3_hasOtherUp_5 : decode cX3_hasOtherUp 5 = .ok (.iload_n 1, 1) := dk_27 (dk_at dksX3_hasOtherUp_0 5 rfl rfl)
theorem dX3_hasOtherUp_6 : decode cX3_hasOtherUp 6 = .ok (.ishl, 1) := dk_120 (dk_at dksX3_hasOtherUp_0 6 rfl rfl)
theorem dX3_hasOtherUp_7 : decode cX3_hasOtherUp 7 = .ok (.iconst (-1), 1) := dk_2 (dk_at dksX3_hasOtherUp_0 7 rfl rfl)
theorem dX3_hasOtherUp_8 : decode cX3_hasOtherUp 8 = .ok (.ixor, 1) := dk_130 (dk_at dksX3_hasOtherUp_0 8 rfl rfl)
theorem dX3_hasOtherUp_9 : decode cX3_hasOtherUp 9 = .ok (.iand, 1) := dk_126 (dk_at dksX3_hasOtherUp_0 9 rfl rfl)
theorem dX3_hasOtherUp_10 : decode cX3_hasOtherUp 10 = .ok (.invokevirtual 79, 3) := dk_182 0 79 (dk_at dksX3_hasOtherUp_0 10 rfl rfl)
theorem dX3_hasOtherUp_13 : decode cX3_hasOtherUp 13 = .ok (.iconst (-1), 1) := dk_2 (dk_at dksX3_hasOtherUp_0 13 rfl rfl)
theorem dX3_hasOtherUp_14 : decode cX3_hasOtherUp 14 = .ok (.if_icmp .eq 7, 3) := dk_159 0 7 (dk_at dksX3_hasOtherUp_0 14 rfl rfl)
theorem dX3_hasOtherUp_17 : decode cX3_hasOtherUp 17 = .ok (.iconst 1, 1) := dk_4 (dk_at dksX3_hasOtherUp_0 17 rfl rfl)
theorem dX3_hasOtherUp_18 : decode cX3_hasOtherUp 18 = .ok (.goto 4, 3) := dk_167 0 4 (dk_at dksX3_hasOtherUp_0 18 rfl rfl)
theorem dX3_hasOtherUp_21 : decode cX3_hasOtherUp 21 = .ok (.iconst 0, 1) := dk_3 (dk_at dksX3_hasOtherUp_0 21 rfl rfl)
theorem dX3_hasOtherUp_22 : decode cX3_hasOtherUp 22 = .ok (.ireturn, 1) := dk_172 (dk_at dksX3_hasOtherUp_0 22 rfl rfl)
abbrev cX3_stopsAll : ByteArray := prog_15_method_22_code
def yX3_stopsAll : MethodName := ⟨RX3, "stopsAll", "(IIZ)Z"⟩
def dkwX3_stopsAll_3 : List UInt8 := [54, 6, 132, 5, 1, 167, 255, 221, 3, 172, 132, 4, 255, 167, 255, 175, 4, 172]
abbrev dktX3_stopsAll_3 : List UInt8 := dkwX3_stopsAll_3 ++ []
def dkwX3_stopsAll_2 : List UInt8 := [180, 0, 26, 28, 46, 21, 5, 184, 0, 71, 153, 0, 15, 42, 27, 28, 21, 5, 4, 3, 182, 0, 105]
abbrev dktX3_stopsAll_2 : List UInt8 := dkwX3_stopsAll_2 ++ dktX3_stopsAll_3
def dkwX3_stopsAll_1 : List UInt8 := [28, 21, 4, 3, 29, 182, 0, 105, 154, 0, 49, 21, 4, 4, 96, 54, 5, 21, 5, 7, 162, 0, 35, 42]
abbrev dktX3_stopsAll_1 : List UInt8 := dkwX3_stopsAll_1 ++ dktX3_stopsAll_2
def dkwX3_stopsAll_0 : List UInt8 := [6, 54, 4, 21, 4, 155, 0, 82, 42, 180, 0, 26, 28, 46, 21, 4, 184, 0, 71, 153, 0, 62, 42, 27]
abbrev dktX3_stopsAll_0 : List UInt8 := dkwX3_stopsAll_0 ++ dktX3_stopsAll_1
theorem dksX3_stopsAll_0 : cX3_stopsAll.data.toList.drop 0 = dktX3_stopsAll_0 := by decide +kernel
theorem dksX3_stopsAll_1 : cX3_stopsAll.data.toList.drop 24 = dktX3_stopsAll_1 := dk_seg dksX3_stopsAll_0 24 rfl rfl
theorem dksX3_stopsAll_2 : cX3_stopsAll.data.toList.drop 48 = dktX3_stopsAll_2 := dk_seg dksX3_stopsAll_1 24 rfl rfl
theorem dksX3_stopsAll_3 : cX3_stopsAll.data.toList.drop 71 = dktX3_stopsAll_3 := dk_seg dksX3_stopsAll_2 23 rfl rfl
theorem dX3_stopsAll_0 : decode cX3_stopsAll 0 = .ok (.iconst 3, 1) := dk_6 (dk_at dksX3_stopsAll_0 0 rfl rfl)
theorem dX3_stopsAll_1 : decode cX3_stopsAll 1 = .ok (.istore 4, 2) := dk_54 4 (dk_at dksX3_stopsAll_0 1 rfl rfl)
theorem dX3_stopsAll_3 : decode cX3_stopsAll 3 = .ok (.iload 4, 2) := dk_21 4 (dk_at dksX3_stopsAll_0 3 rfl rfl)
theorem dX3_stopsAll_5 : decode cX3_stopsAll 5 = .ok (.ifCond .lt 82, 3) := dk_155 0 82 (dk_at dksX3_stopsAll_0 5 rfl rfl)
theorem dX3_stopsAll_8 : decode cX3_stopsAll 8 = .ok (.aload_n 0, 1) := dk_42 (dk_at dksX3_stopsAll_0 8 rfl rfl)
theorem dX3_stopsAll_9 : decode cX3_stopsAll 9 = .ok (.getfield 26, 3) := dk_180 0 26 (dk_at dksX3_stopsAll_0 9 rfl rfl)
theorem dX3_stopsAll_12 : decode cX3_stopsAll 12 = .ok (.iload_n 2, 1) := dk_28 (dk_at dksX3_stopsAll_0 12 rfl rfl)
theorem dX3_stopsAll_13 : decode cX3_stopsAll 13 = .ok (.iaload, 1) := dk_46 (dk_at dksX3_stopsAll_0 13 rfl rfl)
theorem dX3_stopsAll_14 : decode cX3_stopsAll 14 = .ok (.iload 4, 2) := dk_21 4 (dk_at dksX3_stopsAll_0 14 rfl rfl)
theorem dX3_stopsAll_16 : decode cX3_stopsAll 16 = .ok (.invokestatic 71, 3) := dk_184 0 71 (dk_at dksX3_stopsAll_0 16 rfl rfl)
theorem dX3_stopsAll_19 : decode cX3_stopsAll 19 = .ok (.ifCond .eq 62, 3) := dk_153 0 62 (dk_at dksX3_stopsAll_0 19 rfl rfl)
theorem dX3_stopsAll_22 : decode cX3_stopsAll 22 = .ok (.aload_n 0, 1) := dk_42 (dk_at dksX3_stopsAll_0 22 rfl rfl)
theorem dX3_stopsAll_23 : decode cX3_stopsAll 23 = .ok (.iload_n 1, 1) := dk_27 (dk_at dksX3_stopsAll_0 23 rfl rfl)
theorem dX3_stopsAll_24 : decode cX3_stopsAll 24 = .ok (.iload_n 2, 1) := dk_28 (dk_at dksX3_stopsAll_1 0 rfl rfl)
theorem dX3_stopsAll_25 : decode cX3_stopsAll 25 = .ok (.iload 4, 2) := dk_21 4 (dk_at dksX3_stopsAll_1 1 rfl rfl)
theorem dX3_stopsAll_27 : decode cX3_stopsAll 27 = .ok (.iconst 0, 1) := dk_3 (dk_at dksX3_stopsAll_1 3 rfl rfl)
theorem dX3_stopsAll_28 : decode cX3_stopsAll 28 = .ok (.iload_n 3, 1) := dk_29 (dk_at dksX3_stopsAll_1 4 rfl rfl)
theorem dX3_stopsAll_29 : decode cX3_stopsAll 29 = .ok (.invokevirtual 105, 3) := dk_182 0 105 (dk_at dksX3_stopsAll_1 5 rfl rfl)
theorem dX3_stopsAll_32 : decode cX3_stopsAll 32 = .ok (.ifCond .ne 49, 3) := dk_154 0 49 (dk_at dksX3_stopsAll_1 8 rfl rfl)
theorem dX3_stopsAll_35 : decode cX3_stopsAll 35 = .ok (.iload 4, 2) := dk_21 4 (dk_at dksX3_stopsAll_1 11 rfl rfl)
theorem dX3_stopsAll_37 : decode cX3_stopsAll 37 = .ok (.iconst 1, 1) := dk_4 (dk_at dksX3_stopsAll_1 13 rfl rfl)
theorem dX3_stopsAll_38 : decode cX3_stopsAll 38 = .ok (.iadd, 1) := dk_96 (dk_at dksX3_stopsAll_1 14 rfl rfl)
theorem dX3_stopsAll_39 : decode cX3_stopsAll 39 = .ok (.istore 5, 2) := dk_54 5 (dk_at dksX3_stopsAll_1 15 rfl rfl)
theorem dX3_stopsAll_41 : decode cX3_stopsAll 41 = .ok (.iload 5, 2) := dk_21 5 (dk_at dksX3_stopsAll_1 17 rfl rfl)
theorem dX3_stopsAll_43 : decode cX3_stopsAll 43 = .ok (.iconst 4, 1) := dk_7 (dk_at dksX3_stopsAll_1 19 rfl rfl)
theorem dX3_stopsAll_44 : decode cX3_stopsAll 44 = .ok (.if_icmp .ge 35, 3) := dk_162 0 35 (dk_at dksX3_stopsAll_1 20 rfl rfl)
theorem dX3_stopsAll_47 : decode cX3_stopsAll 47 = .ok (.aload_n 0, 1) := dk_42 (dk_at dksX3_stopsAll_1 23 rfl rfl)
theorem dX3_stopsAll_48 : decode cX3_stopsAll 48 = .ok (.getfield 26, 3) := dk_180 0 26 (dk_at dksX3_stopsAll_2 0 rfl rfl)
theorem dX3_stopsAll_51 : decode cX3_stopsAll 51 = .ok (.iload_n 2, 1) := dk_28 (dk_at dksX3_stopsAll_2 3 rfl rfl)
theorem dX3_stopsAll_52 : decode cX3_stopsAll 52 = .ok (.iaload, 1) := dk_46 (dk_at dksX3_stopsAll_2 4 rfl rfl)
theorem dX3_stopsAll_53 : decode cX3_stopsAll 53 = .ok (.iload 5, 2) := dk_21 5 (dk_at dksX3_stopsAll_2 5 rfl rfl)
theorem dX3_stopsAll_55 : decode cX3_stopsAll 55 = .ok (.invokestatic 71, 3) := dk_184 0 71 (dk_at dksX3_stopsAll_2 7 rfl rfl)
theorem dX3_stopsAll_58 : decode cX3_stopsAll 58 = .ok (.ifCond .eq 15, 3) := dk_153 0 15 (dk_at dksX3_stopsAll_2 10 rfl rfl)
theorem dX3_stopsAll_61 : decode cX3_stopsAll 61 = .ok (.aload_n 0, 1) := dk_42 (dk_at dksX3_stopsAll_2 13 rfl rfl)
theorem dX3_stopsAll_62 : decode cX3_stopsAll 62 = .ok (.iload_n 1, 1) := dk_27 (dk_at dksX3_stopsAll_2 14 rfl rfl)
theorem dX3_stopsAll_63 : decode cX3_stopsAll 63 = .ok (.iload_n 2, 1) := dk_28 (dk_at dksX3_stopsAll_2 15 rfl rfl)
theorem dX3_stopsAll_64 : decode cX3_stopsAll 64 = .ok (.iload 5, 2) := dk_21 5 (dk_at dksX3_stopsAll_2 16 rfl rfl)
theorem dX3_stopsAll_66 : decode cX3_stopsAll 66 = .ok (.iconst 1, 1) := dk_4 (dk_at dksX3_stopsAll_2 18 rfl rfl)
theorem dX3_stopsAll_67 : decode cX3_stopsAll 67 = .ok (.iconst 0, 1) := dk_3 (dk_at dksX3_stopsAll_2 19 rfl rfl)
theorem dX3_stopsAll_68 : decode cX3_stopsAll 68 = .ok (.invokevirtual 105, 3) := dk_182 0 105 (dk_at dksX3_stopsAll_2 20 rfl rfl)
theorem dX3_stopsAll_71 : decode cX3_stopsAll 71 = .ok (.istore 6, 2) := dk_54 6 (dk_at dksX3_stopsAll_3 0 rfl rfl)
theorem dX3_stopsAll_73 : decode cX3_stopsAll 73 = .ok (.iinc 5 1, 3) := dk_132 5 1 (dk_at dksX3_stopsAll_3 2 rfl rfl)
theorem dX3_stopsAll_76 : decode cX3_stopsAll 76 = .ok (.goto (-35), 3) := dk_167 255 221 (dk_at dksX3_stopsAll_3 5 rfl rfl)
theorem dX3_stopsAll_79 : decode cX3_stopsAll 79 = .ok (.iconst 0, 1) := dk_3 (dk_at dksX3_stopsAll_3 8 rfl rfl)
theorem dX3_stopsAll_80 : decode cX3_stopsAll 80 = .ok (.ireturn, 1) := dk_172 (dk_at dksX3_stopsAll_3 9 rfl rfl)
theorem dX3_stopsAll_81 : decode cX3_stopsAll 81 = .ok (.iinc 4 (-1), 3) := dk_132 4 255 (dk_at dksX3_stopsAll_3 10 rfl rfl)
theorem dX3_stopsAll_84 : decode cX3_stopsAll 84 = .ok (.goto (-81), 3) := dk_167 255 175 (dk_at dksX3_stopsAll_3 13 rfl rfl)
theorem dX3_stopsAll_87 : decode cX3_stopsAll 87 = .ok (.iconst 1, 1) := dk_4 (dk_at dksX3_stopsAll_3 16 rfl rfl)
theorem dX3_stopsAll_88 : decode cX3_stopsAll 88 = .ok (.ireturn, 1) := dk_172 (dk_at dksX3_stopsAll_3 17 rfl rfl)
abbrev cX3_leaves : ByteArray := prog_15_method_17_code
def yX3_leaves : MethodName := ⟨RX3, "leaves", "(I)V"⟩
def dkwX3_leaves_6 : List UInt8 := [182, 0, 98, 42, 180, 0, 41, 3, 28, 184, 0, 83, 92, 46, 4, 96, 79, 132, 2, 1, 167, 255, 210, 177]
abbrev dktX3_leaves_6 : List UInt8 := dkwX3_leaves_6 ++ []
def dkwX3_leaves_5 : List UInt8 := [180, 0, 32, 3, 46, 162, 0, 42, 42, 180, 0, 38, 3, 28, 184, 0, 83, 46, 27, 160, 0, 22, 42, 28]
abbrev dktX3_leaves_5 : List UInt8 := dkwX3_leaves_5 ++ dktX3_leaves_6
def dkwX3_leaves_4 : List UInt8 := [180, 0, 41, 4, 28, 184, 0, 83, 92, 46, 4, 96, 79, 132, 2, 1, 167, 255, 210, 3, 61, 28, 42]
abbrev dktX3_leaves_4 : List UInt8 := dkwX3_leaves_4 ++ dktX3_leaves_5
def dkwX3_leaves_3 : List UInt8 := [162, 0, 42, 42, 180, 0, 38, 4, 28, 184, 0, 83, 46, 27, 160, 0, 22, 42, 28, 182, 0, 94, 42]
abbrev dktX3_leaves_3 : List UInt8 := dkwX3_leaves_3 ++ dktX3_leaves_4
def dkwX3_leaves_2 : List UInt8 := [184, 0, 83, 92, 46, 4, 96, 79, 132, 2, 1, 167, 255, 201, 3, 61, 28, 42, 180, 0, 32, 4, 46]
abbrev dktX3_leaves_2 : List UInt8 := dkwX3_leaves_2 ++ dktX3_leaves_3
def dkwX3_leaves_1 : List UInt8 := [160, 0, 31, 42, 180, 0, 38, 5, 28, 184, 0, 83, 42, 182, 0, 90, 79, 42, 180, 0, 41, 5, 28]
abbrev dktX3_leaves_1 : List UInt8 := dkwX3_leaves_1 ++ dktX3_leaves_2
def dkwX3_leaves_0 : List UInt8 := [3, 61, 28, 42, 180, 0, 32, 5, 46, 162, 0, 51, 42, 180, 0, 38, 5, 28, 184, 0, 83, 46, 27]
abbrev dktX3_leaves_0 : List UInt8 := dkwX3_leaves_0 ++ dktX3_leaves_1
theorem dksX3_leaves_0 : cX3_leaves.data.toList.drop 0 = dktX3_leaves_0 := by decide +kernel
theorem dksX3_leaves_1 : cX3_leaves.data.toList.drop 23 = dktX3_leaves_1 := dk_seg dksX3_leaves_0 23 rfl rfl
theorem dksX3_leaves_2 : cX3_leaves.data.toList.drop 46 = dktX3_leaves_2 := dk_seg dksX3_leaves_1 23 rfl rfl
theorem dksX3_leaves_3 : cX3_leaves.data.toList.drop 69 = dktX3_leaves_3 := dk_seg dksX3_leaves_2 23 rfl rfl
theorem dksX3_leaves_4 : cX3_leaves.data.toList.drop 92 = dktX3_leaves_4 := dk_seg dksX3_leaves_3 23 rfl rfl
theorem dksX3_leaves_5 : cX3_leaves.data.toList.drop 115 = dktX3_leaves_5 := dk_seg dksX3_leaves_4 23 rfl rfl
theorem dksX3_leaves_6 : cX3_leaves.data.toList.drop 139 = dktX3_leaves_6 := dk_seg dksX3_leaves_5 24 rfl rfl
theorem dX3_leaves_0 : decode cX3_leaves 0 = .ok (.iconst 0, 1) := dk_3 (dk_at dksX3_leaves_0 0 rfl rfl)
theorem dX3_leaves_1 : decode cX3_leaves 1 = .ok (.istore_n 2, 1) := dk_61 (dk_at dksX3_leaves_0 1 rfl rfl)
theorem dX3_leaves_2 : decode cX3_leaves 2 = .ok (.iload_n 2, 1) := dk_28 (dk_at dksX3_leaves_0 2 rfl rfl)
theorem dX3_leaves_3 : decode cX3_leaves 3 = .ok (.aload_n 0, 1) := dk_42 (dk_at dksX3_leaves_0 3 rfl rfl)
theorem dX3_leaves_4 : decode cX3_leaves 4 = .ok (.getfield 32, 3) := dk_180 0 32 (dk_at dksX3_leaves_0 4 rfl rfl)
theorem dX3_leaves_7 : decode cX3_leaves 7 = .ok (.iconst 2, 1) := dk_5 (dk_at dksX3_leaves_0 7 rfl rfl)
theorem dX3_leaves_8 : decode cX3_leaves 8 = .ok (.iaload, 1) := dk_46 (dk_at dksX3_leaves_0 8 rfl rfl)
theorem dX3_leaves_9 : decode cX3_leaves 9 = .ok (.if_icmp .ge 51, 3) := dk_162 0 51 (dk_at dksX3_leaves_0 9 rfl rfl)
theorem dX3_leaves_12 : decode cX3_leaves 12 = .ok (.aload_n 0, 1) := dk_42 (dk_at dksX3_leaves_0 12 rfl rfl)
theorem dX3_leaves_13 : decode cX3_leaves 13 = .ok (.getfield 38, 3) := dk_180 0 38 (dk_at dksX3_leaves_0 13 rfl rfl)
theorem dX3_leaves_16 : decode cX3_leaves 16 = .ok (.iconst 2, 1) := dk_5 (dk_at dksX3_leaves_0 16 rfl rfl)
theorem dX3_leaves_17 : decode cX3_leaves 17 = .ok (.iload_n 2, 1) := dk_28 (dk_at dksX3_leaves_0 17 rfl rfl)
theorem dX3_leaves_18 : decode cX3_leaves 18 = .ok (.invokestatic 83, 3) := dk_184 0 83 (dk_at dksX3_leaves_0 18 rfl rfl)
theorem dX3_leaves_21 : decode cX3_leaves 21 = .ok (.iaload, 1) := dk_46 (dk_at dksX3_leaves_0 21 rfl rfl)
theorem dX3_leaves_22 : decode cX3_leaves 22 = .ok (.iload_n 1, 1) := dk_27 (dk_at dksX3_leaves_0 22 rfl rfl)
theorem dX3_leaves_23 : decode cX3_leaves 23 = .ok (.if_icmp .ne 31, 3) := dk_160 0 31 (dk_at dksX3_leaves_1 0 rfl rfl)
theorem dX3_leaves_26 : decode cX3_leaves 26 = .ok (.aload_n 0, 1) := dk_42 (dk_at dksX3_leaves_1 3 rfl rfl)
theorem dX3_leaves_27 : decode cX3_leaves 27 = .ok (.getfield 38, 3) := dk_180 0 38 (dk_at dksX3_leaves_1 4 rfl rfl)
theorem dX3_leaves_30 : decode cX3_leaves 30 = .ok (.iconst 2, 1) := dk_5 (dk_at dksX3_leaves_1 7 rfl rfl)
theorem dX3_leaves_31 : decode cX3_leaves 31 = .ok (.iload_n 2, 1) := dk_28 (dk_at dksX3_leaves_1 8 rfl rfl)
theorem dX3_leaves_32 : decode cX3_leaves 32 = .ok (.invokestatic 83, 3) := dk_184 0 83 (dk_at dksX3_leaves_1 9 rfl rfl)
theorem dX3_leaves_35 : decode cX3_leaves 35 = .ok (.aload_n 0, 1) := dk_42 (dk_at dksX3_leaves_1 12 rfl rfl)
theorem dX3_leaves_36 : decode cX3_leaves 36 = .ok (.invokevirtual 90, 3) := dk_182 0 90 (dk_at dksX3_leaves_1 13 rfl rfl)
theorem dX3_leaves_39 : decode cX3_leaves 39 = .ok (.iastore, 1) := dk_79 (dk_at dksX3_leaves_1 16 rfl rfl)
theorem dX3_leaves_40 : decode cX3_leaves 40 = .ok (.aload_n 0, 1) := dk_42 (dk_at dksX3_leaves_1 17 rfl rfl)
theorem dX3_leaves_41 : decode cX3_leaves 41 = .ok (.getfield 41, 3) := dk_180 0 41 (dk_at dksX3_leaves_1 18 rfl rfl)
theorem dX3_leaves_44 : decode cX3_leaves 44 = .ok (.iconst 2, 1) := dk_5 (dk_at dksX3_leaves_1 21 rfl rfl)
theorem dX3_leaves_45 : decode cX3_leaves 45 = .ok (.iload_n 2, 1) := dk_28 (dk_at dksX3_leaves_1 22 rfl rfl)
theorem dX3_leaves_46 : decode cX3_leaves 46 = .ok (.invokestatic 83, 3) := dk_184 0 83 (dk_at dksX3_leaves_2 0 rfl rfl)
theorem dX3_leaves_49 : decode cX3_leaves 49 = .ok (.dup2, 1) := dk_92 (dk_at dksX3_leaves_2 3 rfl rfl)
theorem dX3_leaves_50 : decode cX3_leaves 50 = .ok (.iaload, 1) := dk_46 (dk_at dksX3_leaves_2 4 rfl rfl)
theorem dX3_leaves_51 : decode cX3_leaves 51 = .ok (.iconst 1, 1) := dk_4 (dk_at dksX3_leaves_2 5 rfl rfl)
theorem dX3_leaves_52 : decode cX3_leaves 52 = .ok (.iadd, 1) := dk_96 (dk_at dksX3_leaves_2 6 rfl rfl)
theorem dX3_leaves_53 : decode cX3_leaves 53 = .ok (.iastore, 1) := dk_79 (dk_at dksX3_leaves_2 7 rfl rfl)
theorem dX3_leaves_54 : decode cX3_leaves 54 = .ok (.iinc 2 1, 3) := dk_132 2 1 (dk_at dksX3_leaves_2 8 rfl rfl)
theorem dX3_leaves_57 : decode cX3_leaves 57 = .ok (.goto (-55), 3) := dk_167 255 201 (dk_at dksX3_leaves_2 11 rfl rfl)
theorem dX3_leaves_60 : decode cX3_leaves 60 = .ok (.iconst 0, 1) := dk_3 (dk_at dksX3_leaves_2 14 rfl rfl)
theorem dX3_leaves_61 : decode cX3_leaves 61 = .ok (.istore_n 2, 1) := dk_61 (dk_at dksX3_leaves_2 15 rfl rfl)
theorem dX3_leaves_62 : decode cX3_leaves 62 = .ok (.iload_n 2, 1) := dk_28 (dk_at dksX3_leaves_2 16 rfl rfl)
theorem dX3_leaves_63 : decode cX3_leaves 63 = .ok (.aload_n 0, 1) := dk_42 (dk_at dksX3_leaves_2 17 rfl rfl)
theorem dX3_leaves_64 : decode cX3_leaves 64 = .ok (.getfield 32, 3) := dk_180 0 32 (dk_at dksX3_leaves_2 18 rfl rfl)
theorem dX3_leaves_67 : decode cX3_leaves 67 = .ok (.iconst 1, 1) := dk_4 (dk_at dksX3_leaves_2 21 rfl rfl)
theorem dX3_leaves_68 : decode cX3_leaves 68 = .ok (.iaload, 1) := dk_46 (dk_at dksX3_leaves_2 22 rfl rfl)
theorem dX3_leaves_69 : decode cX3_leaves 69 = .ok (.if_icmp .ge 42, 3) := dk_162 0 42 (dk_at dksX3_leaves_3 0 rfl rfl)
theorem dX3_leaves_72 : decode cX3_leaves 72 = .ok (.aload_n 0, 1) := dk_42 (dk_at dksX3_leaves_3 3 rfl rfl)
theorem dX3_leaves_73 : decode cX3_leaves 73 = .ok (.getfield 38, 3) := dk_180 0 38 (dk_at dksX3_leaves_3 4 rfl rfl)
theorem dX3_leaves_76 : decode cX3_leaves 76 = .ok (.iconst 1, 1) := dk_4 (dk_at dksX3_leaves_3 7 rfl rfl)
theorem dX3_leaves_77 : decode cX3_leaves 77 = .ok (.iload_n 2, 1) := dk_28 (dk_at dksX3_leaves_3 8 rfl rfl)
theorem dX3_leaves_78 : decode cX3_leaves 78 = .ok (.invokestatic 83, 3) := dk_184 0 83 (dk_at dksX3_leaves_3 9 rfl rfl)
theorem dX3_leaves_81 : decode cX3_leaves 81 = .ok (.iaload, 1) := dk_46 (dk_at dksX3_leaves_3 12 rfl rfl)
theorem dX3_leaves_82 : decode cX3_leaves 82 = .ok (.iload_n 1, 1) := dk_27 (dk_at dksX3_leaves_3 13 rfl rfl)
theorem dX3_leaves_83 : decode cX3_leaves 83 = .ok (.if_icmp .ne 22, 3) := dk_160 0 22 (dk_at dksX3_leaves_3 14 rfl rfl)
theorem dX3_leaves_86 : decode cX3_leaves 86 = .ok (.aload_n 0, 1) := dk_42 (dk_at dksX3_leaves_3 17 rfl rfl)
theorem dX3_leaves_87 : decode cX3_leaves 87 = .ok (.iload_n 2, 1) := dk_28 (dk_at dksX3_leaves_3 18 rfl rfl)
theorem dX3_leaves_88 : decode cX3_leaves 88 = .ok (.invokevirtual 94, 3) := dk_182 0 94 (dk_at dksX3_leaves_3 19 rfl rfl)
theorem dX3_leaves_91 : decode cX3_leaves 91 = .ok (.aload_n 0, 1) := dk_42 (dk_at dksX3_leaves_3 22 rfl rfl)
theorem dX3_leaves_92 : decode cX3_leaves 92 = .ok (.getfield 41, 3) := dk_180 0 41 (dk_at dksX3_leaves_4 0 rfl rfl)
theorem dX3_leaves_95 : decode cX3_leaves 95 = .ok (.iconst 1, 1) := dk_4 (dk_at dksX3_leaves_4 3 rfl rfl)
theorem dX3_leaves_96 : decode cX3_leaves 96 = .ok (.iload_n 2, 1) := dk_28 (dk_at dksX3_leaves_4 4 rfl rfl)
theorem dX3_leaves_97 : decode cX3_leaves 97 = .ok (.invokestatic 83, 3) := dk_184 0 83 (dk_at dksX3_leaves_4 5 rfl rfl)
theorem dX3_leaves_100 : decode cX3_leaves 100 = .ok (.dup2, 1) := dk_92 (dk_at dksX3_leaves_4 8 rfl rfl)
theorem dX3_leaves_101 : decode cX3_leaves 101 = .ok (.iaload, 1) := dk_46 (dk_at dksX3_leaves_4 9 rfl rfl)
theorem dX3_leaves_102 : decode cX3_leaves 102 = .ok (.iconst 1, 1) := dk_4 (dk_at dksX3_leaves_4 10 rfl rfl)
theorem dX3_leaves_103 : decode cX3_leaves 103 = .ok (.iadd, 1) := dk_96 (dk_at dksX3_leaves_4 11 rfl rfl)
theorem dX3_leaves_104 : decode cX3_leaves 104 = .ok (.iastore, 1) := dk_79 (dk_at dksX3_leaves_4 12 rfl rfl)
theorem dX3_leaves_105 : decode cX3_leaves 105 = .ok (.iinc 2 1, 3) := dk_132 2 1 (dk_at dksX3_leaves_4 13 rfl rfl)
theorem dX3_leaves_108 : decode cX3_leaves 108 = .ok (.goto (-46), 3) := dk_167 255 210 (dk_at dksX3_leaves_4 16 rfl rfl)
theorem dX3_leaves_111 : decode cX3_leaves 111 = .ok (.iconst 0, 1) := dk_3 (dk_at dksX3_leaves_4 19 rfl rfl)
theorem dX3_leaves_112 : decode cX3_leaves 112 = .ok (.istore_n 2, 1) := dk_61 (dk_at dksX3_leaves_4 20 rfl rfl)
theorem dX3_leaves_113 : decode cX3_leaves 113 = .ok (.iload_n 2, 1) := dk_28 (dk_at dksX3_leaves_4 21 rfl rfl)
theorem dX3_leaves_114 : decode cX3_leaves 114 = .ok (.aload_n 0, 1) := dk_42 (dk_at dksX3_leaves_4 22 rfl rfl)
theorem dX3_leaves_115 : decode cX3_leaves 115 = .ok (.getfield 32, 3) := dk_180 0 32 (dk_at dksX3_leaves_5 0 rfl rfl)
theorem dX3_leaves_118 : decode cX3_leaves 118 = .ok (.iconst 0, 1) := dk_3 (dk_at dksX3_leaves_5 3 rfl rfl)
theorem dX3_leaves_119 : decode cX3_leaves 119 = .ok (.iaload, 1) := dk_46 (dk_at dksX3_leaves_5 4 rfl rfl)
theorem dX3_leaves_120 : decode cX3_leaves 120 = .ok (.if_icmp .ge 42, 3) := dk_162 0 42 (dk_at dksX3_leaves_5 5 rfl rfl)
theorem dX3_leaves_123 : decode cX3_leaves 123 = .ok (.aload_n 0, 1) := dk_42 (dk_at dksX3_leaves_5 8 rfl rfl)
theorem dX3_leaves_124 : decode cX3_leaves 124 = .ok (.getfield 38, 3) := dk_180 0 38 (dk_at dksX3_leaves_5 9 rfl rfl)
theorem dX3_leaves_127 : decode cX3_leaves 127 = .ok (.iconst 0, 1) := dk_3 (dk_at dksX3_leaves_5 12 rfl rfl)
theorem dX3_leaves_128 : decode cX3_leaves 128 = .ok (.iload_n 2, 1) := dk_28 (dk_at dksX3_leaves_5 13 rfl rfl)
theorem dX3_leaves_129 : decode cX3_leaves 129 = .ok (.invokestatic 83, 3) := dk_184 0 83 (dk_at dksX3_leaves_5 14 rfl rfl)
theorem dX3_leaves_132 : decode cX3_leaves 132 = .ok (.iaload, 1) := dk_46 (dk_at dksX3_leaves_5 17 rfl rfl)
theorem dX3_leaves_133 : decode cX3_leaves 133 = .ok (.iload_n 1, 1) := dk_27 (dk_at dksX3_leaves_5 18 rfl rfl)
theorem dX3_leaves_134 : decode cX3_leaves 134 = .ok (.if_icmp .ne 22, 3) := dk_160 0 22 (dk_at dksX3_leaves_5 19 rfl rfl)
theorem dX3_leaves_137 : decode cX3_leaves 137 = .ok (.aload_n 0, 1) := dk_42 (dk_at dksX3_leaves_5 22 rfl rfl)
theorem dX3_leaves_138 : decode cX3_leaves 138 = .ok (.iload_n 2, 1) := dk_28 (dk_at dksX3_leaves_5 23 rfl rfl)
theorem dX3_leaves_139 : decode cX3_leaves 139 = .ok (.invokevirtual 98, 3) := dk_182 0 98 (dk_at dksX3_leaves_6 0 rfl rfl)
theorem dX3_leaves_142 : decode cX3_leaves 142 = .ok (.aload_n 0, 1) := dk_42 (dk_at dksX3_leaves_6 3 rfl rfl)
theorem dX3_leaves_143 : decode cX3_leaves 143 = .ok (.getfield 41, 3) := dk_180 0 41 (dk_at dksX3_leaves_6 4 rfl rfl)
theorem dX3_leaves_146 : decode cX3_leaves 146 = .ok (.iconst 0, 1) := dk_3 (dk_at dksX3_leaves_6 7 rfl rfl)
theorem dX3_leaves_147 : decode cX3_leaves 147 = .ok (.iload_n 2, 1) := dk_28 (dk_at dksX3_leaves_6 8 rfl rfl)
theorem dX3_leaves_148 : decode cX3_leaves 148 = .ok (.invokestatic 83, 3) := dk_184 0 83 (dk_at dksX3_leaves_6 9 rfl rfl)
theorem dX3_leaves_151 : decode cX3_leaves 151 = .ok (.dup2, 1) := dk_92 (dk_at dksX3_leaves_6 12 rfl rfl)
theorem dX3_leaves_152 : decode cX3_leaves 152 = .ok (.iaload, 1) := dk_46 (dk_at dksX3_leaves_6 13 rfl rfl)
theorem dX3_leaves_153 : decode cX3_leaves 153 = .ok (.iconst 1, 1) := dk_4 (dk_at dksX3_leaves_6 14 rfl rfl)
theorem dX3_leaves_154 : decode cX3_leaves 154 = .ok (.iadd, 1) := dk_96 (dk_at dksX3_leaves_6 15 rfl rfl)
theorem dX3_leaves_155 : decode cX3_leaves 155 = .ok (.iastore, 1) := dk_79 (dk_at dksX3_leaves_6 16 rfl rfl)
theorem dX3_leaves_156 : decode cX3_leaves 156 = .ok (.iinc 2 1, 3) := dk_132 2 1 (dk_at dksX3_leaves_6 17 rfl rfl)
theorem dX3_leaves_159 : decode cX3_leaves 159 = .ok (.goto (-46), 3) := dk_167 255 210 (dk_at dksX3_leaves_6 20 rfl rfl)
theorem dX3_leaves_162 : decode cX3_leaves 162 = .ok (.return_, 1) := dk_177 (dk_at dksX3_leaves_6 23 rfl rfl)
abbrev cX3_placesInterrupt : ByteArray := prog_15_method_16_code
def yX3_placesInterrupt : MethodName := ⟨RX3, "placesInterrupt", "(I)V"⟩
def dkwX3_placesInterrupt_2 : List UInt8 := [180, 0, 38, 4, 27, 184, 0, 83, 28, 79, 177]
abbrev dktX3_placesInterrupt_2 : List UInt8 := dkwX3_placesInterrupt_2 ++ []
def dkwX3_placesInterrupt_1 : List UInt8 := [160, 0, 7, 4, 167, 0, 4, 3, 84, 42, 180, 0, 44, 27, 51, 153, 0, 8, 42, 182, 0, 90, 61, 42]
abbrev dktX3_placesInterrupt_1 : List UInt8 := dkwX3_placesInterrupt_1 ++ dktX3_placesInterrupt_2
def dkwX3_placesInterrupt_0 : List UInt8 := [42, 42, 180, 0, 35, 4, 27, 184, 0, 83, 46, 182, 0, 79, 61, 42, 180, 0, 44, 27, 28, 2]
abbrev dktX3_placesInterrupt_0 : List UInt8 := dkwX3_placesInterrupt_0 ++ dktX3_placesInterrupt_1
theorem dksX3_placesInterrupt_0 : cX3_placesInterrupt.data.toList.drop 0 = dktX3_placesInterrupt_0 := by decide +kernel
theorem dksX3_placesInterrupt_1 : cX3_placesInterrupt.data.toList.drop 22 = dktX3_placesInterrupt_1 := dk_seg dksX3_placesInterrupt_0 22 rfl rfl
theorem dksX3_placesInterrupt_2 : cX3_placesInterrupt.data.toList.drop 46 = dktX3_placesInterrupt_2 := dk_seg dksX3_placesInterrupt_1 24 rfl rfl
theorem dX3_placesInterrupt_0 : decode cX3_placesInterrupt 0 = .ok (.aload_n 0, 1) := dk_42 (dk_at dksX3_placesInterrupt_0 0 rfl rfl)
theorem dX3_placesInterrupt_1 : decode cX3_placesInterrupt 1 = .ok (.aload_n 0, 1) := dk_42 (dk_at dksX3_placesInterrupt_0 1 rfl rfl)
theorem dX3_placesInterrupt_2 : decode cX3_placesInterrupt 2 = .ok (.getfield 35, 3) := dk_180 0 35 (dk_at dksX3_placesInterrupt_0 2 rfl rfl)
theorem dX3_placesInterrupt_5 : decode cX3_placesInterrupt 5 = .ok (.iconst 1, 1) := dk_4 (dk_at dksX3_placesInterrupt_0 5 rfl rfl)
theorem dX3_placesInterrupt_6 : decode cX3_placesInterrupt 6 = .ok (.iload_n 1, 1) := dk_27 (dk_at dksX3_placesInterrupt_0 6 rfl rfl)
theorem dX3_placesInterrupt_7 : decode cX3_placesInterrupt 7 = .ok (.invokestatic 83, 3) := dk_184 0 83 (dk_at dksX3_placesInterrupt_0 7 rfl rfl)
theorem dX3_placesInterrupt_10 : decode cX3_placesInterrupt 10 = .ok (.iaload, 1) := dk_46 (dk_at dksX3_placesInterrupt_0 10 rfl rfl)
theorem dX3_placesInterrupt_11 : decode cX3_placesInterrupt 11 = .ok (.invokevirtual 79, 3) := dk_182 0 79 (dk_at dksX3_placesInterrupt_0 11 rfl rfl)
theorem dX3_placesInterrupt_14 : decode cX3_placesInterrupt 14 = .ok (.istore_n 2, 1) := dk_61 (dk_at dksX3_placesInterrupt_0 14 rfl rfl)
theorem dX3_placesInterrupt_15 : decode cX3_placesInterrupt 15 = .ok (.aload_n 0, 1) := dk_42 (dk_at dksX3_placesInterrupt_0 15 rfl rfl)
theorem dX3_placesInterrupt_16 : decode cX3_placesInterrupt 16 = .ok (.getfield 44, 3) := dk_180 0 44 (dk_at dksX3_placesInterrupt_0 16 rfl rfl)
theorem dX3_placesInterrupt_19 : decode cX3_placesInterrupt 19 = .ok (.iload_n 1, 1) := dk_27 (dk_at dksX3_placesInterrupt_0 19 rfl rfl)
theorem dX3_placesInterrupt_20 : decode cX3_placesInterrupt 20 = .ok (.iload_n 2, 1) := dk_28 (dk_at dksX3_placesInterrupt_0 20 rfl rfl)
theorem dX3_placesInterrupt_21 : decode cX3_placesInterrupt 21 = .ok (.iconst (-1), 1) := dk_2 (dk_at dksX3_placesInterrupt_0 21 rfl rfl)
theorem dX3_placesInterrupt_22 : decode cX3_placesInterrupt 22 = .ok (.if_icmp .ne 7, 3) := dk_160 0 7 (dk_at dksX3_placesInterrupt_1 0 rfl rfl)
theorem dX3_placesInterrupt_25 : decode cX3_placesInterrupt 25 = .ok (.iconst 1, 1) := dk_4 (dk_at dksX3_placesInterrupt_1 3 rfl rfl)
theorem dX3_placesInterrupt_26 : decode cX3_placesInterrupt 26 = .ok (.goto 4, 3) := dk_167 0 4 (dk_at dksX3_placesInterrupt_1 4 rfl rfl)
theorem dX3_placesInterrupt_29 : decode cX3_placesInterrupt 29 = .ok (.iconst 0, 1) := dk_3 (dk_at dksX3_placesInterrupt_1 7 rfl rfl)
theorem dX3_placesInterrupt_30 : decode cX3_placesInterrupt 30 = .ok (.bastore, 1) := dk_84 (dk_at dksX3_placesInterrupt_1 8 rfl rfl)
theorem dX3_placesInterrupt_31 : decode cX3_placesInterrupt 31 = .ok (.aload_n 0, 1) := dk_42 (dk_at dksX3_placesInterrupt_1 9 rfl rfl)
theorem dX3_placesInterrupt_32 : decode cX3_placesInterrupt 32 = .ok (.getfield 44, 3) := dk_180 0 44 (dk_at dksX3_placesInterrupt_1 10 rfl rfl)
theorem dX3_placesInterrupt_35 : decode cX3_placesInterrupt 35 = .ok (.iload_n 1, 1) := dk_27 (dk_at dksX3_placesInterrupt_1 13 rfl rfl)
theorem dX3_placesInterrupt_36 : decode cX3_placesInterrupt 36 = .ok (.baload, 1) := dk_51 (dk_at dksX3_placesInterrupt_1 14 rfl rfl)
theorem dX3_placesInterrupt_37 : decode cX3_placesInterrupt 37 = .ok (.ifCond .eq 8, 3) := dk_153 0 8 (dk_at dksX3_placesInterrupt_1 15 rfl rfl)
theorem dX3_placesInterrupt_40 : decode cX3_placesInterrupt 40 = .ok (.aload_n 0, 1) := dk_42 (dk_at dksX3_placesInterrupt_1 18 rfl rfl)
theorem dX3_placesInterrupt_41 : decode cX3_placesInterrupt 41 = .ok (.invokevirtual 90, 3) := dk_182 0 90 (dk_at dksX3_placesInterrupt_1 19 rfl rfl)
theorem dX3_placesInterrupt_44 : decode cX3_placesInterrupt 44 = .ok (.istore_n 2, 1) := dk_61 (dk_at dksX3_placesInterrupt_1 22 rfl rfl)
theorem dX3_placesInterrupt_45 : decode cX3_placesInterrupt 45 = .ok (.aload_n 0, 1) := dk_42 (dk_at dksX3_placesInterrupt_1 23 rfl rfl)
theorem dX3_placesInterrupt_46 : decode cX3_placesInterrupt 46 = .ok (.getfield 38, 3) := dk_180 0 38 (dk_at dksX3_placesInterrupt_2 0 rfl rfl)
theorem dX3_placesInterrupt_49 : decode cX3_placesInterrupt 49 = .ok (.iconst 1, 1) := dk_4 (dk_at dksX3_placesInterrupt_2 3 rfl rfl)
theorem dX3_placesInterrupt_50 : decode cX3_placesInterrupt 50 = .ok (.iload_n 1, 1) := dk_27 (dk_at dksX3_placesInterrupt_2 4 rfl rfl)
theorem dX3_placesInterrupt_51 : decode cX3_placesInterrupt 51 = .ok (.invokestatic 83, 3) := dk_184 0 83 (dk_at dksX3_placesInterrupt_2 5 rfl rfl)
theorem dX3_placesInterrupt_54 : decode cX3_placesInterrupt 54 = .ok (.iload_n 2, 1) := dk_28 (dk_at dksX3_placesInterrupt_2 8 rfl rfl)
theorem dX3_placesInterrupt_55 : decode cX3_placesInterrupt 55 = .ok (.iastore, 1) := dk_79 (dk_at dksX3_placesInterrupt_2 9 rfl rfl)
theorem dX3_placesInterrupt_56 : decode cX3_placesInterrupt 56 = .ok (.return_, 1) := dk_177 (dk_at dksX3_placesInterrupt_2 10 rfl rfl)
abbrev cX3_down : ByteArray := prog_15_method_38_code
def yX3_down : MethodName := ⟨RX3, "down", "(II)I"⟩
def dkwX3_down_4 : List UInt8 := [167, 255, 233, 42, 42, 180, 0, 7, 27, 46, 182, 0, 125, 172]
abbrev dktX3_down_4 : List UInt8 := dkwX3_down_4 ++ []
def dkwX3_down_3 : List UInt8 := [21, 4, 154, 0, 24, 42, 180, 0, 7, 27, 46, 29, 162, 0, 14, 42, 27, 3, 182, 0, 150, 54, 5]
abbrev dktX3_down_3 : List UInt8 := dkwX3_down_3 ++ dktX3_down_4
def dkwX3_down_2 : List UInt8 := [153, 0, 24, 42, 180, 0, 7, 27, 46, 28, 164, 0, 14, 42, 27, 4, 182, 0, 154, 54, 4, 167, 255, 233]
abbrev dktX3_down_2 : List UInt8 := dkwX3_down_2 ++ dktX3_down_3
def dkwX3_down_1 : List UInt8 := [184, 0, 61, 154, 0, 9, 42, 5, 182, 0, 128, 172, 42, 180, 0, 7, 27, 46, 62, 4, 54, 4, 21, 4]
abbrev dktX3_down_1 : List UInt8 := dkwX3_down_1 ++ dktX3_down_2
def dkwX3_down_0 : List UInt8 := [42, 27, 182, 0, 147, 154, 0, 9, 42, 4, 182, 0, 128, 172, 28, 3, 42, 180, 0, 7, 27, 46, 4, 100]
abbrev dktX3_down_0 : List UInt8 := dkwX3_down_0 ++ dktX3_down_1
theorem dksX3_down_0 : cX3_down.data.toList.drop 0 = dktX3_down_0 := by decide +kernel
theorem dksX3_down_1 : cX3_down.data.toList.drop 24 = dktX3_down_1 := dk_seg dksX3_down_0 24 rfl rfl
theorem dksX3_down_2 : cX3_down.data.toList.drop 48 = dktX3_down_2 := dk_seg dksX3_down_1 24 rfl rfl
theorem dksX3_down_3 : cX3_down.data.toList.drop 72 = dktX3_down_3 := dk_seg dksX3_down_2 24 rfl rfl
theorem dksX3_down_4 : cX3_down.data.toList.drop 95 = dktX3_down_4 := dk_seg dksX3_down_3 23 rfl rfl
theorem dX3_down_0 : decode cX3_down 0 = .ok (.aload_n 0, 1) := dk_42 (dk_at dksX3_down_0 0 rfl rfl)
theorem dX3_down_1 : decode cX3_down 1 = .ok (.iload_n 1, 1) := dk_27 (dk_at dksX3_down_0 1 rfl rfl)
theorem dX3_down_2 : decode cX3_down 2 = .ok (.invokevirtual 147, 3) := dk_182 0 147 (dk_at dksX3_down_0 2 rfl rfl)
theorem dX3_down_5 : decode cX3_down 5 = .ok (.ifCond .ne 9, 3) := dk_154 0 9 (dk_at dksX3_down_0 5 rfl rfl)
theorem dX3_down_8 : decode cX3_down 8 = .ok (.aload_n 0, 1) := dk_42 (dk_at dksX3_down_0 8 rfl rfl)
theorem dX3_down_9 : decode cX3_down 9 = .ok (.iconst 1, 1) := dk_4 (dk_at dksX3_down_0 9 rfl rfl)
theorem dX3_down_10 : decode cX3_down 10 = .ok (.invokevirtual 128, 3) := dk_182 0 128 (dk_at dksX3_down_0 10 rfl rfl)
theorem dX3_down_13 : decode cX3_down 13 = .ok (.ireturn, 1) := dk_172 (dk_at dksX3_down_0 13 rfl rfl)
theorem dX3_down_14 : decode cX3_down 14 = .ok (.iload_n 2, 1) := dk_28 (dk_at dksX3_down_0 14 rfl rfl)
theorem dX3_down_15 : decode cX3_down 15 = .ok (.iconst 0, 1) := dk_3 (dk_at dksX3_down_0 15 rfl rfl)
theorem dX3_down_16 : decode cX3_down 16 = .ok (.aload_n 0, 1) := dk_42 (dk_at dksX3_down_0 16 rfl rfl)
theorem dX3_down_17 : decode cX3_down 17 = .ok (.getfield 7, 3) := dk_180 0 7 (dk_at dksX3_down_0 17 rfl rfl)
theorem dX3_down_20 : decode cX3_down 20 = .ok (.iload_n 1, 1) := dk_27 (dk_at dksX3_down_0 20 rfl rfl)
theorem dX3_down_21 : decode cX3_down 21 = .ok (.iaload, 1) := dk_46 (dk_at dksX3_down_0 21 rfl rfl)
theorem dX3_down_22 : decode cX3_down 22 = .ok (.iconst 1, 1) := dk_4 (dk_at dksX3_down_0 22 rfl rfl)
theorem dX3_down_23 : decode cX3_down 23 = .ok (.isub, 1) := dk_100 (dk_at dksX3_down_0 23 rfl rfl)
theorem dX3_down_24 : decode cX3_down 24 = .ok (.invokestatic 61, 3) := dk_184 0 61 (dk_at dksX3_down_1 0 rfl rfl)
theorem dX3_down_27 : decode cX3_down 27 = .ok (.ifCond .ne 9, 3) := dk_154 0 9 (dk_at dksX3_down_1 3 rfl rfl)
theorem dX3_down_30 : decode cX3_down 30 = .ok (.aload_n 0, 1) := dk_42 (dk_at dksX3_down_1 6 rfl rfl)
theorem dX3_down_31 : decode cX3_down 31 = .ok (.iconst 2, 1) := dk_5 (dk_at dksX3_down_1 7 rfl rfl)
theorem dX3_down_32 : decode cX3_down 32 = .ok (.invokevirtual 128, 3) := dk_182 0 128 (dk_at dksX3_down_1 8 rfl rfl)
theorem dX3_down_35 : decode cX3_down 35 = .ok (.ireturn, 1) := dk_172 (dk_at dksX3_down_1 11 rfl rfl)
theorem dX3_down_36 : decode cX3_down 36 = .ok (.aload_n 0, 1) := dk_42 (dk_at dksX3_down_1 12 rfl rfl)
theorem dX3_down_37 : decode cX3_down 37 = .ok (.getfield 7, 3) := dk_180 0 7 (dk_at dksX3_down_1 13 rfl rfl)
theorem dX3_down_40 : decode cX3_down 40 = .ok (.iload_n 1, 1) := dk_27 (dk_at dksX3_down_1 16 rfl rfl)
theorem dX3_down_41 : decode cX3_down 41 = .ok (.iaload, 1) := dk_46 (dk_at dksX3_down_1 17 rfl rfl)
theorem dX3_down_42 : decode cX3_down 42 = .ok (.istore_n 3, 1) := dk_62 (dk_at dksX3_down_1 18 rfl rfl)
theorem dX3_down_43 : decode cX3_down 43 = .ok (.iconst 1, 1) := dk_4 (dk_at dksX3_down_1 19 rfl rfl)
theorem dX3_down_44 : decode cX3_down 44 = .ok (.istore 4, 2) := dk_54 4 (dk_at dksX3_down_1 20 rfl rfl)
theorem dX3_down_46 : decode cX3_down 46 = .ok (.iload 4, 2) := dk_21 4 (dk_at dksX3_down_1 22 rfl rfl)
theorem dX3_down_48 : decode cX3_down 48 = .ok (.ifCond .eq 24, 3) := dk_153 0 24 (dk_at dksX3_down_2 0 rfl rfl)
theorem dX3_down_51 : decode cX3_down 51 = .ok (.aload_n 0, 1) := dk_42 (dk_at dksX3_down_2 3 rfl rfl)
theorem dX3_down_52 : decode cX3_down 52 = .ok (.getfield 7, 3) := dk_180 0 7 (dk_at dksX3_down_2 4 rfl rfl)
theorem dX3_down_55 : decode cX3_down 55 = .ok (.iload_n 1, 1) := dk_27 (dk_at dksX3_down_2 7 rfl rfl)
theorem dX3_down_56 : decode cX3_down 56 = .ok (.iaload, 1) := dk_46 (dk_at dksX3_down_2 8 rfl rfl)
theorem dX3_down_57 : decode cX3_down 57 = .ok (.iload_n 2, 1) := dk_28 (dk_at dksX3_down_2 9 rfl rfl)
theorem dX3_down_58 : decode cX3_down 58 = .ok (.if_icmp .le 14, 3) := dk_164 0 14 (dk_at dksX3_down_2 10 rfl rfl)
theorem dX3_down_61 : decode cX3_down 61 = .ok (.aload_n 0, 1) := dk_42 (dk_at dksX3_down_2 13 rfl rfl)
theorem dX3_down_62 : decode cX3_down 62 = .ok (.iload_n 1, 1) := dk_27 (dk_at dksX3_down_2 14 rfl rfl)
theorem dX3_down_63 : decode cX3_down 63 = .ok (.iconst 1, 1) := dk_4 (dk_at dksX3_down_2 15 rfl rfl)
theorem dX3_down_64 : decode cX3_down 64 = .ok (.invokevirtual 154, 3) := dk_182 0 154 (dk_at dksX3_down_2 16 rfl rfl)
theorem dX3_down_67 : decode cX3_down 67 = .ok (.istore 4, 2) := dk_54 4 (dk_at dksX3_down_2 19 rfl rfl)
theorem dX3_down_69 : decode cX3_down 69 = .ok (.goto (-23), 3) := dk_167 255 233 (dk_at dksX3_down_2 21 rfl rfl)
theorem dX3_down_72 : decode cX3_down 72 = .ok (.iload 4, 2) := dk_21 4 (dk_at dksX3_down_3 0 rfl rfl)
theorem dX3_down_74 : decode cX3_down 74 = .ok (.ifCond .ne 24, 3) := dk_154 0 24 (dk_at dksX3_down_3 2 rfl rfl)
theorem dX3_down_77 : decode cX3_down 77 = .ok (.aload_n 0, 1) := dk_42 (dk_at dksX3_down_3 5 rfl rfl)
theorem dX3_down_78 : decode cX3_down 78 = .ok (.getfield 7, 3) := dk_180 0 7 (dk_at dksX3_down_3 6 rfl rfl)
theorem dX3_down_81 : decode cX3_down 81 = .ok (.iload_n 1, 1) := dk_27 (dk_at dksX3_down_3 9 rfl rfl)
theorem dX3_down_82 : decode cX3_down 82 = .ok (.iaload, 1) := dk_46 (dk_at dksX3_down_3 10 rfl rfl)
theorem dX3_down_83 : decode cX3_down 83 = .ok (.iload_n 3, 1) := dk_29 (dk_at dksX3_down_3 11 rfl rfl)
theorem dX3_down_84 : decode cX3_down 84 = .ok (.if_icmp .ge 14, 3) := dk_162 0 14 (dk_at dksX3_down_3 12 rfl rfl)
theorem dX3_down_87 : decode cX3_down 87 = .ok (.aload_n 0, 1) := dk_42 (dk_at dksX3_down_3 15 rfl rfl)
theorem dX3_down_88 : decode cX3_down 88 = .ok (.iload_n 1, 1) := dk_27 (dk_at dksX3_down_3 16 rfl rfl)
theorem dX3_down_89 : decode cX3_down 89 = .ok (.iconst 0, 1) := dk_3 (dk_at dksX3_down_3 17 rfl rfl)
theorem dX3_down_90 : decode cX3_down 90 = .ok (.invokevirtual 150, 3) := dk_182 0 150 (dk_at dksX3_down_3 18 rfl rfl)
theorem dX3_down_93 : decode cX3_down 93 = .ok (.istore 5, 2) := dk_54 5 (dk_at dksX3_down_3 21 rfl rfl)
theorem dX3_down_95 : decode cX3_down 95 = .ok (.goto (-23), 3) := dk_167 255 233 (dk_at dksX3_down_4 0 rfl rfl)
theorem dX3_down_98 : decode cX3_down 98 = .ok (.aload_n 0, 1) := dk_42 (dk_at dksX3_down_4 3 rfl rfl)
theorem dX3_down_99 : decode cX3_down 99 = .ok (.aload_n 0, 1) := dk_42 (dk_at dksX3_down_4 4 rfl rfl)
theorem dX3_down_100 : decode cX3_down 100 = .ok (.getfield 7, 3) := dk_180 0 7 (dk_at dksX3_down_4 5 rfl rfl)
theorem dX3_down_103 : decode cX3_down 103 = .ok (.iload_n 1, 1) := dk_27 (dk_at dksX3_down_4 8 rfl rfl)
theorem dX3_down_104 : decode cX3_down 104 = .ok (.iaload, 1) := dk_46 (dk_at dksX3_down_4 9 rfl rfl)
theorem dX3_down_105 : decode cX3_down 105 = .ok (.invokevirtual 125, 3) := dk_182 0 125 (dk_at dksX3_down_4 10 rfl rfl)
theorem dX3_down_108 : decode cX3_down 108 = .ok (.ireturn, 1) := dk_172 (dk_at dksX3_down_4 13 rfl rfl)
abbrev cX3_thread : ByteArray := prog_15_method_40_code
def yX3_thread : MethodName := ⟨RX3, "thread", "(I)I"⟩
def dkwX3_thread_2 : List UInt8 := [28, 182, 0, 125, 172]
abbrev dktX3_thread_2 : List UInt8 := dkwX3_thread_2 ++ []
def dkwX3_thread_1 : List UInt8 := [16, 16, 160, 0, 9, 42, 5, 182, 0, 128, 172, 42, 3, 27, 182, 0, 157, 61, 42, 28, 182, 0, 98, 42]
abbrev dktX3_thread_1 : List UInt8 := dkwX3_thread_1 ++ dktX3_thread_2
def dkwX3_thread_0 : List UInt8 := [27, 4, 17, 0, 255, 184, 0, 61, 154, 0, 9, 42, 4, 182, 0, 128, 172, 42, 180, 0, 32, 3, 46]
abbrev dktX3_thread_0 : List UInt8 := dkwX3_thread_0 ++ dktX3_thread_1
theorem dksX3_thread_0 : cX3_thread.data.toList.drop 0 = dktX3_thread_0 := by decide +kernel
theorem dksX3_thread_1 : cX3_thread.data.toList.drop 23 = dktX3_thread_1 := dk_seg dksX3_thread_0 23 rfl rfl
theorem dksX3_thread_2 : cX3_thread.data.toList.drop 47 = dktX3_thread_2 := dk_seg dksX3_thread_1 24 rfl rfl
theorem dX3_thread_0 : decode cX3_thread 0 = .ok (.iload_n 1, 1) := dk_27 (dk_at dksX3_thread_0 0 rfl rfl)
theorem dX3_thread_1 : decode cX3_thread 1 = .ok (.iconst 1, 1) := dk_4 (dk_at dksX3_thread_0 1 rfl rfl)
theorem dX3_thread_2 : decode cX3_thread 2 = .ok (.sipush 255, 3) := dk_17 0 255 (dk_at dksX3_thread_0 2 rfl rfl)
theorem dX3_thread_5 : decode cX3_thread 5 = .ok (.invokestatic 61, 3) := dk_184 0 61 (dk_at dksX3_thread_0 5 rfl rfl)
theorem dX3_thread_8 : decode cX3_thread 8 = .ok (.ifCond .ne 9, 3) := dk_154 0 9 (dk_at dksX3_thread_0 8 rfl rfl)
theorem dX3_thread_11 : decode cX3_thread 11 = .ok (.aload_n 0, 1) := dk_42 (dk_at dksX3_thread_0 11 rfl rfl)
theorem dX3_thread_12 : decode cX3_thread 12 = .ok (.iconst 1, 1) := dk_4 (dk_at dksX3_thread_0 12 rfl rfl)
theorem dX3_thread_13 : decode cX3_thread 13 = .ok (.invokevirtual 128, 3) := dk_182 0 128 (dk_at dksX3_thread_0 13 rfl rfl)
theorem dX3_thread_16 : decode cX3_thread 16 = .ok (.ireturn, 1) := dk_172 (dk_at dksX3_thread_0 16 rfl rfl)
theorem dX3_thread_17 : decode cX3_thread 17 = .ok (.aload_n 0, 1) := dk_42 (dk_at dksX3_thread_0 17 rfl rfl)
theorem dX3_thread_18 : decode cX3_thread 18 = .ok (.getfield 32, 3) := dk_180 0 32 (dk_at dksX3_thread_0 18 rfl rfl)
theorem dX3_thread_21 : decode cX3_thread 21 = .ok (.iconst 0, 1) := dk_3 (dk_at dksX3_thread_0 21 rfl rfl)
theorem dX3_thread_22 : decode cX3_thread 22 = .ok (.iaload, 1) := dk_46 (dk_at dksX3_thread_0 22 rfl rfl)
theorem dX3_thread_23 : decode cX3_thread 23 = .ok (.bipush 16, 2) := dk_16 16 (dk_at dksX3_thread_1 0 rfl rfl)
theorem dX3_thread_25 : decode cX3_thread 25 = .ok (.if_icmp .ne 9, 3) := dk_160 0 9 (dk_at dksX3_thread_1 2 rfl rfl)
theorem dX3_thread_28 : decode cX3_thread 28 = .ok (.aload_n 0, 1) := dk_42 (dk_at dksX3_thread_1 5 rfl rfl)
theorem dX3_thread_29 : decode cX3_thread 29 = .ok (.iconst 2, 1) := dk_5 (dk_at dksX3_thread_1 6 rfl rfl)
theorem dX3_thread_30 : decode cX3_thread 30 = .ok (.invokevirtual 128, 3) := dk_182 0 128 (dk_at dksX3_thread_1 7 rfl rfl)
theorem dX3_thread_33 : decode cX3_thread 33 = .ok (.ireturn, 1) := dk_172 (dk_at dksX3_thread_1 10 rfl rfl)
theorem dX3_thread_34 : decode cX3_thread 34 = .ok (.aload_n 0, 1) := dk_42 (dk_at dksX3_thread_1 11 rfl rfl)
theorem dX3_thread_35 : decode cX3_thread 35 = .ok (.iconst 0, 1) := dk_3 (dk_at dksX3_thread_1 12 rfl rfl)
theorem dX3_thread_36 : decode cX3_thread 36 = .ok (.iload_n 1, 1) := dk_27 (dk_at dksX3_thread_1 13 rfl rfl)
theorem dX3_thread_37 : decode cX3_thread 37 = .ok (.invokevirtual 157, 3) := dk_182 0 157 (dk_at dksX3_thread_1 14 rfl rfl)
theorem dX3_thread_40 : decode cX3_thread 40 = .ok (.istore_n 2, 1) := dk_61 (dk_at dksX3_thread_1 17 rfl rfl)
theorem dX3_thread_41 : decode cX3_thread 41 = .ok (.aload_n 0, 1) := dk_42 (dk_at dksX3_thread_1 18 rfl rfl)
theorem dX3_thread_42 : decode cX3_thread 42 = .ok (.iload_n 2, 1) := dk_28 (dk_at dksX3_thread_1 19 rfl rfl)
theorem dX3_thread_43 : decode cX3_thread 43 = .ok (.invokevirtual 98, 3) := dk_182 0 98 (dk_at dksX3_thread_1 20 rfl rfl)
theorem dX3_thread_46 : decode cX3_thread 46 = .ok (.aload_n 0, 1) := dk_42 (dk_at dksX3_thread_1 23 rfl rfl)
theorem dX3_thread_47 : decode cX3_thread 47 = .ok (.iload_n 2, 1) := dk_28 (dk_at dksX3_thread_2 0 rfl rfl)
theorem dX3_thread_48 : decode cX3_thread 48 = .ok (.invokevirtual 125, 3) := dk_182 0 125 (dk_at dksX3_thread_2 1 rfl rfl)
theorem dX3_thread_51 : decode cX3_thread 51 = .ok (.ireturn, 1) := dk_172 (dk_at dksX3_thread_2 4 rfl rfl)
abbrev cX3_addsThing : ByteArray := prog_15_method_39_code
def yX3_addsThing : MethodName := ⟨RX3, "addsThing", "(II)I"⟩
def dkwX3_addsThing_1 : List UInt8 := [184, 0, 83, 28, 79, 42, 180, 0, 41, 27, 29, 184, 0, 83, 3, 79, 29, 172]
abbrev dktX3_addsThing_1 : List UInt8 := dkwX3_addsThing_1 ++ []
def dkwX3_addsThing_0 : List UInt8 := [42, 180, 0, 32, 27, 46, 62, 42, 180, 0, 32, 27, 92, 46, 4, 96, 79, 42, 180, 0, 35, 27, 29]
abbrev dktX3_addsThing_0 : List UInt8 := dkwX3_addsThing_0 ++ dktX3_addsThing_1
theorem dksX3_addsThing_0 : cX3_addsThing.data.toList.drop 0 = dktX3_addsThing_0 := by decide +kernel
theorem dksX3_addsThing_1 : cX3_addsThing.data.toList.drop 23 = dktX3_addsThing_1 := dk_seg dksX3_addsThing_0 23 rfl rfl
theorem dX3_addsThing_0 : decode cX3_addsThing 0 = .ok (.aload_n 0, 1) := dk_42 (dk_at dksX3_addsThing_0 0 rfl rfl)
theorem dX3_addsThing_1 : decode cX3_addsThing 1 = .ok (.getfield 32, 3) := dk_180 0 32 (dk_at dksX3_addsThing_0 1 rfl rfl)
theorem dX3_addsThing_4 : decode cX3_addsThing 4 = .ok (.iload_n 1, 1) := dk_27 (dk_at dksX3_addsThing_0 4 rfl rfl)
theorem dX3_addsThing_5 : decode cX3_addsThing 5 = .ok (.iaload, 1) := dk_46 (dk_at dksX3_addsThing_0 5 rfl rfl)
theorem dX3_addsThing_6 : decode cX3_addsThing 6 = .ok (.istore_n 3, 1) := dk_62 (dk_at dksX3_addsThing_0 6 rfl rfl)
theorem dX3_addsThing_7 : decode cX3_addsThing 7 = .ok (.aload_n 0, 1) := dk_42 (dk_at dksX3_addsThing_0 7 rfl rfl)
theorem dX3_addsThing_8 : decode cX3_addsThing 8 = .ok (.getfield 32, 3) := dk_180 0 32 (dk_at dksX3_addsThing_0 8 rfl rfl)
theorem dX3_addsThing_11 : decode cX3_addsThing 11 = .ok (.iload_n 1, 1) := dk_27 (dk_at dksX3_addsThing_0 11 rfl rfl)
theorem dX3_addsThing_12 : decode cX3_addsThing 12 = .ok (.dup2, 1) := dk_92 (dk_at dksX3_addsThing_0 12 rfl rfl)
theorem dX3_addsThing_13 : decode cX3_addsThing 13 = .ok (.iaload, 1) := dk_46 (dk_at dksX3_addsThing_0 13 rfl rfl)
theorem dX3_addsThing_14 : decode cX3_addsThing 14 = .ok (.iconst 1, 1) := dk_4 (dk_at dksX3_addsThing_0 14 rfl rfl)
theorem dX3_addsThing_15 : decode cX3_addsThing 15 = .ok (.iadd, 1) := dk_96 (dk_at dksX3_addsThing_0 15 rfl rfl)
theorem dX3_addsThing_16 : decode cX3_addsThing 16 = .ok (.iastore, 1) := dk_79 (dk_at dksX3_addsThing_0 16 rfl rfl)
theorem dX3_addsThing_17 : decode cX3_addsThing 17 = .ok (.aload_n 0, 1) := dk_42 (dk_at dksX3_addsThing_0 17 rfl rfl)
theorem dX3_addsThing_18 : decode cX3_addsThing 18 = .ok (.getfield 35, 3) := dk_180 0 35 (dk_at dksX3_addsThing_0 18 rfl rfl)
theorem dX3_addsThing_21 : decode cX3_addsThing 21 = .ok (.iload_n 1, 1) := dk_27 (dk_at dksX3_addsThing_0 21 rfl rfl)
theorem dX3_addsThing_22 : decode cX3_addsThing 22 = .ok (.iload_n 3, 1) := dk_29 (dk_at dksX3_addsThing_0 22 rfl rfl)
theorem dX3_addsThing_23 : decode cX3_addsThing 23 = .ok (.invokestatic 83, 3) := dk_184 0 83 (dk_at dksX3_addsThing_1 0 rfl rfl)
theorem dX3_addsThing_26 : decode cX3_addsThing 26 = .ok (.iload_n 2, 1) := dk_28 (dk_at dksX3_addsThing_1 3 rfl rfl)
theorem dX3_addsThing_27 : decode cX3_addsThing 27 = .ok (.iastore, 1) := dk_79 (dk_at dksX3_addsThing_1 4 rfl rfl)
theorem dX3_addsThing_28 : decode cX3_addsThing 28 = .ok (.aload_n 0, 1) := dk_42 (dk_at dksX3_addsThing_1 5 rfl rfl)
theorem dX3_addsThing_29 : decode cX3_addsThing 29 = .ok (.getfield 41, 3) := dk_180 0 41 (dk_at dksX3_addsThing_1 6 rfl rfl)
theorem dX3_addsThing_32 : decode cX3_addsThing 32 = .ok (.iload_n 1, 1) := dk_27 (dk_at dksX3_addsThing_1 9 rfl rfl)
theorem dX3_addsThing_33 : decode cX3_addsThing 33 = .ok (.iload_n 3, 1) := dk_29 (dk_at dksX3_addsThing_1 10 rfl rfl)
theorem dX3_addsThing_34 : decode cX3_addsThing 34 = .ok (.invokestatic 83, 3) := dk_184 0 83 (dk_at dksX3_addsThing_1 11 rfl rfl)
theorem dX3_addsThing_37 : decode cX3_addsThing 37 = .ok (.iconst 0, 1) := dk_3 (dk_at dksX3_addsThing_1 14 rfl rfl)
theorem dX3_addsThing_38 : decode cX3_addsThing 38 = .ok (.iastore, 1) := dk_79 (dk_at dksX3_addsThing_1 15 rfl rfl)
theorem dX3_addsThing_39 : decode cX3_addsThing 39 = .ok (.iload_n 3, 1) := dk_29 (dk_at dksX3_addsThing_1 16 rfl rfl)
theorem dX3_addsThing_40 : decode cX3_addsThing 40 = .ok (.ireturn, 1) := dk_172 (dk_at dksX3_addsThing_1 17 rfl rfl)
abbrev cX3_interrupt : ByteArray := prog_15_method_41_code
def yX3_interrupt : MethodName := ⟨RX3, "interrupt", "(I)I"⟩
def dkwX3_interrupt_2 : List UInt8 := [28, 182, 0, 125, 172]
abbrev dktX3_interrupt_2 : List UInt8 := dkwX3_interrupt_2 ++ []
def dkwX3_interrupt_1 : List UInt8 := [16, 12, 160, 0, 9, 42, 5, 182, 0, 128, 172, 42, 4, 27, 182, 0, 157, 61, 42, 28, 182, 0, 94, 42]
abbrev dktX3_interrupt_1 : List UInt8 := dkwX3_interrupt_1 ++ dktX3_interrupt_2
def dkwX3_interrupt_0 : List UInt8 := [27, 4, 17, 0, 255, 184, 0, 61, 154, 0, 9, 42, 4, 182, 0, 128, 172, 42, 180, 0, 32, 4, 46]
abbrev dktX3_interrupt_0 : List UInt8 := dkwX3_interrupt_0 ++ dktX3_interrupt_1
theorem dksX3_interrupt_0 : cX3_interrupt.data.toList.drop 0 = dktX3_interrupt_0 := by decide +kernel
theorem dksX3_interrupt_1 : cX3_interrupt.data.toList.drop 23 = dktX3_interrupt_1 := dk_seg dksX3_interrupt_0 23 rfl rfl
theorem dksX3_interrupt_2 : cX3_interrupt.data.toList.drop 47 = dktX3_interrupt_2 := dk_seg dksX3_interrupt_1 24 rfl rfl
theorem dX3_interrupt_0 : decode cX3_interrupt 0 = .ok (.iload_n 1, 1) := dk_27 (dk_at dksX3_interrupt_0 0 rfl rfl)
theorem dX3_interrupt_1 : decode cX3_interrupt 1 = .ok (.iconst 1, 1) := dk_4 (dk_at dksX3_interrupt_0 1 rfl rfl)
theorem dX3_interrupt_2 : decode cX3_interrupt 2 = .ok (.sipush 255, 3) := dk_17 0 255 (dk_at dksX3_interrupt_0 2 rfl rfl)
theorem dX3_interrupt_5 : decode cX3_interrupt 5 = .ok (.invokestatic 61, 3) := dk_184 0 61 (dk_at dksX3_interrupt_0 5 rfl rfl)
theorem dX3_interrupt_8 : decode cX3_interrupt 8 = .ok (.ifCond .ne 9, 3) := dk_154 0 9 (dk_at dksX3_interrupt_0 8 rfl rfl)
theorem dX3_interrupt_11 : decode cX3_interrupt 11 = .ok (.aload_n 0, 1) := dk_42 (dk_at dksX3_interrupt_0 11 rfl rfl)
theorem dX3_interrupt_12 : decode cX3_interrupt 12 = .ok (.iconst 1, 1) := dk_4 (dk_at dksX3_interrupt_0 12 rfl rfl)
theorem dX3_interrupt_13 : decode cX3_interrupt 13 = .ok (.invokevirtual 128, 3) := dk_182 0 128 (dk_at dksX3_interrupt_0 13 rfl rfl)
theorem dX3_interrupt_16 : decode cX3_interrupt 16 = .ok (.ireturn, 1) := dk_172 (dk_at dksX3_interrupt_0 16 rfl rfl)
theorem dX3_interrupt_17 : decode cX3_interrupt 17 = .ok (.aload_n 0, 1) := dk_42 (dk_at dksX3_interrupt_0 17 rfl rfl)
theorem dX3_interrupt_18 : decode cX3_interrupt 18 = .ok (.getfield 32, 3) := dk_180 0 32 (dk_at dksX3_interrupt_0 18 rfl rfl)
theorem dX3_interrupt_21 : decode cX3_interrupt 21 = .ok (.iconst 1, 1) := dk_4 (dk_at dksX3_interrupt_0 21 rfl rfl)
theorem dX3_interrupt_22 : decode cX3_interrupt 22 = .ok (.iaload, 1) := dk_46 (dk_at dksX3_interrupt_0 22 rfl rfl)
theorem dX3_interrupt_23 : decode cX3_interrupt 23 = .ok (.bipush 12, 2) := dk_16 12 (dk_at dksX3_interrupt_1 0 rfl rfl)
theorem dX3_interrupt_25 : decode cX3_interrupt 25 = .ok (.if_icmp .ne 9, 3) := dk_160 0 9 (dk_at dksX3_interrupt_1 2 rfl rfl)
theorem dX3_interrupt_28 : decode cX3_interrupt 28 = .ok (.aload_n 0, 1) := dk_42 (dk_at dksX3_interrupt_1 5 rfl rfl)
theorem dX3_interrupt_29 : decode cX3_interrupt 29 = .ok (.iconst 2, 1) := dk_5 (dk_at dksX3_interrupt_1 6 rfl rfl)
theorem dX3_interrupt_30 : decode cX3_interrupt 30 = .ok (.invokevirtual 128, 3) := dk_182 0 128 (dk_at dksX3_interrupt_1 7 rfl rfl)
theorem dX3_interrupt_33 : decode cX3_interrupt 33 = .ok (.ireturn, 1) := dk_172 (dk_at dksX3_interrupt_1 10 rfl rfl)
theorem dX3_interrupt_34 : decode cX3_interrupt 34 = .ok (.aload_n 0, 1) := dk_42 (dk_at dksX3_interrupt_1 11 rfl rfl)
theorem dX3_interrupt_35 : decode cX3_interrupt 35 = .ok (.iconst 1, 1) := dk_4 (dk_at dksX3_interrupt_1 12 rfl rfl)
theorem dX3_interrupt_36 : decode cX3_interrupt 36 = .ok (.iload_n 1, 1) := dk_27 (dk_at dksX3_interrupt_1 13 rfl rfl)
theorem dX3_interrupt_37 : decode cX3_interrupt 37 = .ok (.invokevirtual 157, 3) := dk_182 0 157 (dk_at dksX3_interrupt_1 14 rfl rfl)
theorem dX3_interrupt_40 : decode cX3_interrupt 40 = .ok (.istore_n 2, 1) := dk_61 (dk_at dksX3_interrupt_1 17 rfl rfl)
theorem dX3_interrupt_41 : decode cX3_interrupt 41 = .ok (.aload_n 0, 1) := dk_42 (dk_at dksX3_interrupt_1 18 rfl rfl)
theorem dX3_interrupt_42 : decode cX3_interrupt 42 = .ok (.iload_n 2, 1) := dk_28 (dk_at dksX3_interrupt_1 19 rfl rfl)
theorem dX3_interrupt_43 : decode cX3_interrupt 43 = .ok (.invokevirtual 94, 3) := dk_182 0 94 (dk_at dksX3_interrupt_1 20 rfl rfl)
theorem dX3_interrupt_46 : decode cX3_interrupt 46 = .ok (.aload_n 0, 1) := dk_42 (dk_at dksX3_interrupt_1 23 rfl rfl)
theorem dX3_interrupt_47 : decode cX3_interrupt 47 = .ok (.iload_n 2, 1) := dk_28 (dk_at dksX3_interrupt_2 0 rfl rfl)
theorem dX3_interrupt_48 : decode cX3_interrupt 48 = .ok (.invokevirtual 125, 3) := dk_182 0 125 (dk_at dksX3_interrupt_2 1 rfl rfl)
theorem dX3_interrupt_51 : decode cX3_interrupt 51 = .ok (.ireturn, 1) := dk_172 (dk_at dksX3_interrupt_2 4 rfl rfl)
abbrev cX3_timer : ByteArray := prog_15_method_42_code
def yX3_timer : MethodName := ⟨RX3, "timer", "(I)I"⟩
def dkwX3_timer_2 : List UInt8 := [180, 0, 38, 5, 28, 184, 0, 83, 27, 79, 42, 28, 182, 0, 125, 172]
abbrev dktX3_timer_2 : List UInt8 := dkwX3_timer_2 ++ []
def dkwX3_timer_1 : List UInt8 := [180, 0, 32, 5, 46, 16, 16, 160, 0, 9, 42, 5, 182, 0, 128, 172, 42, 5, 3, 182, 0, 157, 61, 42]
abbrev dktX3_timer_1 : List UInt8 := dkwX3_timer_1 ++ dktX3_timer_2
def dkwX3_timer_0 : List UInt8 := [42, 27, 182, 0, 147, 154, 0, 9, 42, 4, 182, 0, 128, 172, 42, 27, 182, 0, 75, 153, 0, 14, 42]
abbrev dktX3_timer_0 : List UInt8 := dkwX3_timer_0 ++ dktX3_timer_1
theorem dksX3_timer_0 : cX3_timer.data.toList.drop 0 = dktX3_timer_0 := by decide +kernel
theorem dksX3_timer_1 : cX3_timer.data.toList.drop 23 = dktX3_timer_1 := dk_seg dksX3_timer_0 23 rfl rfl
theorem dksX3_timer_2 : cX3_timer.data.toList.drop 47 = dktX3_timer_2 := dk_seg dksX3_timer_1 24 rfl rfl
theorem dX3_timer_0 : decode cX3_timer 0 = .ok (.aload_n 0, 1) := dk_42 (dk_at dksX3_timer_0 0 rfl rfl)
theorem dX3_timer_1 : decode cX3_timer 1 = .ok (.iload_n 1, 1) := dk_27 (dk_at dksX3_timer_0 1 rfl rfl)
theorem dX3_timer_2 : decode cX3_timer 2 = .ok (.invokevirtual 147, 3) := dk_182 0 147 (dk_at dksX3_timer_0 2 rfl rfl)
theorem dX3_timer_5 : decode cX3_timer 5 = .ok (.ifCond .ne 9, 3) := dk_154 0 9 (dk_at dksX3_timer_0 5 rfl rfl)
theorem dX3_timer_8 : decode cX3_timer 8 = .ok (.aload_n 0, 1) := dk_42 (dk_at dksX3_timer_0 8 rfl rfl)
theorem dX3_timer_9 : decode cX3_timer 9 = .ok (.iconst 1, 1) := dk_4 (dk_at dksX3_timer_0 9 rfl rfl)
theorem dX3_timer_10 : decode cX3_timer 10 = .ok (.invokevirtual 128, 3) := dk_182 0 128 (dk_at dksX3_timer_0 10 rfl rfl)
theorem dX3_timer_13 : decode cX3_timer 13 = .ok (.ireturn, 1) := dk_172 (dk_at dksX3_timer_0 13 rfl rfl)
theorem dX3_timer_14 : decode cX3_timer 14 = .ok (.aload_n 0, 1) := dk_42 (dk_at dksX3_timer_0 14 rfl rfl)
theorem dX3_timer_15 : decode cX3_timer 15 = .ok (.iload_n 1, 1) := dk_27 (dk_at dksX3_timer_0 15 rfl rfl)
theorem dX3_timer_16 : decode cX3_timer 16 = .ok (.invokevirtual 75, 3) := dk_182 0 75 (dk_at dksX3_timer_0 16 rfl rfl)
theorem dX3_timer_19 : decode cX3_timer 19 = .ok (.ifCond .eq 14, 3) := dk_153 0 14 (dk_at dksX3_timer_0 19 rfl rfl)
theorem dX3_timer_22 : decode cX3_timer 22 = .ok (.aload_n 0, 1) := dk_42 (dk_at dksX3_timer_0 22 rfl rfl)
theorem dX3_timer_23 : decode cX3_timer 23 = .ok (.getfield 32, 3) := dk_180 0 32 (dk_at dksX3_timer_1 0 rfl rfl)
theorem dX3_timer_26 : decode cX3_timer 26 = .ok (.iconst 2, 1) := dk_5 (dk_at dksX3_timer_1 3 rfl rfl)
theorem dX3_timer_27 : decode cX3_timer 27 = .ok (.iaload, 1) := dk_46 (dk_at dksX3_timer_1 4 rfl rfl)
theorem dX3_timer_28 : decode cX3_timer 28 = .ok (.bipush 16, 2) := dk_16 16 (dk_at dksX3_timer_1 5 rfl rfl)
theorem dX3_timer_30 : decode cX3_timer 30 = .ok (.if_icmp .ne 9, 3) := dk_160 0 9 (dk_at dksX3_timer_1 7 rfl rfl)
theorem dX3_timer_33 : decode cX3_timer 33 = .ok (.aload_n 0, 1) := dk_42 (dk_at dksX3_timer_1 10 rfl rfl)
theorem dX3_timer_34 : decode cX3_timer 34 = .ok (.iconst 2, 1) := dk_5 (dk_at dksX3_timer_1 11 rfl rfl)
theorem dX3_timer_35 : decode cX3_timer 35 = .ok (.invokevirtual 128, 3) := dk_182 0 128 (dk_at dksX3_timer_1 12 rfl rfl)
theorem dX3_timer_38 : decode cX3_timer 38 = .ok (.ireturn, 1) := dk_172 (dk_at dksX3_timer_1 15 rfl rfl)
theorem dX3_timer_39 : decode cX3_timer 39 = .ok (.aload_n 0, 1) := dk_42 (dk_at dksX3_timer_1 16 rfl rfl)
theorem dX3_timer_40 : decode cX3_timer 40 = .ok (.iconst 2, 1) := dk_5 (dk_at dksX3_timer_1 17 rfl rfl)
theorem dX3_timer_41 : decode cX3_timer 41 = .ok (.iconst 0, 1) := dk_3 (dk_at dksX3_timer_1 18 rfl rfl)
theorem dX3_timer_42 : decode cX3_timer 42 = .ok (.invokevirtual 157, 3) := dk_182 0 157 (dk_at dksX3_timer_1 19 rfl rfl)
theorem dX3_timer_45 : decode cX3_timer 45 = .ok (.istore_n 2, 1) := dk_61 (dk_at dksX3_timer_1 22 rfl rfl)
theorem dX3_timer_46 : decode cX3_timer 46 = .ok (.aload_n 0, 1) := dk_42 (dk_at dksX3_timer_1 23 rfl rfl)
theorem dX3_timer_47 : decode cX3_timer 47 = .ok (.getfield 38, 3) := dk_180 0 38 (dk_at dksX3_timer_2 0 rfl rfl)
theorem dX3_timer_50 : decode cX3_timer 50 = .ok (.iconst 2, 1) := dk_5 (dk_at dksX3_timer_2 3 rfl rfl)
theorem dX3_timer_51 : decode cX3_timer 51 = .ok (.iload_n 2, 1) := dk_28 (dk_at dksX3_timer_2 4 rfl rfl)
theorem dX3_timer_52 : decode cX3_timer 52 = .ok (.invokestatic 83, 3) := dk_184 0 83 (dk_at dksX3_timer_2 5 rfl rfl)
theorem dX3_timer_55 : decode cX3_timer 55 = .ok (.iload_n 1, 1) := dk_27 (dk_at dksX3_timer_2 8 rfl rfl)
theorem dX3_timer_56 : decode cX3_timer 56 = .ok (.iastore, 1) := dk_79 (dk_at dksX3_timer_2 9 rfl rfl)
theorem dX3_timer_57 : decode cX3_timer 57 = .ok (.aload_n 0, 1) := dk_42 (dk_at dksX3_timer_2 10 rfl rfl)
theorem dX3_timer_58 : decode cX3_timer 58 = .ok (.iload_n 2, 1) := dk_28 (dk_at dksX3_timer_2 11 rfl rfl)
theorem dX3_timer_59 : decode cX3_timer 59 = .ok (.invokevirtual 125, 3) := dk_182 0 125 (dk_at dksX3_timer_2 12 rfl rfl)
theorem dX3_timer_62 : decode cX3_timer 62 = .ok (.ireturn, 1) := dk_172 (dk_at dksX3_timer_2 15 rfl rfl)
abbrev cX3_cores : ByteArray := prog_15_method_43_code
def yX3_cores : MethodName := ⟨RX3, "cores", "()I"⟩
def dkwX3_cores_0 : List UInt8 := [42, 42, 180, 0, 58, 182, 0, 125, 172]
abbrev dktX3_cores_0 : List UInt8 := dkwX3_cores_0 ++ []
theorem dksX3_cores_0 : cX3_cores.data.toList.drop 0 = dktX3_cores_0 := by decide +kernel
theorem dX3_cores_0 : decode cX3_cores 0 = .ok (.aload_n 0, 1) := dk_42 (dk_at dksX3_cores_0 0 rfl rfl)
theorem dX3_cores_1 : decode cX3_cores 1 = .ok (.aload_n 0, 1) := dk_42 (dk_at dksX3_cores_0 1 rfl rfl)
theorem dX3_cores_2 : decode cX3_cores 2 = .ok (.getfield 58, 3) := dk_180 0 58 (dk_at dksX3_cores_0 2 rfl rfl)
theorem dX3_cores_5 : decode cX3_cores 5 = .ok (.invokevirtual 125, 3) := dk_182 0 125 (dk_at dksX3_cores_0 5 rfl rfl)
theorem dX3_cores_8 : decode cX3_cores 8 = .ok (.ireturn, 1) := dk_172 (dk_at dksX3_cores_0 8 rfl rfl)
abbrev cX3_level : ByteArray := prog_15_method_44_code
def yX3_level : MethodName := ⟨RX3, "level", "(I)I"⟩
def dkwX3_level_1 : List UInt8 := [172]
abbrev dktX3_level_1 : List UInt8 := dkwX3_level_1 ++ []
def dkwX3_level_0 : List UInt8 := [42, 27, 182, 0, 147, 154, 0, 9, 42, 4, 182, 0, 128, 172, 42, 42, 180, 0, 7, 27, 46, 182, 0, 125]
abbrev dktX3_level_0 : List UInt8 := dkwX3_level_0 ++ dktX3_level_1
theorem dksX3_level_0 : cX3_level.data.toList.drop 0 = dktX3_level_0 := by decide +kernel
theorem dksX3_level_1 : cX3_level.data.toList.drop 24 = dktX3_level_1 := dk_seg dksX3_level_0 24 rfl rfl
theorem dX3_level_0 : decode cX3_level 0 = .ok (.aload_n 0, 1) := dk_42 (dk_at dksX3_level_0 0 rfl rfl)
theorem dX3_level_1 : decode cX3_level 1 = .ok (.iload_n 1, 1) := dk_27 (dk_at dksX3_level_0 1 rfl rfl)
theorem dX3_level_2 : decode cX3_level 2 = .ok (.invokevirtual 147, 3) := dk_182 0 147 (dk_at dksX3_level_0 2 rfl rfl)
theorem dX3_level_5 : decode cX3_level 5 = .ok (.ifCond .ne 9, 3) := dk_154 0 9 (dk_at dksX3_level_0 5 rfl rfl)
theorem dX3_level_8 : decode cX3_level 8 = .ok (.aload_n 0, 1) := dk_42 (dk_at dksX3_level_0 8 rfl rfl)
theorem dX3_level_9 : decode cX3_level 9 = .ok (.iconst 1, 1) := dk_4 (dk_at dksX3_level_0 9 rfl rfl)
theorem dX3_level_10 : decode cX3_level 10 = .ok (.invokevirtual 128, 3) := dk_182 0 128 (dk_at dksX3_level_0 10 rfl rfl)
theorem dX3_level_13 : decode cX3_level 13 = .ok (.ireturn, 1) := dk_172 (dk_at dksX3_level_0 13 rfl rfl)
theorem dX3_level_14 : decode cX3_level 14 = .ok (.aload_n 0, 1) := dk_42 (dk_at dksX3_level_0 14 rfl rfl)
theorem dX3_level_15 : decode cX3_level 15 = .ok (.aload_n 0, 1) := dk_42 (dk_at dksX3_level_0 15 rfl rfl)
theorem dX3_level_16 : decode cX3_level 16 = .ok (.getfield 7, 3) := dk_180 0 7 (dk_at dksX3_level_0 16 rfl rfl)
theorem dX3_level_19 : decode cX3_level 19 = .ok (.iload_n 1, 1) := dk_27 (dk_at dksX3_level_0 19 rfl rfl)
theorem dX3_level_20 : decode cX3_level 20 = .ok (.iaload, 1) := dk_46 (dk_at dksX3_level_0 20 rfl rfl)
theorem dX3_level_21 : decode cX3_level 21 = .ok (.invokevirtual 125, 3) := dk_182 0 125 (dk_at dksX3_level_0 21 rfl rfl)
theorem dX3_level_24 : decode cX3_level 24 = .ok (.ireturn, 1) := dk_172 (dk_at dksX3_level_1 0 rfl rfl)
abbrev cX3_upCores : ByteArray := prog_15_method_46_code
def yX3_upCores : MethodName := ⟨RX3, "upCores", "()I"⟩
def dkwX3_upCores_1 : List UInt8 := [128, 60, 132, 2, 1, 167, 255, 231, 42, 27, 182, 0, 125, 172]
abbrev dktX3_upCores_1 : List UInt8 := dkwX3_upCores_1 ++ []
def dkwX3_upCores_0 : List UInt8 := [3, 60, 3, 61, 28, 42, 180, 0, 58, 162, 0, 23, 42, 28, 182, 0, 75, 153, 0, 9, 27, 4, 28, 120]
abbrev dktX3_upCores_0 : List UInt8 := dkwX3_upCores_0 ++ dktX3_upCores_1
theorem dksX3_upCores_0 : cX3_upCores.data.toList.drop 0 = dktX3_upCores_0 := by decide +kernel
theorem dksX3_upCores_1 : cX3_upCores.data.toList.drop 24 = dktX3_upCores_1 := dk_seg dksX3_upCores_0 24 rfl rfl
theorem dX3_upCores_0 : decode cX3_upCores 0 = .ok (.iconst 0, 1) := dk_3 (dk_at dksX3_upCores_0 0 rfl rfl)
theorem dX3_upCores_1 : decode cX3_upCores 1 = .ok (.istore_n 1, 1) := dk_60 (dk_at dksX3_upCores_0 1 rfl rfl)
theorem dX3_upCores_2 : decode cX3_upCores 2 = .ok (.iconst 0, 1) := dk_3 (dk_at dksX3_upCores_0 2 rfl rfl)
theorem dX3_upCores_3 : decode cX3_upCores 3 = .ok (.istore_n 2, 1) := dk_61 (dk_at dksX3_upCores_0 3 rfl rfl)
theorem dX3_upCores_4 : decode cX3_upCores 4 = .ok (.iload_n 2, 1) := dk_28 (dk_at dksX3_upCores_0 4 rfl rfl)
theorem dX3_upCores_5 : decode cX3_upCores 5 = .ok (.aload_n 0, 1) := dk_42 (dk_at dksX3_upCores_0 5 rfl rfl)
theorem dX3_upCores_6 : decode cX3_upCores 6 = .ok (.getfield 58, 3) := dk_180 0 58 (dk_at dksX3_upCores_0 6 rfl rfl)
theorem dX3_upCores_9 : decode cX3_upCores 9 = .ok (.if_icmp .ge 23, 3) := dk_162 0 23 (dk_at dksX3_upCores_0 9 rfl rfl)
theorem dX3_upCores_12 : decode cX3_upCores 12 = .ok (.aload_n 0, 1) := dk_42 (dk_at dksX3_upCores_0 12 rfl rfl)
theorem dX3_upCores_13 : decode cX3_upCores 13 = .ok (.iload_n 2, 1) := dk_28 (dk_at dksX3_upCores_0 13 rfl rfl)
theorem dX3_upCores_14 : decode cX3_upCores 14 = .ok (.invokevirtual 75, 3) := dk_182 0 75 (dk_at dksX3_upCores_0 14 rfl rfl)
theorem dX3_upCores_17 : decode cX3_upCores 17 = .ok (.ifCond .eq 9, 3) := dk_153 0 9 (dk_at dksX3_upCores_0 17 rfl rfl)
theorem dX3_upCores_20 : decode cX3_upCores 20 = .ok (.iload_n 1, 1) := dk_27 (dk_at dksX3_upCores_0 20 rfl rfl)
theorem dX3_upCores_21 : decode cX3_upCores 21 = .ok (.iconst 1, 1) := dk_4 (dk_at dksX3_upCores_0 21 rfl rfl)
theorem dX3_upCores_22 : decode cX3_upCores 22 = .ok (.iload_n 2, 1) := dk_28 (dk_at dksX3_upCores_0 22 rfl rfl)
theorem dX3_upCores_23 : decode cX3_upCores 23 = .ok (.ishl, 1) := dk_120 (dk_at dksX3_upCores_0 23 rfl rfl)
theorem dX3_upCores_24 : decode cX3_upCores 24 = .ok (.ior, 1) := dk_128 (dk_at dksX3_upCores_1 0 rfl rfl)
theorem dX3_upCores_25 : decode cX3_upCores 25 = .ok (.istore_n 1, 1) := dk_60 (dk_at dksX3_upCores_1 1 rfl rfl)
theorem dX3_upCores_26 : decode cX3_upCores 26 = .ok (.iinc 2 1, 3) := dk_132 2 1 (dk_at dksX3_upCores_1 2 rfl rfl)
theorem dX3_upCores_29 : decode cX3_upCores 29 = .ok (.goto (-25), 3) := dk_167 255 231 (dk_at dksX3_upCores_1 5 rfl rfl)
theorem dX3_upCores_32 : decode cX3_upCores 32 = .ok (.aload_n 0, 1) := dk_42 (dk_at dksX3_upCores_1 8 rfl rfl)
theorem dX3_upCores_33 : decode cX3_upCores 33 = .ok (.iload_n 1, 1) := dk_27 (dk_at dksX3_upCores_1 9 rfl rfl)
theorem dX3_upCores_34 : decode cX3_upCores 34 = .ok (.invokevirtual 125, 3) := dk_182 0 125 (dk_at dksX3_upCores_1 10 rfl rfl)
theorem dX3_upCores_37 : decode cX3_upCores 37 = .ok (.ireturn, 1) := dk_172 (dk_at dksX3_upCores_1 13 rfl rfl)
abbrev cX3_instances : ByteArray := prog_15_method_47_code
def yX3_instances : MethodName := ⟨RX3, "instances", "(I)I"⟩
def dkwX3_instances_1 : List UInt8 := [172]
abbrev dktX3_instances_1 : List UInt8 := dkwX3_instances_1 ++ []
def dkwX3_instances_0 : List UInt8 := [42, 27, 182, 0, 137, 154, 0, 9, 42, 4, 182, 0, 128, 172, 42, 42, 180, 0, 26, 27, 46, 182, 0, 125]
abbrev dktX3_instances_0 : List UInt8 := dkwX3_instances_0 ++ dktX3_instances_1
theorem dksX3_instances_0 : cX3_instances.data.toList.drop 0 = dktX3_instances_0 := by decide +kernel
theorem dksX3_instances_1 : cX3_instances.data.toList.drop 24 = dktX3_instances_1 := dk_seg dksX3_instances_0 24 rfl rfl
theorem dX3_instances_0 : decode cX3_instances 0 = .ok (.aload_n 0, 1) := dk_42 (dk_at dksX3_instances_0 0 rfl rfl)
theorem dX3_instances_1 : decode cX3_instances 1 = .ok (.iload_n 1, 1) := dk_27 (dk_at dksX3_instances_0 1 rfl rfl)
theorem dX3_instances_2 : decode cX3_instances 2 = .ok (.invokevirtual 137, 3) := dk_182 0 137 (dk_at dksX3_instances_0 2 rfl rfl)
theorem dX3_instances_5 : decode cX3_instances 5 = .ok (.ifCond .ne 9, 3) := dk_154 0 9 (dk_at dksX3_instances_0 5 rfl rfl)
theorem dX3_instances_8 : decode cX3_instances 8 = .ok (.aload_n 0, 1) := dk_42 (dk_at dksX3_instances_0 8 rfl rfl)
theorem dX3_instances_9 : decode cX3_instances 9 = .ok (.iconst 1, 1) := dk_4 (dk_at dksX3_instances_0 9 rfl rfl)
theorem dX3_instances_10 : decode cX3_instances 10 = .ok (.invokevirtual 128, 3) := dk_182 0 128 (dk_at dksX3_instances_0 10 rfl rfl)
theorem dX3_instances_13 : decode cX3_instances 13 = .ok (.ireturn, 1) := dk_172 (dk_at dksX3_instances_0 13 rfl rfl)
theorem dX3_instances_14 : decode cX3_instances 14 = .ok (.aload_n 0, 1) := dk_42 (dk_at dksX3_instances_0 14 rfl rfl)
theorem dX3_instances_15 : decode cX3_instances 15 = .ok (.aload_n 0, 1) := dk_42 (dk_at dksX3_instances_0 15 rfl rfl)
theorem dX3_instances_16 : decode cX3_instances 16 = .ok (.getfield 26, 3) := dk_180 0 26 (dk_at dksX3_instances_0 16 rfl rfl)
theorem dX3_instances_19 : decode cX3_instances 19 = .ok (.iload_n 1, 1) := dk_27 (dk_at dksX3_instances_0 19 rfl rfl)
theorem dX3_instances_20 : decode cX3_instances 20 = .ok (.iaload, 1) := dk_46 (dk_at dksX3_instances_0 20 rfl rfl)
theorem dX3_instances_21 : decode cX3_instances 21 = .ok (.invokevirtual 125, 3) := dk_182 0 125 (dk_at dksX3_instances_0 21 rfl rfl)
theorem dX3_instances_24 : decode cX3_instances 24 = .ok (.ireturn, 1) := dk_172 (dk_at dksX3_instances_1 0 rfl rfl)
abbrev cX3_coreOf : ByteArray := prog_15_method_49_code
def yX3_coreOf : MethodName := ⟨RX3, "coreOf", "(II)I"⟩
def dkwX3_coreOf_2 : List UInt8 := [182, 0, 125, 172]
abbrev dktX3_coreOf_2 : List UInt8 := dkwX3_coreOf_2 ++ []
def dkwX3_coreOf_1 : List UInt8 := [184, 0, 61, 154, 0, 9, 42, 5, 182, 0, 128, 172, 42, 42, 180, 0, 38, 27, 28, 184, 0, 83, 46]
abbrev dktX3_coreOf_1 : List UInt8 := dkwX3_coreOf_1 ++ dktX3_coreOf_2
def dkwX3_coreOf_0 : List UInt8 := [27, 184, 0, 160, 154, 0, 9, 42, 4, 182, 0, 128, 172, 28, 3, 42, 180, 0, 32, 27, 46, 4, 100]
abbrev dktX3_coreOf_0 : List UInt8 := dkwX3_coreOf_0 ++ dktX3_coreOf_1
theorem dksX3_coreOf_0 : cX3_coreOf.data.toList.drop 0 = dktX3_coreOf_0 := by decide +kernel
theorem dksX3_coreOf_1 : cX3_coreOf.data.toList.drop 23 = dktX3_coreOf_1 := dk_seg dksX3_coreOf_0 23 rfl rfl
theorem dksX3_coreOf_2 : cX3_coreOf.data.toList.drop 46 = dktX3_coreOf_2 := dk_seg dksX3_coreOf_1 23 rfl rfl
theorem dX3_coreOf_0 : decode cX3_coreOf 0 = .ok (.iload_n 1, 1) := dk_27 (dk_at dksX3_coreOf_0 0 rfl rfl)
theorem dX3_coreOf_1 : decode cX3_coreOf 1 = .ok (.invokestatic 160, 3) := dk_184 0 160 (dk_at dksX3_coreOf_0 1 rfl rfl)
theorem dX3_coreOf_4 : decode cX3_coreOf 4 = .ok (.ifCond .ne 9, 3) := dk_154 0 9 (dk_at dksX3_coreOf_0 4 rfl rfl)
theorem dX3_coreOf_7 : decode cX3_coreOf 7 = .ok (.aload_n 0, 1) := dk_42 (dk_at dksX3_coreOf_0 7 rfl rfl)
theorem dX3_coreOf_8 : decode cX3_coreOf 8 = .ok (.iconst 1, 1) := dk_4 (dk_at dksX3_coreOf_0 8 rfl rfl)
theorem dX3_coreOf_9 : decode cX3_coreOf 9 = .ok (.invokevirtual 128, 3) := dk_182 0 128 (dk_at dksX3_coreOf_0 9 rfl rfl)
theorem dX3_coreOf_12 : decode cX3_coreOf 12 = .ok (.ireturn, 1) := dk_172 (dk_at dksX3_coreOf_0 12 rfl rfl)
theorem dX3_coreOf_13 : decode cX3_coreOf 13 = .ok (.iload_n 2, 1) := dk_28 (dk_at dksX3_coreOf_0 13 rfl rfl)
theorem dX3_coreOf_14 : decode cX3_coreOf 14 = .ok (.iconst 0, 1) := dk_3 (dk_at dksX3_coreOf_0 14 rfl rfl)
theorem dX3_coreOf_15 : decode cX3_coreOf 15 = .ok (.aload_n 0, 1) := dk_42 (dk_at dksX3_coreOf_0 15 rfl rfl)
theorem dX3_coreOf_16 : decode cX3_coreOf 16 = .ok (.getfield 32, 3) := dk_180 0 32 (dk_at dksX3_coreOf_0 16 rfl rfl)
theorem dX3_coreOf_19 : decode cX3_coreOf 19 = .ok (.iload_n 1, 1) := dk_27 (dk_at dksX3_coreOf_0 19 rfl rfl)
theorem dX3_coreOf_20 : decode cX3_coreOf 20 = .ok (.iaload, 1) := dk_46 (dk_at dksX3_coreOf_0 20 rfl rfl)
theorem dX3_coreOf_21 : decode cX3_coreOf 21 = .ok (.iconst 1, 1) := dk_4 (dk_at dksX3_coreOf_0 21 rfl rfl)
theorem dX3_coreOf_22 : decode cX3_coreOf 22 = .ok (.isub, 1) := dk_100 (dk_at dksX3_coreOf_0 22 rfl rfl)
theorem dX3_coreOf_23 : decode cX3_coreOf 23 = .ok (.invokestatic 61, 3) := dk_184 0 61 (dk_at dksX3_coreOf_1 0 rfl rfl)
theorem dX3_coreOf_26 : decode cX3_coreOf 26 = .ok (.ifCond .ne 9, 3) := dk_154 0 9 (dk_at dksX3_coreOf_1 3 rfl rfl)
theorem dX3_coreOf_29 : decode cX3_coreOf 29 = .ok (.aload_n 0, 1) := dk_42 (dk_at dksX3_coreOf_1 6 rfl rfl)
theorem dX3_coreOf_30 : decode cX3_coreOf 30 = .ok (.iconst 2, 1) := dk_5 (dk_at dksX3_coreOf_1 7 rfl rfl)
theorem dX3_coreOf_31 : decode cX3_coreOf 31 = .ok (.invokevirtual 128, 3) := dk_182 0 128 (dk_at dksX3_coreOf_1 8 rfl rfl)
theorem dX3_coreOf_34 : decode cX3_coreOf 34 = .ok (.ireturn, 1) := dk_172 (dk_at dksX3_coreOf_1 11 rfl rfl)
theorem dX3_coreOf_35 : decode cX3_coreOf 35 = .ok (.aload_n 0, 1) := dk_42 (dk_at dksX3_coreOf_1 12 rfl rfl)
theorem dX3_coreOf_36 : decode cX3_coreOf 36 = .ok (.aload_n 0, 1) := dk_42 (dk_at dksX3_coreOf_1 13 rfl rfl)
theorem dX3_coreOf_37 : decode cX3_coreOf 37 = .ok (.getfield 38, 3) := dk_180 0 38 (dk_at dksX3_coreOf_1 14 rfl rfl)
theorem dX3_coreOf_40 : decode cX3_coreOf 40 = .ok (.iload_n 1, 1) := dk_27 (dk_at dksX3_coreOf_1 17 rfl rfl)
theorem dX3_coreOf_41 : decode cX3_coreOf 41 = .ok (.iload_n 2, 1) := dk_28 (dk_at dksX3_coreOf_1 18 rfl rfl)
theorem dX3_coreOf_42 : decode cX3_coreOf 42 = .ok (.invokestatic 83, 3) := dk_184 0 83 (dk_at dksX3_coreOf_1 19 rfl rfl)
theorem dX3_coreOf_45 : decode cX3_coreOf 45 = .ok (.iaload, 1) := dk_46 (dk_at dksX3_coreOf_1 22 rfl rfl)
theorem dX3_coreOf_46 : decode cX3_coreOf 46 = .ok (.invokevirtual 125, 3) := dk_182 0 125 (dk_at dksX3_coreOf_2 0 rfl rfl)
theorem dX3_coreOf_49 : decode cX3_coreOf 49 = .ok (.ireturn, 1) := dk_172 (dk_at dksX3_coreOf_2 3 rfl rfl)
abbrev cX3_isKind : ByteArray := prog_15_method_48_code
def yX3_isKind : MethodName := ⟨RX3, "isKind", "(I)Z"⟩
def dkwX3_isKind_0 : List UInt8 := [26, 3, 5, 184, 0, 61, 172]
abbrev dktX3_isKind_0 : List UInt8 := dkwX3_isKind_0 ++ []
theorem dksX3_isKind_0 : cX3_isKind.data.toList.drop 0 = dktX3_isKind_0 := by decide +kernel
theorem dX3_isKind_0 : decode cX3_isKind 0 = .ok (.iload_n 0, 1) := dk_26 (dk_at dksX3_isKind_0 0 rfl rfl)
theorem dX3_isKind_1 : decode cX3_isKind 1 = .ok (.iconst 0, 1) := dk_3 (dk_at dksX3_isKind_0 1 rfl rfl)
theorem dX3_isKind_2 : decode cX3_isKind 2 = .ok (.iconst 2, 1) := dk_5 (dk_at dksX3_isKind_0 2 rfl rfl)
theorem dX3_isKind_3 : decode cX3_isKind 3 = .ok (.invokestatic 61, 3) := dk_184 0 61 (dk_at dksX3_isKind_0 3 rfl rfl)
theorem dX3_isKind_6 : decode cX3_isKind 6 = .ok (.ireturn, 1) := dk_172 (dk_at dksX3_isKind_0 6 rfl rfl)
abbrev cX3_isBroken : ByteArray := prog_15_method_50_code
def yX3_isBroken : MethodName := ⟨RX3, "isBroken", "(I)Z"⟩
def dkwX3_isBroken_1 : List UInt8 := [3, 181, 0, 54, 42, 180, 0, 44, 27, 51, 172]
abbrev dktX3_isBroken_1 : List UInt8 := dkwX3_isBroken_1 ++ []
def dkwX3_isBroken_0 : List UInt8 := [27, 3, 42, 180, 0, 32, 4, 46, 4, 100, 184, 0, 61, 154, 0, 10, 42, 4, 181, 0, 54, 3, 172, 42]
abbrev dktX3_isBroken_0 : List UInt8 := dkwX3_isBroken_0 ++ dktX3_isBroken_1
theorem dksX3_isBroken_0 : cX3_isBroken.data.toList.drop 0 = dktX3_isBroken_0 := by decide +kernel
theorem dksX3_isBroken_1 : cX3_isBroken.data.toList.drop 24 = dktX3_isBroken_1 := dk_seg dksX3_isBroken_0 24 rfl rfl
theorem dX3_isBroken_0 : decode cX3_isBroken 0 = .ok (.iload_n 1, 1) := dk_27 (dk_at dksX3_isBroken_0 0 rfl rfl)
theorem dX3_isBroken_1 : decode cX3_isBroken 1 = .ok (.iconst 0, 1) := dk_3 (dk_at dksX3_isBroken_0 1 rfl rfl)
theorem dX3_isBroken_2 : decode cX3_isBroken 2 = .ok (.aload_n 0, 1) := dk_42 (dk_at dksX3_isBroken_0 2 rfl rfl)
theorem dX3_isBroken_3 : decode cX3_isBroken 3 = .ok (.getfield 32, 3) := dk_180 0 32 (dk_at dksX3_isBroken_0 3 rfl rfl)
theorem dX3_isBroken_6 : decode cX3_isBroken 6 = .ok (.iconst 1, 1) := dk_4 (dk_at dksX3_isBroken_0 6 rfl rfl)
theorem dX3_isBroken_7 : decode cX3_isBroken 7 = .ok (.iaload, 1) := dk_46 (dk_at dksX3_isBroken_0 7 rfl rfl)
theorem dX3_isBroken_8 : decode cX3_isBroken 8 = .ok (.iconst 1, 1) := dk_4 (dk_at dksX3_isBroken_0 8 rfl rfl)
theorem dX3_isBroken_9 : decode cX3_isBroken 9 = .ok (.isub, 1) := dk_100 (dk_at dksX3_isBroken_0 9 rfl rfl)
theorem dX3_isBroken_10 : decode cX3_isBroken 10 = .ok (.invokestatic 61, 3) := dk_184 0 61 (dk_at dksX3_isBroken_0 10 rfl rfl)
theorem dX3_isBroken_13 : decode cX3_isBroken 13 = .ok (.ifCond .ne 10, 3) := dk_154 0 10 (dk_at dksX3_isBroken_0 13 rfl rfl)
theorem dX3_isBroken_16 : decode cX3_isBroken 16 = .ok (.aload_n 0, 1) := dk_42 (dk_at dksX3_isBroken_0 16 rfl rfl)
theorem dX3_isBroken_17 : decode cX3_isBroken 17 = .ok (.iconst 1, 1) := dk_4 (dk_at dksX3_isBroken_0 17 rfl rfl)
theorem dX3_isBroken_18 : decode cX3_isBroken 18 = .ok (.putfield 54, 3) := dk_181 0 54 (dk_at dksX3_isBroken_0 18 rfl rfl)
theorem dX3_isBroken_21 : decode cX3_isBroken 21 = .ok (.iconst 0, 1) := dk_3 (dk_at dksX3_isBroken_0 21 rfl rfl)
theorem dX3_isBroken_22 : decode cX3_isBroken 22 = .ok (.ireturn, 1) := dk_172 (dk_at dksX3_isBroken_0 22 rfl rfl)
theorem dX3_isBroken_23 : decode cX3_isBroken 23 = .ok (.aload_n 0, 1) := dk_42 (dk_at dksX3_isBroken_0 23 rfl rfl)
theorem dX3_isBroken_24 : decode cX3_isBroken 24 = .ok (.iconst 0, 1) := dk_3 (dk_at dksX3_isBroken_1 0 rfl rfl)
theorem dX3_isBroken_25 : decode cX3_isBroken 25 = .ok (.putfield 54, 3) := dk_181 0 54 (dk_at dksX3_isBroken_1 1 rfl rfl)
theorem dX3_isBroken_28 : decode cX3_isBroken 28 = .ok (.aload_n 0, 1) := dk_42 (dk_at dksX3_isBroken_1 4 rfl rfl)
theorem dX3_isBroken_29 : decode cX3_isBroken 29 = .ok (.getfield 44, 3) := dk_180 0 44 (dk_at dksX3_isBroken_1 5 rfl rfl)
theorem dX3_isBroken_32 : decode cX3_isBroken 32 = .ok (.iload_n 1, 1) := dk_27 (dk_at dksX3_isBroken_1 8 rfl rfl)
theorem dX3_isBroken_33 : decode cX3_isBroken 33 = .ok (.baload, 1) := dk_51 (dk_at dksX3_isBroken_1 9 rfl rfl)
theorem dX3_isBroken_34 : decode cX3_isBroken 34 = .ok (.ireturn, 1) := dk_172 (dk_at dksX3_isBroken_1 10 rfl rfl)
abbrev cX3_moves : ByteArray := prog_15_method_51_code
def yX3_moves : MethodName := ⟨RX3, "moves", "(II)I"⟩
def dkwX3_moves_2 : List UInt8 := [182, 0, 125, 172]
abbrev dktX3_moves_2 : List UInt8 := dkwX3_moves_2 ++ []
def dkwX3_moves_1 : List UInt8 := [184, 0, 61, 154, 0, 9, 42, 5, 182, 0, 128, 172, 42, 42, 180, 0, 41, 27, 28, 184, 0, 83, 46]
abbrev dktX3_moves_1 : List UInt8 := dkwX3_moves_1 ++ dktX3_moves_2
def dkwX3_moves_0 : List UInt8 := [27, 184, 0, 160, 154, 0, 9, 42, 4, 182, 0, 128, 172, 28, 3, 42, 180, 0, 32, 27, 46, 4, 100]
abbrev dktX3_moves_0 : List UInt8 := dkwX3_moves_0 ++ dktX3_moves_1
theorem dksX3_moves_0 : cX3_moves.data.toList.drop 0 = dktX3_moves_0 := by decide +kernel
theorem dksX3_moves_1 : cX3_moves.data.toList.drop 23 = dktX3_moves_1 := dk_seg dksX3_moves_0 23 rfl rfl
theorem dksX3_moves_2 : cX3_moves.data.toList.drop 46 = dktX3_moves_2 := dk_seg dksX3_moves_1 23 rfl rfl
theorem dX3_moves_0 : decode cX3_moves 0 = .ok (.iload_n 1, 1) := dk_27 (dk_at dksX3_moves_0 0 rfl rfl)
theorem dX3_moves_1 : decode cX3_moves 1 = .ok (.invokestatic 160, 3) := dk_184 0 160 (dk_at dksX3_moves_0 1 rfl rfl)
theorem dX3_moves_4 : decode cX3_moves 4 = .ok (.ifCond .ne 9, 3) := dk_154 0 9 (dk_at dksX3_moves_0 4 rfl rfl)
theorem dX3_moves_7 : decode cX3_moves 7 = .ok (.aload_n 0, 1) := dk_42 (dk_at dksX3_moves_0 7 rfl rfl)
theorem dX3_moves_8 : decode cX3_moves 8 = .ok (.iconst 1, 1) := dk_4 (dk_at dksX3_moves_0 8 rfl rfl)
theorem dX3_moves_9 : decode cX3_moves 9 = .ok (.invokevirtual 128, 3) := dk_182 0 128 (dk_at dksX3_moves_0 9 rfl rfl)
theorem dX3_moves_12 : decode cX3_moves 12 = .ok (.ireturn, 1) := dk_172 (dk_at dksX3_moves_0 12 rfl rfl)
theorem dX3_moves_13 : decode cX3_moves 13 = .ok (.iload_n 2, 1) := dk_28 (dk_at dksX3_moves_0 13 rfl rfl)
theorem dX3_moves_14 : decode cX3_moves 14 = .ok (.iconst 0, 1) := dk_3 (dk_at dksX3_moves_0 14 rfl rfl)
theorem dX3_moves_15 : decode cX3_moves 15 = .ok (.aload_n 0, 1) := dk_42 (dk_at dksX3_moves_0 15 rfl rfl)
theorem dX3_moves_16 : decode cX3_moves 16 = .ok (.getfield 32, 3) := dk_180 0 32 (dk_at dksX3_moves_0 16 rfl rfl)
theorem dX3_moves_19 : decode cX3_moves 19 = .ok (.iload_n 1, 1) := dk_27 (dk_at dksX3_moves_0 19 rfl rfl)
theorem dX3_moves_20 : decode cX3_moves 20 = .ok (.iaload, 1) := dk_46 (dk_at dksX3_moves_0 20 rfl rfl)
theorem dX3_moves_21 : decode cX3_moves 21 = .ok (.iconst 1, 1) := dk_4 (dk_at dksX3_moves_0 21 rfl rfl)
theorem dX3_moves_22 : decode cX3_moves 22 = .ok (.isub, 1) := dk_100 (dk_at dksX3_moves_0 22 rfl rfl)
theorem dX3_moves_23 : decode cX3_moves 23 = .ok (.invokestatic 61, 3) := dk_184 0 61 (dk_at dksX3_moves_1 0 rfl rfl)
theorem dX3_moves_26 : decode cX3_moves 26 = .ok (.ifCond .ne 9, 3) := dk_154 0 9 (dk_at dksX3_moves_1 3 rfl rfl)
theorem dX3_moves_29 : decode cX3_moves 29 = .ok (.aload_n 0, 1) := dk_42 (dk_at dksX3_moves_1 6 rfl rfl)
theorem dX3_moves_30 : decode cX3_moves 30 = .ok (.iconst 2, 1) := dk_5 (dk_at dksX3_moves_1 7 rfl rfl)
theorem dX3_moves_31 : decode cX3_moves 31 = .ok (.invokevirtual 128, 3) := dk_182 0 128 (dk_at dksX3_moves_1 8 rfl rfl)
theorem dX3_moves_34 : decode cX3_moves 34 = .ok (.ireturn, 1) := dk_172 (dk_at dksX3_moves_1 11 rfl rfl)
theorem dX3_moves_35 : decode cX3_moves 35 = .ok (.aload_n 0, 1) := dk_42 (dk_at dksX3_moves_1 12 rfl rfl)
theorem dX3_moves_36 : decode cX3_moves 36 = .ok (.aload_n 0, 1) := dk_42 (dk_at dksX3_moves_1 13 rfl rfl)
theorem dX3_moves_37 : decode cX3_moves 37 = .ok (.getfield 41, 3) := dk_180 0 41 (dk_at dksX3_moves_1 14 rfl rfl)
theorem dX3_moves_40 : decode cX3_moves 40 = .ok (.iload_n 1, 1) := dk_27 (dk_at dksX3_moves_1 17 rfl rfl)
theorem dX3_moves_41 : decode cX3_moves 41 = .ok (.iload_n 2, 1) := dk_28 (dk_at dksX3_moves_1 18 rfl rfl)
theorem dX3_moves_42 : decode cX3_moves 42 = .ok (.invokestatic 83, 3) := dk_184 0 83 (dk_at dksX3_moves_1 19 rfl rfl)
theorem dX3_moves_45 : decode cX3_moves 45 = .ok (.iaload, 1) := dk_46 (dk_at dksX3_moves_1 22 rfl rfl)
theorem dX3_moves_46 : decode cX3_moves 46 = .ok (.invokevirtual 125, 3) := dk_182 0 125 (dk_at dksX3_moves_2 0 rfl rfl)
theorem dX3_moves_49 : decode cX3_moves 49 = .ok (.ireturn, 1) := dk_172 (dk_at dksX3_moves_2 3 rfl rfl)
abbrev cX3_load : ByteArray := prog_15_method_52_code
def yX3_load : MethodName := ⟨RX3, "load", "(I)I"⟩
def dkwX3_load_0 : List UInt8 := [42, 27, 182, 0, 147, 154, 0, 9, 42, 4, 182, 0, 128, 172, 42, 42, 27, 182, 0, 87, 182, 0, 125, 172]
abbrev dktX3_load_0 : List UInt8 := dkwX3_load_0 ++ []
theorem dksX3_load_0 : cX3_load.data.toList.drop 0 = dktX3_load_0 := by decide +kernel
theorem dX3_load_0 : decode cX3_load 0 = .ok (.aload_n 0, 1) := dk_42 (dk_at dksX3_load_0 0 rfl rfl)
theorem dX3_load_1 : decode cX3_load 1 = .ok (.iload_n 1, 1) := dk_27 (dk_at dksX3_load_0 1 rfl rfl)
theorem dX3_load_2 : decode cX3_load 2 = .ok (.invokevirtual 147, 3) := dk_182 0 147 (dk_at dksX3_load_0 2 rfl rfl)
theorem dX3_load_5 : decode cX3_load 5 = .ok (.ifCond .ne 9, 3) := dk_154 0 9 (dk_at dksX3_load_0 5 rfl rfl)
theorem dX3_load_8 : decode cX3_load 8 = .ok (.aload_n 0, 1) := dk_42 (dk_at dksX3_load_0 8 rfl rfl)
theorem dX3_load_9 : decode cX3_load 9 = .ok (.iconst 1, 1) := dk_4 (dk_at dksX3_load_0 9 rfl rfl)
theorem dX3_load_10 : decode cX3_load 10 = .ok (.invokevirtual 128, 3) := dk_182 0 128 (dk_at dksX3_load_0 10 rfl rfl)
theorem dX3_load_13 : decode cX3_load 13 = .ok (.ireturn, 1) := dk_172 (dk_at dksX3_load_0 13 rfl rfl)
theorem dX3_load_14 : decode cX3_load 14 = .ok (.aload_n 0, 1) := dk_42 (dk_at dksX3_load_0 14 rfl rfl)
theorem dX3_load_15 : decode cX3_load 15 = .ok (.aload_n 0, 1) := dk_42 (dk_at dksX3_load_0 15 rfl rfl)
theorem dX3_load_16 : decode cX3_load 16 = .ok (.iload_n 1, 1) := dk_27 (dk_at dksX3_load_0 16 rfl rfl)
theorem dX3_load_17 : decode cX3_load 17 = .ok (.invokevirtual 87, 3) := dk_182 0 87 (dk_at dksX3_load_0 17 rfl rfl)
theorem dX3_load_20 : decode cX3_load 20 = .ok (.invokevirtual 125, 3) := dk_182 0 125 (dk_at dksX3_load_0 20 rfl rfl)
theorem dX3_load_23 : decode cX3_load 23 = .ok (.ireturn, 1) := dk_172 (dk_at dksX3_load_0 23 rfl rfl)
abbrev cX3_entries : ByteArray := prog_15_method_53_code
def yX3_entries : MethodName := ⟨RX3, "entries", "()I"⟩
def dkwX3_entries_0 : List UInt8 := [42, 42, 180, 0, 65, 182, 0, 125, 172]
abbrev dktX3_entries_0 : List UInt8 := dkwX3_entries_0 ++ []
theorem dksX3_entries_0 : cX3_entries.data.toList.drop 0 = dktX3_entries_0 := by decide +kernel
theorem dX3_entries_0 : decode cX3_entries 0 = .ok (.aload_n 0, 1) := dk_42 (dk_at dksX3_entries_0 0 rfl rfl)
theorem dX3_entries_1 : decode cX3_entries 1 = .ok (.aload_n 0, 1) := dk_42 (dk_at dksX3_entries_0 1 rfl rfl)
theorem dX3_entries_2 : decode cX3_entries 2 = .ok (.getfield 65, 3) := dk_180 0 65 (dk_at dksX3_entries_0 2 rfl rfl)
theorem dX3_entries_5 : decode cX3_entries 5 = .ok (.invokevirtual 125, 3) := dk_182 0 125 (dk_at dksX3_entries_0 5 rfl rfl)
theorem dX3_entries_8 : decode cX3_entries 8 = .ok (.ireturn, 1) := dk_172 (dk_at dksX3_entries_0 8 rfl rfl)
abbrev cX3_entry : ByteArray := prog_15_method_54_code
def yX3_entry : MethodName := ⟨RX3, "entry", "(I)I"⟩
def dkwX3_entry_1 : List UInt8 := [180, 0, 48, 27, 46, 182, 0, 125, 172]
abbrev dktX3_entry_1 : List UInt8 := dkwX3_entry_1 ++ []
def dkwX3_entry_0 : List UInt8 := [27, 3, 42, 180, 0, 65, 4, 100, 184, 0, 61, 154, 0, 9, 42, 4, 182, 0, 128, 172, 42, 42]
abbrev dktX3_entry_0 : List UInt8 := dkwX3_entry_0 ++ dktX3_entry_1
theorem dksX3_entry_0 : cX3_entry.data.toList.drop 0 = dktX3_entry_0 := by decide +kernel
theorem dksX3_entry_1 : cX3_entry.data.toList.drop 22 = dktX3_entry_1 := dk_seg dksX3_entry_0 22 rfl rfl
theorem dX3_entry_0 : decode cX3_entry 0 = .ok (.iload_n 1, 1) := dk_27 (dk_at dksX3_entry_0 0 rfl rfl)
theorem dX3_entry_1 : decode cX3_entry 1 = .ok (.iconst 0, 1) := dk_3 (dk_at dksX3_entry_0 1 rfl rfl)
theorem dX3_entry_2 : decode cX3_entry 2 = .ok (.aload_n 0, 1) := dk_42 (dk_at dksX3_entry_0 2 rfl rfl)
theorem dX3_entry_3 : decode cX3_entry 3 = .ok (.getfield 65, 3) := dk_180 0 65 (dk_at dksX3_entry_0 3 rfl rfl)
theorem dX3_entry_6 : decode cX3_entry 6 = .ok (.iconst 1, 1) := dk_4 (dk_at dksX3_entry_0 6 rfl rfl)
theorem dX3_entry_7 : decode cX3_entry 7 = .ok (.isub, 1) := dk_100 (dk_at dksX3_entry_0 7 rfl rfl)
theorem dX3_entry_8 : decode cX3_entry 8 = .ok (.invokestatic 61, 3) := dk_184 0 61 (dk_at dksX3_entry_0 8 rfl rfl)
theorem dX3_entry_11 : decode cX3_entry 11 = .ok (.ifCond .ne 9, 3) := dk_154 0 9 (dk_at dksX3_entry_0 11 rfl rfl)
theorem dX3_entry_14 : decode cX3_entry 14 = .ok (.aload_n 0, 1) := dk_42 (dk_at dksX3_entry_0 14 rfl rfl)
theorem dX3_entry_15 : decode cX3_entry 15 = .ok (.iconst 1, 1) := dk_4 (dk_at dksX3_entry_0 15 rfl rfl)
theorem dX3_entry_16 : decode cX3_entry 16 = .ok (.invokevirtual 128, 3) := dk_182 0 128 (dk_at dksX3_entry_0 16 rfl rfl)
theorem dX3_entry_19 : decode cX3_entry 19 = .ok (.ireturn, 1) := dk_172 (dk_at dksX3_entry_0 19 rfl rfl)
theorem dX3_entry_20 : decode cX3_entry 20 = .ok (.aload_n 0, 1) := dk_42 (dk_at dksX3_entry_0 20 rfl rfl)
theorem dX3_entry_21 : decode cX3_entry 21 = .ok (.aload_n 0, 1) := dk_42 (dk_at dksX3_entry_0 21 rfl rfl)
theorem dX3_entry_22 : decode cX3_entry 22 = .ok (.getfield 48, 3) := dk_180 0 48 (dk_at dksX3_entry_1 0 rfl rfl)
theorem dX3_entry_25 : decode cX3_entry 25 = .ok (.iload_n 1, 1) := dk_27 (dk_at dksX3_entry_1 3 rfl rfl)
theorem dX3_entry_26 : decode cX3_entry 26 = .ok (.iaload, 1) := dk_46 (dk_at dksX3_entry_1 4 rfl rfl)
theorem dX3_entry_27 : decode cX3_entry 27 = .ok (.invokevirtual 125, 3) := dk_182 0 125 (dk_at dksX3_entry_1 5 rfl rfl)
theorem dX3_entry_30 : decode cX3_entry 30 = .ok (.ireturn, 1) := dk_172 (dk_at dksX3_entry_1 8 rfl rfl)
abbrev cX3_meanLoad : ByteArray := prog_15_method_55_code
def yX3_meanLoad : MethodName := ⟨RX3, "meanLoad", "()D"⟩
def dkwX3_meanLoad_1 : List UInt8 := [175]
abbrev dktX3_meanLoad_1 : List UInt8 := dkwX3_meanLoad_1 ++ []
def dkwX3_meanLoad_0 : List UInt8 := [42, 3, 181, 0, 54, 42, 180, 0, 32, 3, 46, 42, 2, 182, 0, 87, 100, 135, 42, 182, 0, 163, 135, 111]
abbrev dktX3_meanLoad_0 : List UInt8 := dkwX3_meanLoad_0 ++ dktX3_meanLoad_1
theorem dksX3_meanLoad_0 : cX3_meanLoad.data.toList.drop 0 = dktX3_meanLoad_0 := by decide +kernel
theorem dksX3_meanLoad_1 : cX3_meanLoad.data.toList.drop 24 = dktX3_meanLoad_1 := dk_seg dksX3_meanLoad_0 24 rfl rfl
theorem dX3_meanLoad_0 : decode cX3_meanLoad 0 = .ok (.aload_n 0, 1) := dk_42 (dk_at dksX3_meanLoad_0 0 rfl rfl)
theorem dX3_meanLoad_1 : decode cX3_meanLoad 1 = .ok (.iconst 0, 1) := dk_3 (dk_at dksX3_meanLoad_0 1 rfl rfl)
theorem dX3_meanLoad_2 : decode cX3_meanLoad 2 = .ok (.putfield 54, 3) := dk_181 0 54 (dk_at dksX3_meanLoad_0 2 rfl rfl)
theorem dX3_meanLoad_5 : decode cX3_meanLoad 5 = .ok (.aload_n 0, 1) := dk_42 (dk_at dksX3_meanLoad_0 5 rfl rfl)
theorem dX3_meanLoad_6 : decode cX3_meanLoad 6 = .ok (.getfield 32, 3) := dk_180 0 32 (dk_at dksX3_meanLoad_0 6 rfl rfl)
theorem dX3_meanLoad_9 : decode cX3_meanLoad 9 = .ok (.iconst 0, 1) := dk_3 (dk_at dksX3_meanLoad_0 9 rfl rfl)
theorem dX3_meanLoad_10 : decode cX3_meanLoad 10 = .ok (.iaload, 1) := dk_46 (dk_at dksX3_meanLoad_0 10 rfl rfl)
theorem dX3_meanLoad_11 : decode cX3_meanLoad 11 = .ok (.aload_n 0, 1) := dk_42 (dk_at dksX3_meanLoad_0 11 rfl rfl)
theorem dX3_meanLoad_12 : decode cX3_meanLoad 12 = .ok (.iconst (-1), 1) := dk_2 (dk_at dksX3_meanLoad_0 12 rfl rfl)
theorem dX3_meanLoad_13 : decode cX3_meanLoad 13 = .ok (.invokevirtual 87, 3) := dk_182 0 87 (dk_at dksX3_meanLoad_0 13 rfl rfl)
theorem dX3_meanLoad_16 : decode cX3_meanLoad 16 = .ok (.isub, 1) := dk_100 (dk_at dksX3_meanLoad_0 16 rfl rfl)
theorem dX3_meanLoad_17 : decode cX3_meanLoad 17 = .ok (.i2d, 1) := dk_135 (dk_at dksX3_meanLoad_0 17 rfl rfl)
theorem dX3_meanLoad_18 : decode cX3_meanLoad 18 = .ok (.aload_n 0, 1) := dk_42 (dk_at dksX3_meanLoad_0 18 rfl rfl)
theorem dX3_meanLoad_19 : decode cX3_meanLoad 19 = .ok (.invokevirtual 163, 3) := dk_182 0 163 (dk_at dksX3_meanLoad_0 19 rfl rfl)
theorem dX3_meanLoad_22 : decode cX3_meanLoad 22 = .ok (.i2d, 1) := dk_135 (dk_at dksX3_meanLoad_0 22 rfl rfl)
theorem dX3_meanLoad_23 : decode cX3_meanLoad 23 = .ok (.ddiv, 1) := dk_111 (dk_at dksX3_meanLoad_0 23 rfl rfl)
theorem dX3_meanLoad_24 : decode cX3_meanLoad 24 = .ok (.dreturn, 1) := dk_175 (dk_at dksX3_meanLoad_1 0 rfl rfl)
abbrev cX3_upMany : ByteArray := prog_15_method_45_code
def yX3_upMany : MethodName := ⟨RX3, "upMany", "()I"⟩
def dkwX3_upMany_1 : List UInt8 := [132, 2, 1, 167, 255, 234, 27, 172]
abbrev dktX3_upMany_1 : List UInt8 := dkwX3_upMany_1 ++ []
def dkwX3_upMany_0 : List UInt8 := [3, 60, 3, 61, 28, 42, 180, 0, 58, 162, 0, 20, 42, 28, 182, 0, 75, 153, 0, 6, 132, 1, 1]
abbrev dktX3_upMany_0 : List UInt8 := dkwX3_upMany_0 ++ dktX3_upMany_1
theorem dksX3_upMany_0 : cX3_upMany.data.toList.drop 0 = dktX3_upMany_0 := by decide +kernel
theorem dksX3_upMany_1 : cX3_upMany.data.toList.drop 23 = dktX3_upMany_1 := dk_seg dksX3_upMany_0 23 rfl rfl
theorem dX3_upMany_0 : decode cX3_upMany 0 = .ok (.iconst 0, 1) := dk_3 (dk_at dksX3_upMany_0 0 rfl rfl)
theorem dX3_upMany_1 : decode cX3_upMany 1 = .ok (.istore_n 1, 1) := dk_60 (dk_at dksX3_upMany_0 1 rfl rfl)
theorem dX3_upMany_2 : decode cX3_upMany 2 = .ok (.iconst 0, 1) := dk_3 (dk_at dksX3_upMany_0 2 rfl rfl)
theorem dX3_upMany_3 : decode cX3_upMany 3 = .ok (.istore_n 2, 1) := dk_61 (dk_at dksX3_upMany_0 3 rfl rfl)
theorem dX3_upMany_4 : decode cX3_upMany 4 = .ok (.iload_n 2, 1) := dk_28 (dk_at dksX3_upMany_0 4 rfl rfl)
theorem dX3_upMany_5 : decode cX3_upMany 5 = .ok (.aload_n 0, 1) := dk_42 (dk_at dksX3_upMany_0 5 rfl rfl)
theorem dX3_upMany_6 : decode cX3_upMany 6 = .ok (.getfield 58, 3) := dk_180 0 58 (dk_at dksX3_upMany_0 6 rfl rfl)
theorem dX3_upMany_9 : decode cX3_upMany 9 = .ok (.if_icmp .ge 20, 3) := dk_162 0 20 (dk_at dksX3_upMany_0 9 rfl rfl)
theorem dX3_upMany_12 : decode cX3_upMany 12 = .ok (.aload_n 0, 1) := dk_42 (dk_at dksX3_upMany_0 12 rfl rfl)
theorem dX3_upMany_13 : decode cX3_upMany 13 = .ok (.iload_n 2, 1) := dk_28 (dk_at dksX3_upMany_0 13 rfl rfl)
theorem dX3_upMany_14 : decode cX3_upMany 14 = .ok (.invokevirtual 75, 3) := dk_182 0 75 (dk_at dksX3_upMany_0 14 rfl rfl)
theorem dX3_upMany_17 : decode cX3_upMany 17 = .ok (.ifCond .eq 6, 3) := dk_153 0 6 (dk_at dksX3_upMany_0 17 rfl rfl)
theorem dX3_upMany_20 : decode cX3_upMany 20 = .ok (.iinc 1 1, 3) := dk_132 1 1 (dk_at dksX3_upMany_0 20 rfl rfl)
theorem dX3_upMany_23 : decode cX3_upMany 23 = .ok (.iinc 2 1, 3) := dk_132 2 1 (dk_at dksX3_upMany_1 0 rfl rfl)
theorem dX3_upMany_26 : decode cX3_upMany 26 = .ok (.goto (-22), 3) := dk_167 255 234 (dk_at dksX3_upMany_1 3 rfl rfl)
theorem dX3_upMany_29 : decode cX3_upMany 29 = .ok (.iload_n 1, 1) := dk_27 (dk_at dksX3_upMany_1 6 rfl rfl)
theorem dX3_upMany_30 : decode cX3_upMany 30 = .ok (.ireturn, 1) := dk_172 (dk_at dksX3_upMany_1 7 rfl rfl)
abbrev cX3_failed : ByteArray := prog_15_method_56_code
def yX3_failed : MethodName := ⟨RX3, "failed", "()F"⟩
def dkwX3_failed_1 : List UInt8 := [110, 174]
abbrev dktX3_failed_1 : List UInt8 := dkwX3_failed_1 ++ []
def dkwX3_failed_0 : List UInt8 := [42, 3, 181, 0, 54, 42, 180, 0, 65, 154, 0, 5, 11, 174, 42, 180, 0, 68, 134, 42, 180, 0, 65, 134]
abbrev dktX3_failed_0 : List UInt8 := dkwX3_failed_0 ++ dktX3_failed_1
theorem dksX3_failed_0 : cX3_failed.data.toList.drop 0 = dktX3_failed_0 := by decide +kernel
theorem dksX3_failed_1 : cX3_failed.data.toList.drop 24 = dktX3_failed_1 := dk_seg dksX3_failed_0 24 rfl rfl
theorem dX3_failed_0 : decode cX3_failed 0 = .ok (.aload_n 0, 1) := dk_42 (dk_at dksX3_failed_0 0 rfl rfl)
theorem dX3_failed_1 : decode cX3_failed 1 = .ok (.iconst 0, 1) := dk_3 (dk_at dksX3_failed_0 1 rfl rfl)
theorem dX3_failed_2 : decode cX3_failed 2 = .ok (.putfield 54, 3) := dk_181 0 54 (dk_at dksX3_failed_0 2 rfl rfl)
theorem dX3_failed_5 : decode cX3_failed 5 = .ok (.aload_n 0, 1) := dk_42 (dk_at dksX3_failed_0 5 rfl rfl)
theorem dX3_failed_6 : decode cX3_failed 6 = .ok (.getfield 65, 3) := dk_180 0 65 (dk_at dksX3_failed_0 6 rfl rfl)
theorem dX3_failed_9 : decode cX3_failed 9 = .ok (.ifCond .ne 5, 3) := dk_154 0 5 (dk_at dksX3_failed_0 9 rfl rfl)
theorem dX3_failed_12 : decode cX3_failed 12 = .ok (.fconst 0, 1) := dk_11 (dk_at dksX3_failed_0 12 rfl rfl)
theorem dX3_failed_13 : decode cX3_failed 13 = .ok (.freturn, 1) := dk_174 (dk_at dksX3_failed_0 13 rfl rfl)
theorem dX3_failed_14 : decode cX3_failed 14 = .ok (.aload_n 0, 1) := dk_42 (dk_at dksX3_failed_0 14 rfl rfl)
theorem dX3_failed_15 : decode cX3_failed 15 = .ok (.getfield 68, 3) := dk_180 0 68 (dk_at dksX3_failed_0 15 rfl rfl)
theorem dX3_failed_18 : decode cX3_failed 18 = .ok (.i2f, 1) := dk_134 (dk_at dksX3_failed_0 18 rfl rfl)
theorem dX3_failed_19 : decode cX3_failed 19 = .ok (.aload_n 0, 1) := dk_42 (dk_at dksX3_failed_0 19 rfl rfl)
theorem dX3_failed_20 : decode cX3_failed 20 = .ok (.getfield 65, 3) := dk_180 0 65 (dk_at dksX3_failed_0 20 rfl rfl)
theorem dX3_failed_23 : decode cX3_failed 23 = .ok (.i2f, 1) := dk_134 (dk_at dksX3_failed_0 23 rfl rfl)
theorem dX3_failed_24 : decode cX3_failed 24 = .ok (.fdiv, 1) := dk_110 (dk_at dksX3_failed_1 0 rfl rfl)
theorem dX3_failed_25 : decode cX3_failed 25 = .ok (.freturn, 1) := dk_174 (dk_at dksX3_failed_1 1 rfl rfl)
abbrev cX3_errors : ByteArray := prog_15_method_57_code
def yX3_errors : MethodName := ⟨RX3, "errors", "()I"⟩
def dkwX3_errors_0 : List UInt8 := [42, 3, 182, 0, 125, 172]
abbrev dktX3_errors_0 : List UInt8 := dkwX3_errors_0 ++ []
theorem dksX3_errors_0 : cX3_errors.data.toList.drop 0 = dktX3_errors_0 := by decide +kernel
theorem dX3_errors_0 : decode cX3_errors 0 = .ok (.aload_n 0, 1) := dk_42 (dk_at dksX3_errors_0 0 rfl rfl)
theorem dX3_errors_1 : decode cX3_errors 1 = .ok (.iconst 0, 1) := dk_3 (dk_at dksX3_errors_0 1 rfl rfl)
theorem dX3_errors_2 : decode cX3_errors 2 = .ok (.invokevirtual 125, 3) := dk_182 0 125 (dk_at dksX3_errors_0 2 rfl rfl)
theorem dX3_errors_5 : decode cX3_errors 5 = .ok (.ireturn, 1) := dk_172 (dk_at dksX3_errors_0 5 rfl rfl)
theorem q83 : (Jvm.Cond.initialized "CoreplugModel") ∈ lw_all := lw_g (lw_at lw_m1 14 rfl) rfl
theorem q232 : (Jvm.Cond.selects "CoreplugModel" ({ cls := "java/lang/Object", name := "getClass", desc := "()Ljava/lang/Class;" } : Jvm.MethodName) ({ cls := "java/lang/Object", name := "getClass", desc := "()Ljava/lang/Class;" } : Jvm.MethodName)) ∈ lw_all := lw_g (lw_at lw_m1 163 rfl) rfl
theorem q1767 : (Jvm.Cond.instantiable "CoreplugModel" (17 : Nat)) ∈ lw_all := lw_g (lw_at lw_m8 18 rfl) rfl
theorem q1769 : (Jvm.Cond.instanceMethod ({ cls := "CoreplugModel", name := "<init>", desc := "()V" } : Jvm.MethodName)) ∈ lw_all := lw_g (lw_at lw_m8 20 rfl) rfl
theorem q1770 : (Jvm.Cond.code ({ cls := "CoreplugModel", name := "<init>", desc := "()V" } : Jvm.MethodName) prog_15_method_1_code (1 : Nat) (Option.none : Option Jvm.ClassFile.FieldType)) ∈ lw_all := lw_g (lw_at lw_m8 21 rfl) rfl
theorem q1771 : (Jvm.Cond.methodLink "CoreplugModel" (1 : Nat) ({ cls := "java/lang/Object", name := "<init>", desc := "()V" } : Jvm.MethodName)) ∈ lw_all := lw_g (lw_at lw_m8 22 rfl) rfl
theorem q1772 : (Jvm.Cond.constant "CoreplugModel" (47 : Nat) (100000 : Int32)) ∈ lw_all := lw_g (lw_at lw_m8 23 rfl) rfl
theorem q1773 : (Jvm.Cond.methodLink "CoreplugModel" (51 : Nat) ({ cls := "CoreplugModel", name := "begins", desc := "()V" } : Jvm.MethodName)) ∈ lw_all := lw_g (lw_at lw_m8 24 rfl) rfl
theorem q1774 : (Jvm.Cond.privateMethod ({ cls := "CoreplugModel", name := "begins", desc := "()V" } : Jvm.MethodName)) ∈ lw_tbl := lw_at lw_m8 25 rfl
theorem q1775 : (Jvm.Cond.instanceMethod ({ cls := "CoreplugModel", name := "begins", desc := "()V" } : Jvm.MethodName)) ∈ lw_all := lw_g (lw_at lw_m8 26 rfl) rfl
theorem q1776 : (Jvm.Cond.code ({ cls := "CoreplugModel", name := "begins", desc := "()V" } : Jvm.MethodName) prog_15_method_9_code (2 : Nat) (Option.none : Option Jvm.ClassFile.FieldType)) ∈ lw_all := lw_g (lw_at lw_m8 27 rfl) rfl
theorem q1777 : (Jvm.Cond.fieldLink "CoreplugModel" (54 : Nat) "CoreplugModel" "thrown" "I") ∈ lw_all := lw_g (lw_at lw_m8 28 rfl) rfl
theorem q1778 : (Jvm.Cond.fieldLink "CoreplugModel" (58 : Nat) "CoreplugModel" "coreMany" "I") ∈ lw_all := lw_g (lw_at lw_m8 29 rfl) rfl
theorem q1779 : (Jvm.Cond.fieldLink "CoreplugModel" (7 : Nat) "CoreplugModel" "levelOf" "[I") ∈ lw_all := lw_g (lw_at lw_m8 30 rfl) rfl
theorem q1780 : (Jvm.Cond.fieldLink "CoreplugModel" (13 : Nat) "CoreplugModel" "isStep" "[Z") ∈ lw_all := lw_g (lw_at lw_m8 31 rfl) rfl
theorem q1781 : (Jvm.Cond.fieldLink "CoreplugModel" (17 : Nat) "CoreplugModel" "hasStart" "[Z") ∈ lw_all := lw_g (lw_at lw_m8 32 rfl) rfl
theorem q1782 : (Jvm.Cond.fieldLink "CoreplugModel" (20 : Nat) "CoreplugModel" "hasStop" "[Z") ∈ lw_all := lw_g (lw_at lw_m8 33 rfl) rfl
theorem q1783 : (Jvm.Cond.fieldLink "CoreplugModel" (23 : Nat) "CoreplugModel" "isSingle" "[Z") ∈ lw_all := lw_g (lw_at lw_m8 34 rfl) rfl
theorem q1784 : (Jvm.Cond.fieldLink "CoreplugModel" (26 : Nat) "CoreplugModel" "instancesOf" "[I") ∈ lw_all := lw_g (lw_at lw_m8 35 rfl) rfl
theorem q1785 : (Jvm.Cond.fieldLink "CoreplugModel" (29 : Nat) "CoreplugModel" "failures" "[I") ∈ lw_all := lw_g (lw_at lw_m8 36 rfl) rfl
theorem q1786 : (Jvm.Cond.fieldLink "CoreplugModel" (32 : Nat) "CoreplugModel" "thingMany" "[I") ∈ lw_all := lw_g (lw_at lw_m8 37 rfl) rfl
theorem q1787 : (Jvm.Cond.fieldLink "CoreplugModel" (35 : Nat) "CoreplugModel" "setOf" "[I") ∈ lw_all := lw_g (lw_at lw_m8 38 rfl) rfl
theorem q1788 : (Jvm.Cond.fieldLink "CoreplugModel" (38 : Nat) "CoreplugModel" "livesOn" "[I") ∈ lw_all := lw_g (lw_at lw_m8 39 rfl) rfl
theorem q1789 : (Jvm.Cond.fieldLink "CoreplugModel" (41 : Nat) "CoreplugModel" "movedMany" "[I") ∈ lw_all := lw_g (lw_at lw_m8 40 rfl) rfl
theorem q1790 : (Jvm.Cond.fieldLink "CoreplugModel" (44 : Nat) "CoreplugModel" "isBroken" "[Z") ∈ lw_all := lw_g (lw_at lw_m8 41 rfl) rfl
theorem q1791 : (Jvm.Cond.fieldLink "CoreplugModel" (65 : Nat) "CoreplugModel" "entryMany" "I") ∈ lw_all := lw_g (lw_at lw_m8 42 rfl) rfl
theorem q1792 : (Jvm.Cond.fieldLink "CoreplugModel" (68 : Nat) "CoreplugModel" "failedMany" "I") ∈ lw_all := lw_g (lw_at lw_m8 43 rfl) rfl
theorem q1793 : (Jvm.Cond.fieldLink "CoreplugModel" (48 : Nat) "CoreplugModel" "entryOf" "[I") ∈ lw_all := lw_g (lw_at lw_m8 44 rfl) rfl
theorem q1794 : (Jvm.Cond.lays "CoreplugModel" "CoreplugModel" "thrown" "I") ∈ lw_all := lw_g (lw_at lw_m8 45 rfl) rfl
theorem q1795 : (Jvm.Cond.soleField "CoreplugModel" "thrown") ∈ lw_all := lw_g (lw_at lw_m8 46 rfl) rfl
theorem q1796 : (Jvm.Cond.lays "CoreplugModel" "CoreplugModel" "coreMany" "I") ∈ lw_all := lw_g (lw_at lw_m8 47 rfl) rfl
theorem q1797 : (Jvm.Cond.soleField "CoreplugModel" "coreMany") ∈ lw_all := lw_g (lw_at lw_m8 48 rfl) rfl
theorem q1798 : (Jvm.Cond.laysFinal "CoreplugModel" "CoreplugModel" "levelOf" "[I") ∈ lw_all := lw_g (lw_at lw_m8 49 rfl) rfl
theorem q1799 : (Jvm.Cond.soleField "CoreplugModel" "levelOf") ∈ lw_all := lw_g (lw_at lw_m8 50 rfl) rfl
theorem q1800 : (Jvm.Cond.laysFinal "CoreplugModel" "CoreplugModel" "isStep" "[Z") ∈ lw_all := lw_g (lw_at lw_m8 51 rfl) rfl
theorem q1801 : (Jvm.Cond.soleField "CoreplugModel" "isStep") ∈ lw_all := lw_g (lw_at lw_m8 52 rfl) rfl
theorem q1802 : (Jvm.Cond.laysFinal "CoreplugModel" "CoreplugModel" "hasStart" "[Z") ∈ lw_all := lw_g (lw_at lw_m8 53 rfl) rfl
theorem q1803 : (Jvm.Cond.soleField "CoreplugModel" "hasStart") ∈ lw_all := lw_g (lw_at lw_m8 54 rfl) rfl
theorem q1804 : (Jvm.Cond.laysFinal "CoreplugModel" "CoreplugModel" "hasStop" "[Z") ∈ lw_all := lw_g (lw_at lw_m8 55 rfl) rfl
theorem q1805 : (Jvm.Cond.soleField "CoreplugModel" "hasStop") ∈ lw_all := lw_g (lw_at lw_m8 56 rfl) rfl
theorem q1806 : (Jvm.Cond.laysFinal "CoreplugModel" "CoreplugModel" "isSingle" "[Z") ∈ lw_all := lw_g (lw_at lw_m8 57 rfl) rfl
theorem q1807 : (Jvm.Cond.soleField "CoreplugModel" "isSingle") ∈ lw_all := lw_g (lw_at lw_m8 58 rfl) rfl
theorem q1808 : (Jvm.Cond.laysFinal "CoreplugModel" "CoreplugModel" "instancesOf" "[I") ∈ lw_all := lw_g (lw_at lw_m8 59 rfl) rfl
theorem q1809 : (Jvm.Cond.soleField "CoreplugModel" "instancesOf") ∈ lw_all := lw_g (lw_at lw_m8 60 rfl) rfl
theorem q1810 : (Jvm.Cond.laysFinal "CoreplugModel" "CoreplugModel" "failures" "[I") ∈ lw_all := lw_g (lw_at lw_m8 61 rfl) rfl
theorem q1811 : (Jvm.Cond.soleField "CoreplugModel" "failures") ∈ lw_all := lw_g (lw_at lw_m8 62 rfl) rfl
theorem q1812 : (Jvm.Cond.laysFinal "CoreplugModel" "CoreplugModel" "thingMany" "[I") ∈ lw_all := lw_g (lw_at lw_m8 63 rfl) rfl
theorem q1813 : (Jvm.Cond.soleField "CoreplugModel" "thingMany") ∈ lw_all := lw_g (lw_at lw_m8 64 rfl) rfl
theorem q1814 : (Jvm.Cond.laysFinal "CoreplugModel" "CoreplugModel" "setOf" "[I") ∈ lw_all := lw_g (lw_at lw_m8 65 rfl) rfl
theorem q1815 : (Jvm.Cond.soleField "CoreplugModel" "setOf") ∈ lw_all := lw_g (lw_at lw_m8 66 rfl) rfl
theorem q1816 : (Jvm.Cond.laysFinal "CoreplugModel" "CoreplugModel" "livesOn" "[I") ∈ lw_all := lw_g (lw_at lw_m8 67 rfl) rfl
theorem q1817 : (Jvm.Cond.soleField "CoreplugModel" "livesOn") ∈ lw_all := lw_g (lw_at lw_m8 68 rfl) rfl
theorem q1818 : (Jvm.Cond.laysFinal "CoreplugModel" "CoreplugModel" "movedMany" "[I") ∈ lw_all := lw_g (lw_at lw_m8 69 rfl) rfl
theorem q1819 : (Jvm.Cond.soleField "CoreplugModel" "movedMany") ∈ lw_all := lw_g (lw_at lw_m8 70 rfl) rfl
theorem q1820 : (Jvm.Cond.laysFinal "CoreplugModel" "CoreplugModel" "isBroken" "[Z") ∈ lw_all := lw_g (lw_at lw_m8 71 rfl) rfl
theorem q1821 : (Jvm.Cond.soleField "CoreplugModel" "isBroken") ∈ lw_all := lw_g (lw_at lw_m8 72 rfl) rfl
theorem q1822 : (Jvm.Cond.lays "CoreplugModel" "CoreplugModel" "entryMany" "I") ∈ lw_all := lw_g (lw_at lw_m8 73 rfl) rfl
theorem q1823 : (Jvm.Cond.soleField "CoreplugModel" "entryMany") ∈ lw_all := lw_g (lw_at lw_m8 74 rfl) rfl
theorem q1824 : (Jvm.Cond.lays "CoreplugModel" "CoreplugModel" "failedMany" "I") ∈ lw_all := lw_g (lw_at lw_m8 75 rfl) rfl
theorem q1825 : (Jvm.Cond.soleField "CoreplugModel" "failedMany") ∈ lw_all := lw_g (lw_at lw_m8 76 rfl) rfl
theorem q1826 : (Jvm.Cond.laysFinal "CoreplugModel" "CoreplugModel" "entryOf" "[I") ∈ lw_all := lw_g (lw_at lw_m8 77 rfl) rfl
theorem q1827 : (Jvm.Cond.soleField "CoreplugModel" "entryOf") ∈ lw_all := lw_g (lw_at lw_m8 78 rfl) rfl
theorem q1828 : (Jvm.Cond.superclass "CoreplugModel" "java/lang/Object") ∈ lw_all := lw_g (lw_at lw_m8 79 rfl) rfl
theorem q1831 : (Jvm.Cond.instanceMethod ({ cls := "CoreplugModel", name := "thrown", desc := "()I" } : Jvm.MethodName)) ∈ lw_all := lw_g (lw_at lw_m8 82 rfl) rfl
theorem q1832 : (Jvm.Cond.selects "CoreplugModel" ({ cls := "CoreplugModel", name := "thrown", desc := "()I" } : Jvm.MethodName) ({ cls := "CoreplugModel", name := "thrown", desc := "()I" } : Jvm.MethodName)) ∈ lw_all := lw_g (lw_at lw_m8 83 rfl) rfl
theorem q1833 : (Jvm.Cond.code ({ cls := "CoreplugModel", name := "thrown", desc := "()I" } : Jvm.MethodName) prog_15_method_2_code (1 : Nat) (Option.some Jvm.ClassFile.FieldType.int)) ∈ lw_all := lw_g (lw_at lw_m8 84 rfl) rfl
theorem q1835 : (Jvm.Cond.instanceMethod ({ cls := "CoreplugModel", name := "clear", desc := "()I" } : Jvm.MethodName)) ∈ lw_all := lw_g (lw_at lw_m8 86 rfl) rfl
theorem q1836 : (Jvm.Cond.selects "CoreplugModel" ({ cls := "CoreplugModel", name := "clear", desc := "()I" } : Jvm.MethodName) ({ cls := "CoreplugModel", name := "clear", desc := "()I" } : Jvm.MethodName)) ∈ lw_all := lw_g (lw_at lw_m8 87 rfl) rfl
theorem q1837 : (Jvm.Cond.code ({ cls := "CoreplugModel", name := "clear", desc := "()I" } : Jvm.MethodName) prog_15_method_26_code (2 : Nat) (Option.some Jvm.ClassFile.FieldType.int)) ∈ lw_all := lw_g (lw_at lw_m8 88 rfl) rfl
theorem q1838 : (Jvm.Cond.methodLink "CoreplugModel" (125 : Nat) ({ cls := "CoreplugModel", name := "told", desc := "(I)I" } : Jvm.MethodName)) ∈ lw_all := lw_g (lw_at lw_m8 89 rfl) rfl
theorem q1839 : (Jvm.Cond.privateMethod ({ cls := "CoreplugModel", name := "told", desc := "(I)I" } : Jvm.MethodName)) ∈ lw_tbl := lw_at lw_m8 90 rfl
theorem q1840 : (Jvm.Cond.instanceMethod ({ cls := "CoreplugModel", name := "told", desc := "(I)I" } : Jvm.MethodName)) ∈ lw_all := lw_g (lw_at lw_m8 91 rfl) rfl
theorem q1841 : (Jvm.Cond.code ({ cls := "CoreplugModel", name := "told", desc := "(I)I" } : Jvm.MethodName) prog_15_method_4_code (2 : Nat) (Option.some Jvm.ClassFile.FieldType.int)) ∈ lw_all := lw_g (lw_at lw_m8 92 rfl) rfl
theorem q1843 : (Jvm.Cond.instanceMethod ({ cls := "CoreplugModel", name := "core", desc := "()I" } : Jvm.MethodName)) ∈ lw_all := lw_g (lw_at lw_m8 94 rfl) rfl
theorem q1844 : (Jvm.Cond.selects "CoreplugModel" ({ cls := "CoreplugModel", name := "core", desc := "()I" } : Jvm.MethodName) ({ cls := "CoreplugModel", name := "core", desc := "()I" } : Jvm.MethodName)) ∈ lw_all := lw_g (lw_at lw_m8 95 rfl) rfl
theorem q1845 : (Jvm.Cond.code ({ cls := "CoreplugModel", name := "core", desc := "()I" } : Jvm.MethodName) prog_15_method_27_code (1 : Nat) (Option.some Jvm.ClassFile.FieldType.int)) ∈ lw_all := lw_g (lw_at lw_m8 96 rfl) rfl
theorem q1846 : (Jvm.Cond.methodLink "CoreplugModel" (128 : Nat) ({ cls := "CoreplugModel", name := "refuse", desc := "(I)I" } : Jvm.MethodName)) ∈ lw_all := lw_g (lw_at lw_m8 97 rfl) rfl
theorem q1847 : (Jvm.Cond.privateMethod ({ cls := "CoreplugModel", name := "refuse", desc := "(I)I" } : Jvm.MethodName)) ∈ lw_tbl := lw_at lw_m8 98 rfl
theorem q1848 : (Jvm.Cond.instanceMethod ({ cls := "CoreplugModel", name := "refuse", desc := "(I)I" } : Jvm.MethodName)) ∈ lw_all := lw_g (lw_at lw_m8 99 rfl) rfl
theorem q1849 : (Jvm.Cond.code ({ cls := "CoreplugModel", name := "refuse", desc := "(I)I" } : Jvm.MethodName) prog_15_method_3_code (2 : Nat) (Option.some Jvm.ClassFile.FieldType.int)) ∈ lw_all := lw_g (lw_at lw_m8 100 rfl) rfl
theorem q1851 : (Jvm.Cond.instanceMethod ({ cls := "CoreplugModel", name := "add", desc := "(IZZZ)I" } : Jvm.MethodName)) ∈ lw_all := lw_g (lw_at lw_m8 102 rfl) rfl
theorem q1852 : (Jvm.Cond.selects "CoreplugModel" ({ cls := "CoreplugModel", name := "add", desc := "(IZZZ)I" } : Jvm.MethodName) ({ cls := "CoreplugModel", name := "add", desc := "(IZZZ)I" } : Jvm.MethodName)) ∈ lw_all := lw_g (lw_at lw_m8 103 rfl) rfl
theorem q1853 : (Jvm.Cond.code ({ cls := "CoreplugModel", name := "add", desc := "(IZZZ)I" } : Jvm.MethodName) prog_15_method_32_code (6 : Nat) (Option.some Jvm.ClassFile.FieldType.int)) ∈ lw_all := lw_g (lw_at lw_m8 104 rfl) rfl
theorem q1854 : (Jvm.Cond.methodLink "CoreplugModel" (61 : Nat) ({ cls := "CoreplugModel", name := "in", desc := "(III)Z" } : Jvm.MethodName)) ∈ lw_all := lw_g (lw_at lw_m8 105 rfl) rfl
theorem q1855 : (Jvm.Cond.static ({ cls := "CoreplugModel", name := "in", desc := "(III)Z" } : Jvm.MethodName)) ∈ lw_all := lw_g (lw_at lw_m8 106 rfl) rfl
theorem q1856 : (Jvm.Cond.code ({ cls := "CoreplugModel", name := "in", desc := "(III)Z" } : Jvm.MethodName) prog_15_method_5_code (3 : Nat) (Option.some Jvm.ClassFile.FieldType.boolean)) ∈ lw_all := lw_g (lw_at lw_m8 107 rfl) rfl
theorem q1857 : (Jvm.Cond.methodLink "CoreplugModel" (131 : Nat) ({ cls := "CoreplugModel", name := "startsOnAll", desc := "(II)Z" } : Jvm.MethodName)) ∈ lw_all := lw_g (lw_at lw_m8 108 rfl) rfl
theorem q1858 : (Jvm.Cond.privateMethod ({ cls := "CoreplugModel", name := "startsOnAll", desc := "(II)Z" } : Jvm.MethodName)) ∈ lw_tbl := lw_at lw_m8 109 rfl
theorem q1859 : (Jvm.Cond.instanceMethod ({ cls := "CoreplugModel", name := "startsOnAll", desc := "(II)Z" } : Jvm.MethodName)) ∈ lw_all := lw_g (lw_at lw_m8 110 rfl) rfl
theorem q1860 : (Jvm.Cond.code ({ cls := "CoreplugModel", name := "startsOnAll", desc := "(II)Z" } : Jvm.MethodName) prog_15_method_29_code (6 : Nat) (Option.some Jvm.ClassFile.FieldType.boolean)) ∈ lw_all := lw_g (lw_at lw_m8 111 rfl) rfl
theorem q1861 : (Jvm.Cond.methodLink "CoreplugModel" (105 : Nat) ({ cls := "CoreplugModel", name := "calls", desc := "(IIIZZ)Z" } : Jvm.MethodName)) ∈ lw_all := lw_g (lw_at lw_m8 112 rfl) rfl
theorem q1862 : (Jvm.Cond.privateMethod ({ cls := "CoreplugModel", name := "calls", desc := "(IIIZZ)Z" } : Jvm.MethodName)) ∈ lw_tbl := lw_at lw_m8 113 rfl
theorem q1863 : (Jvm.Cond.instanceMethod ({ cls := "CoreplugModel", name := "calls", desc := "(IIIZZ)Z" } : Jvm.MethodName)) ∈ lw_all := lw_g (lw_at lw_m8 114 rfl) rfl
theorem q1864 : (Jvm.Cond.code ({ cls := "CoreplugModel", name := "calls", desc := "(IIIZZ)Z" } : Jvm.MethodName) prog_15_method_20_code (11 : Nat) (Option.some Jvm.ClassFile.FieldType.boolean)) ∈ lw_all := lw_g (lw_at lw_m8 115 rfl) rfl
theorem q1865 : (Jvm.Cond.methodLink "CoreplugModel" (90 : Nat) ({ cls := "CoreplugModel", name := "control", desc := "()I" } : Jvm.MethodName)) ∈ lw_all := lw_g (lw_at lw_m8 116 rfl) rfl
theorem q1866 : (Jvm.Cond.privateMethod ({ cls := "CoreplugModel", name := "control", desc := "()I" } : Jvm.MethodName)) ∈ lw_tbl := lw_at lw_m8 117 rfl
theorem q1867 : (Jvm.Cond.instanceMethod ({ cls := "CoreplugModel", name := "control", desc := "()I" } : Jvm.MethodName)) ∈ lw_all := lw_g (lw_at lw_m8 118 rfl) rfl
theorem q1868 : (Jvm.Cond.code ({ cls := "CoreplugModel", name := "control", desc := "()I" } : Jvm.MethodName) prog_15_method_12_code (1 : Nat) (Option.some Jvm.ClassFile.FieldType.int)) ∈ lw_all := lw_g (lw_at lw_m8 119 rfl) rfl
theorem q1869 : (Jvm.Cond.methodLink "CoreplugModel" (79 : Nat) ({ cls := "CoreplugModel", name := "firstUp", desc := "(I)I" } : Jvm.MethodName)) ∈ lw_all := lw_g (lw_at lw_m8 120 rfl) rfl
theorem q1870 : (Jvm.Cond.privateMethod ({ cls := "CoreplugModel", name := "firstUp", desc := "(I)I" } : Jvm.MethodName)) ∈ lw_tbl := lw_at lw_m8 121 rfl
theorem q1871 : (Jvm.Cond.instanceMethod ({ cls := "CoreplugModel", name := "firstUp", desc := "(I)I" } : Jvm.MethodName)) ∈ lw_all := lw_g (lw_at lw_m8 122 rfl) rfl
theorem q1872 : (Jvm.Cond.code ({ cls := "CoreplugModel", name := "firstUp", desc := "(I)I" } : Jvm.MethodName) prog_15_method_11_code (3 : Nat) (Option.some Jvm.ClassFile.FieldType.int)) ∈ lw_all := lw_g (lw_at lw_m8 123 rfl) rfl
theorem q1873 : (Jvm.Cond.methodLink "CoreplugModel" (71 : Nat) ({ cls := "CoreplugModel", name := "has", desc := "(II)Z" } : Jvm.MethodName)) ∈ lw_all := lw_g (lw_at lw_m8 124 rfl) rfl
theorem q1874 : (Jvm.Cond.static ({ cls := "CoreplugModel", name := "has", desc := "(II)Z" } : Jvm.MethodName)) ∈ lw_all := lw_g (lw_at lw_m8 125 rfl) rfl
theorem q1875 : (Jvm.Cond.code ({ cls := "CoreplugModel", name := "has", desc := "(II)Z" } : Jvm.MethodName) prog_15_method_6_code (2 : Nat) (Option.some Jvm.ClassFile.FieldType.boolean)) ∈ lw_all := lw_g (lw_at lw_m8 126 rfl) rfl
theorem q1876 : (Jvm.Cond.methodLink "CoreplugModel" (75 : Nat) ({ cls := "CoreplugModel", name := "isUp", desc := "(I)Z" } : Jvm.MethodName)) ∈ lw_all := lw_g (lw_at lw_m8 127 rfl) rfl
theorem q1877 : (Jvm.Cond.privateMethod ({ cls := "CoreplugModel", name := "isUp", desc := "(I)Z" } : Jvm.MethodName)) ∈ lw_tbl := lw_at lw_m8 128 rfl
theorem q1878 : (Jvm.Cond.instanceMethod ({ cls := "CoreplugModel", name := "isUp", desc := "(I)Z" } : Jvm.MethodName)) ∈ lw_all := lw_g (lw_at lw_m8 129 rfl) rfl
theorem q1879 : (Jvm.Cond.code ({ cls := "CoreplugModel", name := "isUp", desc := "(I)Z" } : Jvm.MethodName) prog_15_method_10_code (2 : Nat) (Option.some Jvm.ClassFile.FieldType.boolean)) ∈ lw_all := lw_g (lw_at lw_m8 130 rfl) rfl
theorem q1880 : (Jvm.Cond.methodLink "CoreplugModel" (101 : Nat) ({ cls := "CoreplugModel", name := "failureAt", desc := "(IIIZ)I" } : Jvm.MethodName)) ∈ lw_all := lw_g (lw_at lw_m8 131 rfl) rfl
theorem q1881 : (Jvm.Cond.static ({ cls := "CoreplugModel", name := "failureAt", desc := "(IIIZ)I" } : Jvm.MethodName)) ∈ lw_all := lw_g (lw_at lw_m8 132 rfl) rfl
theorem q1882 : (Jvm.Cond.code ({ cls := "CoreplugModel", name := "failureAt", desc := "(IIIZ)I" } : Jvm.MethodName) prog_15_method_19_code (5 : Nat) (Option.some Jvm.ClassFile.FieldType.int)) ∈ lw_all := lw_g (lw_at lw_m8 133 rfl) rfl
theorem q1883 : (Jvm.Cond.methodLink "CoreplugModel" (134 : Nat) ({ cls := "CoreplugModel", name := "stepMany", desc := "()I" } : Jvm.MethodName)) ∈ lw_all := lw_g (lw_at lw_m8 134 rfl) rfl
theorem q1884 : (Jvm.Cond.privateMethod ({ cls := "CoreplugModel", name := "stepMany", desc := "()I" } : Jvm.MethodName)) ∈ lw_tbl := lw_at lw_m8 135 rfl
theorem q1885 : (Jvm.Cond.instanceMethod ({ cls := "CoreplugModel", name := "stepMany", desc := "()I" } : Jvm.MethodName)) ∈ lw_all := lw_g (lw_at lw_m8 136 rfl) rfl
theorem q1886 : (Jvm.Cond.code ({ cls := "CoreplugModel", name := "stepMany", desc := "()I" } : Jvm.MethodName) prog_15_method_28_code (3 : Nat) (Option.some Jvm.ClassFile.FieldType.int)) ∈ lw_all := lw_g (lw_at lw_m8 137 rfl) rfl
theorem q1888 : (Jvm.Cond.instanceMethod ({ cls := "CoreplugModel", name := "remove", desc := "(I)I" } : Jvm.MethodName)) ∈ lw_all := lw_g (lw_at lw_m8 139 rfl) rfl
theorem q1889 : (Jvm.Cond.selects "CoreplugModel" ({ cls := "CoreplugModel", name := "remove", desc := "(I)I" } : Jvm.MethodName) ({ cls := "CoreplugModel", name := "remove", desc := "(I)I" } : Jvm.MethodName)) ∈ lw_all := lw_g (lw_at lw_m8 140 rfl) rfl
theorem q1890 : (Jvm.Cond.code ({ cls := "CoreplugModel", name := "remove", desc := "(I)I" } : Jvm.MethodName) prog_15_method_33_code (4 : Nat) (Option.some Jvm.ClassFile.FieldType.int)) ∈ lw_all := lw_g (lw_at lw_m8 141 rfl) rfl
theorem q1891 : (Jvm.Cond.methodLink "CoreplugModel" (137 : Nat) ({ cls := "CoreplugModel", name := "isStepAt", desc := "(I)Z" } : Jvm.MethodName)) ∈ lw_all := lw_g (lw_at lw_m8 142 rfl) rfl
theorem q1892 : (Jvm.Cond.privateMethod ({ cls := "CoreplugModel", name := "isStepAt", desc := "(I)Z" } : Jvm.MethodName)) ∈ lw_tbl := lw_at lw_m8 143 rfl
theorem q1893 : (Jvm.Cond.instanceMethod ({ cls := "CoreplugModel", name := "isStepAt", desc := "(I)Z" } : Jvm.MethodName)) ∈ lw_all := lw_g (lw_at lw_m8 144 rfl) rfl
theorem q1894 : (Jvm.Cond.code ({ cls := "CoreplugModel", name := "isStepAt", desc := "(I)Z" } : Jvm.MethodName) prog_15_method_8_code (2 : Nat) (Option.some Jvm.ClassFile.FieldType.boolean)) ∈ lw_all := lw_g (lw_at lw_m8 145 rfl) rfl
theorem q1895 : (Jvm.Cond.methodLink "CoreplugModel" (140 : Nat) ({ cls := "CoreplugModel", name := "stopsOnAll", desc := "(II)V" } : Jvm.MethodName)) ∈ lw_all := lw_g (lw_at lw_m8 146 rfl) rfl
theorem q1896 : (Jvm.Cond.privateMethod ({ cls := "CoreplugModel", name := "stopsOnAll", desc := "(II)V" } : Jvm.MethodName)) ∈ lw_tbl := lw_at lw_m8 147 rfl
theorem q1897 : (Jvm.Cond.instanceMethod ({ cls := "CoreplugModel", name := "stopsOnAll", desc := "(II)V" } : Jvm.MethodName)) ∈ lw_all := lw_g (lw_at lw_m8 148 rfl) rfl
theorem q1898 : (Jvm.Cond.code ({ cls := "CoreplugModel", name := "stopsOnAll", desc := "(II)V" } : Jvm.MethodName) prog_15_method_30_code (5 : Nat) (Option.none : Option Jvm.ClassFile.FieldType)) ∈ lw_all := lw_g (lw_at lw_m8 149 rfl) rfl
theorem q1899 : (Jvm.Cond.methodLink "CoreplugModel" (144 : Nat) ({ cls := "CoreplugModel", name := "forgets", desc := "(II)V" } : Jvm.MethodName)) ∈ lw_all := lw_g (lw_at lw_m8 150 rfl) rfl
theorem q1900 : (Jvm.Cond.privateMethod ({ cls := "CoreplugModel", name := "forgets", desc := "(II)V" } : Jvm.MethodName)) ∈ lw_tbl := lw_at lw_m8 151 rfl
theorem q1901 : (Jvm.Cond.instanceMethod ({ cls := "CoreplugModel", name := "forgets", desc := "(II)V" } : Jvm.MethodName)) ∈ lw_all := lw_g (lw_at lw_m8 152 rfl) rfl
theorem q1902 : (Jvm.Cond.code ({ cls := "CoreplugModel", name := "forgets", desc := "(II)V" } : Jvm.MethodName) prog_15_method_31_code (4 : Nat) (Option.none : Option Jvm.ClassFile.FieldType)) ∈ lw_all := lw_g (lw_at lw_m8 153 rfl) rfl
theorem q1904 : (Jvm.Cond.instanceMethod ({ cls := "CoreplugModel", name := "instance", desc := "(I)I" } : Jvm.MethodName)) ∈ lw_all := lw_g (lw_at lw_m8 155 rfl) rfl
theorem q1905 : (Jvm.Cond.selects "CoreplugModel" ({ cls := "CoreplugModel", name := "instance", desc := "(I)I" } : Jvm.MethodName) ({ cls := "CoreplugModel", name := "instance", desc := "(I)I" } : Jvm.MethodName)) ∈ lw_all := lw_g (lw_at lw_m8 156 rfl) rfl
theorem q1906 : (Jvm.Cond.code ({ cls := "CoreplugModel", name := "instance", desc := "(I)I" } : Jvm.MethodName) prog_15_method_34_code (3 : Nat) (Option.some Jvm.ClassFile.FieldType.int)) ∈ lw_all := lw_g (lw_at lw_m8 157 rfl) rfl
theorem q1908 : (Jvm.Cond.instanceMethod ({ cls := "CoreplugModel", name := "retire", desc := "(II)I" } : Jvm.MethodName)) ∈ lw_all := lw_g (lw_at lw_m8 159 rfl) rfl
theorem q1909 : (Jvm.Cond.selects "CoreplugModel" ({ cls := "CoreplugModel", name := "retire", desc := "(II)I" } : Jvm.MethodName) ({ cls := "CoreplugModel", name := "retire", desc := "(II)I" } : Jvm.MethodName)) ∈ lw_all := lw_g (lw_at lw_m8 160 rfl) rfl
theorem q1910 : (Jvm.Cond.code ({ cls := "CoreplugModel", name := "retire", desc := "(II)I" } : Jvm.MethodName) prog_15_method_35_code (4 : Nat) (Option.some Jvm.ClassFile.FieldType.int)) ∈ lw_all := lw_g (lw_at lw_m8 161 rfl) rfl
theorem q1912 : (Jvm.Cond.instanceMethod ({ cls := "CoreplugModel", name := "fail", desc := "(IIIZI)I" } : Jvm.MethodName)) ∈ lw_all := lw_g (lw_at lw_m8 163 rfl) rfl
theorem q1913 : (Jvm.Cond.selects "CoreplugModel" ({ cls := "CoreplugModel", name := "fail", desc := "(IIIZI)I" } : Jvm.MethodName) ({ cls := "CoreplugModel", name := "fail", desc := "(IIIZI)I" } : Jvm.MethodName)) ∈ lw_all := lw_g (lw_at lw_m8 164 rfl) rfl
theorem q1914 : (Jvm.Cond.code ({ cls := "CoreplugModel", name := "fail", desc := "(IIIZI)I" } : Jvm.MethodName) prog_15_method_36_code (8 : Nat) (Option.some Jvm.ClassFile.FieldType.int)) ∈ lw_all := lw_g (lw_at lw_m8 165 rfl) rfl
theorem q1915 : (Jvm.Cond.methodLink "CoreplugModel" (147 : Nat) ({ cls := "CoreplugModel", name := "isCore", desc := "(I)Z" } : Jvm.MethodName)) ∈ lw_all := lw_g (lw_at lw_m8 166 rfl) rfl
theorem q1916 : (Jvm.Cond.privateMethod ({ cls := "CoreplugModel", name := "isCore", desc := "(I)Z" } : Jvm.MethodName)) ∈ lw_tbl := lw_at lw_m8 167 rfl
theorem q1917 : (Jvm.Cond.instanceMethod ({ cls := "CoreplugModel", name := "isCore", desc := "(I)Z" } : Jvm.MethodName)) ∈ lw_all := lw_g (lw_at lw_m8 168 rfl) rfl
theorem q1918 : (Jvm.Cond.code ({ cls := "CoreplugModel", name := "isCore", desc := "(I)Z" } : Jvm.MethodName) prog_15_method_7_code (2 : Nat) (Option.some Jvm.ClassFile.FieldType.boolean)) ∈ lw_all := lw_g (lw_at lw_m8 169 rfl) rfl
theorem q1920 : (Jvm.Cond.instanceMethod ({ cls := "CoreplugModel", name := "up", desc := "(II)I" } : Jvm.MethodName)) ∈ lw_all := lw_g (lw_at lw_m8 171 rfl) rfl
theorem q1921 : (Jvm.Cond.selects "CoreplugModel" ({ cls := "CoreplugModel", name := "up", desc := "(II)I" } : Jvm.MethodName) ({ cls := "CoreplugModel", name := "up", desc := "(II)I" } : Jvm.MethodName)) ∈ lw_all := lw_g (lw_at lw_m8 172 rfl) rfl
theorem q1922 : (Jvm.Cond.code ({ cls := "CoreplugModel", name := "up", desc := "(II)I" } : Jvm.MethodName) prog_15_method_37_code (6 : Nat) (Option.some Jvm.ClassFile.FieldType.int)) ∈ lw_all := lw_g (lw_at lw_m8 173 rfl) rfl
theorem q1923 : (Jvm.Cond.methodLink "CoreplugModel" (150 : Nat) ({ cls := "CoreplugModel", name := "goesUp", desc := "(IZ)Z" } : Jvm.MethodName)) ∈ lw_all := lw_g (lw_at lw_m8 174 rfl) rfl
theorem q1924 : (Jvm.Cond.privateMethod ({ cls := "CoreplugModel", name := "goesUp", desc := "(IZ)Z" } : Jvm.MethodName)) ∈ lw_tbl := lw_at lw_m8 175 rfl
theorem q1925 : (Jvm.Cond.instanceMethod ({ cls := "CoreplugModel", name := "goesUp", desc := "(IZ)Z" } : Jvm.MethodName)) ∈ lw_all := lw_g (lw_at lw_m8 176 rfl) rfl
theorem q1926 : (Jvm.Cond.code ({ cls := "CoreplugModel", name := "goesUp", desc := "(IZ)Z" } : Jvm.MethodName) prog_15_method_23_code (4 : Nat) (Option.some Jvm.ClassFile.FieldType.boolean)) ∈ lw_all := lw_g (lw_at lw_m8 177 rfl) rfl
theorem q1927 : (Jvm.Cond.methodLink "CoreplugModel" (109 : Nat) ({ cls := "CoreplugModel", name := "startsAll", desc := "(IIZ)Z" } : Jvm.MethodName)) ∈ lw_all := lw_g (lw_at lw_m8 178 rfl) rfl
theorem q1928 : (Jvm.Cond.privateMethod ({ cls := "CoreplugModel", name := "startsAll", desc := "(IIZ)Z" } : Jvm.MethodName)) ∈ lw_tbl := lw_at lw_m8 179 rfl
theorem q1929 : (Jvm.Cond.instanceMethod ({ cls := "CoreplugModel", name := "startsAll", desc := "(IIZ)Z" } : Jvm.MethodName)) ∈ lw_all := lw_g (lw_at lw_m8 180 rfl) rfl
theorem q1930 : (Jvm.Cond.code ({ cls := "CoreplugModel", name := "startsAll", desc := "(IIZ)Z" } : Jvm.MethodName) prog_15_method_21_code (7 : Nat) (Option.some Jvm.ClassFile.FieldType.boolean)) ∈ lw_all := lw_g (lw_at lw_m8 181 rfl) rfl
theorem q1931 : (Jvm.Cond.methodLink "CoreplugModel" (113 : Nat) ({ cls := "CoreplugModel", name := "comes", desc := "(I)V" } : Jvm.MethodName)) ∈ lw_all := lw_g (lw_at lw_m8 182 rfl) rfl
theorem q1932 : (Jvm.Cond.privateMethod ({ cls := "CoreplugModel", name := "comes", desc := "(I)V" } : Jvm.MethodName)) ∈ lw_tbl := lw_at lw_m8 183 rfl
theorem q1933 : (Jvm.Cond.instanceMethod ({ cls := "CoreplugModel", name := "comes", desc := "(I)V" } : Jvm.MethodName)) ∈ lw_all := lw_g (lw_at lw_m8 184 rfl) rfl
theorem q1934 : (Jvm.Cond.code ({ cls := "CoreplugModel", name := "comes", desc := "(I)V" } : Jvm.MethodName) prog_15_method_18_code (3 : Nat) (Option.none : Option Jvm.ClassFile.FieldType)) ∈ lw_all := lw_g (lw_at lw_m8 185 rfl) rfl
theorem q1935 : (Jvm.Cond.methodLink "CoreplugModel" (83 : Nat) ({ cls := "CoreplugModel", name := "at", desc := "(II)I" } : Jvm.MethodName)) ∈ lw_all := lw_g (lw_at lw_m8 186 rfl) rfl
theorem q1936 : (Jvm.Cond.static ({ cls := "CoreplugModel", name := "at", desc := "(II)I" } : Jvm.MethodName)) ∈ lw_all := lw_g (lw_at lw_m8 187 rfl) rfl
theorem q1937 : (Jvm.Cond.code ({ cls := "CoreplugModel", name := "at", desc := "(II)I" } : Jvm.MethodName) prog_15_method_13_code (2 : Nat) (Option.some Jvm.ClassFile.FieldType.int)) ∈ lw_all := lw_g (lw_at lw_m8 188 rfl) rfl
theorem q1938 : (Jvm.Cond.methodLink "CoreplugModel" (98 : Nat) ({ cls := "CoreplugModel", name := "placesThread", desc := "(I)V" } : Jvm.MethodName)) ∈ lw_all := lw_g (lw_at lw_m8 189 rfl) rfl
theorem q1939 : (Jvm.Cond.privateMethod ({ cls := "CoreplugModel", name := "placesThread", desc := "(I)V" } : Jvm.MethodName)) ∈ lw_tbl := lw_at lw_m8 190 rfl
theorem q1940 : (Jvm.Cond.instanceMethod ({ cls := "CoreplugModel", name := "placesThread", desc := "(I)V" } : Jvm.MethodName)) ∈ lw_all := lw_g (lw_at lw_m8 191 rfl) rfl
theorem q1941 : (Jvm.Cond.code ({ cls := "CoreplugModel", name := "placesThread", desc := "(I)V" } : Jvm.MethodName) prog_15_method_15_code (4 : Nat) (Option.none : Option Jvm.ClassFile.FieldType)) ∈ lw_all := lw_g (lw_at lw_m8 192 rfl) rfl
theorem q1942 : (Jvm.Cond.methodLink "CoreplugModel" (87 : Nat) ({ cls := "CoreplugModel", name := "loadOf", desc := "(I)I" } : Jvm.MethodName)) ∈ lw_all := lw_g (lw_at lw_m8 193 rfl) rfl
theorem q1943 : (Jvm.Cond.privateMethod ({ cls := "CoreplugModel", name := "loadOf", desc := "(I)I" } : Jvm.MethodName)) ∈ lw_tbl := lw_at lw_m8 194 rfl
theorem q1944 : (Jvm.Cond.instanceMethod ({ cls := "CoreplugModel", name := "loadOf", desc := "(I)I" } : Jvm.MethodName)) ∈ lw_all := lw_g (lw_at lw_m8 195 rfl) rfl
theorem q1945 : (Jvm.Cond.code ({ cls := "CoreplugModel", name := "loadOf", desc := "(I)I" } : Jvm.MethodName) prog_15_method_14_code (4 : Nat) (Option.some Jvm.ClassFile.FieldType.int)) ∈ lw_all := lw_g (lw_at lw_m8 196 rfl) rfl
theorem q1946 : (Jvm.Cond.methodLink "CoreplugModel" (154 : Nat) ({ cls := "CoreplugModel", name := "goesDown", desc := "(IZ)Z" } : Jvm.MethodName)) ∈ lw_all := lw_g (lw_at lw_m8 197 rfl) rfl
theorem q1947 : (Jvm.Cond.privateMethod ({ cls := "CoreplugModel", name := "goesDown", desc := "(IZ)Z" } : Jvm.MethodName)) ∈ lw_tbl := lw_at lw_m8 198 rfl
theorem q1948 : (Jvm.Cond.instanceMethod ({ cls := "CoreplugModel", name := "goesDown", desc := "(IZ)Z" } : Jvm.MethodName)) ∈ lw_all := lw_g (lw_at lw_m8 199 rfl) rfl
theorem q1949 : (Jvm.Cond.code ({ cls := "CoreplugModel", name := "goesDown", desc := "(IZ)Z" } : Jvm.MethodName) prog_15_method_25_code (4 : Nat) (Option.some Jvm.ClassFile.FieldType.boolean)) ∈ lw_all := lw_g (lw_at lw_m8 200 rfl) rfl
theorem q1950 : (Jvm.Cond.methodLink "CoreplugModel" (116 : Nat) ({ cls := "CoreplugModel", name := "hasOtherUp", desc := "(I)Z" } : Jvm.MethodName)) ∈ lw_all := lw_g (lw_at lw_m8 201 rfl) rfl
theorem q1951 : (Jvm.Cond.privateMethod ({ cls := "CoreplugModel", name := "hasOtherUp", desc := "(I)Z" } : Jvm.MethodName)) ∈ lw_tbl := lw_at lw_m8 202 rfl
theorem q1952 : (Jvm.Cond.instanceMethod ({ cls := "CoreplugModel", name := "hasOtherUp", desc := "(I)Z" } : Jvm.MethodName)) ∈ lw_all := lw_g (lw_at lw_m8 203 rfl) rfl
theorem q1953 : (Jvm.Cond.code ({ cls := "CoreplugModel", name := "hasOtherUp", desc := "(I)Z" } : Jvm.MethodName) prog_15_method_24_code (2 : Nat) (Option.some Jvm.ClassFile.FieldType.boolean)) ∈ lw_all := lw_g (lw_at lw_m8 204 rfl) rfl
theorem q1954 : (Jvm.Cond.methodLink "CoreplugModel" (119 : Nat) ({ cls := "CoreplugModel", name := "stopsAll", desc := "(IIZ)Z" } : Jvm.MethodName)) ∈ lw_all := lw_g (lw_at lw_m8 205 rfl) rfl
theorem q1955 : (Jvm.Cond.privateMethod ({ cls := "CoreplugModel", name := "stopsAll", desc := "(IIZ)Z" } : Jvm.MethodName)) ∈ lw_tbl := lw_at lw_m8 206 rfl
theorem q1956 : (Jvm.Cond.instanceMethod ({ cls := "CoreplugModel", name := "stopsAll", desc := "(IIZ)Z" } : Jvm.MethodName)) ∈ lw_all := lw_g (lw_at lw_m8 207 rfl) rfl
theorem q1957 : (Jvm.Cond.code ({ cls := "CoreplugModel", name := "stopsAll", desc := "(IIZ)Z" } : Jvm.MethodName) prog_15_method_22_code (7 : Nat) (Option.some Jvm.ClassFile.FieldType.boolean)) ∈ lw_all := lw_g (lw_at lw_m8 208 rfl) rfl
theorem q1958 : (Jvm.Cond.methodLink "CoreplugModel" (122 : Nat) ({ cls := "CoreplugModel", name := "leaves", desc := "(I)V" } : Jvm.MethodName)) ∈ lw_all := lw_g (lw_at lw_m8 209 rfl) rfl
theorem q1959 : (Jvm.Cond.privateMethod ({ cls := "CoreplugModel", name := "leaves", desc := "(I)V" } : Jvm.MethodName)) ∈ lw_tbl := lw_at lw_m8 210 rfl
theorem q1960 : (Jvm.Cond.instanceMethod ({ cls := "CoreplugModel", name := "leaves", desc := "(I)V" } : Jvm.MethodName)) ∈ lw_all := lw_g (lw_at lw_m8 211 rfl) rfl
theorem q1961 : (Jvm.Cond.code ({ cls := "CoreplugModel", name := "leaves", desc := "(I)V" } : Jvm.MethodName) prog_15_method_17_code (3 : Nat) (Option.none : Option Jvm.ClassFile.FieldType)) ∈ lw_all := lw_g (lw_at lw_m8 212 rfl) rfl
theorem q1962 : (Jvm.Cond.methodLink "CoreplugModel" (94 : Nat) ({ cls := "CoreplugModel", name := "placesInterrupt", desc := "(I)V" } : Jvm.MethodName)) ∈ lw_all := lw_g (lw_at lw_m8 213 rfl) rfl
theorem q1963 : (Jvm.Cond.privateMethod ({ cls := "CoreplugModel", name := "placesInterrupt", desc := "(I)V" } : Jvm.MethodName)) ∈ lw_tbl := lw_at lw_m8 214 rfl
theorem q1964 : (Jvm.Cond.instanceMethod ({ cls := "CoreplugModel", name := "placesInterrupt", desc := "(I)V" } : Jvm.MethodName)) ∈ lw_all := lw_g (lw_at lw_m8 215 rfl) rfl
theorem q1965 : (Jvm.Cond.code ({ cls := "CoreplugModel", name := "placesInterrupt", desc := "(I)V" } : Jvm.MethodName) prog_15_method_16_code (3 : Nat) (Option.none : Option Jvm.ClassFile.FieldType)) ∈ lw_all := lw_g (lw_at lw_m8 216 rfl) rfl
theorem q1967 : (Jvm.Cond.instanceMethod ({ cls := "CoreplugModel", name := "down", desc := "(II)I" } : Jvm.MethodName)) ∈ lw_all := lw_g (lw_at lw_m8 218 rfl) rfl
theorem q1968 : (Jvm.Cond.selects "CoreplugModel" ({ cls := "CoreplugModel", name := "down", desc := "(II)I" } : Jvm.MethodName) ({ cls := "CoreplugModel", name := "down", desc := "(II)I" } : Jvm.MethodName)) ∈ lw_all := lw_g (lw_at lw_m8 219 rfl) rfl
theorem q1969 : (Jvm.Cond.code ({ cls := "CoreplugModel", name := "down", desc := "(II)I" } : Jvm.MethodName) prog_15_method_38_code (6 : Nat) (Option.some Jvm.ClassFile.FieldType.int)) ∈ lw_all := lw_g (lw_at lw_m8 220 rfl) rfl
theorem q1971 : (Jvm.Cond.instanceMethod ({ cls := "CoreplugModel", name := "thread", desc := "(I)I" } : Jvm.MethodName)) ∈ lw_all := lw_g (lw_at lw_m8 222 rfl) rfl
theorem q1972 : (Jvm.Cond.selects "CoreplugModel" ({ cls := "CoreplugModel", name := "thread", desc := "(I)I" } : Jvm.MethodName) ({ cls := "CoreplugModel", name := "thread", desc := "(I)I" } : Jvm.MethodName)) ∈ lw_all := lw_g (lw_at lw_m8 223 rfl) rfl
theorem q1973 : (Jvm.Cond.code ({ cls := "CoreplugModel", name := "thread", desc := "(I)I" } : Jvm.MethodName) prog_15_method_40_code (3 : Nat) (Option.some Jvm.ClassFile.FieldType.int)) ∈ lw_all := lw_g (lw_at lw_m8 224 rfl) rfl
theorem q1974 : (Jvm.Cond.methodLink "CoreplugModel" (157 : Nat) ({ cls := "CoreplugModel", name := "addsThing", desc := "(II)I" } : Jvm.MethodName)) ∈ lw_all := lw_g (lw_at lw_m8 225 rfl) rfl
theorem q1975 : (Jvm.Cond.privateMethod ({ cls := "CoreplugModel", name := "addsThing", desc := "(II)I" } : Jvm.MethodName)) ∈ lw_tbl := lw_at lw_m8 226 rfl
theorem q1976 : (Jvm.Cond.instanceMethod ({ cls := "CoreplugModel", name := "addsThing", desc := "(II)I" } : Jvm.MethodName)) ∈ lw_all := lw_g (lw_at lw_m8 227 rfl) rfl
theorem q1977 : (Jvm.Cond.code ({ cls := "CoreplugModel", name := "addsThing", desc := "(II)I" } : Jvm.MethodName) prog_15_method_39_code (4 : Nat) (Option.some Jvm.ClassFile.FieldType.int)) ∈ lw_all := lw_g (lw_at lw_m8 228 rfl) rfl
theorem q1979 : (Jvm.Cond.instanceMethod ({ cls := "CoreplugModel", name := "interrupt", desc := "(I)I" } : Jvm.MethodName)) ∈ lw_all := lw_g (lw_at lw_m8 230 rfl) rfl
theorem q1980 : (Jvm.Cond.selects "CoreplugModel" ({ cls := "CoreplugModel", name := "interrupt", desc := "(I)I" } : Jvm.MethodName) ({ cls := "CoreplugModel", name := "interrupt", desc := "(I)I" } : Jvm.MethodName)) ∈ lw_all := lw_g (lw_at lw_m8 231 rfl) rfl
theorem q1981 : (Jvm.Cond.code ({ cls := "CoreplugModel", name := "interrupt", desc := "(I)I" } : Jvm.MethodName) prog_15_method_41_code (3 : Nat) (Option.some Jvm.ClassFile.FieldType.int)) ∈ lw_all := lw_g (lw_at lw_m8 232 rfl) rfl
theorem q1983 : (Jvm.Cond.instanceMethod ({ cls := "CoreplugModel", name := "timer", desc := "(I)I" } : Jvm.MethodName)) ∈ lw_all := lw_g (lw_at lw_m8 234 rfl) rfl
theorem q1984 : (Jvm.Cond.selects "CoreplugModel" ({ cls := "CoreplugModel", name := "timer", desc := "(I)I" } : Jvm.MethodName) ({ cls := "CoreplugModel", name := "timer", desc := "(I)I" } : Jvm.MethodName)) ∈ lw_all := lw_g (lw_at lw_m8 235 rfl) rfl
theorem q1985 : (Jvm.Cond.code ({ cls := "CoreplugModel", name := "timer", desc := "(I)I" } : Jvm.MethodName) prog_15_method_42_code (3 : Nat) (Option.some Jvm.ClassFile.FieldType.int)) ∈ lw_all := lw_g (lw_at lw_m8 236 rfl) rfl
theorem q1987 : (Jvm.Cond.instanceMethod ({ cls := "CoreplugModel", name := "cores", desc := "()I" } : Jvm.MethodName)) ∈ lw_all := lw_g (lw_at lw_m8 238 rfl) rfl
theorem q1988 : (Jvm.Cond.selects "CoreplugModel" ({ cls := "CoreplugModel", name := "cores", desc := "()I" } : Jvm.MethodName) ({ cls := "CoreplugModel", name := "cores", desc := "()I" } : Jvm.MethodName)) ∈ lw_all := lw_g (lw_at lw_m8 239 rfl) rfl
theorem q1989 : (Jvm.Cond.code ({ cls := "CoreplugModel", name := "cores", desc := "()I" } : Jvm.MethodName) prog_15_method_43_code (1 : Nat) (Option.some Jvm.ClassFile.FieldType.int)) ∈ lw_all := lw_g (lw_at lw_m9 0 rfl) rfl
theorem q1991 : (Jvm.Cond.instanceMethod ({ cls := "CoreplugModel", name := "level", desc := "(I)I" } : Jvm.MethodName)) ∈ lw_all := lw_g (lw_at lw_m9 2 rfl) rfl
theorem q1992 : (Jvm.Cond.selects "CoreplugModel" ({ cls := "CoreplugModel", name := "level", desc := "(I)I" } : Jvm.MethodName) ({ cls := "CoreplugModel", name := "level", desc := "(I)I" } : Jvm.MethodName)) ∈ lw_all := lw_g (lw_at lw_m9 3 rfl) rfl
theorem q1993 : (Jvm.Cond.code ({ cls := "CoreplugModel", name := "level", desc := "(I)I" } : Jvm.MethodName) prog_15_method_44_code (2 : Nat) (Option.some Jvm.ClassFile.FieldType.int)) ∈ lw_all := lw_g (lw_at lw_m9 4 rfl) rfl
theorem q1995 : (Jvm.Cond.instanceMethod ({ cls := "CoreplugModel", name := "upCores", desc := "()I" } : Jvm.MethodName)) ∈ lw_all := lw_g (lw_at lw_m9 6 rfl) rfl
theorem q1996 : (Jvm.Cond.selects "CoreplugModel" ({ cls := "CoreplugModel", name := "upCores", desc := "()I" } : Jvm.MethodName) ({ cls := "CoreplugModel", name := "upCores", desc := "()I" } : Jvm.MethodName)) ∈ lw_all := lw_g (lw_at lw_m9 7 rfl) rfl
theorem q1997 : (Jvm.Cond.code ({ cls := "CoreplugModel", name := "upCores", desc := "()I" } : Jvm.MethodName) prog_15_method_46_code (3 : Nat) (Option.some Jvm.ClassFile.FieldType.int)) ∈ lw_all := lw_g (lw_at lw_m9 8 rfl) rfl
theorem q1999 : (Jvm.Cond.instanceMethod ({ cls := "CoreplugModel", name := "instances", desc := "(I)I" } : Jvm.MethodName)) ∈ lw_all := lw_g (lw_at lw_m9 10 rfl) rfl
theorem q2000 : (Jvm.Cond.selects "CoreplugModel" ({ cls := "CoreplugModel", name := "instances", desc := "(I)I" } : Jvm.MethodName) ({ cls := "CoreplugModel", name := "instances", desc := "(I)I" } : Jvm.MethodName)) ∈ lw_all := lw_g (lw_at lw_m9 11 rfl) rfl
theorem q2001 : (Jvm.Cond.code ({ cls := "CoreplugModel", name := "instances", desc := "(I)I" } : Jvm.MethodName) prog_15_method_47_code (2 : Nat) (Option.some Jvm.ClassFile.FieldType.int)) ∈ lw_all := lw_g (lw_at lw_m9 12 rfl) rfl
theorem q2003 : (Jvm.Cond.instanceMethod ({ cls := "CoreplugModel", name := "coreOf", desc := "(II)I" } : Jvm.MethodName)) ∈ lw_all := lw_g (lw_at lw_m9 14 rfl) rfl
theorem q2004 : (Jvm.Cond.selects "CoreplugModel" ({ cls := "CoreplugModel", name := "coreOf", desc := "(II)I" } : Jvm.MethodName) ({ cls := "CoreplugModel", name := "coreOf", desc := "(II)I" } : Jvm.MethodName)) ∈ lw_all := lw_g (lw_at lw_m9 15 rfl) rfl
theorem q2005 : (Jvm.Cond.code ({ cls := "CoreplugModel", name := "coreOf", desc := "(II)I" } : Jvm.MethodName) prog_15_method_49_code (3 : Nat) (Option.some Jvm.ClassFile.FieldType.int)) ∈ lw_all := lw_g (lw_at lw_m9 16 rfl) rfl
theorem q2006 : (Jvm.Cond.methodLink "CoreplugModel" (160 : Nat) ({ cls := "CoreplugModel", name := "isKind", desc := "(I)Z" } : Jvm.MethodName)) ∈ lw_all := lw_g (lw_at lw_m9 17 rfl) rfl
theorem q2007 : (Jvm.Cond.static ({ cls := "CoreplugModel", name := "isKind", desc := "(I)Z" } : Jvm.MethodName)) ∈ lw_all := lw_g (lw_at lw_m9 18 rfl) rfl
theorem q2008 : (Jvm.Cond.code ({ cls := "CoreplugModel", name := "isKind", desc := "(I)Z" } : Jvm.MethodName) prog_15_method_48_code (1 : Nat) (Option.some Jvm.ClassFile.FieldType.boolean)) ∈ lw_all := lw_g (lw_at lw_m9 19 rfl) rfl
theorem q2010 : (Jvm.Cond.instanceMethod ({ cls := "CoreplugModel", name := "isBroken", desc := "(I)Z" } : Jvm.MethodName)) ∈ lw_all := lw_g (lw_at lw_m9 21 rfl) rfl
theorem q2011 : (Jvm.Cond.selects "CoreplugModel" ({ cls := "CoreplugModel", name := "isBroken", desc := "(I)Z" } : Jvm.MethodName) ({ cls := "CoreplugModel", name := "isBroken", desc := "(I)Z" } : Jvm.MethodName)) ∈ lw_all := lw_g (lw_at lw_m9 22 rfl) rfl
theorem q2012 : (Jvm.Cond.code ({ cls := "CoreplugModel", name := "isBroken", desc := "(I)Z" } : Jvm.MethodName) prog_15_method_50_code (2 : Nat) (Option.some Jvm.ClassFile.FieldType.boolean)) ∈ lw_all := lw_g (lw_at lw_m9 23 rfl) rfl
theorem q2014 : (Jvm.Cond.instanceMethod ({ cls := "CoreplugModel", name := "moves", desc := "(II)I" } : Jvm.MethodName)) ∈ lw_all := lw_g (lw_at lw_m9 25 rfl) rfl
theorem q2015 : (Jvm.Cond.selects "CoreplugModel" ({ cls := "CoreplugModel", name := "moves", desc := "(II)I" } : Jvm.MethodName) ({ cls := "CoreplugModel", name := "moves", desc := "(II)I" } : Jvm.MethodName)) ∈ lw_all := lw_g (lw_at lw_m9 26 rfl) rfl
theorem q2016 : (Jvm.Cond.code ({ cls := "CoreplugModel", name := "moves", desc := "(II)I" } : Jvm.MethodName) prog_15_method_51_code (3 : Nat) (Option.some Jvm.ClassFile.FieldType.int)) ∈ lw_all := lw_g (lw_at lw_m9 27 rfl) rfl
theorem q2018 : (Jvm.Cond.instanceMethod ({ cls := "CoreplugModel", name := "load", desc := "(I)I" } : Jvm.MethodName)) ∈ lw_all := lw_g (lw_at lw_m9 29 rfl) rfl
theorem q2019 : (Jvm.Cond.selects "CoreplugModel" ({ cls := "CoreplugModel", name := "load", desc := "(I)I" } : Jvm.MethodName) ({ cls := "CoreplugModel", name := "load", desc := "(I)I" } : Jvm.MethodName)) ∈ lw_all := lw_g (lw_at lw_m9 30 rfl) rfl
theorem q2020 : (Jvm.Cond.code ({ cls := "CoreplugModel", name := "load", desc := "(I)I" } : Jvm.MethodName) prog_15_method_52_code (2 : Nat) (Option.some Jvm.ClassFile.FieldType.int)) ∈ lw_all := lw_g (lw_at lw_m9 31 rfl) rfl
theorem q2022 : (Jvm.Cond.instanceMethod ({ cls := "CoreplugModel", name := "entries", desc := "()I" } : Jvm.MethodName)) ∈ lw_all := lw_g (lw_at lw_m9 33 rfl) rfl
theorem q2023 : (Jvm.Cond.selects "CoreplugModel" ({ cls := "CoreplugModel", name := "entries", desc := "()I" } : Jvm.MethodName) ({ cls := "CoreplugModel", name := "entries", desc := "()I" } : Jvm.MethodName)) ∈ lw_all := lw_g (lw_at lw_m9 34 rfl) rfl
theorem q2024 : (Jvm.Cond.code ({ cls := "CoreplugModel", name := "entries", desc := "()I" } : Jvm.MethodName) prog_15_method_53_code (1 : Nat) (Option.some Jvm.ClassFile.FieldType.int)) ∈ lw_all := lw_g (lw_at lw_m9 35 rfl) rfl
theorem q2026 : (Jvm.Cond.instanceMethod ({ cls := "CoreplugModel", name := "entry", desc := "(I)I" } : Jvm.MethodName)) ∈ lw_all := lw_g (lw_at lw_m9 37 rfl) rfl
theorem q2027 : (Jvm.Cond.selects "CoreplugModel" ({ cls := "CoreplugModel", name := "entry", desc := "(I)I" } : Jvm.MethodName) ({ cls := "CoreplugModel", name := "entry", desc := "(I)I" } : Jvm.MethodName)) ∈ lw_all := lw_g (lw_at lw_m9 38 rfl) rfl
theorem q2028 : (Jvm.Cond.code ({ cls := "CoreplugModel", name := "entry", desc := "(I)I" } : Jvm.MethodName) prog_15_method_54_code (2 : Nat) (Option.some Jvm.ClassFile.FieldType.int)) ∈ lw_all := lw_g (lw_at lw_m9 39 rfl) rfl
theorem q2030 : (Jvm.Cond.instanceMethod ({ cls := "CoreplugModel", name := "meanLoad", desc := "()D" } : Jvm.MethodName)) ∈ lw_all := lw_g (lw_at lw_m9 41 rfl) rfl
theorem q2031 : (Jvm.Cond.selects "CoreplugModel" ({ cls := "CoreplugModel", name := "meanLoad", desc := "()D" } : Jvm.MethodName) ({ cls := "CoreplugModel", name := "meanLoad", desc := "()D" } : Jvm.MethodName)) ∈ lw_all := lw_g (lw_at lw_m9 42 rfl) rfl
theorem q2032 : (Jvm.Cond.code ({ cls := "CoreplugModel", name := "meanLoad", desc := "()D" } : Jvm.MethodName) prog_15_method_55_code (1 : Nat) (Option.some Jvm.ClassFile.FieldType.double)) ∈ lw_all := lw_g (lw_at lw_m9 43 rfl) rfl
theorem q2033 : (Jvm.Cond.methodLink "CoreplugModel" (163 : Nat) ({ cls := "CoreplugModel", name := "upMany", desc := "()I" } : Jvm.MethodName)) ∈ lw_all := lw_g (lw_at lw_m9 44 rfl) rfl
theorem q2034 : (Jvm.Cond.privateMethod ({ cls := "CoreplugModel", name := "upMany", desc := "()I" } : Jvm.MethodName)) ∈ lw_tbl := lw_at lw_m9 45 rfl
theorem q2035 : (Jvm.Cond.instanceMethod ({ cls := "CoreplugModel", name := "upMany", desc := "()I" } : Jvm.MethodName)) ∈ lw_all := lw_g (lw_at lw_m9 46 rfl) rfl
theorem q2036 : (Jvm.Cond.code ({ cls := "CoreplugModel", name := "upMany", desc := "()I" } : Jvm.MethodName) prog_15_method_45_code (3 : Nat) (Option.some Jvm.ClassFile.FieldType.int)) ∈ lw_all := lw_g (lw_at lw_m9 47 rfl) rfl
theorem q2038 : (Jvm.Cond.instanceMethod ({ cls := "CoreplugModel", name := "failed", desc := "()F" } : Jvm.MethodName)) ∈ lw_all := lw_g (lw_at lw_m9 49 rfl) rfl
theorem q2039 : (Jvm.Cond.selects "CoreplugModel" ({ cls := "CoreplugModel", name := "failed", desc := "()F" } : Jvm.MethodName) ({ cls := "CoreplugModel", name := "failed", desc := "()F" } : Jvm.MethodName)) ∈ lw_all := lw_g (lw_at lw_m9 50 rfl) rfl
theorem q2040 : (Jvm.Cond.code ({ cls := "CoreplugModel", name := "failed", desc := "()F" } : Jvm.MethodName) prog_15_method_56_code (1 : Nat) (Option.some Jvm.ClassFile.FieldType.float)) ∈ lw_all := lw_g (lw_at lw_m9 51 rfl) rfl
theorem q2042 : (Jvm.Cond.instanceMethod ({ cls := "CoreplugModel", name := "errors", desc := "()I" } : Jvm.MethodName)) ∈ lw_all := lw_g (lw_at lw_m9 53 rfl) rfl
theorem q2043 : (Jvm.Cond.selects "CoreplugModel" ({ cls := "CoreplugModel", name := "errors", desc := "()I" } : Jvm.MethodName) ({ cls := "CoreplugModel", name := "errors", desc := "()I" } : Jvm.MethodName)) ∈ lw_all := lw_g (lw_at lw_m9 54 rfl) rfl
theorem q2044 : (Jvm.Cond.code ({ cls := "CoreplugModel", name := "errors", desc := "()I" } : Jvm.MethodName) prog_15_method_57_code (1 : Nat) (Option.some Jvm.ClassFile.FieldType.int)) ∈ lw_all := lw_g (lw_at lw_m9 55 rfl) rfl
theorem q2066 : (Jvm.Cond.castable "CoreplugModel" "java/lang/Object") ∈ lw_tbl := lw_at lw_m9 77 rfl
theorem in_X3 : ∀ w ∈ wsX30, w ∈ lw_all := lw_in wsX30 [1794, 1796, 1798, 1800, 1802, 1804, 1806, 1808, 1810, 1812, 1814, 1816, 1818, 1820, 1822, 1824, 1826] (by decide +kernel) (by decide +kernel)
