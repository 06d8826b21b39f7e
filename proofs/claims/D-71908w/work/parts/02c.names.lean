/-! LineEchoesModel -/
set_option maxRecDepth 100000
def RX6 : String := "LineEchoesModel"
def TX6 : u_T := fun k => match k with
  | 0 => ("LineEchoesModel", "m", "[J", true)
  | 1 => ("LineEchoesModel", "saved", "[J", true)
  | 2 => ("LineEchoesModel", "savedCount", "I", false)
  | 3 => ("LineEchoesModel", "script", "[I", true)
  | 4 => ("LineEchoesModel", "scriptLength", "I", false)
  | 5 => ("LineEchoesModel", "code", "I", false)
  | 6 => ("LineEchoesModel", "lineParts", "I", false)
  | 7 => ("LineEchoesModel", "lengths", "[I", true)
  | 8 => ("LineEchoesModel", "fractions", "[I", true)
  | 9 => ("LineEchoesModel", "pulseMany", "I", false)
  | 10 => ("LineEchoesModel", "times", "[I", true)
  | 11 => ("LineEchoesModel", "energies", "[J", true)
  | 12 => ("LineEchoesModel", "far", "[J", true)
  | 13 => ("LineEchoesModel", "near", "[J", true)
  | 14 => ("LineEchoesModel", "echoes", "[J", true)
  | 15 => ("LineEchoesModel", "left", "J", false)
  | 16 => ("LineEchoesModel", "dropped", "J", false)
  | 17 => ("LineEchoesModel", "merged", "I", false)
  | 18 => ("LineEchoesModel", "drops", "I", false)
  | 19 => ("LineEchoesModel", "contributions", "I", false)
  | 20 => ("LineEchoesModel", "packet", "J", false)
  | 21 => ("LineEchoesModel", "peelResult", "I", false)
  | 22 => ("LineEchoesModel", "peelTime", "I", false)
  | 23 => ("LineEchoesModel", "peelSum", "I", false)
  | 24 => ("LineEchoesModel", "at", "I", false)
  | 25 => ("LineEchoesModel", "commands", "I", false)
  | 26 => ("LineEchoesModel", "draft", "[I", true)
  | _ => ("LineEchoesModel", "hash", "J", false)
def tyX6 : Nat → FieldType := fun k => match k with
  | 0 => .array .long
  | 1 => .array .long
  | 2 => .int
  | 3 => .array .int
  | 4 => .int
  | 5 => .int
  | 6 => .int
  | 7 => .array .int
  | 8 => .array .int
  | 9 => .int
  | 10 => .array .int
  | 11 => .array .long
  | 12 => .array .long
  | 13 => .array .long
  | 14 => .array .long
  | 15 => .long
  | 16 => .long
  | 17 => .int
  | 18 => .int
  | 19 => .int
  | 20 => .long
  | 21 => .int
  | 22 => .int
  | 23 => .int
  | 24 => .int
  | 25 => .int
  | 26 => .array .int
  | _ => .long
abbrev wsX60 : List Cond := u_ws RX6 TX6 28
set_option maxRecDepth 100000 in
theorem nmX6 : ∀ a, a < 28 → ∀ b, b < 28 → a ≠ b → (TX6 a).2.1 ≠ (TX6 b).2.1 := by decide +kernel
set_option maxRecDepth 100000 in
theorem tyX6_ok : ∀ k, k < 28 → parseFieldDescriptor (TX6 k).2.2.1 = some (tyX6 k) := by decide +kernel
abbrev cX6_init : ByteArray := prog_10_method_1_code
def yX6_init : MethodName := ⟨RX6, "<init>", "()V"⟩
def dkwX6_init_5 : List UInt8 := [180, 0, 7, 16, 20, 10, 80, 42, 180, 0, 7, 16, 22, 20, 0, 46, 80, 177]
abbrev dktX6_init_5 : List UInt8 := dkwX6_init_5 ++ []
def dkwX6_init_4 : List UInt8 := [181, 0, 41, 42, 180, 0, 7, 16, 18, 10, 80, 42, 180, 0, 7, 16, 19, 20, 0, 44, 80, 42]
abbrev dktX6_init_4 : List UInt8 := dkwX6_init_4 ++ dktX6_init_5
def dkwX6_init_3 : List UInt8 := [17, 7, 17, 188, 11, 181, 0, 35, 42, 17, 0, 201, 188, 11, 181, 0, 38, 42, 16, 120, 188, 10]
abbrev dktX6_init_3 : List UInt8 := dkwX6_init_3 ++ dktX6_init_4
def dkwX6_init_2 : List UInt8 := [7, 188, 10, 181, 0, 26, 42, 7, 188, 11, 181, 0, 29, 42, 17, 7, 17, 188, 11, 181, 0, 32, 42]
abbrev dktX6_init_2 : List UInt8 := dkwX6_init_2 ++ dktX6_init_3
def dkwX6_init_1 : List UInt8 := [16, 120, 188, 10, 181, 0, 16, 42, 16, 8, 188, 10, 181, 0, 20, 42, 16, 9, 188, 10, 181, 0, 23, 42]
abbrev dktX6_init_1 : List UInt8 := dkwX6_init_1 ++ dktX6_init_2
def dkwX6_init_0 : List UInt8 := [42, 183, 0, 1, 42, 17, 1, 175, 188, 11, 181, 0, 7, 42, 17, 5, 13, 188, 11, 181, 0, 13, 42]
abbrev dktX6_init_0 : List UInt8 := dkwX6_init_0 ++ dktX6_init_1
theorem dksX6_init_0 : cX6_init.data.toList.drop 0 = dktX6_init_0 := by decide +kernel
theorem dksX6_init_1 : cX6_init.data.toList.drop 23 = dktX6_init_1 := dk_seg dksX6_init_0 23 rfl rfl
theorem dksX6_init_2 : cX6_init.data.toList.drop 47 = dktX6_init_2 := dk_seg dksX6_init_1 24 rfl rfl
theorem dksX6_init_3 : cX6_init.data.toList.drop 70 = dktX6_init_3 := dk_seg dksX6_init_2 23 rfl rfl
theorem dksX6_init_4 : cX6_init.data.toList.drop 92 = dktX6_init_4 := dk_seg dksX6_init_3 22 rfl rfl
theorem dksX6_init_5 : cX6_init.data.toList.drop 114 = dktX6_init_5 := dk_seg dksX6_init_4 22 rfl rfl
theorem dX6_init_0 : decode cX6_init 0 = .ok (.aload_n 0, 1) := dk_42 (dk_at dksX6_init_0 0 rfl rfl)
theorem dX6_init_1 : decode cX6_init 1 = .ok (.invokespecial 1, 3) := dk_183 0 1 (dk_at dksX6_init_0 1 rfl rfl)
theorem dX6_init_4 : decode cX6_init 4 = .ok (.aload_n 0, 1) := dk_42 (dk_at dksX6_init_0 4 rfl rfl)
theorem dX6_init_5 : decode cX6_init 5 = .ok (.sipush 431, 3) := dk_17 1 175 (dk_at dksX6_init_0 5 rfl rfl)
theorem dX6_init_8 : decode cX6_init 8 = .ok (.newarray .long, 2) := dk_188_11 (dk_at dksX6_init_0 8 rfl rfl)
theorem dX6_init_10 : decode cX6_init 10 = .ok (.putfield 7, 3) := dk_181 0 7 (dk_at dksX6_init_0 10 rfl rfl)
theorem dX6_init_13 : decode cX6_init 13 = .ok (.aload_n 0, 1) := dk_42 (dk_at dksX6_init_0 13 rfl rfl)
theorem dX6_init_14 : decode cX6_init 14 = .ok (.sipush 1293, 3) := dk_17 5 13 (dk_at dksX6_init_0 14 rfl rfl)
theorem dX6_init_17 : decode cX6_init 17 = .ok (.newarray .long, 2) := dk_188_11 (dk_at dksX6_init_0 17 rfl rfl)
theorem dX6_init_19 : decode cX6_init 19 = .ok (.putfield 13, 3) := dk_181 0 13 (dk_at dksX6_init_0 19 rfl rfl)
theorem dX6_init_22 : decode cX6_init 22 = .ok (.aload_n 0, 1) := dk_42 (dk_at dksX6_init_0 22 rfl rfl)
theorem dX6_init_23 : decode cX6_init 23 = .ok (.bipush 120, 2) := dk_16 120 (dk_at dksX6_init_1 0 rfl rfl)
theorem dX6_init_25 : decode cX6_init 25 = .ok (.newarray .int, 2) := dk_188_10 (dk_at dksX6_init_1 2 rfl rfl)
theorem dX6_init_27 : decode cX6_init 27 = .ok (.putfield 16, 3) := dk_181 0 16 (dk_at dksX6_init_1 4 rfl rfl)
theorem dX6_init_30 : decode cX6_init 30 = .ok (.aload_n 0, 1) := dk_42 (dk_at dksX6_init_1 7 rfl rfl)
theorem dX6_init_31 : decode cX6_init 31 = .ok (.bipush 8, 2) := dk_16 8 (dk_at dksX6_init_1 8 rfl rfl)
theorem dX6_init_33 : decode cX6_init 33 = .ok (.newarray .int, 2) := dk_188_10 (dk_at dksX6_init_1 10 rfl rfl)
theorem dX6_init_35 : decode cX6_init 35 = .ok (.putfield 20, 3) := dk_181 0 20 (dk_at dksX6_init_1 12 rfl rfl)
theorem dX6_init_38 : decode cX6_init 38 = .ok (.aload_n 0, 1) := dk_42 (dk_at dksX6_init_1 15 rfl rfl)
theorem dX6_init_39 : decode cX6_init 39 = .ok (.bipush 9, 2) := dk_16 9 (dk_at dksX6_init_1 16 rfl rfl)
theorem dX6_init_41 : decode cX6_init 41 = .ok (.newarray .int, 2) := dk_188_10 (dk_at dksX6_init_1 18 rfl rfl)
theorem dX6_init_43 : decode cX6_init 43 = .ok (.putfield 23, 3) := dk_181 0 23 (dk_at dksX6_init_1 20 rfl rfl)
theorem dX6_init_46 : decode cX6_init 46 = .ok (.aload_n 0, 1) := dk_42 (dk_at dksX6_init_1 23 rfl rfl)
theorem dX6_init_47 : decode cX6_init 47 = .ok (.iconst 4, 1) := dk_7 (dk_at dksX6_init_2 0 rfl rfl)
theorem dX6_init_48 : decode cX6_init 48 = .ok (.newarray .int, 2) := dk_188_10 (dk_at dksX6_init_2 1 rfl rfl)
theorem dX6_init_50 : decode cX6_init 50 = .ok (.putfield 26, 3) := dk_181 0 26 (dk_at dksX6_init_2 3 rfl rfl)
theorem dX6_init_53 : decode cX6_init 53 = .ok (.aload_n 0, 1) := dk_42 (dk_at dksX6_init_2 6 rfl rfl)
theorem dX6_init_54 : decode cX6_init 54 = .ok (.iconst 4, 1) := dk_7 (dk_at dksX6_init_2 7 rfl rfl)
theorem dX6_init_55 : decode cX6_init 55 = .ok (.newarray .long, 2) := dk_188_11 (dk_at dksX6_init_2 8 rfl rfl)
theorem dX6_init_57 : decode cX6_init 57 = .ok (.putfield 29, 3) := dk_181 0 29 (dk_at dksX6_init_2 10 rfl rfl)
theorem dX6_init_60 : decode cX6_init 60 = .ok (.aload_n 0, 1) := dk_42 (dk_at dksX6_init_2 13 rfl rfl)
theorem dX6_init_61 : decode cX6_init 61 = .ok (.sipush 1809, 3) := dk_17 7 17 (dk_at dksX6_init_2 14 rfl rfl)
theorem dX6_init_64 : decode cX6_init 64 = .ok (.newarray .long, 2) := dk_188_11 (dk_at dksX6_init_2 17 rfl rfl)
theorem dX6_init_66 : decode cX6_init 66 = .ok (.putfield 32, 3) := dk_181 0 32 (dk_at dksX6_init_2 19 rfl rfl)
theorem dX6_init_69 : decode cX6_init 69 = .ok (.aload_n 0, 1) := dk_42 (dk_at dksX6_init_2 22 rfl rfl)
theorem dX6_init_70 : decode cX6_init 70 = .ok (.sipush 1809, 3) := dk_17 7 17 (dk_at dksX6_init_3 0 rfl rfl)
theorem dX6_init_73 : decode cX6_init 73 = .ok (.newarray .long, 2) := dk_188_11 (dk_at dksX6_init_3 3 rfl rfl)
theorem dX6_init_75 : decode cX6_init 75 = .ok (.putfield 35, 3) := dk_181 0 35 (dk_at dksX6_init_3 5 rfl rfl)
theorem dX6_init_78 : decode cX6_init 78 = .ok (.aload_n 0, 1) := dk_42 (dk_at dksX6_init_3 8 rfl rfl)
theorem dX6_init_79 : decode cX6_init 79 = .ok (.sipush 201, 3) := dk_17 0 201 (dk_at dksX6_init_3 9 rfl rfl)
theorem dX6_init_82 : decode cX6_init 82 = .ok (.newarray .long, 2) := dk_188_11 (dk_at dksX6_init_3 12 rfl rfl)
theorem dX6_init_84 : decode cX6_init 84 = .ok (.putfield 38, 3) := dk_181 0 38 (dk_at dksX6_init_3 14 rfl rfl)
theorem dX6_init_87 : decode cX6_init 87 = .ok (.aload_n 0, 1) := dk_42 (dk_at dksX6_init_3 17 rfl rfl)
theorem dX6_init_88 : decode cX6_init 88 = .ok (.bipush 120, 2) := dk_16 120 (dk_at dksX6_init_3 18 rfl rfl)
theorem dX6_init_90 : decode cX6_init 90 = .ok (.newarray .int, 2) := dk_188_10 (dk_at dksX6_init_3 20 rfl rfl)
theorem dX6_init_92 : decode cX6_init 92 = .ok (.putfield 41, 3) := dk_181 0 41 (dk_at dksX6_init_4 0 rfl rfl)
theorem dX6_init_95 : decode cX6_init 95 = .ok (.aload_n 0, 1) := dk_42 (dk_at dksX6_init_4 3 rfl rfl)
theorem dX6_init_96 : decode cX6_init 96 = .ok (.getfield 7, 3) := dk_180 0 7 (dk_at dksX6_init_4 4 rfl rfl)
theorem dX6_init_99 : decode cX6_init 99 = .ok (.bipush 18, 2) := dk_16 18 (dk_at dksX6_init_4 7 rfl rfl)
theorem dX6_init_101 : decode cX6_init 101 = .ok (.lconst 1, 1) := dk_10 (dk_at dksX6_init_4 9 rfl rfl)
theorem dX6_init_102 : decode cX6_init 102 = .ok (.lastore, 1) := dk_80 (dk_at dksX6_init_4 10 rfl rfl)
theorem dX6_init_103 : decode cX6_init 103 = .ok (.aload_n 0, 1) := dk_42 (dk_at dksX6_init_4 11 rfl rfl)
theorem dX6_init_104 : decode cX6_init 104 = .ok (.getfield 7, 3) := dk_180 0 7 (dk_at dksX6_init_4 12 rfl rfl)
theorem dX6_init_107 : decode cX6_init 107 = .ok (.bipush 19, 2) := dk_16 19 (dk_at dksX6_init_4 15 rfl rfl)
theorem dX6_init_109 : decode cX6_init 109 = .ok (.ldc2_w 44, 3) := dk_20 0 44 (dk_at dksX6_init_4 17 rfl rfl)
theorem dX6_init_112 : decode cX6_init 112 = .ok (.lastore, 1) := dk_80 (dk_at dksX6_init_4 20 rfl rfl)
theorem dX6_init_113 : decode cX6_init 113 = .ok (.aload_n 0, 1) := dk_42 (dk_at dksX6_init_4 21 rfl rfl)
theorem dX6_init_114 : decode cX6_init 114 = .ok (.getfield 7, 3) := dk_180 0 7 (dk_at dksX6_init_5 0 rfl rfl)
theorem dX6_init_117 : decode cX6_init 117 = .ok (.bipush 20, 2) := dk_16 20 (dk_at dksX6_init_5 3 rfl rfl)
theorem dX6_init_119 : decode cX6_init 119 = .ok (.lconst 1, 1) := dk_10 (dk_at dksX6_init_5 5 rfl rfl)
theorem dX6_init_120 : decode cX6_init 120 = .ok (.lastore, 1) := dk_80 (dk_at dksX6_init_5 6 rfl rfl)
theorem dX6_init_121 : decode cX6_init 121 = .ok (.aload_n 0, 1) := dk_42 (dk_at dksX6_init_5 7 rfl rfl)
theorem dX6_init_122 : decode cX6_init 122 = .ok (.getfield 7, 3) := dk_180 0 7 (dk_at dksX6_init_5 8 rfl rfl)
theorem dX6_init_125 : decode cX6_init 125 = .ok (.bipush 22, 2) := dk_16 22 (dk_at dksX6_init_5 11 rfl rfl)
theorem dX6_init_127 : decode cX6_init 127 = .ok (.ldc2_w 46, 3) := dk_20 0 46 (dk_at dksX6_init_5 13 rfl rfl)
theorem dX6_init_130 : decode cX6_init 130 = .ok (.lastore, 1) := dk_80 (dk_at dksX6_init_5 16 rfl rfl)
theorem dX6_init_131 : decode cX6_init 131 = .ok (.return_, 1) := dk_177 (dk_at dksX6_init_5 17 rfl rfl)
abbrev cX6_thrown : ByteArray := prog_10_method_2_code
def yX6_thrown : MethodName := ⟨RX6, "thrown", "()I"⟩
theorem dX6_thrown_0 : decode cX6_thrown 0 = .ok (.aload_n 0, 1) := by decide +kernel
theorem dX6_thrown_1 : decode cX6_thrown 1 = .ok (.getfield 48, 3) := by decide +kernel
theorem dX6_thrown_4 : decode cX6_thrown 4 = .ok (.ireturn, 1) := by decide +kernel
abbrev cX6_addPart : ByteArray := prog_10_method_21_code
def yX6_addPart : MethodName := ⟨RX6, "addPart", "(II)I"⟩
def dkwX6_addPart_1 : List UInt8 := [27, 28, 182, 0, 137, 172]
abbrev dktX6_addPart_1 : List UInt8 := dkwX6_addPart_1 ++ []
def dkwX6_addPart_0 : List UInt8 := [42, 42, 27, 28, 182, 0, 130, 181, 0, 48, 42, 180, 0, 48, 153, 0, 5, 3, 172, 42, 182, 0, 134, 42]
abbrev dktX6_addPart_0 : List UInt8 := dkwX6_addPart_0 ++ dktX6_addPart_1
theorem dksX6_addPart_0 : cX6_addPart.data.toList.drop 0 = dktX6_addPart_0 := by decide +kernel
theorem dksX6_addPart_1 : cX6_addPart.data.toList.drop 24 = dktX6_addPart_1 := dk_seg dksX6_addPart_0 24 rfl rfl
theorem dX6_addPart_0 : decode cX6_addPart 0 = .ok (.aload_n 0, 1) := dk_42 (dk_at dksX6_addPart_0 0 rfl rfl)
theorem dX6_addPart_1 : decode cX6_addPart 1 = .ok (.aload_n 0, 1) := dk_42 (dk_at dksX6_addPart_0 1 rfl rfl)
theorem dX6_addPart_2 : decode cX6_addPart 2 = .ok (.iload_n 1, 1) := dk_27 (dk_at dksX6_addPart_0 2 rfl rfl)
theorem dX6_addPart_3 : decode cX6_addPart 3 = .ok (.iload_n 2, 1) := dk_28 (dk_at dksX6_addPart_0 3 rfl rfl)
theorem dX6_addPart_4 : decode cX6_addPart 4 = .ok (.invokevirtual 130, 3) := dk_182 0 130 (dk_at dksX6_addPart_0 4 rfl rfl)
theorem dX6_addPart_7 : decode cX6_addPart 7 = .ok (.putfield 48, 3) := dk_181 0 48 (dk_at dksX6_addPart_0 7 rfl rfl)
theorem dX6_addPart_10 : decode cX6_addPart 10 = .ok (.aload_n 0, 1) := dk_42 (dk_at dksX6_addPart_0 10 rfl rfl)
theorem dX6_addPart_11 : decode cX6_addPart 11 = .ok (.getfield 48, 3) := dk_180 0 48 (dk_at dksX6_addPart_0 11 rfl rfl)
theorem dX6_addPart_14 : decode cX6_addPart 14 = .ok (.ifCond .eq 5, 3) := dk_153 0 5 (dk_at dksX6_addPart_0 14 rfl rfl)
theorem dX6_addPart_17 : decode cX6_addPart 17 = .ok (.iconst 0, 1) := dk_3 (dk_at dksX6_addPart_0 17 rfl rfl)
theorem dX6_addPart_18 : decode cX6_addPart 18 = .ok (.ireturn, 1) := dk_172 (dk_at dksX6_addPart_0 18 rfl rfl)
theorem dX6_addPart_19 : decode cX6_addPart 19 = .ok (.aload_n 0, 1) := dk_42 (dk_at dksX6_addPart_0 19 rfl rfl)
theorem dX6_addPart_20 : decode cX6_addPart 20 = .ok (.invokevirtual 134, 3) := dk_182 0 134 (dk_at dksX6_addPart_0 20 rfl rfl)
theorem dX6_addPart_23 : decode cX6_addPart 23 = .ok (.aload_n 0, 1) := dk_42 (dk_at dksX6_addPart_0 23 rfl rfl)
theorem dX6_addPart_24 : decode cX6_addPart 24 = .ok (.iload_n 1, 1) := dk_27 (dk_at dksX6_addPart_1 0 rfl rfl)
theorem dX6_addPart_25 : decode cX6_addPart 25 = .ok (.iload_n 2, 1) := dk_28 (dk_at dksX6_addPart_1 1 rfl rfl)
theorem dX6_addPart_26 : decode cX6_addPart 26 = .ok (.invokevirtual 137, 3) := dk_182 0 137 (dk_at dksX6_addPart_1 2 rfl rfl)
theorem dX6_addPart_29 : decode cX6_addPart 29 = .ok (.ireturn, 1) := dk_172 (dk_at dksX6_addPart_1 5 rfl rfl)
abbrev cX6_whyNoPart : ByteArray := prog_10_method_19_code
def yX6_whyNoPart : MethodName := ⟨RX6, "whyNoPart", "(II)I"⟩
def dkwX6_whyNoPart_1 : List UInt8 := [167, 0, 4, 3, 172]
abbrev dktX6_whyNoPart_1 : List UInt8 := dkwX6_whyNoPart_1 ++ []
def dkwX6_whyNoPart_0 : List UInt8 := [27, 28, 184, 0, 122, 154, 0, 7, 4, 167, 0, 17, 42, 182, 0, 55, 16, 8, 160, 0, 7, 5]
abbrev dktX6_whyNoPart_0 : List UInt8 := dkwX6_whyNoPart_0 ++ dktX6_whyNoPart_1
theorem dksX6_whyNoPart_0 : cX6_whyNoPart.data.toList.drop 0 = dktX6_whyNoPart_0 := by decide +kernel
theorem dksX6_whyNoPart_1 : cX6_whyNoPart.data.toList.drop 22 = dktX6_whyNoPart_1 := dk_seg dksX6_whyNoPart_0 22 rfl rfl
theorem dX6_whyNoPart_0 : decode cX6_whyNoPart 0 = .ok (.iload_n 1, 1) := dk_27 (dk_at dksX6_whyNoPart_0 0 rfl rfl)
theorem dX6_whyNoPart_1 : decode cX6_whyNoPart 1 = .ok (.iload_n 2, 1) := dk_28 (dk_at dksX6_whyNoPart_0 1 rfl rfl)
theorem dX6_whyNoPart_2 : decode cX6_whyNoPart 2 = .ok (.invokestatic 122, 3) := dk_184 0 122 (dk_at dksX6_whyNoPart_0 2 rfl rfl)
theorem dX6_whyNoPart_5 : decode cX6_whyNoPart 5 = .ok (.ifCond .ne 7, 3) := dk_154 0 7 (dk_at dksX6_whyNoPart_0 5 rfl rfl)
theorem dX6_whyNoPart_8 : decode cX6_whyNoPart 8 = .ok (.iconst 1, 1) := dk_4 (dk_at dksX6_whyNoPart_0 8 rfl rfl)
theorem dX6_whyNoPart_9 : decode cX6_whyNoPart 9 = .ok (.goto 17, 3) := dk_167 0 17 (dk_at dksX6_whyNoPart_0 9 rfl rfl)
theorem dX6_whyNoPart_12 : decode cX6_whyNoPart 12 = .ok (.aload_n 0, 1) := dk_42 (dk_at dksX6_whyNoPart_0 12 rfl rfl)
theorem dX6_whyNoPart_13 : decode cX6_whyNoPart 13 = .ok (.invokevirtual 55, 3) := dk_182 0 55 (dk_at dksX6_whyNoPart_0 13 rfl rfl)
theorem dX6_whyNoPart_16 : decode cX6_whyNoPart 16 = .ok (.bipush 8, 2) := dk_16 8 (dk_at dksX6_whyNoPart_0 16 rfl rfl)
theorem dX6_whyNoPart_18 : decode cX6_whyNoPart 18 = .ok (.if_icmp .ne 7, 3) := dk_160 0 7 (dk_at dksX6_whyNoPart_0 18 rfl rfl)
theorem dX6_whyNoPart_21 : decode cX6_whyNoPart 21 = .ok (.iconst 2, 1) := dk_5 (dk_at dksX6_whyNoPart_0 21 rfl rfl)
theorem dX6_whyNoPart_22 : decode cX6_whyNoPart 22 = .ok (.goto 4, 3) := dk_167 0 4 (dk_at dksX6_whyNoPart_1 0 rfl rfl)
theorem dX6_whyNoPart_25 : decode cX6_whyNoPart 25 = .ok (.iconst 0, 1) := dk_3 (dk_at dksX6_whyNoPart_1 3 rfl rfl)
theorem dX6_whyNoPart_26 : decode cX6_whyNoPart 26 = .ok (.ireturn, 1) := dk_172 (dk_at dksX6_whyNoPart_1 4 rfl rfl)
abbrev cX6_arePartNumbers : ByteArray := prog_10_method_17_code
def yX6_arePartNumbers : MethodName := ⟨RX6, "arePartNumbers", "(II)Z"⟩
def dkwX6_arePartNumbers_1 : List UInt8 := [4, 167, 0, 4, 3, 172]
abbrev dktX6_arePartNumbers_1 : List UInt8 := dkwX6_arePartNumbers_1 ++ []
def dkwX6_arePartNumbers_0 : List UInt8 := [26, 133, 10, 20, 0, 120, 184, 0, 59, 153, 0, 19, 27, 133, 9, 20, 0, 82, 184, 0, 59, 153, 0, 7]
abbrev dktX6_arePartNumbers_0 : List UInt8 := dkwX6_arePartNumbers_0 ++ dktX6_arePartNumbers_1
theorem dksX6_arePartNumbers_0 : cX6_arePartNumbers.data.toList.drop 0 = dktX6_arePartNumbers_0 := by decide +kernel
theorem dksX6_arePartNumbers_1 : cX6_arePartNumbers.data.toList.drop 24 = dktX6_arePartNumbers_1 := dk_seg dksX6_arePartNumbers_0 24 rfl rfl
theorem dX6_arePartNumbers_0 : decode cX6_arePartNumbers 0 = .ok (.iload_n 0, 1) := dk_26 (dk_at dksX6_arePartNumbers_0 0 rfl rfl)
theorem dX6_arePartNumbers_1 : decode cX6_arePartNumbers 1 = .ok (.i2l, 1) := dk_133 (dk_at dksX6_arePartNumbers_0 1 rfl rfl)
theorem dX6_arePartNumbers_2 : decode cX6_arePartNumbers 2 = .ok (.lconst 1, 1) := dk_10 (dk_at dksX6_arePartNumbers_0 2 rfl rfl)
theorem dX6_arePartNumbers_3 : decode cX6_arePartNumbers 3 = .ok (.ldc2_w 120, 3) := dk_20 0 120 (dk_at dksX6_arePartNumbers_0 3 rfl rfl)
theorem dX6_arePartNumbers_6 : decode cX6_arePartNumbers 6 = .ok (.invokestatic 59, 3) := dk_184 0 59 (dk_at dksX6_arePartNumbers_0 6 rfl rfl)
theorem dX6_arePartNumbers_9 : decode cX6_arePartNumbers 9 = .ok (.ifCond .eq 19, 3) := dk_153 0 19 (dk_at dksX6_arePartNumbers_0 9 rfl rfl)
theorem dX6_arePartNumbers_12 : decode cX6_arePartNumbers 12 = .ok (.iload_n 1, 1) := dk_27 (dk_at dksX6_arePartNumbers_0 12 rfl rfl)
theorem dX6_arePartNumbers_13 : decode cX6_arePartNumbers 13 = .ok (.i2l, 1) := dk_133 (dk_at dksX6_arePartNumbers_0 13 rfl rfl)
theorem dX6_arePartNumbers_14 : decode cX6_arePartNumbers 14 = .ok (.lconst 0, 1) := dk_9 (dk_at dksX6_arePartNumbers_0 14 rfl rfl)
theorem dX6_arePartNumbers_15 : decode cX6_arePartNumbers 15 = .ok (.ldc2_w 82, 3) := dk_20 0 82 (dk_at dksX6_arePartNumbers_0 15 rfl rfl)
theorem dX6_arePartNumbers_18 : decode cX6_arePartNumbers 18 = .ok (.invokestatic 59, 3) := dk_184 0 59 (dk_at dksX6_arePartNumbers_0 18 rfl rfl)
theorem dX6_arePartNumbers_21 : decode cX6_arePartNumbers 21 = .ok (.ifCond .eq 7, 3) := dk_153 0 7 (dk_at dksX6_arePartNumbers_0 21 rfl rfl)
theorem dX6_arePartNumbers_24 : decode cX6_arePartNumbers 24 = .ok (.iconst 1, 1) := dk_4 (dk_at dksX6_arePartNumbers_1 0 rfl rfl)
theorem dX6_arePartNumbers_25 : decode cX6_arePartNumbers 25 = .ok (.goto 4, 3) := dk_167 0 4 (dk_at dksX6_arePartNumbers_1 1 rfl rfl)
theorem dX6_arePartNumbers_28 : decode cX6_arePartNumbers 28 = .ok (.iconst 0, 1) := dk_3 (dk_at dksX6_arePartNumbers_1 4 rfl rfl)
theorem dX6_arePartNumbers_29 : decode cX6_arePartNumbers 29 = .ok (.ireturn, 1) := dk_172 (dk_at dksX6_arePartNumbers_1 5 rfl rfl)
abbrev cX6_in : ByteArray := prog_10_method_3_code
def yX6_in : MethodName := ⟨RX6, "in", "(JJJ)Z"⟩
def dkwX6_in_0 : List UInt8 := [30, 32, 148, 155, 0, 14, 30, 22, 4, 148, 157, 0, 7, 4, 167, 0, 4, 3, 172]
abbrev dktX6_in_0 : List UInt8 := dkwX6_in_0 ++ []
theorem dksX6_in_0 : cX6_in.data.toList.drop 0 = dktX6_in_0 := by decide +kernel
theorem dX6_in_0 : decode cX6_in 0 = .ok (.lload_n 0, 1) := dk_30 (dk_at dksX6_in_0 0 rfl rfl)
theorem dX6_in_1 : decode cX6_in 1 = .ok (.lload_n 2, 1) := dk_32 (dk_at dksX6_in_0 1 rfl rfl)
theorem dX6_in_2 : decode cX6_in 2 = .ok (.lcmp, 1) := dk_148 (dk_at dksX6_in_0 2 rfl rfl)
theorem dX6_in_3 : decode cX6_in 3 = .ok (.ifCond .lt 14, 3) := dk_155 0 14 (dk_at dksX6_in_0 3 rfl rfl)
theorem dX6_in_6 : decode cX6_in 6 = .ok (.lload_n 0, 1) := dk_30 (dk_at dksX6_in_0 6 rfl rfl)
theorem dX6_in_7 : decode cX6_in 7 = .ok (.lload 4, 2) := dk_22 4 (dk_at dksX6_in_0 7 rfl rfl)
theorem dX6_in_9 : decode cX6_in 9 = .ok (.lcmp, 1) := dk_148 (dk_at dksX6_in_0 9 rfl rfl)
theorem dX6_in_10 : decode cX6_in 10 = .ok (.ifCond .gt 7, 3) := dk_157 0 7 (dk_at dksX6_in_0 10 rfl rfl)
theorem dX6_in_13 : decode cX6_in 13 = .ok (.iconst 1, 1) := dk_4 (dk_at dksX6_in_0 13 rfl rfl)
theorem dX6_in_14 : decode cX6_in 14 = .ok (.goto 4, 3) := dk_167 0 4 (dk_at dksX6_in_0 14 rfl rfl)
theorem dX6_in_17 : decode cX6_in 17 = .ok (.iconst 0, 1) := dk_3 (dk_at dksX6_in_0 17 rfl rfl)
theorem dX6_in_18 : decode cX6_in 18 = .ok (.ireturn, 1) := dk_172 (dk_at dksX6_in_0 18 rfl rfl)
abbrev cX6_parts : ByteArray := prog_10_method_5_code
def yX6_parts : MethodName := ⟨RX6, "parts", "()I"⟩
def dkwX6_parts_0 : List UInt8 := [42, 180, 0, 7, 3, 47, 136, 172]
abbrev dktX6_parts_0 : List UInt8 := dkwX6_parts_0 ++ []
theorem dksX6_parts_0 : cX6_parts.data.toList.drop 0 = dktX6_parts_0 := by decide +kernel
theorem dX6_parts_0 : decode cX6_parts 0 = .ok (.aload_n 0, 1) := dk_42 (dk_at dksX6_parts_0 0 rfl rfl)
theorem dX6_parts_1 : decode cX6_parts 1 = .ok (.getfield 7, 3) := dk_180 0 7 (dk_at dksX6_parts_0 1 rfl rfl)
theorem dX6_parts_4 : decode cX6_parts 4 = .ok (.iconst 0, 1) := dk_3 (dk_at dksX6_parts_0 4 rfl rfl)
theorem dX6_parts_5 : decode cX6_parts 5 = .ok (.laload, 1) := dk_47 (dk_at dksX6_parts_0 5 rfl rfl)
theorem dX6_parts_6 : decode cX6_parts 6 = .ok (.l2i, 1) := dk_136 (dk_at dksX6_parts_0 6 rfl rfl)
theorem dX6_parts_7 : decode cX6_parts 7 = .ok (.ireturn, 1) := dk_172 (dk_at dksX6_parts_0 7 rfl rfl)
abbrev cX6_keep : ByteArray := prog_10_method_4_code
def yX6_keep : MethodName := ⟨RX6, "keep", "()V"⟩
def dkwX6_keep_4 : List UInt8 := [181, 0, 52, 177]
abbrev dktX6_keep_4 : List UInt8 := dkwX6_keep_4 ++ []
def dkwX6_keep_3 : List UInt8 := [27, 96, 42, 180, 0, 7, 27, 47, 80, 132, 1, 1, 167, 255, 225, 42, 89, 180, 0, 52, 4, 96]
abbrev dktX6_keep_3 : List UInt8 := dkwX6_keep_3 ++ dktX6_keep_4
def dkwX6_keep_2 : List UInt8 := [181, 0, 52, 3, 60, 27, 17, 1, 175, 162, 0, 30, 42, 180, 0, 13, 17, 1, 175, 42, 180, 0, 52, 104]
abbrev dktX6_keep_2 : List UInt8 := dkwX6_keep_2 ++ dktX6_keep_3
def dkwX6_keep_1 : List UInt8 := [180, 0, 13, 27, 17, 1, 175, 96, 47, 80, 132, 1, 1, 167, 255, 230, 42, 89, 180, 0, 52, 4, 100]
abbrev dktX6_keep_1 : List UInt8 := dkwX6_keep_1 ++ dktX6_keep_2
def dkwX6_keep_0 : List UInt8 := [42, 180, 0, 52, 6, 160, 0, 44, 3, 60, 27, 17, 3, 94, 162, 0, 25, 42, 180, 0, 13, 27, 42]
abbrev dktX6_keep_0 : List UInt8 := dkwX6_keep_0 ++ dktX6_keep_1
theorem dksX6_keep_0 : cX6_keep.data.toList.drop 0 = dktX6_keep_0 := by decide +kernel
theorem dksX6_keep_1 : cX6_keep.data.toList.drop 23 = dktX6_keep_1 := dk_seg dksX6_keep_0 23 rfl rfl
theorem dksX6_keep_2 : cX6_keep.data.toList.drop 46 = dktX6_keep_2 := dk_seg dksX6_keep_1 23 rfl rfl
theorem dksX6_keep_3 : cX6_keep.data.toList.drop 70 = dktX6_keep_3 := dk_seg dksX6_keep_2 24 rfl rfl
theorem dksX6_keep_4 : cX6_keep.data.toList.drop 92 = dktX6_keep_4 := dk_seg dksX6_keep_3 22 rfl rfl
theorem dX6_keep_0 : decode cX6_keep 0 = .ok (.aload_n 0, 1) := dk_42 (dk_at dksX6_keep_0 0 rfl rfl)
theorem dX6_keep_1 : decode cX6_keep 1 = .ok (.getfield 52, 3) := dk_180 0 52 (dk_at dksX6_keep_0 1 rfl rfl)
theorem dX6_keep_4 : decode cX6_keep 4 = .ok (.iconst 3, 1) := dk_6 (dk_at dksX6_keep_0 4 rfl rfl)
theorem dX6_keep_5 : decode cX6_keep 5 = .ok (.if_icmp .ne 44, 3) := dk_160 0 44 (dk_at dksX6_keep_0 5 rfl rfl)
theorem dX6_keep_8 : decode cX6_keep 8 = .ok (.iconst 0, 1) := dk_3 (dk_at dksX6_keep_0 8 rfl rfl)
theorem dX6_keep_9 : decode cX6_keep 9 = .ok (.istore_n 1, 1) := dk_60 (dk_at dksX6_keep_0 9 rfl rfl)
theorem dX6_keep_10 : decode cX6_keep 10 = .ok (.iload_n 1, 1) := dk_27 (dk_at dksX6_keep_0 10 rfl rfl)
theorem dX6_keep_11 : decode cX6_keep 11 = .ok (.sipush 862, 3) := dk_17 3 94 (dk_at dksX6_keep_0 11 rfl rfl)
theorem dX6_keep_14 : decode cX6_keep 14 = .ok (.if_icmp .ge 25, 3) := dk_162 0 25 (dk_at dksX6_keep_0 14 rfl rfl)
theorem dX6_keep_17 : decode cX6_keep 17 = .ok (.aload_n 0, 1) := dk_42 (dk_at dksX6_keep_0 17 rfl rfl)
theorem dX6_keep_18 : decode cX6_keep 18 = .ok (.getfield 13, 3) := dk_180 0 13 (dk_at dksX6_keep_0 18 rfl rfl)
theorem dX6_keep_21 : decode cX6_keep 21 = .ok (.iload_n 1, 1) := dk_27 (dk_at dksX6_keep_0 21 rfl rfl)
theorem dX6_keep_22 : decode cX6_keep 22 = .ok (.aload_n 0, 1) := dk_42 (dk_at dksX6_keep_0 22 rfl rfl)
theorem dX6_keep_23 : decode cX6_keep 23 = .ok (.getfield 13, 3) := dk_180 0 13 (dk_at dksX6_keep_1 0 rfl rfl)
theorem dX6_keep_26 : decode cX6_keep 26 = .ok (.iload_n 1, 1) := dk_27 (dk_at dksX6_keep_1 3 rfl rfl)
theorem dX6_keep_27 : decode cX6_keep 27 = .ok (.sipush 431, 3) := dk_17 1 175 (dk_at dksX6_keep_1 4 rfl rfl)
theorem dX6_keep_30 : decode cX6_keep 30 = .ok (.iadd, 1) := dk_96 (dk_at dksX6_keep_1 7 rfl rfl)
theorem dX6_keep_31 : decode cX6_keep 31 = .ok (.laload, 1) := dk_47 (dk_at dksX6_keep_1 8 rfl rfl)
theorem dX6_keep_32 : decode cX6_keep 32 = .ok (.lastore, 1) := dk_80 (dk_at dksX6_keep_1 9 rfl rfl)
theorem dX6_keep_33 : decode cX6_keep 33 = .ok (.iinc 1 1, 3) := dk_132 1 1 (dk_at dksX6_keep_1 10 rfl rfl)
theorem dX6_keep_36 : decode cX6_keep 36 = .ok (.goto (-26), 3) := dk_167 255 230 (dk_at dksX6_keep_1 13 rfl rfl)
theorem dX6_keep_39 : decode cX6_keep 39 = .ok (.aload_n 0, 1) := dk_42 (dk_at dksX6_keep_1 16 rfl rfl)
theorem dX6_keep_40 : decode cX6_keep 40 = .ok (.dup, 1) := dk_89 (dk_at dksX6_keep_1 17 rfl rfl)
theorem dX6_keep_41 : decode cX6_keep 41 = .ok (.getfield 52, 3) := dk_180 0 52 (dk_at dksX6_keep_1 18 rfl rfl)
theorem dX6_keep_44 : decode cX6_keep 44 = .ok (.iconst 1, 1) := dk_4 (dk_at dksX6_keep_1 21 rfl rfl)
theorem dX6_keep_45 : decode cX6_keep 45 = .ok (.isub, 1) := dk_100 (dk_at dksX6_keep_1 22 rfl rfl)
theorem dX6_keep_46 : decode cX6_keep 46 = .ok (.putfield 52, 3) := dk_181 0 52 (dk_at dksX6_keep_2 0 rfl rfl)
theorem dX6_keep_49 : decode cX6_keep 49 = .ok (.iconst 0, 1) := dk_3 (dk_at dksX6_keep_2 3 rfl rfl)
theorem dX6_keep_50 : decode cX6_keep 50 = .ok (.istore_n 1, 1) := dk_60 (dk_at dksX6_keep_2 4 rfl rfl)
theorem dX6_keep_51 : decode cX6_keep 51 = .ok (.iload_n 1, 1) := dk_27 (dk_at dksX6_keep_2 5 rfl rfl)
theorem dX6_keep_52 : decode cX6_keep 52 = .ok (.sipush 431, 3) := dk_17 1 175 (dk_at dksX6_keep_2 6 rfl rfl)
theorem dX6_keep_55 : decode cX6_keep 55 = .ok (.if_icmp .ge 30, 3) := dk_162 0 30 (dk_at dksX6_keep_2 9 rfl rfl)
theorem dX6_keep_58 : decode cX6_keep 58 = .ok (.aload_n 0, 1) := dk_42 (dk_at dksX6_keep_2 12 rfl rfl)
theorem dX6_keep_59 : decode cX6_keep 59 = .ok (.getfield 13, 3) := dk_180 0 13 (dk_at dksX6_keep_2 13 rfl rfl)
theorem dX6_keep_62 : decode cX6_keep 62 = .ok (.sipush 431, 3) := dk_17 1 175 (dk_at dksX6_keep_2 16 rfl rfl)
theorem dX6_keep_65 : decode cX6_keep 65 = .ok (.aload_n 0, 1) := dk_42 (dk_at dksX6_keep_2 19 rfl rfl)
theorem dX6_keep_66 : decode cX6_keep 66 = .ok (.getfield 52, 3) := dk_180 0 52 (dk_at dksX6_keep_2 20 rfl rfl)
theorem dX6_keep_69 : decode cX6_keep 69 = .ok (.imul, 1) := dk_104 (dk_at dksX6_keep_2 23 rfl rfl)
theorem dX6_keep_70 : decode cX6_keep 70 = .ok (.iload_n 1, 1) := dk_27 (dk_at dksX6_keep_3 0 rfl rfl)
theorem dX6_keep_71 : decode cX6_keep 71 = .ok (.iadd, 1) := dk_96 (dk_at dksX6_keep_3 1 rfl rfl)
theorem dX6_keep_72 : decode cX6_keep 72 = .ok (.aload_n 0, 1) := dk_42 (dk_at dksX6_keep_3 2 rfl rfl)
theorem dX6_keep_73 : decode cX6_keep 73 = .ok (.getfield 7, 3) := dk_180 0 7 (dk_at dksX6_keep_3 3 rfl rfl)
theorem dX6_keep_76 : decode cX6_keep 76 = .ok (.iload_n 1, 1) := dk_27 (dk_at dksX6_keep_3 6 rfl rfl)
theorem dX6_keep_77 : decode cX6_keep 77 = .ok (.laload, 1) := dk_47 (dk_at dksX6_keep_3 7 rfl rfl)
theorem dX6_keep_78 : decode cX6_keep 78 = .ok (.lastore, 1) := dk_80 (dk_at dksX6_keep_3 8 rfl rfl)
theorem dX6_keep_79 : decode cX6_keep 79 = .ok (.iinc 1 1, 3) := dk_132 1 1 (dk_at dksX6_keep_3 9 rfl rfl)
theorem dX6_keep_82 : decode cX6_keep 82 = .ok (.goto (-31), 3) := dk_167 255 225 (dk_at dksX6_keep_3 12 rfl rfl)
theorem dX6_keep_85 : decode cX6_keep 85 = .ok (.aload_n 0, 1) := dk_42 (dk_at dksX6_keep_3 15 rfl rfl)
theorem dX6_keep_86 : decode cX6_keep 86 = .ok (.dup, 1) := dk_89 (dk_at dksX6_keep_3 16 rfl rfl)
theorem dX6_keep_87 : decode cX6_keep 87 = .ok (.getfield 52, 3) := dk_180 0 52 (dk_at dksX6_keep_3 17 rfl rfl)
theorem dX6_keep_90 : decode cX6_keep 90 = .ok (.iconst 1, 1) := dk_4 (dk_at dksX6_keep_3 20 rfl rfl)
theorem dX6_keep_91 : decode cX6_keep 91 = .ok (.iadd, 1) := dk_96 (dk_at dksX6_keep_3 21 rfl rfl)
theorem dX6_keep_92 : decode cX6_keep 92 = .ok (.putfield 52, 3) := dk_181 0 52 (dk_at dksX6_keep_4 0 rfl rfl)
theorem dX6_keep_95 : decode cX6_keep 95 = .ok (.return_, 1) := dk_177 (dk_at dksX6_keep_4 3 rfl rfl)
abbrev cX6_addsPart : ByteArray := prog_10_method_20_code
def yX6_addsPart : MethodName := ⟨RX6, "addsPart", "(II)I"⟩
def dkwX6_addsPart_1 : List UInt8 := [172]
abbrev dktX6_addsPart_1 : List UInt8 := dkwX6_addsPart_1 ++ []
def dkwX6_addsPart_0 : List UInt8 := [42, 42, 182, 0, 55, 27, 28, 182, 0, 126, 42, 180, 0, 7, 3, 92, 47, 10, 97, 80, 42, 182, 0, 55]
abbrev dktX6_addsPart_0 : List UInt8 := dkwX6_addsPart_0 ++ dktX6_addsPart_1
theorem dksX6_addsPart_0 : cX6_addsPart.data.toList.drop 0 = dktX6_addsPart_0 := by decide +kernel
theorem dksX6_addsPart_1 : cX6_addsPart.data.toList.drop 24 = dktX6_addsPart_1 := dk_seg dksX6_addsPart_0 24 rfl rfl
theorem dX6_addsPart_0 : decode cX6_addsPart 0 = .ok (.aload_n 0, 1) := dk_42 (dk_at dksX6_addsPart_0 0 rfl rfl)
theorem dX6_addsPart_1 : decode cX6_addsPart 1 = .ok (.aload_n 0, 1) := dk_42 (dk_at dksX6_addsPart_0 1 rfl rfl)
theorem dX6_addsPart_2 : decode cX6_addsPart 2 = .ok (.invokevirtual 55, 3) := dk_182 0 55 (dk_at dksX6_addsPart_0 2 rfl rfl)
theorem dX6_addsPart_5 : decode cX6_addsPart 5 = .ok (.iload_n 1, 1) := dk_27 (dk_at dksX6_addsPart_0 5 rfl rfl)
theorem dX6_addsPart_6 : decode cX6_addsPart 6 = .ok (.iload_n 2, 1) := dk_28 (dk_at dksX6_addsPart_0 6 rfl rfl)
theorem dX6_addsPart_7 : decode cX6_addsPart 7 = .ok (.invokevirtual 126, 3) := dk_182 0 126 (dk_at dksX6_addsPart_0 7 rfl rfl)
theorem dX6_addsPart_10 : decode cX6_addsPart 10 = .ok (.aload_n 0, 1) := dk_42 (dk_at dksX6_addsPart_0 10 rfl rfl)
theorem dX6_addsPart_11 : decode cX6_addsPart 11 = .ok (.getfield 7, 3) := dk_180 0 7 (dk_at dksX6_addsPart_0 11 rfl rfl)
theorem dX6_addsPart_14 : decode cX6_addsPart 14 = .ok (.iconst 0, 1) := dk_3 (dk_at dksX6_addsPart_0 14 rfl rfl)
theorem dX6_addsPart_15 : decode cX6_addsPart 15 = .ok (.dup2, 1) := dk_92 (dk_at dksX6_addsPart_0 15 rfl rfl)
theorem dX6_addsPart_16 : decode cX6_addsPart 16 = .ok (.laload, 1) := dk_47 (dk_at dksX6_addsPart_0 16 rfl rfl)
theorem dX6_addsPart_17 : decode cX6_addsPart 17 = .ok (.lconst 1, 1) := dk_10 (dk_at dksX6_addsPart_0 17 rfl rfl)
theorem dX6_addsPart_18 : decode cX6_addsPart 18 = .ok (.ladd, 1) := dk_97 (dk_at dksX6_addsPart_0 18 rfl rfl)
theorem dX6_addsPart_19 : decode cX6_addsPart 19 = .ok (.lastore, 1) := dk_80 (dk_at dksX6_addsPart_0 19 rfl rfl)
theorem dX6_addsPart_20 : decode cX6_addsPart 20 = .ok (.aload_n 0, 1) := dk_42 (dk_at dksX6_addsPart_0 20 rfl rfl)
theorem dX6_addsPart_21 : decode cX6_addsPart 21 = .ok (.invokevirtual 55, 3) := dk_182 0 55 (dk_at dksX6_addsPart_0 21 rfl rfl)
theorem dX6_addsPart_24 : decode cX6_addsPart 24 = .ok (.ireturn, 1) := dk_172 (dk_at dksX6_addsPart_1 0 rfl rfl)
abbrev cX6_laysPart : ByteArray := prog_10_method_18_code
def yX6_laysPart : MethodName := ⟨RX6, "laysPart", "(III)V"⟩
def dkwX6_laysPart_0 : List UInt8 := [42, 180, 0, 7, 4, 27, 96, 28, 133, 80, 42, 180, 0, 7, 16, 9, 27, 96, 29, 133, 80, 177]
abbrev dktX6_laysPart_0 : List UInt8 := dkwX6_laysPart_0 ++ []
theorem dksX6_laysPart_0 : cX6_laysPart.data.toList.drop 0 = dktX6_laysPart_0 := by decide +kernel
theorem dX6_laysPart_0 : decode cX6_laysPart 0 = .ok (.aload_n 0, 1) := dk_42 (dk_at dksX6_laysPart_0 0 rfl rfl)
theorem dX6_laysPart_1 : decode cX6_laysPart 1 = .ok (.getfield 7, 3) := dk_180 0 7 (dk_at dksX6_laysPart_0 1 rfl rfl)
theorem dX6_laysPart_4 : decode cX6_laysPart 4 = .ok (.iconst 1, 1) := dk_4 (dk_at dksX6_laysPart_0 4 rfl rfl)
theorem dX6_laysPart_5 : decode cX6_laysPart 5 = .ok (.iload_n 1, 1) := dk_27 (dk_at dksX6_laysPart_0 5 rfl rfl)
theorem dX6_laysPart_6 : decode cX6_laysPart 6 = .ok (.iadd, 1) := dk_96 (dk_at dksX6_laysPart_0 6 rfl rfl)
theorem dX6_laysPart_7 : decode cX6_laysPart 7 = .ok (.iload_n 2, 1) := dk_28 (dk_at dksX6_laysPart_0 7 rfl rfl)
theorem dX6_laysPart_8 : decode cX6_laysPart 8 = .ok (.i2l, 1) := dk_133 (dk_at dksX6_laysPart_0 8 rfl rfl)
theorem dX6_laysPart_9 : decode cX6_laysPart 9 = .ok (.lastore, 1) := dk_80 (dk_at dksX6_laysPart_0 9 rfl rfl)
theorem dX6_laysPart_10 : decode cX6_laysPart 10 = .ok (.aload_n 0, 1) := dk_42 (dk_at dksX6_laysPart_0 10 rfl rfl)
theorem dX6_laysPart_11 : decode cX6_laysPart 11 = .ok (.getfield 7, 3) := dk_180 0 7 (dk_at dksX6_laysPart_0 11 rfl rfl)
theorem dX6_laysPart_14 : decode cX6_laysPart 14 = .ok (.bipush 9, 2) := dk_16 9 (dk_at dksX6_laysPart_0 14 rfl rfl)
theorem dX6_laysPart_16 : decode cX6_laysPart 16 = .ok (.iload_n 1, 1) := dk_27 (dk_at dksX6_laysPart_0 16 rfl rfl)
theorem dX6_laysPart_17 : decode cX6_laysPart 17 = .ok (.iadd, 1) := dk_96 (dk_at dksX6_laysPart_0 17 rfl rfl)
theorem dX6_laysPart_18 : decode cX6_laysPart 18 = .ok (.iload_n 3, 1) := dk_29 (dk_at dksX6_laysPart_0 18 rfl rfl)
theorem dX6_laysPart_19 : decode cX6_laysPart 19 = .ok (.i2l, 1) := dk_133 (dk_at dksX6_laysPart_0 19 rfl rfl)
theorem dX6_laysPart_20 : decode cX6_laysPart 20 = .ok (.lastore, 1) := dk_80 (dk_at dksX6_laysPart_0 20 rfl rfl)
theorem dX6_laysPart_21 : decode cX6_laysPart 21 = .ok (.return_, 1) := dk_177 (dk_at dksX6_laysPart_0 21 rfl rfl)
abbrev cX6_setPart : ByteArray := prog_10_method_24_code
def yX6_setPart : MethodName := ⟨RX6, "setPart", "(III)I"⟩
def dkwX6_setPart_1 : List UInt8 := [42, 27, 28, 29, 182, 0, 148, 172]
abbrev dktX6_setPart_1 : List UInt8 := dkwX6_setPart_1 ++ []
def dkwX6_setPart_0 : List UInt8 := [42, 42, 27, 28, 29, 182, 0, 144, 181, 0, 48, 42, 180, 0, 48, 153, 0, 5, 3, 172, 42, 182, 0, 134]
abbrev dktX6_setPart_0 : List UInt8 := dkwX6_setPart_0 ++ dktX6_setPart_1
theorem dksX6_setPart_0 : cX6_setPart.data.toList.drop 0 = dktX6_setPart_0 := by decide +kernel
theorem dksX6_setPart_1 : cX6_setPart.data.toList.drop 24 = dktX6_setPart_1 := dk_seg dksX6_setPart_0 24 rfl rfl
theorem dX6_setPart_0 : decode cX6_setPart 0 = .ok (.aload_n 0, 1) := dk_42 (dk_at dksX6_setPart_0 0 rfl rfl)
theorem dX6_setPart_1 : decode cX6_setPart 1 = .ok (.aload_n 0, 1) := dk_42 (dk_at dksX6_setPart_0 1 rfl rfl)
theorem dX6_setPart_2 : decode cX6_setPart 2 = .ok (.iload_n 1, 1) := dk_27 (dk_at dksX6_setPart_0 2 rfl rfl)
theorem dX6_setPart_3 : decode cX6_setPart 3 = .ok (.iload_n 2, 1) := dk_28 (dk_at dksX6_setPart_0 3 rfl rfl)
theorem dX6_setPart_4 : decode cX6_setPart 4 = .ok (.iload_n 3, 1) := dk_29 (dk_at dksX6_setPart_0 4 rfl rfl)
theorem dX6_setPart_5 : decode cX6_setPart 5 = .ok (.invokevirtual 144, 3) := dk_182 0 144 (dk_at dksX6_setPart_0 5 rfl rfl)
theorem dX6_setPart_8 : decode cX6_setPart 8 = .ok (.putfield 48, 3) := dk_181 0 48 (dk_at dksX6_setPart_0 8 rfl rfl)
theorem dX6_setPart_11 : decode cX6_setPart 11 = .ok (.aload_n 0, 1) := dk_42 (dk_at dksX6_setPart_0 11 rfl rfl)
theorem dX6_setPart_12 : decode cX6_setPart 12 = .ok (.getfield 48, 3) := dk_180 0 48 (dk_at dksX6_setPart_0 12 rfl rfl)
theorem dX6_setPart_15 : decode cX6_setPart 15 = .ok (.ifCond .eq 5, 3) := dk_153 0 5 (dk_at dksX6_setPart_0 15 rfl rfl)
theorem dX6_setPart_18 : decode cX6_setPart 18 = .ok (.iconst 0, 1) := dk_3 (dk_at dksX6_setPart_0 18 rfl rfl)
theorem dX6_setPart_19 : decode cX6_setPart 19 = .ok (.ireturn, 1) := dk_172 (dk_at dksX6_setPart_0 19 rfl rfl)
theorem dX6_setPart_20 : decode cX6_setPart 20 = .ok (.aload_n 0, 1) := dk_42 (dk_at dksX6_setPart_0 20 rfl rfl)
theorem dX6_setPart_21 : decode cX6_setPart 21 = .ok (.invokevirtual 134, 3) := dk_182 0 134 (dk_at dksX6_setPart_0 21 rfl rfl)
theorem dX6_setPart_24 : decode cX6_setPart 24 = .ok (.aload_n 0, 1) := dk_42 (dk_at dksX6_setPart_1 0 rfl rfl)
theorem dX6_setPart_25 : decode cX6_setPart 25 = .ok (.iload_n 1, 1) := dk_27 (dk_at dksX6_setPart_1 1 rfl rfl)
theorem dX6_setPart_26 : decode cX6_setPart 26 = .ok (.iload_n 2, 1) := dk_28 (dk_at dksX6_setPart_1 2 rfl rfl)
theorem dX6_setPart_27 : decode cX6_setPart 27 = .ok (.iload_n 3, 1) := dk_29 (dk_at dksX6_setPart_1 3 rfl rfl)
theorem dX6_setPart_28 : decode cX6_setPart 28 = .ok (.invokevirtual 148, 3) := dk_182 0 148 (dk_at dksX6_setPart_1 4 rfl rfl)
theorem dX6_setPart_31 : decode cX6_setPart 31 = .ok (.ireturn, 1) := dk_172 (dk_at dksX6_setPart_1 7 rfl rfl)
abbrev cX6_whyNotSet : ByteArray := prog_10_method_22_code
def yX6_whyNotSet : MethodName := ⟨RX6, "whyNotSet", "(III)I"⟩
def dkwX6_whyNotSet_1 : List UInt8 := [5, 172]
abbrev dktX6_whyNotSet_1 : List UInt8 := dkwX6_whyNotSet_1 ++ []
def dkwX6_whyNotSet_0 : List UInt8 := [42, 27, 182, 0, 140, 154, 0, 7, 4, 167, 0, 16, 28, 29, 184, 0, 122, 153, 0, 7, 3, 167, 0, 4]
abbrev dktX6_whyNotSet_0 : List UInt8 := dkwX6_whyNotSet_0 ++ dktX6_whyNotSet_1
theorem dksX6_whyNotSet_0 : cX6_whyNotSet.data.toList.drop 0 = dktX6_whyNotSet_0 := by decide +kernel
theorem dksX6_whyNotSet_1 : cX6_whyNotSet.data.toList.drop 24 = dktX6_whyNotSet_1 := dk_seg dksX6_whyNotSet_0 24 rfl rfl
theorem dX6_whyNotSet_0 : decode cX6_whyNotSet 0 = .ok (.aload_n 0, 1) := dk_42 (dk_at dksX6_whyNotSet_0 0 rfl rfl)
theorem dX6_whyNotSet_1 : decode cX6_whyNotSet 1 = .ok (.iload_n 1, 1) := dk_27 (dk_at dksX6_whyNotSet_0 1 rfl rfl)
theorem dX6_whyNotSet_2 : decode cX6_whyNotSet 2 = .ok (.invokevirtual 140, 3) := dk_182 0 140 (dk_at dksX6_whyNotSet_0 2 rfl rfl)
theorem dX6_whyNotSet_5 : decode cX6_whyNotSet 5 = .ok (.ifCond .ne 7, 3) := dk_154 0 7 (dk_at dksX6_whyNotSet_0 5 rfl rfl)
theorem dX6_whyNotSet_8 : decode cX6_whyNotSet 8 = .ok (.iconst 1, 1) := dk_4 (dk_at dksX6_whyNotSet_0 8 rfl rfl)
theorem dX6_whyNotSet_9 : decode cX6_whyNotSet 9 = .ok (.goto 16, 3) := dk_167 0 16 (dk_at dksX6_whyNotSet_0 9 rfl rfl)
theorem dX6_whyNotSet_12 : decode cX6_whyNotSet 12 = .ok (.iload_n 2, 1) := dk_28 (dk_at dksX6_whyNotSet_0 12 rfl rfl)
theorem dX6_whyNotSet_13 : decode cX6_whyNotSet 13 = .ok (.iload_n 3, 1) := dk_29 (dk_at dksX6_whyNotSet_0 13 rfl rfl)
theorem dX6_whyNotSet_14 : decode cX6_whyNotSet 14 = .ok (.invokestatic 122, 3) := dk_184 0 122 (dk_at dksX6_whyNotSet_0 14 rfl rfl)
theorem dX6_whyNotSet_17 : decode cX6_whyNotSet 17 = .ok (.ifCond .eq 7, 3) := dk_153 0 7 (dk_at dksX6_whyNotSet_0 17 rfl rfl)
theorem dX6_whyNotSet_20 : decode cX6_whyNotSet 20 = .ok (.iconst 0, 1) := dk_3 (dk_at dksX6_whyNotSet_0 20 rfl rfl)
theorem dX6_whyNotSet_21 : decode cX6_whyNotSet 21 = .ok (.goto 4, 3) := dk_167 0 4 (dk_at dksX6_whyNotSet_0 21 rfl rfl)
theorem dX6_whyNotSet_24 : decode cX6_whyNotSet 24 = .ok (.iconst 2, 1) := dk_5 (dk_at dksX6_whyNotSet_1 0 rfl rfl)
theorem dX6_whyNotSet_25 : decode cX6_whyNotSet 25 = .ok (.ireturn, 1) := dk_172 (dk_at dksX6_whyNotSet_1 1 rfl rfl)
abbrev cX6_isPart : ByteArray := prog_10_method_6_code
def yX6_isPart : MethodName := ⟨RX6, "isPart", "(I)Z"⟩
def dkwX6_isPart_0 : List UInt8 := [27, 133, 9, 42, 182, 0, 55, 4, 100, 133, 184, 0, 59, 172]
abbrev dktX6_isPart_0 : List UInt8 := dkwX6_isPart_0 ++ []
theorem dksX6_isPart_0 : cX6_isPart.data.toList.drop 0 = dktX6_isPart_0 := by decide +kernel
theorem dX6_isPart_0 : decode cX6_isPart 0 = .ok (.iload_n 1, 1) := dk_27 (dk_at dksX6_isPart_0 0 rfl rfl)
theorem dX6_isPart_1 : decode cX6_isPart 1 = .ok (.i2l, 1) := dk_133 (dk_at dksX6_isPart_0 1 rfl rfl)
theorem dX6_isPart_2 : decode cX6_isPart 2 = .ok (.lconst 0, 1) := dk_9 (dk_at dksX6_isPart_0 2 rfl rfl)
theorem dX6_isPart_3 : decode cX6_isPart 3 = .ok (.aload_n 0, 1) := dk_42 (dk_at dksX6_isPart_0 3 rfl rfl)
theorem dX6_isPart_4 : decode cX6_isPart 4 = .ok (.invokevirtual 55, 3) := dk_182 0 55 (dk_at dksX6_isPart_0 4 rfl rfl)
theorem dX6_isPart_7 : decode cX6_isPart 7 = .ok (.iconst 1, 1) := dk_4 (dk_at dksX6_isPart_0 7 rfl rfl)
theorem dX6_isPart_8 : decode cX6_isPart 8 = .ok (.isub, 1) := dk_100 (dk_at dksX6_isPart_0 8 rfl rfl)
theorem dX6_isPart_9 : decode cX6_isPart 9 = .ok (.i2l, 1) := dk_133 (dk_at dksX6_isPart_0 9 rfl rfl)
theorem dX6_isPart_10 : decode cX6_isPart 10 = .ok (.invokestatic 59, 3) := dk_184 0 59 (dk_at dksX6_isPart_0 10 rfl rfl)
theorem dX6_isPart_13 : decode cX6_isPart 13 = .ok (.ireturn, 1) := dk_172 (dk_at dksX6_isPart_0 13 rfl rfl)
abbrev cX6_setsPart : ByteArray := prog_10_method_23_code
def yX6_setsPart : MethodName := ⟨RX6, "setsPart", "(III)I"⟩
def dkwX6_setsPart_0 : List UInt8 := [42, 180, 0, 7, 16, 9, 27, 96, 47, 136, 54, 4, 42, 27, 28, 29, 182, 0, 126, 21, 4, 172]
abbrev dktX6_setsPart_0 : List UInt8 := dkwX6_setsPart_0 ++ []
theorem dksX6_setsPart_0 : cX6_setsPart.data.toList.drop 0 = dktX6_setsPart_0 := by decide +kernel
theorem dX6_setsPart_0 : decode cX6_setsPart 0 = .ok (.aload_n 0, 1) := dk_42 (dk_at dksX6_setsPart_0 0 rfl rfl)
theorem dX6_setsPart_1 : decode cX6_setsPart 1 = .ok (.getfield 7, 3) := dk_180 0 7 (dk_at dksX6_setsPart_0 1 rfl rfl)
theorem dX6_setsPart_4 : decode cX6_setsPart 4 = .ok (.bipush 9, 2) := dk_16 9 (dk_at dksX6_setsPart_0 4 rfl rfl)
theorem dX6_setsPart_6 : decode cX6_setsPart 6 = .ok (.iload_n 1, 1) := dk_27 (dk_at dksX6_setsPart_0 6 rfl rfl)
theorem dX6_setsPart_7 : decode cX6_setsPart 7 = .ok (.iadd, 1) := dk_96 (dk_at dksX6_setsPart_0 7 rfl rfl)
theorem dX6_setsPart_8 : decode cX6_setsPart 8 = .ok (.laload, 1) := dk_47 (dk_at dksX6_setsPart_0 8 rfl rfl)
theorem dX6_setsPart_9 : decode cX6_setsPart 9 = .ok (.l2i, 1) := dk_136 (dk_at dksX6_setsPart_0 9 rfl rfl)
theorem dX6_setsPart_10 : decode cX6_setsPart 10 = .ok (.istore 4, 2) := dk_54 4 (dk_at dksX6_setsPart_0 10 rfl rfl)
theorem dX6_setsPart_12 : decode cX6_setsPart 12 = .ok (.aload_n 0, 1) := dk_42 (dk_at dksX6_setsPart_0 12 rfl rfl)
theorem dX6_setsPart_13 : decode cX6_setsPart 13 = .ok (.iload_n 1, 1) := dk_27 (dk_at dksX6_setsPart_0 13 rfl rfl)
theorem dX6_setsPart_14 : decode cX6_setsPart 14 = .ok (.iload_n 2, 1) := dk_28 (dk_at dksX6_setsPart_0 14 rfl rfl)
theorem dX6_setsPart_15 : decode cX6_setsPart 15 = .ok (.iload_n 3, 1) := dk_29 (dk_at dksX6_setsPart_0 15 rfl rfl)
theorem dX6_setsPart_16 : decode cX6_setsPart 16 = .ok (.invokevirtual 126, 3) := dk_182 0 126 (dk_at dksX6_setsPart_0 16 rfl rfl)
theorem dX6_setsPart_19 : decode cX6_setsPart 19 = .ok (.iload 4, 2) := dk_21 4 (dk_at dksX6_setsPart_0 19 rfl rfl)
theorem dX6_setsPart_21 : decode cX6_setsPart 21 = .ok (.ireturn, 1) := dk_172 (dk_at dksX6_setsPart_0 21 rfl rfl)
abbrev cX6_removePart : ByteArray := prog_10_method_26_code
def yX6_removePart : MethodName := ⟨RX6, "removePart", "(I)I"⟩
def dkwX6_removePart_1 : List UInt8 := [3, 172, 42, 182, 0, 134, 42, 27, 182, 0, 151, 172]
abbrev dktX6_removePart_1 : List UInt8 := dkwX6_removePart_1 ++ []
def dkwX6_removePart_0 : List UInt8 := [42, 42, 27, 182, 0, 140, 153, 0, 7, 3, 167, 0, 4, 4, 181, 0, 48, 42, 180, 0, 48, 153, 0, 5]
abbrev dktX6_removePart_0 : List UInt8 := dkwX6_removePart_0 ++ dktX6_removePart_1
theorem dksX6_removePart_0 : cX6_removePart.data.toList.drop 0 = dktX6_removePart_0 := by decide +kernel
theorem dksX6_removePart_1 : cX6_removePart.data.toList.drop 24 = dktX6_removePart_1 := dk_seg dksX6_removePart_0 24 rfl rfl
theorem dX6_removePart_0 : decode cX6_removePart 0 = .ok (.aload_n 0, 1) := dk_42 (dk_at dksX6_removePart_0 0 rfl rfl)
theorem dX6_removePart_1 : decode cX6_removePart 1 = .ok (.aload_n 0, 1) := dk_42 (dk_at dksX6_removePart_0 1 rfl rfl)
theorem dX6_removePart_2 : decode cX6_removePart 2 = .ok (.iload_n 1, 1) := dk_27 (dk_at dksX6_removePart_0 2 rfl rfl)
theorem dX6_removePart_3 : decode cX6_removePart 3 = .ok (.invokevirtual 140, 3) := dk_182 0 140 (dk_at dksX6_removePart_0 3 rfl rfl)
theorem dX6_removePart_6 : decode cX6_removePart 6 = .ok (.ifCond .eq 7, 3) := dk_153 0 7 (dk_at dksX6_removePart_0 6 rfl rfl)
theorem dX6_removePart_9 : decode cX6_removePart 9 = .ok (.iconst 0, 1) := dk_3 (dk_at dksX6_removePart_0 9 rfl rfl)
theorem dX6_removePart_10 : decode cX6_removePart 10 = .ok (.goto 4, 3) := dk_167 0 4 (dk_at dksX6_removePart_0 10 rfl rfl)
theorem dX6_removePart_13 : decode cX6_removePart 13 = .ok (.iconst 1, 1) := dk_4 (dk_at dksX6_removePart_0 13 rfl rfl)
theorem dX6_removePart_14 : decode cX6_removePart 14 = .ok (.putfield 48, 3) := dk_181 0 48 (dk_at dksX6_removePart_0 14 rfl rfl)
theorem dX6_removePart_17 : decode cX6_removePart 17 = .ok (.aload_n 0, 1) := dk_42 (dk_at dksX6_removePart_0 17 rfl rfl)
theorem dX6_removePart_18 : decode cX6_removePart 18 = .ok (.getfield 48, 3) := dk_180 0 48 (dk_at dksX6_removePart_0 18 rfl rfl)
theorem dX6_removePart_21 : decode cX6_removePart 21 = .ok (.ifCond .eq 5, 3) := dk_153 0 5 (dk_at dksX6_removePart_0 21 rfl rfl)
theorem dX6_removePart_24 : decode cX6_removePart 24 = .ok (.iconst 0, 1) := dk_3 (dk_at dksX6_removePart_1 0 rfl rfl)
theorem dX6_removePart_25 : decode cX6_removePart 25 = .ok (.ireturn, 1) := dk_172 (dk_at dksX6_removePart_1 1 rfl rfl)
theorem dX6_removePart_26 : decode cX6_removePart 26 = .ok (.aload_n 0, 1) := dk_42 (dk_at dksX6_removePart_1 2 rfl rfl)
theorem dX6_removePart_27 : decode cX6_removePart 27 = .ok (.invokevirtual 134, 3) := dk_182 0 134 (dk_at dksX6_removePart_1 3 rfl rfl)
theorem dX6_removePart_30 : decode cX6_removePart 30 = .ok (.aload_n 0, 1) := dk_42 (dk_at dksX6_removePart_1 6 rfl rfl)
theorem dX6_removePart_31 : decode cX6_removePart 31 = .ok (.iload_n 1, 1) := dk_27 (dk_at dksX6_removePart_1 7 rfl rfl)
theorem dX6_removePart_32 : decode cX6_removePart 32 = .ok (.invokevirtual 151, 3) := dk_182 0 151 (dk_at dksX6_removePart_1 8 rfl rfl)
theorem dX6_removePart_35 : decode cX6_removePart 35 = .ok (.ireturn, 1) := dk_172 (dk_at dksX6_removePart_1 11 rfl rfl)
abbrev cX6_removesPart : ByteArray := prog_10_method_25_code
def yX6_removesPart : MethodName := ⟨RX6, "removesPart", "(I)I"⟩
def dkwX6_removesPart_2 : List UInt8 := [180, 0, 7, 16, 9, 28, 96, 4, 96, 47, 80, 132, 2, 1, 167, 255, 207, 42, 182, 0, 55, 172]
abbrev dktX6_removesPart_2 : List UInt8 := dkwX6_removesPart_2 ++ []
def dkwX6_removesPart_1 : List UInt8 := [4, 28, 96, 42, 180, 0, 7, 4, 28, 96, 4, 96, 47, 80, 42, 180, 0, 7, 16, 9, 28, 96, 42]
abbrev dktX6_removesPart_1 : List UInt8 := dkwX6_removesPart_1 ++ dktX6_removesPart_2
def dkwX6_removesPart_0 : List UInt8 := [42, 180, 0, 7, 3, 92, 47, 10, 101, 80, 27, 61, 28, 42, 182, 0, 55, 162, 0, 47, 42, 180, 0, 7]
abbrev dktX6_removesPart_0 : List UInt8 := dkwX6_removesPart_0 ++ dktX6_removesPart_1
theorem dksX6_removesPart_0 : cX6_removesPart.data.toList.drop 0 = dktX6_removesPart_0 := by decide +kernel
theorem dksX6_removesPart_1 : cX6_removesPart.data.toList.drop 24 = dktX6_removesPart_1 := dk_seg dksX6_removesPart_0 24 rfl rfl
theorem dksX6_removesPart_2 : cX6_removesPart.data.toList.drop 47 = dktX6_removesPart_2 := dk_seg dksX6_removesPart_1 23 rfl rfl
theorem dX6_removesPart_0 : decode cX6_removesPart 0 = .ok (.aload_n 0, 1) := dk_42 (dk_at dksX6_removesPart_0 0 rfl rfl)
theorem dX6_removesPart_1 : decode cX6_removesPart 1 = .ok (.getfield 7, 3) := dk_180 0 7 (dk_at dksX6_removesPart_0 1 rfl rfl)
theorem dX6_removesPart_4 : decode cX6_removesPart 4 = .ok (.iconst 0, 1) := dk_3 (dk_at dksX6_removesPart_0 4 rfl rfl)
theorem dX6_removesPart_5 : decode cX6_removesPart 5 = .ok (.dup2, 1) := dk_92 (dk_at dksX6_removesPart_0 5 rfl rfl)
theorem dX6_removesPart_6 : decode cX6_removesPart 6 = .ok (.laload, 1) := dk_47 (dk_at dksX6_removesPart_0 6 rfl rfl)
theorem dX6_removesPart_7 : decode cX6_removesPart 7 = .ok (.lconst 1, 1) := dk_10 (dk_at dksX6_removesPart_0 7 rfl rfl)
theorem dX6_removesPart_8 : decode cX6_removesPart 8 = .ok (.lsub, 1) := dk_101 (dk_at dksX6_removesPart_0 8 rfl rfl)
theorem dX6_removesPart_9 : decode cX6_removesPart 9 = .ok (.lastore, 1) := dk_80 (dk_at dksX6_removesPart_0 9 rfl rfl)
theorem dX6_removesPart_10 : decode cX6_removesPart 10 = .ok (.iload_n 1, 1) := dk_27 (dk_at dksX6_removesPart_0 10 rfl rfl)
theorem dX6_removesPart_11 : decode cX6_removesPart 11 = .ok (.istore_n 2, 1) := dk_61 (dk_at dksX6_removesPart_0 11 rfl rfl)
theorem dX6_removesPart_12 : decode cX6_removesPart 12 = .ok (.iload_n 2, 1) := dk_28 (dk_at dksX6_removesPart_0 12 rfl rfl)
theorem dX6_removesPart_13 : decode cX6_removesPart 13 = .ok (.aload_n 0, 1) := dk_42 (dk_at dksX6_removesPart_0 13 rfl rfl)
theorem dX6_removesPart_14 : decode cX6_removesPart 14 = .ok (.invokevirtual 55, 3) := dk_182 0 55 (dk_at dksX6_removesPart_0 14 rfl rfl)
theorem dX6_removesPart_17 : decode cX6_removesPart 17 = .ok (.if_icmp .ge 47, 3) := dk_162 0 47 (dk_at dksX6_removesPart_0 17 rfl rfl)
theorem dX6_removesPart_20 : decode cX6_removesPart 20 = .ok (.aload_n 0, 1) := dk_42 (dk_at dksX6_removesPart_0 20 rfl rfl)
theorem dX6_removesPart_21 : decode cX6_removesPart 21 = .ok (.getfield 7, 3) := dk_180 0 7 (dk_at dksX6_removesPart_0 21 rfl rfl)
theorem dX6_removesPart_24 : decode cX6_removesPart 24 = .ok (.iconst 1, 1) := dk_4 (dk_at dksX6_removesPart_1 0 rfl rfl)
theorem dX6_removesPart_25 : decode cX6_removesPart 25 = .ok (.iload_n 2, 1) := dk_28 (dk_at dksX6_removesPart_1 1 rfl rfl)
theorem dX6_removesPart_26 : decode cX6_removesPart 26 = .ok (.iadd, 1) := dk_96 (dk_at dksX6_removesPart_1 2 rfl rfl)
theorem dX6_removesPart_27 : decode cX6_removesPart 27 = .ok (.aload_n 0, 1) := dk_42 (dk_at dksX6_removesPart_1 3 rfl rfl)
theorem dX6_removesPart_28 : decode cX6_removesPart 28 = .ok (.getfield 7, 3) := dk_180 0 7 (dk_at dksX6_removesPart_1 4 rfl rfl)
theorem dX6_removesPart_31 : decode cX6_removesPart 31 = .ok (.iconst 1, 1) := dk_4 (dk_at dksX6_removesPart_1 7 rfl rfl)
theorem dX6_removesPart_32 : decode cX6_removesPart 32 = .ok (.iload_n 2, 1) := dk_28 (dk_at dksX6_removesPart_1 8 rfl rfl)
theorem dX6_removesPart_33 : decode cX6_removesPart 33 = .ok (.iadd, 1) := dk_96 (dk_at dksX6_removesPart_1 9 rfl rfl)
theorem dX6_removesPart_34 : decode cX6_removesPart 34 = .ok (.iconst 1, 1) := dk_4 (dk_at dksX6_removesPart_1 10 rfl rfl)
theorem dX6_removesPart_35 : decode cX6_removesPart 35 = .ok (.iadd, 1) := dk_96 (dk_at dksX6_removesPart_1 11 rfl rfl)
theorem dX6_removesPart_36 : decode cX6_removesPart 36 = .ok (.laload, 1) := dk_47 (dk_at dksX6_removesPart_1 12 rfl rfl)
theorem dX6_removesPart_37 : decode cX6_removesPart 37 = .ok (.lastore, 1) := dk_80 (dk_at dksX6_removesPart_1 13 rfl rfl)
theorem dX6_removesPart_38 : decode cX6_removesPart 38 = .ok (.aload_n 0, 1) := dk_42 (dk_at dksX6_removesPart_1 14 rfl rfl)
theorem dX6_removesPart_39 : decode cX6_removesPart 39 = .ok (.getfield 7, 3) := dk_180 0 7 (dk_at dksX6_removesPart_1 15 rfl rfl)
theorem dX6_removesPart_42 : decode cX6_removesPart 42 = .ok (.bipush 9, 2) := dk_16 9 (dk_at dksX6_removesPart_1 18 rfl rfl)
theorem dX6_removesPart_44 : decode cX6_removesPart 44 = .ok (.iload_n 2, 1) := dk_28 (dk_at dksX6_removesPart_1 20 rfl rfl)
theorem dX6_removesPart_45 : decode cX6_removesPart 45 = .ok (.iadd, 1) := dk_96 (dk_at dksX6_removesPart_1 21 rfl rfl)
theorem dX6_removesPart_46 : decode cX6_removesPart 46 = .ok (.aload_n 0, 1) := dk_42 (dk_at dksX6_removesPart_1 22 rfl rfl)
theorem dX6_removesPart_47 : decode cX6_removesPart 47 = .ok (.getfield 7, 3) := dk_180 0 7 (dk_at dksX6_removesPart_2 0 rfl rfl)
theorem dX6_removesPart_50 : decode cX6_removesPart 50 = .ok (.bipush 9, 2) := dk_16 9 (dk_at dksX6_removesPart_2 3 rfl rfl)
theorem dX6_removesPart_52 : decode cX6_removesPart 52 = .ok (.iload_n 2, 1) := dk_28 (dk_at dksX6_removesPart_2 5 rfl rfl)
theorem dX6_removesPart_53 : decode cX6_removesPart 53 = .ok (.iadd, 1) := dk_96 (dk_at dksX6_removesPart_2 6 rfl rfl)
theorem dX6_removesPart_54 : decode cX6_removesPart 54 = .ok (.iconst 1, 1) := dk_4 (dk_at dksX6_removesPart_2 7 rfl rfl)
theorem dX6_removesPart_55 : decode cX6_removesPart 55 = .ok (.iadd, 1) := dk_96 (dk_at dksX6_removesPart_2 8 rfl rfl)
theorem dX6_removesPart_56 : decode cX6_removesPart 56 = .ok (.laload, 1) := dk_47 (dk_at dksX6_removesPart_2 9 rfl rfl)
theorem dX6_removesPart_57 : decode cX6_removesPart 57 = .ok (.lastore, 1) := dk_80 (dk_at dksX6_removesPart_2 10 rfl rfl)
theorem dX6_removesPart_58 : decode cX6_removesPart 58 = .ok (.iinc 2 1, 3) := dk_132 2 1 (dk_at dksX6_removesPart_2 11 rfl rfl)
theorem dX6_removesPart_61 : decode cX6_removesPart 61 = .ok (.goto (-49), 3) := dk_167 255 207 (dk_at dksX6_removesPart_2 14 rfl rfl)
theorem dX6_removesPart_64 : decode cX6_removesPart 64 = .ok (.aload_n 0, 1) := dk_42 (dk_at dksX6_removesPart_2 17 rfl rfl)
theorem dX6_removesPart_65 : decode cX6_removesPart 65 = .ok (.invokevirtual 55, 3) := dk_182 0 55 (dk_at dksX6_removesPart_2 18 rfl rfl)
theorem dX6_removesPart_68 : decode cX6_removesPart 68 = .ok (.ireturn, 1) := dk_172 (dk_at dksX6_removesPart_2 21 rfl rfl)
abbrev cX6_splitPart : ByteArray := prog_10_method_29_code
def yX6_splitPart : MethodName := ⟨RX6, "splitPart", "(III)I"⟩
def dkwX6_splitPart_1 : List UInt8 := [42, 27, 28, 29, 182, 0, 158, 172]
abbrev dktX6_splitPart_1 : List UInt8 := dkwX6_splitPart_1 ++ []
def dkwX6_splitPart_0 : List UInt8 := [42, 42, 27, 28, 29, 182, 0, 155, 181, 0, 48, 42, 180, 0, 48, 153, 0, 5, 3, 172, 42, 182, 0, 134]
abbrev dktX6_splitPart_0 : List UInt8 := dkwX6_splitPart_0 ++ dktX6_splitPart_1
theorem dksX6_splitPart_0 : cX6_splitPart.data.toList.drop 0 = dktX6_splitPart_0 := by decide +kernel
theorem dksX6_splitPart_1 : cX6_splitPart.data.toList.drop 24 = dktX6_splitPart_1 := dk_seg dksX6_splitPart_0 24 rfl rfl
theorem dX6_splitPart_0 : decode cX6_splitPart 0 = .ok (.aload_n 0, 1) := dk_42 (dk_at dksX6_splitPart_0 0 rfl rfl)
theorem dX6_splitPart_1 : decode cX6_splitPart 1 = .ok (.aload_n 0, 1) := dk_42 (dk_at dksX6_splitPart_0 1 rfl rfl)
theorem dX6_splitPart_2 : decode cX6_splitPart 2 = .ok (.iload_n 1, 1) := dk_27 (dk_at dksX6_splitPart_0 2 rfl rfl)
theorem dX6_splitPart_3 : decode cX6_splitPart 3 = .ok (.iload_n 2, 1) := dk_28 (dk_at dksX6_splitPart_0 3 rfl rfl)
theorem dX6_splitPart_4 : decode cX6_splitPart 4 = .ok (.iload_n 3, 1) := dk_29 (dk_at dksX6_splitPart_0 4 rfl rfl)
theorem dX6_splitPart_5 : decode cX6_splitPart 5 = .ok (.invokevirtual 155, 3) := dk_182 0 155 (dk_at dksX6_splitPart_0 5 rfl rfl)
theorem dX6_splitPart_8 : decode cX6_splitPart 8 = .ok (.putfield 48, 3) := dk_181 0 48 (dk_at dksX6_splitPart_0 8 rfl rfl)
theorem dX6_splitPart_11 : decode cX6_splitPart 11 = .ok (.aload_n 0, 1) := dk_42 (dk_at dksX6_splitPart_0 11 rfl rfl)
theorem dX6_splitPart_12 : decode cX6_splitPart 12 = .ok (.getfield 48, 3) := dk_180 0 48 (dk_at dksX6_splitPart_0 12 rfl rfl)
theorem dX6_splitPart_15 : decode cX6_splitPart 15 = .ok (.ifCond .eq 5, 3) := dk_153 0 5 (dk_at dksX6_splitPart_0 15 rfl rfl)
theorem dX6_splitPart_18 : decode cX6_splitPart 18 = .ok (.iconst 0, 1) := dk_3 (dk_at dksX6_splitPart_0 18 rfl rfl)
theorem dX6_splitPart_19 : decode cX6_splitPart 19 = .ok (.ireturn, 1) := dk_172 (dk_at dksX6_splitPart_0 19 rfl rfl)
theorem dX6_splitPart_20 : decode cX6_splitPart 20 = .ok (.aload_n 0, 1) := dk_42 (dk_at dksX6_splitPart_0 20 rfl rfl)
theorem dX6_splitPart_21 : decode cX6_splitPart 21 = .ok (.invokevirtual 134, 3) := dk_182 0 134 (dk_at dksX6_splitPart_0 21 rfl rfl)
theorem dX6_splitPart_24 : decode cX6_splitPart 24 = .ok (.aload_n 0, 1) := dk_42 (dk_at dksX6_splitPart_1 0 rfl rfl)
theorem dX6_splitPart_25 : decode cX6_splitPart 25 = .ok (.iload_n 1, 1) := dk_27 (dk_at dksX6_splitPart_1 1 rfl rfl)
theorem dX6_splitPart_26 : decode cX6_splitPart 26 = .ok (.iload_n 2, 1) := dk_28 (dk_at dksX6_splitPart_1 2 rfl rfl)
theorem dX6_splitPart_27 : decode cX6_splitPart 27 = .ok (.iload_n 3, 1) := dk_29 (dk_at dksX6_splitPart_1 3 rfl rfl)
theorem dX6_splitPart_28 : decode cX6_splitPart 28 = .ok (.invokevirtual 158, 3) := dk_182 0 158 (dk_at dksX6_splitPart_1 4 rfl rfl)
theorem dX6_splitPart_31 : decode cX6_splitPart 31 = .ok (.ireturn, 1) := dk_172 (dk_at dksX6_splitPart_1 7 rfl rfl)
abbrev cX6_whyNotSplit : ByteArray := prog_10_method_27_code
def yX6_whyNotSplit : MethodName := ⟨RX6, "whyNotSplit", "(III)I"⟩
def dkwX6_whyNotSplit_2 : List UInt8 := [182, 0, 55, 16, 8, 160, 0, 7, 6, 167, 0, 4, 3, 172]
abbrev dktX6_whyNotSplit_2 : List UInt8 := dkwX6_whyNotSplit_2 ++ []
def dkwX6_whyNotSplit_1 : List UInt8 := [184, 0, 59, 153, 0, 15, 29, 133, 9, 20, 0, 82, 184, 0, 59, 154, 0, 7, 5, 167, 0, 17, 42]
abbrev dktX6_whyNotSplit_1 : List UInt8 := dkwX6_whyNotSplit_1 ++ dktX6_whyNotSplit_2
def dkwX6_whyNotSplit_0 : List UInt8 := [42, 27, 182, 0, 140, 154, 0, 5, 4, 172, 28, 133, 10, 42, 180, 0, 7, 4, 27, 96, 47, 10, 101]
abbrev dktX6_whyNotSplit_0 : List UInt8 := dkwX6_whyNotSplit_0 ++ dktX6_whyNotSplit_1
theorem dksX6_whyNotSplit_0 : cX6_whyNotSplit.data.toList.drop 0 = dktX6_whyNotSplit_0 := by decide +kernel
theorem dksX6_whyNotSplit_1 : cX6_whyNotSplit.data.toList.drop 23 = dktX6_whyNotSplit_1 := dk_seg dksX6_whyNotSplit_0 23 rfl rfl
theorem dksX6_whyNotSplit_2 : cX6_whyNotSplit.data.toList.drop 46 = dktX6_whyNotSplit_2 := dk_seg dksX6_whyNotSplit_1 23 rfl rfl
theorem dX6_whyNotSplit_0 : decode cX6_whyNotSplit 0 = .ok (.aload_n 0, 1) := dk_42 (dk_at dksX6_whyNotSplit_0 0 rfl rfl)
theorem dX6_whyNotSplit_1 : decode cX6_whyNotSplit 1 = .ok (.iload_n 1, 1) := dk_27 (dk_at dksX6_whyNotSplit_0 1 rfl rfl)
theorem dX6_whyNotSplit_2 : decode cX6_whyNotSplit 2 = .ok (.invokevirtual 140, 3) := dk_182 0 140 (dk_at dksX6_whyNotSplit_0 2 rfl rfl)
theorem dX6_whyNotSplit_5 : decode cX6_whyNotSplit 5 = .ok (.ifCond .ne 5, 3) := dk_154 0 5 (dk_at dksX6_whyNotSplit_0 5 rfl rfl)
theorem dX6_whyNotSplit_8 : decode cX6_whyNotSplit 8 = .ok (.iconst 1, 1) := dk_4 (dk_at dksX6_whyNotSplit_0 8 rfl rfl)
theorem dX6_whyNotSplit_9 : decode cX6_whyNotSplit 9 = .ok (.ireturn, 1) := dk_172 (dk_at dksX6_whyNotSplit_0 9 rfl rfl)
theorem dX6_whyNotSplit_10 : decode cX6_whyNotSplit 10 = .ok (.iload_n 2, 1) := dk_28 (dk_at dksX6_whyNotSplit_0 10 rfl rfl)
theorem dX6_whyNotSplit_11 : decode cX6_whyNotSplit 11 = .ok (.i2l, 1) := dk_133 (dk_at dksX6_whyNotSplit_0 11 rfl rfl)
theorem dX6_whyNotSplit_12 : decode cX6_whyNotSplit 12 = .ok (.lconst 1, 1) := dk_10 (dk_at dksX6_whyNotSplit_0 12 rfl rfl)
theorem dX6_whyNotSplit_13 : decode cX6_whyNotSplit 13 = .ok (.aload_n 0, 1) := dk_42 (dk_at dksX6_whyNotSplit_0 13 rfl rfl)
theorem dX6_whyNotSplit_14 : decode cX6_whyNotSplit 14 = .ok (.getfield 7, 3) := dk_180 0 7 (dk_at dksX6_whyNotSplit_0 14 rfl rfl)
theorem dX6_whyNotSplit_17 : decode cX6_whyNotSplit 17 = .ok (.iconst 1, 1) := dk_4 (dk_at dksX6_whyNotSplit_0 17 rfl rfl)
theorem dX6_whyNotSplit_18 : decode cX6_whyNotSplit 18 = .ok (.iload_n 1, 1) := dk_27 (dk_at dksX6_whyNotSplit_0 18 rfl rfl)
theorem dX6_whyNotSplit_19 : decode cX6_whyNotSplit 19 = .ok (.iadd, 1) := dk_96 (dk_at dksX6_whyNotSplit_0 19 rfl rfl)
theorem dX6_whyNotSplit_20 : decode cX6_whyNotSplit 20 = .ok (.laload, 1) := dk_47 (dk_at dksX6_whyNotSplit_0 20 rfl rfl)
theorem dX6_whyNotSplit_21 : decode cX6_whyNotSplit 21 = .ok (.lconst 1, 1) := dk_10 (dk_at dksX6_whyNotSplit_0 21 rfl rfl)
theorem dX6_whyNotSplit_22 : decode cX6_whyNotSplit 22 = .ok (.lsub, 1) := dk_101 (dk_at dksX6_whyNotSplit_0 22 rfl rfl)
theorem dX6_whyNotSplit_23 : decode cX6_whyNotSplit 23 = .ok (.invokestatic 59, 3) := dk_184 0 59 (dk_at dksX6_whyNotSplit_1 0 rfl rfl)
theorem dX6_whyNotSplit_26 : decode cX6_whyNotSplit 26 = .ok (.ifCond .eq 15, 3) := dk_153 0 15 (dk_at dksX6_whyNotSplit_1 3 rfl rfl)
theorem dX6_whyNotSplit_29 : decode cX6_whyNotSplit 29 = .ok (.iload_n 3, 1) := dk_29 (dk_at dksX6_whyNotSplit_1 6 rfl rfl)
theorem dX6_whyNotSplit_30 : decode cX6_whyNotSplit 30 = .ok (.i2l, 1) := dk_133 (dk_at dksX6_whyNotSplit_1 7 rfl rfl)
theorem dX6_whyNotSplit_31 : decode cX6_whyNotSplit 31 = .ok (.lconst 0, 1) := dk_9 (dk_at dksX6_whyNotSplit_1 8 rfl rfl)
theorem dX6_whyNotSplit_32 : decode cX6_whyNotSplit 32 = .ok (.ldc2_w 82, 3) := dk_20 0 82 (dk_at dksX6_whyNotSplit_1 9 rfl rfl)
theorem dX6_whyNotSplit_35 : decode cX6_whyNotSplit 35 = .ok (.invokestatic 59, 3) := dk_184 0 59 (dk_at dksX6_whyNotSplit_1 12 rfl rfl)
theorem dX6_whyNotSplit_38 : decode cX6_whyNotSplit 38 = .ok (.ifCond .ne 7, 3) := dk_154 0 7 (dk_at dksX6_whyNotSplit_1 15 rfl rfl)
theorem dX6_whyNotSplit_41 : decode cX6_whyNotSplit 41 = .ok (.iconst 2, 1) := dk_5 (dk_at dksX6_whyNotSplit_1 18 rfl rfl)
theorem dX6_whyNotSplit_42 : decode cX6_whyNotSplit 42 = .ok (.goto 17, 3) := dk_167 0 17 (dk_at dksX6_whyNotSplit_1 19 rfl rfl)
theorem dX6_whyNotSplit_45 : decode cX6_whyNotSplit 45 = .ok (.aload_n 0, 1) := dk_42 (dk_at dksX6_whyNotSplit_1 22 rfl rfl)
theorem dX6_whyNotSplit_46 : decode cX6_whyNotSplit 46 = .ok (.invokevirtual 55, 3) := dk_182 0 55 (dk_at dksX6_whyNotSplit_2 0 rfl rfl)
theorem dX6_whyNotSplit_49 : decode cX6_whyNotSplit 49 = .ok (.bipush 8, 2) := dk_16 8 (dk_at dksX6_whyNotSplit_2 3 rfl rfl)
theorem dX6_whyNotSplit_51 : decode cX6_whyNotSplit 51 = .ok (.if_icmp .ne 7, 3) := dk_160 0 7 (dk_at dksX6_whyNotSplit_2 5 rfl rfl)
theorem dX6_whyNotSplit_54 : decode cX6_whyNotSplit 54 = .ok (.iconst 3, 1) := dk_6 (dk_at dksX6_whyNotSplit_2 8 rfl rfl)
theorem dX6_whyNotSplit_55 : decode cX6_whyNotSplit 55 = .ok (.goto 4, 3) := dk_167 0 4 (dk_at dksX6_whyNotSplit_2 9 rfl rfl)
theorem dX6_whyNotSplit_58 : decode cX6_whyNotSplit 58 = .ok (.iconst 0, 1) := dk_3 (dk_at dksX6_whyNotSplit_2 12 rfl rfl)
theorem dX6_whyNotSplit_59 : decode cX6_whyNotSplit 59 = .ok (.ireturn, 1) := dk_172 (dk_at dksX6_whyNotSplit_2 13 rfl rfl)
abbrev cX6_splitsPart : ByteArray := prog_10_method_28_code
def yX6_splitsPart : MethodName := ⟨RX6, "splitsPart", "(III)I"⟩
def dkwX6_splitsPart_4 : List UInt8 := [182, 0, 55, 172]
abbrev dktX6_splitsPart_4 : List UInt8 := dkwX6_splitsPart_4 ++ []
def dkwX6_splitsPart_3 : List UInt8 := [180, 0, 7, 4, 27, 96, 4, 96, 92, 47, 28, 133, 101, 80, 42, 27, 28, 29, 182, 0, 126, 42]
abbrev dktX6_splitsPart_3 : List UInt8 := dkwX6_splitsPart_3 ++ dktX6_splitsPart_4
def dkwX6_splitsPart_2 : List UInt8 := [21, 4, 96, 4, 100, 47, 80, 132, 4, 255, 167, 255, 205, 42, 180, 0, 7, 3, 92, 47, 10, 97, 80, 42]
abbrev dktX6_splitsPart_2 : List UInt8 := dkwX6_splitsPart_2 ++ dktX6_splitsPart_3
def dkwX6_splitsPart_1 : List UInt8 := [4, 21, 4, 96, 4, 100, 47, 80, 42, 180, 0, 7, 16, 9, 21, 4, 96, 42, 180, 0, 7, 16, 9]
abbrev dktX6_splitsPart_1 : List UInt8 := dkwX6_splitsPart_1 ++ dktX6_splitsPart_2
def dkwX6_splitsPart_0 : List UInt8 := [42, 182, 0, 55, 54, 4, 21, 4, 27, 164, 0, 51, 42, 180, 0, 7, 4, 21, 4, 96, 42, 180, 0, 7]
abbrev dktX6_splitsPart_0 : List UInt8 := dkwX6_splitsPart_0 ++ dktX6_splitsPart_1
theorem dksX6_splitsPart_0 : cX6_splitsPart.data.toList.drop 0 = dktX6_splitsPart_0 := by decide +kernel
theorem dksX6_splitsPart_1 : cX6_splitsPart.data.toList.drop 24 = dktX6_splitsPart_1 := dk_seg dksX6_splitsPart_0 24 rfl rfl
theorem dksX6_splitsPart_2 : cX6_splitsPart.data.toList.drop 47 = dktX6_splitsPart_2 := dk_seg dksX6_splitsPart_1 23 rfl rfl
theorem dksX6_splitsPart_3 : cX6_splitsPart.data.toList.drop 71 = dktX6_splitsPart_3 := dk_seg dksX6_splitsPart_2 24 rfl rfl
theorem dksX6_splitsPart_4 : cX6_splitsPart.data.toList.drop 93 = dktX6_splitsPart_4 := dk_seg dksX6_splitsPart_3 22 rfl rfl
theorem dX6_splitsPart_0 : decode cX6_splitsPart 0 = .ok (.aload_n 0, 1) := dk_42 (dk_at dksX6_splitsPart_0 0 rfl rfl)
theorem dX6_splitsPart_1 : decode cX6_splitsPart 1 = .ok (.invokevirtual 55, 3) := dk_182 0 55 (dk_at dksX6_splitsPart_0 1 rfl rfl)
theorem dX6_splitsPart_4 : decode cX6_splitsPart 4 = .ok (.istore 4, 2) := dk_54 4 (dk_at dksX6_splitsPart_0 4 rfl rfl)
theorem dX6_splitsPart_6 : decode cX6_splitsPart 6 = .ok (.iload 4, 2) := dk_21 4 (dk_at dksX6_splitsPart_0 6 rfl rfl)
theorem dX6_splitsPart_8 : decode cX6_splitsPart 8 = .ok (.iload_n 1, 1) := dk_27 (dk_at dksX6_splitsPart_0 8 rfl rfl)
theorem dX6_splitsPart_9 : decode cX6_splitsPart 9 = .ok (.if_icmp .le 51, 3) := dk_164 0 51 (dk_at dksX6_splitsPart_0 9 rfl rfl)
theorem dX6_splitsPart_12 : decode cX6_splitsPart 12 = .ok (.aload_n 0, 1) := dk_42 (dk_at dksX6_splitsPart_0 12 rfl rfl)
theorem dX6_splitsPart_13 : decode cX6_splitsPart 13 = .ok (.getfield 7, 3) := dk_180 0 7 (dk_at dksX6_splitsPart_0 13 rfl rfl)
theorem dX6_splitsPart_16 : decode cX6_splitsPart 16 = .ok (.iconst 1, 1) := dk_4 (dk_at dksX6_splitsPart_0 16 rfl rfl)
theorem dX6_splitsPart_17 : decode cX6_splitsPart 17 = .ok (.iload 4, 2) := dk_21 4 (dk_at dksX6_splitsPart_0 17 rfl rfl)
theorem dX6_splitsPart_19 : decode cX6_splitsPart 19 = .ok (.iadd, 1) := dk_96 (dk_at dksX6_splitsPart_0 19 rfl rfl)
theorem dX6_splitsPart_20 : decode cX6_splitsPart 20 = .ok (.aload_n 0, 1) := dk_42 (dk_at dksX6_splitsPart_0 20 rfl rfl)
theorem dX6_splitsPart_21 : decode cX6_splitsPart 21 = .ok (.getfield 7, 3) := dk_180 0 7 (dk_at dksX6_splitsPart_0 21 rfl rfl)
theorem dX6_splitsPart_24 : decode cX6_splitsPart 24 = .ok (.iconst 1, 1) := dk_4 (dk_at dksX6_splitsPart_1 0 rfl rfl)
theorem dX6_splitsPart_25 : decode cX6_splitsPart 25 = .ok (.iload 4, 2) := dk_21 4 (dk_at dksX6_splitsPart_1 1 rfl rfl)
theorem dX6_splitsPart_27 : decode cX6_splitsPart 27 = .ok (.iadd, 1) := dk_96 (dk_at dksX6_splitsPart_1 3 rfl rfl)
theorem dX6_splitsPart_28 : decode cX6_splitsPart 28 = .ok (.iconst 1, 1) := dk_4 (dk_at dksX6_splitsPart_1 4 rfl rfl)
theorem dX6_splitsPart_29 : decode cX6_splitsPart 29 = .ok (.isub, 1) := dk_100 (dk_at dksX6_splitsPart_1 5 rfl rfl)
theorem dX6_splitsPart_30 : decode cX6_splitsPart 30 = .ok (.laload, 1) := dk_47 (dk_at dksX6_splitsPart_1 6 rfl rfl)
theorem dX6_splitsPart_31 : decode cX6_splitsPart 31 = .ok (.lastore, 1) := dk_80 (dk_at dksX6_splitsPart_1 7 rfl rfl)
theorem dX6_splitsPart_32 : decode cX6_splitsPart 32 = .ok (.aload_n 0, 1) := dk_42 (dk_at dksX6_splitsPart_1 8 rfl rfl)
theorem dX6_splitsPart_33 : decode cX6_splitsPart 33 = .ok (.getfield 7, 3) := dk_180 0 7 (dk_at dksX6_splitsPart_1 9 rfl rfl)
theorem dX6_splitsPart_36 : decode cX6_splitsPart 36 = .ok (.bipush 9, 2) := dk_16 9 (dk_at dksX6_splitsPart_1 12 rfl rfl)
theorem dX6_splitsPart_38 : decode cX6_splitsPart 38 = .ok (.iload 4, 2) := dk_21 4 (dk_at dksX6_splitsPart_1 14 rfl rfl)
theorem dX6_splitsPart_40 : decode cX6_splitsPart 40 = .ok (.iadd, 1) := dk_96 (dk_at dksX6_splitsPart_1 16 rfl rfl)
theorem dX6_splitsPart_41 : decode cX6_splitsPart 41 = .ok (.aload_n 0, 1) := dk_42 (dk_at dksX6_splitsPart_1 17 rfl rfl)
theorem dX6_splitsPart_42 : decode cX6_splitsPart 42 = .ok (.getfield 7, 3) := dk_180 0 7 (dk_at dksX6_splitsPart_1 18 rfl rfl)
theorem dX6_splitsPart_45 : decode cX6_splitsPart 45 = .ok (.bipush 9, 2) := dk_16 9 (dk_at dksX6_splitsPart_1 21 rfl rfl)
theorem dX6_splitsPart_47 : decode cX6_splitsPart 47 = .ok (.iload 4, 2) := dk_21 4 (dk_at dksX6_splitsPart_2 0 rfl rfl)
theorem dX6_splitsPart_49 : decode cX6_splitsPart 49 = .ok (.iadd, 1) := dk_96 (dk_at dksX6_splitsPart_2 2 rfl rfl)
theorem dX6_splitsPart_50 : decode cX6_splitsPart 50 = .ok (.iconst 1, 1) := dk_4 (dk_at dksX6_splitsPart_2 3 rfl rfl)
theorem dX6_splitsPart_51 : decode cX6_splitsPart 51 = .ok (.isub, 1) := dk_100 (dk_at dksX6_splitsPart_2 4 rfl rfl)
theorem dX6_splitsPart_52 : decode cX6_splitsPart 52 = .ok (.laload, 1) := dk_47 (dk_at dksX6_splitsPart_2 5 rfl rfl)
theorem dX6_splitsPart_53 : decode cX6_splitsPart 53 = .ok (.lastore, 1) := dk_80 (dk_at dksX6_splitsPart_2 6 rfl rfl)
theorem dX6_splitsPart_54 : decode cX6_splitsPart 54 = .ok (.iinc 4 (-1), 3) := dk_132 4 255 (dk_at dksX6_splitsPart_2 7 rfl rfl)
theorem dX6_splitsPart_57 : decode cX6_splitsPart 57 = .ok (.goto (-51), 3) := dk_167 255 205 (dk_at dksX6_splitsPart_2 10 rfl rfl)
theorem dX6_splitsPart_60 : decode cX6_splitsPart 60 = .ok (.aload_n 0, 1) := dk_42 (dk_at dksX6_splitsPart_2 13 rfl rfl)
theorem dX6_splitsPart_61 : decode cX6_splitsPart 61 = .ok (.getfield 7, 3) := dk_180 0 7 (dk_at dksX6_splitsPart_2 14 rfl rfl)
theorem dX6_splitsPart_64 : decode cX6_splitsPart 64 = .ok (.iconst 0, 1) := dk_3 (dk_at dksX6_splitsPart_2 17 rfl rfl)
theorem dX6_splitsPart_65 : decode cX6_splitsPart 65 = .ok (.dup2, 1) := dk_92 (dk_at dksX6_splitsPart_2 18 rfl rfl)
theorem dX6_splitsPart_66 : decode cX6_splitsPart 66 = .ok (.laload, 1) := dk_47 (dk_at dksX6_splitsPart_2 19 rfl rfl)
theorem dX6_splitsPart_67 : decode cX6_splitsPart 67 = .ok (.lconst 1, 1) := dk_10 (dk_at dksX6_splitsPart_2 20 rfl rfl)
theorem dX6_splitsPart_68 : decode cX6_splitsPart 68 = .ok (.ladd, 1) := dk_97 (dk_at dksX6_splitsPart_2 21 rfl rfl)
theorem dX6_splitsPart_69 : decode cX6_splitsPart 69 = .ok (.lastore, 1) := dk_80 (dk_at dksX6_splitsPart_2 22 rfl rfl)
theorem dX6_splitsPart_70 : decode cX6_splitsPart 70 = .ok (.aload_n 0, 1) := dk_42 (dk_at dksX6_splitsPart_2 23 rfl rfl)
theorem dX6_splitsPart_71 : decode cX6_splitsPart 71 = .ok (.getfield 7, 3) := dk_180 0 7 (dk_at dksX6_splitsPart_3 0 rfl rfl)
theorem dX6_splitsPart_74 : decode cX6_splitsPart 74 = .ok (.iconst 1, 1) := dk_4 (dk_at dksX6_splitsPart_3 3 rfl rfl)
theorem dX6_splitsPart_75 : decode cX6_splitsPart 75 = .ok (.iload_n 1, 1) := dk_27 (dk_at dksX6_splitsPart_3 4 rfl rfl)
theorem dX6_splitsPart_76 : decode cX6_splitsPart 76 = .ok (.iadd, 1) := dk_96 (dk_at dksX6_splitsPart_3 5 rfl rfl)
theorem dX6_splitsPart_77 : decode cX6_splitsPart 77 = .ok (.iconst 1, 1) := dk_4 (dk_at dksX6_splitsPart_3 6 rfl rfl)
theorem dX6_splitsPart_78 : decode cX6_splitsPart 78 = .ok (.iadd, 1) := dk_96 (dk_at dksX6_splitsPart_3 7 rfl rfl)
theorem dX6_splitsPart_79 : decode cX6_splitsPart 79 = .ok (.dup2, 1) := dk_92 (dk_at dksX6_splitsPart_3 8 rfl rfl)
theorem dX6_splitsPart_80 : decode cX6_splitsPart 80 = .ok (.laload, 1) := dk_47 (dk_at dksX6_splitsPart_3 9 rfl rfl)
theorem dX6_splitsPart_81 : decode cX6_splitsPart 81 = .ok (.iload_n 2, 1) := dk_28 (dk_at dksX6_splitsPart_3 10 rfl rfl)
theorem dX6_splitsPart_82 : decode cX6_splitsPart 82 = .ok (.i2l, 1) := dk_133 (dk_at dksX6_splitsPart_3 11 rfl rfl)
theorem dX6_splitsPart_83 : decode cX6_splitsPart 83 = .ok (.lsub, 1) := dk_101 (dk_at dksX6_splitsPart_3 12 rfl rfl)
theorem dX6_splitsPart_84 : decode cX6_splitsPart 84 = .ok (.lastore, 1) := dk_80 (dk_at dksX6_splitsPart_3 13 rfl rfl)
theorem dX6_splitsPart_85 : decode cX6_splitsPart 85 = .ok (.aload_n 0, 1) := dk_42 (dk_at dksX6_splitsPart_3 14 rfl rfl)
theorem dX6_splitsPart_86 : decode cX6_splitsPart 86 = .ok (.iload_n 1, 1) := dk_27 (dk_at dksX6_splitsPart_3 15 rfl rfl)
theorem dX6_splitsPart_87 : decode cX6_splitsPart 87 = .ok (.iload_n 2, 1) := dk_28 (dk_at dksX6_splitsPart_3 16 rfl rfl)
theorem dX6_splitsPart_88 : decode cX6_splitsPart 88 = .ok (.iload_n 3, 1) := dk_29 (dk_at dksX6_splitsPart_3 17 rfl rfl)
theorem dX6_splitsPart_89 : decode cX6_splitsPart 89 = .ok (.invokevirtual 126, 3) := dk_182 0 126 (dk_at dksX6_splitsPart_3 18 rfl rfl)
theorem dX6_splitsPart_92 : decode cX6_splitsPart 92 = .ok (.aload_n 0, 1) := dk_42 (dk_at dksX6_splitsPart_3 21 rfl rfl)
theorem dX6_splitsPart_93 : decode cX6_splitsPart 93 = .ok (.invokevirtual 55, 3) := dk_182 0 55 (dk_at dksX6_splitsPart_4 0 rfl rfl)
theorem dX6_splitsPart_96 : decode cX6_splitsPart 96 = .ok (.ireturn, 1) := dk_172 (dk_at dksX6_splitsPart_4 3 rfl rfl)
abbrev cX6_reverse : ByteArray := prog_10_method_32_code
def yX6_reverse : MethodName := ⟨RX6, "reverse", "()I"⟩
def dkwX6_reverse_3 : List UInt8 := [182, 0, 161, 132, 2, 1, 167, 255, 228, 42, 182, 0, 164, 172]
abbrev dktX6_reverse_3 : List UInt8 := dkwX6_reverse_3 ++ []
def dkwX6_reverse_2 : List UInt8 := [61, 5, 28, 104, 27, 5, 100, 162, 0, 25, 42, 16, 9, 28, 96, 16, 9, 27, 96, 5, 100, 28, 100]
abbrev dktX6_reverse_2 : List UInt8 := dkwX6_reverse_2 ++ dktX6_reverse_3
def dkwX6_reverse_1 : List UInt8 := [162, 0, 23, 42, 4, 28, 96, 4, 27, 96, 4, 100, 28, 100, 182, 0, 161, 132, 2, 1, 167, 255, 230, 3]
abbrev dktX6_reverse_1 : List UInt8 := dkwX6_reverse_1 ++ dktX6_reverse_2
def dkwX6_reverse_0 : List UInt8 := [42, 3, 181, 0, 48, 42, 182, 0, 134, 42, 182, 0, 55, 60, 3, 61, 5, 28, 104, 27, 4, 100]
abbrev dktX6_reverse_0 : List UInt8 := dkwX6_reverse_0 ++ dktX6_reverse_1
theorem dksX6_reverse_0 : cX6_reverse.data.toList.drop 0 = dktX6_reverse_0 := by decide +kernel
theorem dksX6_reverse_1 : cX6_reverse.data.toList.drop 22 = dktX6_reverse_1 := dk_seg dksX6_reverse_0 22 rfl rfl
theorem dksX6_reverse_2 : cX6_reverse.data.toList.drop 46 = dktX6_reverse_2 := dk_seg dksX6_reverse_1 24 rfl rfl
theorem dksX6_reverse_3 : cX6_reverse.data.toList.drop 69 = dktX6_reverse_3 := dk_seg dksX6_reverse_2 23 rfl rfl
theorem dX6_reverse_0 : decode cX6_reverse 0 = .ok (.aload_n 0, 1) := dk_42 (dk_at dksX6_reverse_0 0 rfl rfl)
theorem dX6_reverse_1 : decode cX6_reverse 1 = .ok (.iconst 0, 1) := dk_3 (dk_at dksX6_reverse_0 1 rfl rfl)
theorem dX6_reverse_2 : decode cX6_reverse 2 = .ok (.putfield 48, 3) := dk_181 0 48 (dk_at dksX6_reverse_0 2 rfl rfl)
theorem dX6_reverse_5 : decode cX6_reverse 5 = .ok (.aload_n 0, 1) := dk_42 (dk_at dksX6_reverse_0 5 rfl rfl)
theorem dX6_reverse_6 : decode cX6_reverse 6 = .ok (.invokevirtual 134, 3) := dk_182 0 134 (dk_at dksX6_reverse_0 6 rfl rfl)
theorem dX6_reverse_9 : decode cX6_reverse 9 = .ok (.aload_n 0, 1) := dk_42 (dk_at dksX6_reverse_0 9 rfl rfl)
theorem dX6_reverse_10 : decode cX6_reverse 10 = .ok (.invokevirtual 55, 3) := dk_182 0 55 (dk_at dksX6_reverse_0 10 rfl rfl)
theorem dX6_reverse_13 : decode cX6_reverse 13 = .ok (.istore_n 1, 1) := dk_60 (dk_at dksX6_reverse_0 13 rfl rfl)
theorem dX6_reverse_14 : decode cX6_reverse 14 = .ok (.iconst 0, 1) := dk_3 (dk_at dksX6_reverse_0 14 rfl rfl)
theorem dX6_reverse_15 : decode cX6_reverse 15 = .ok (.istore_n 2, 1) := dk_61 (dk_at dksX6_reverse_0 15 rfl rfl)
theorem dX6_reverse_16 : decode cX6_reverse 16 = .ok (.iconst 2, 1) := dk_5 (dk_at dksX6_reverse_0 16 rfl rfl)
theorem dX6_reverse_17 : decode cX6_reverse 17 = .ok (.iload_n 2, 1) := dk_28 (dk_at dksX6_reverse_0 17 rfl rfl)
theorem dX6_reverse_18 : decode cX6_reverse 18 = .ok (.imul, 1) := dk_104 (dk_at dksX6_reverse_0 18 rfl rfl)
theorem dX6_reverse_19 : decode cX6_reverse 19 = .ok (.iload_n 1, 1) := dk_27 (dk_at dksX6_reverse_0 19 rfl rfl)
theorem dX6_reverse_20 : decode cX6_reverse 20 = .ok (.iconst 1, 1) := dk_4 (dk_at dksX6_reverse_0 20 rfl rfl)
theorem dX6_reverse_21 : decode cX6_reverse 21 = .ok (.isub, 1) := dk_100 (dk_at dksX6_reverse_0 21 rfl rfl)
theorem dX6_reverse_22 : decode cX6_reverse 22 = .ok (.if_icmp .ge 23, 3) := dk_162 0 23 (dk_at dksX6_reverse_1 0 rfl rfl)
theorem dX6_reverse_25 : decode cX6_reverse 25 = .ok (.aload_n 0, 1) := dk_42 (dk_at dksX6_reverse_1 3 rfl rfl)
theorem dX6_reverse_26 : decode cX6_reverse 26 = .ok (.iconst 1, 1) := dk_4 (dk_at dksX6_reverse_1 4 rfl rfl)
theorem dX6_reverse_27 : decode cX6_reverse 27 = .ok (.iload_n 2, 1) := dk_28 (dk_at dksX6_reverse_1 5 rfl rfl)
theorem dX6_reverse_28 : decode cX6_reverse 28 = .ok (.iadd, 1) := dk_96 (dk_at dksX6_reverse_1 6 rfl rfl)
theorem dX6_reverse_29 : decode cX6_reverse 29 = .ok (.iconst 1, 1) := dk_4 (dk_at dksX6_reverse_1 7 rfl rfl)
theorem dX6_reverse_30 : decode cX6_reverse 30 = .ok (.iload_n 1, 1) := dk_27 (dk_at dksX6_reverse_1 8 rfl rfl)
theorem dX6_reverse_31 : decode cX6_reverse 31 = .ok (.iadd, 1) := dk_96 (dk_at dksX6_reverse_1 9 rfl rfl)
theorem dX6_reverse_32 : decode cX6_reverse 32 = .ok (.iconst 1, 1) := dk_4 (dk_at dksX6_reverse_1 10 rfl rfl)
theorem dX6_reverse_33 : decode cX6_reverse 33 = .ok (.isub, 1) := dk_100 (dk_at dksX6_reverse_1 11 rfl rfl)
theorem dX6_reverse_34 : decode cX6_reverse 34 = .ok (.iload_n 2, 1) := dk_28 (dk_at dksX6_reverse_1 12 rfl rfl)
theorem dX6_reverse_35 : decode cX6_reverse 35 = .ok (.isub, 1) := dk_100 (dk_at dksX6_reverse_1 13 rfl rfl)
theorem dX6_reverse_36 : decode cX6_reverse 36 = .ok (.invokevirtual 161, 3) := dk_182 0 161 (dk_at dksX6_reverse_1 14 rfl rfl)
theorem dX6_reverse_39 : decode cX6_reverse 39 = .ok (.iinc 2 1, 3) := dk_132 2 1 (dk_at dksX6_reverse_1 17 rfl rfl)
theorem dX6_reverse_42 : decode cX6_reverse 42 = .ok (.goto (-26), 3) := dk_167 255 230 (dk_at dksX6_reverse_1 20 rfl rfl)
theorem dX6_reverse_45 : decode cX6_reverse 45 = .ok (.iconst 0, 1) := dk_3 (dk_at dksX6_reverse_1 23 rfl rfl)
theorem dX6_reverse_46 : decode cX6_reverse 46 = .ok (.istore_n 2, 1) := dk_61 (dk_at dksX6_reverse_2 0 rfl rfl)
theorem dX6_reverse_47 : decode cX6_reverse 47 = .ok (.iconst 2, 1) := dk_5 (dk_at dksX6_reverse_2 1 rfl rfl)
theorem dX6_reverse_48 : decode cX6_reverse 48 = .ok (.iload_n 2, 1) := dk_28 (dk_at dksX6_reverse_2 2 rfl rfl)
theorem dX6_reverse_49 : decode cX6_reverse 49 = .ok (.imul, 1) := dk_104 (dk_at dksX6_reverse_2 3 rfl rfl)
theorem dX6_reverse_50 : decode cX6_reverse 50 = .ok (.iload_n 1, 1) := dk_27 (dk_at dksX6_reverse_2 4 rfl rfl)
theorem dX6_reverse_51 : decode cX6_reverse 51 = .ok (.iconst 2, 1) := dk_5 (dk_at dksX6_reverse_2 5 rfl rfl)
theorem dX6_reverse_52 : decode cX6_reverse 52 = .ok (.isub, 1) := dk_100 (dk_at dksX6_reverse_2 6 rfl rfl)
theorem dX6_reverse_53 : decode cX6_reverse 53 = .ok (.if_icmp .ge 25, 3) := dk_162 0 25 (dk_at dksX6_reverse_2 7 rfl rfl)
theorem dX6_reverse_56 : decode cX6_reverse 56 = .ok (.aload_n 0, 1) := dk_42 (dk_at dksX6_reverse_2 10 rfl rfl)
theorem dX6_reverse_57 : decode cX6_reverse 57 = .ok (.bipush 9, 2) := dk_16 9 (dk_at dksX6_reverse_2 11 rfl rfl)
theorem dX6_reverse_59 : decode cX6_reverse 59 = .ok (.iload_n 2, 1) := dk_28 (dk_at dksX6_reverse_2 13 rfl rfl)
theorem dX6_reverse_60 : decode cX6_reverse 60 = .ok (.iadd, 1) := dk_96 (dk_at dksX6_reverse_2 14 rfl rfl)
theorem dX6_reverse_61 : decode cX6_reverse 61 = .ok (.bipush 9, 2) := dk_16 9 (dk_at dksX6_reverse_2 15 rfl rfl)
theorem dX6_reverse_63 : decode cX6_reverse 63 = .ok (.iload_n 1, 1) := dk_27 (dk_at dksX6_reverse_2 17 rfl rfl)
theorem dX6_reverse_64 : decode cX6_reverse 64 = .ok (.iadd, 1) := dk_96 (dk_at dksX6_reverse_2 18 rfl rfl)
theorem dX6_reverse_65 : decode cX6_reverse 65 = .ok (.iconst 2, 1) := dk_5 (dk_at dksX6_reverse_2 19 rfl rfl)
theorem dX6_reverse_66 : decode cX6_reverse 66 = .ok (.isub, 1) := dk_100 (dk_at dksX6_reverse_2 20 rfl rfl)
theorem dX6_reverse_67 : decode cX6_reverse 67 = .ok (.iload_n 2, 1) := dk_28 (dk_at dksX6_reverse_2 21 rfl rfl)
theorem dX6_reverse_68 : decode cX6_reverse 68 = .ok (.isub, 1) := dk_100 (dk_at dksX6_reverse_2 22 rfl rfl)
theorem dX6_reverse_69 : decode cX6_reverse 69 = .ok (.invokevirtual 161, 3) := dk_182 0 161 (dk_at dksX6_reverse_3 0 rfl rfl)
theorem dX6_reverse_72 : decode cX6_reverse 72 = .ok (.iinc 2 1, 3) := dk_132 2 1 (dk_at dksX6_reverse_3 3 rfl rfl)
theorem dX6_reverse_75 : decode cX6_reverse 75 = .ok (.goto (-28), 3) := dk_167 255 228 (dk_at dksX6_reverse_3 6 rfl rfl)
theorem dX6_reverse_78 : decode cX6_reverse 78 = .ok (.aload_n 0, 1) := dk_42 (dk_at dksX6_reverse_3 9 rfl rfl)
theorem dX6_reverse_79 : decode cX6_reverse 79 = .ok (.invokevirtual 164, 3) := dk_182 0 164 (dk_at dksX6_reverse_3 10 rfl rfl)
theorem dX6_reverse_82 : decode cX6_reverse 82 = .ok (.ireturn, 1) := dk_172 (dk_at dksX6_reverse_3 13 rfl rfl)
abbrev cX6_exchange : ByteArray := prog_10_method_31_code
def yX6_exchange : MethodName := ⟨RX6, "exchange", "(II)V"⟩
def dkwX6_exchange_1 : List UInt8 := [33, 80, 177]
abbrev dktX6_exchange_1 : List UInt8 := dkwX6_exchange_1 ++ []
def dkwX6_exchange_0 : List UInt8 := [42, 180, 0, 7, 27, 47, 66, 42, 180, 0, 7, 27, 42, 180, 0, 7, 28, 47, 80, 42, 180, 0, 7, 28]
abbrev dktX6_exchange_0 : List UInt8 := dkwX6_exchange_0 ++ dktX6_exchange_1
theorem dksX6_exchange_0 : cX6_exchange.data.toList.drop 0 = dktX6_exchange_0 := by decide +kernel
theorem dksX6_exchange_1 : cX6_exchange.data.toList.drop 24 = dktX6_exchange_1 := dk_seg dksX6_exchange_0 24 rfl rfl
theorem dX6_exchange_0 : decode cX6_exchange 0 = .ok (.aload_n 0, 1) := dk_42 (dk_at dksX6_exchange_0 0 rfl rfl)
theorem dX6_exchange_1 : decode cX6_exchange 1 = .ok (.getfield 7, 3) := dk_180 0 7 (dk_at dksX6_exchange_0 1 rfl rfl)
theorem dX6_exchange_4 : decode cX6_exchange 4 = .ok (.iload_n 1, 1) := dk_27 (dk_at dksX6_exchange_0 4 rfl rfl)
theorem dX6_exchange_5 : decode cX6_exchange 5 = .ok (.laload, 1) := dk_47 (dk_at dksX6_exchange_0 5 rfl rfl)
theorem dX6_exchange_6 : decode cX6_exchange 6 = .ok (.lstore_n 3, 1) := dk_66 (dk_at dksX6_exchange_0 6 rfl rfl)
theorem dX6_exchange_7 : decode cX6_exchange 7 = .ok (.aload_n 0, 1) := dk_42 (dk_at dksX6_exchange_0 7 rfl rfl)
theorem dX6_exchange_8 : decode cX6_exchange 8 = .ok (.getfield 7, 3) := dk_180 0 7 (dk_at dksX6_exchange_0 8 rfl rfl)
theorem dX6_exchange_11 : decode cX6_exchange 11 = .ok (.iload_n 1, 1) := dk_27 (dk_at dksX6_exchange_0 11 rfl rfl)
theorem dX6_exchange_12 : decode cX6_exchange 12 = .ok (.aload_n 0, 1) := dk_42 (dk_at dksX6_exchange_0 12 rfl rfl)
theorem dX6_exchange_13 : decode cX6_exchange 13 = .ok (.getfield 7, 3) := dk_180 0 7 (dk_at dksX6_exchange_0 13 rfl rfl)
theorem dX6_exchange_16 : decode cX6_exchange 16 = .ok (.iload_n 2, 1) := dk_28 (dk_at dksX6_exchange_0 16 rfl rfl)
theorem dX6_exchange_17 : decode cX6_exchange 17 = .ok (.laload, 1) := dk_47 (dk_at dksX6_exchange_0 17 rfl rfl)
theorem dX6_exchange_18 : decode cX6_exchange 18 = .ok (.lastore, 1) := dk_80 (dk_at dksX6_exchange_0 18 rfl rfl)
theorem dX6_exchange_19 : decode cX6_exchange 19 = .ok (.aload_n 0, 1) := dk_42 (dk_at dksX6_exchange_0 19 rfl rfl)
theorem dX6_exchange_20 : decode cX6_exchange 20 = .ok (.getfield 7, 3) := dk_180 0 7 (dk_at dksX6_exchange_0 20 rfl rfl)
theorem dX6_exchange_23 : decode cX6_exchange 23 = .ok (.iload_n 2, 1) := dk_28 (dk_at dksX6_exchange_0 23 rfl rfl)
theorem dX6_exchange_24 : decode cX6_exchange 24 = .ok (.lload_n 3, 1) := dk_33 (dk_at dksX6_exchange_1 0 rfl rfl)
theorem dX6_exchange_25 : decode cX6_exchange 25 = .ok (.lastore, 1) := dk_80 (dk_at dksX6_exchange_1 1 rfl rfl)
theorem dX6_exchange_26 : decode cX6_exchange 26 = .ok (.return_, 1) := dk_177 (dk_at dksX6_exchange_1 2 rfl rfl)
abbrev cX6_sumOfLengths : ByteArray := prog_10_method_30_code
def yX6_sumOfLengths : MethodName := ⟨RX6, "sumOfLengths", "()I"⟩
def dkwX6_sumOfLengths_1 : List UInt8 := [132, 2, 1, 167, 255, 233, 27, 172]
abbrev dktX6_sumOfLengths_1 : List UInt8 := dkwX6_sumOfLengths_1 ++ []
def dkwX6_sumOfLengths_0 : List UInt8 := [3, 60, 3, 61, 28, 42, 182, 0, 55, 162, 0, 21, 27, 42, 180, 0, 7, 4, 28, 96, 47, 136, 96, 60]
abbrev dktX6_sumOfLengths_0 : List UInt8 := dkwX6_sumOfLengths_0 ++ dktX6_sumOfLengths_1
theorem dksX6_sumOfLengths_0 : cX6_sumOfLengths.data.toList.drop 0 = dktX6_sumOfLengths_0 := by decide +kernel
theorem dksX6_sumOfLengths_1 : cX6_sumOfLengths.data.toList.drop 24 = dktX6_sumOfLengths_1 := dk_seg dksX6_sumOfLengths_0 24 rfl rfl
theorem dX6_sumOfLengths_0 : decode cX6_sumOfLengths 0 = .ok (.iconst 0, 1) := dk_3 (dk_at dksX6_sumOfLengths_0 0 rfl rfl)
theorem dX6_sumOfLengths_1 : decode cX6_sumOfLengths 1 = .ok (.istore_n 1, 1) := dk_60 (dk_at dksX6_sumOfLengths_0 1 rfl rfl)
theorem dX6_sumOfLengths_2 : decode cX6_sumOfLengths 2 = .ok (.iconst 0, 1) := dk_3 (dk_at dksX6_sumOfLengths_0 2 rfl rfl)
theorem dX6_sumOfLengths_3 : decode cX6_sumOfLengths 3 = .ok (.istore_n 2, 1) := dk_61 (dk_at dksX6_sumOfLengths_0 3 rfl rfl)
theorem dX6_sumOfLengths_4 : decode cX6_sumOfLengths 4 = .ok (.iload_n 2, 1) := dk_28 (dk_at dksX6_sumOfLengths_0 4 rfl rfl)
theorem dX6_sumOfLengths_5 : decode cX6_sumOfLengths 5 = .ok (.aload_n 0, 1) := dk_42 (dk_at dksX6_sumOfLengths_0 5 rfl rfl)
theorem dX6_sumOfLengths_6 : decode cX6_sumOfLengths 6 = .ok (.invokevirtual 55, 3) := dk_182 0 55 (dk_at dksX6_sumOfLengths_0 6 rfl rfl)
theorem dX6_sumOfLengths_9 : decode cX6_sumOfLengths 9 = .ok (.if_icmp .ge 21, 3) := dk_162 0 21 (dk_at dksX6_sumOfLengths_0 9 rfl rfl)
theorem dX6_sumOfLengths_12 : decode cX6_sumOfLengths 12 = .ok (.iload_n 1, 1) := dk_27 (dk_at dksX6_sumOfLengths_0 12 rfl rfl)
theorem dX6_sumOfLengths_13 : decode cX6_sumOfLengths 13 = .ok (.aload_n 0, 1) := dk_42 (dk_at dksX6_sumOfLengths_0 13 rfl rfl)
theorem dX6_sumOfLengths_14 : decode cX6_sumOfLengths 14 = .ok (.getfield 7, 3) := dk_180 0 7 (dk_at dksX6_sumOfLengths_0 14 rfl rfl)
theorem dX6_sumOfLengths_17 : decode cX6_sumOfLengths 17 = .ok (.iconst 1, 1) := dk_4 (dk_at dksX6_sumOfLengths_0 17 rfl rfl)
theorem dX6_sumOfLengths_18 : decode cX6_sumOfLengths 18 = .ok (.iload_n 2, 1) := dk_28 (dk_at dksX6_sumOfLengths_0 18 rfl rfl)
theorem dX6_sumOfLengths_19 : decode cX6_sumOfLengths 19 = .ok (.iadd, 1) := dk_96 (dk_at dksX6_sumOfLengths_0 19 rfl rfl)
theorem dX6_sumOfLengths_20 : decode cX6_sumOfLengths 20 = .ok (.laload, 1) := dk_47 (dk_at dksX6_sumOfLengths_0 20 rfl rfl)
theorem dX6_sumOfLengths_21 : decode cX6_sumOfLengths 21 = .ok (.l2i, 1) := dk_136 (dk_at dksX6_sumOfLengths_0 21 rfl rfl)
theorem dX6_sumOfLengths_22 : decode cX6_sumOfLengths 22 = .ok (.iadd, 1) := dk_96 (dk_at dksX6_sumOfLengths_0 22 rfl rfl)
theorem dX6_sumOfLengths_23 : decode cX6_sumOfLengths 23 = .ok (.istore_n 1, 1) := dk_60 (dk_at dksX6_sumOfLengths_0 23 rfl rfl)
theorem dX6_sumOfLengths_24 : decode cX6_sumOfLengths 24 = .ok (.iinc 2 1, 3) := dk_132 2 1 (dk_at dksX6_sumOfLengths_1 0 rfl rfl)
theorem dX6_sumOfLengths_27 : decode cX6_sumOfLengths 27 = .ok (.goto (-23), 3) := dk_167 255 233 (dk_at dksX6_sumOfLengths_1 3 rfl rfl)
theorem dX6_sumOfLengths_30 : decode cX6_sumOfLengths 30 = .ok (.iload_n 1, 1) := dk_27 (dk_at dksX6_sumOfLengths_1 6 rfl rfl)
theorem dX6_sumOfLengths_31 : decode cX6_sumOfLengths 31 = .ok (.ireturn, 1) := dk_172 (dk_at dksX6_sumOfLengths_1 7 rfl rfl)
abbrev cX6_setBench : ByteArray := prog_10_method_33_code
def yX6_setBench : MethodName := ⟨RX6, "setBench", "(III)I"⟩
def dkwX6_setBench_3 : List UInt8 := [27, 133, 80, 42, 180, 0, 7, 16, 18, 28, 133, 80, 42, 180, 0, 7, 16, 19, 29, 133, 80, 21, 4, 172]
abbrev dktX6_setBench_3 : List UInt8 := dkwX6_setBench_3 ++ []
def dkwX6_setBench_2 : List UInt8 := [180, 0, 48, 153, 0, 5, 3, 172, 42, 182, 0, 134, 42, 182, 0, 110, 54, 4, 42, 180, 0, 7, 16, 17]
abbrev dktX6_setBench_2 : List UInt8 := dkwX6_setBench_2 ++ dktX6_setBench_3
def dkwX6_setBench_1 : List UInt8 := [153, 0, 19, 29, 133, 10, 20, 0, 169, 184, 0, 59, 153, 0, 7, 3, 167, 0, 4, 4, 181, 0, 48, 42]
abbrev dktX6_setBench_1 : List UInt8 := dkwX6_setBench_1 ++ dktX6_setBench_2
def dkwX6_setBench_0 : List UInt8 := [42, 27, 133, 9, 20, 0, 167, 184, 0, 59, 153, 0, 31, 28, 133, 9, 20, 0, 82, 184, 0, 59]
abbrev dktX6_setBench_0 : List UInt8 := dkwX6_setBench_0 ++ dktX6_setBench_1
theorem dksX6_setBench_0 : cX6_setBench.data.toList.drop 0 = dktX6_setBench_0 := by decide +kernel
theorem dksX6_setBench_1 : cX6_setBench.data.toList.drop 22 = dktX6_setBench_1 := dk_seg dksX6_setBench_0 22 rfl rfl
theorem dksX6_setBench_2 : cX6_setBench.data.toList.drop 46 = dktX6_setBench_2 := dk_seg dksX6_setBench_1 24 rfl rfl
theorem dksX6_setBench_3 : cX6_setBench.data.toList.drop 70 = dktX6_setBench_3 := dk_seg dksX6_setBench_2 24 rfl rfl
theorem dX6_setBench_0 : decode cX6_setBench 0 = .ok (.aload_n 0, 1) := dk_42 (dk_at dksX6_setBench_0 0 rfl rfl)
theorem dX6_setBench_1 : decode cX6_setBench 1 = .ok (.iload_n 1, 1) := dk_27 (dk_at dksX6_setBench_0 1 rfl rfl)
theorem dX6_setBench_2 : decode cX6_setBench 2 = .ok (.i2l, 1) := dk_133 (dk_at dksX6_setBench_0 2 rfl rfl)
theorem dX6_setBench_3 : decode cX6_setBench 3 = .ok (.lconst 0, 1) := dk_9 (dk_at dksX6_setBench_0 3 rfl rfl)
theorem dX6_setBench_4 : decode cX6_setBench 4 = .ok (.ldc2_w 167, 3) := dk_20 0 167 (dk_at dksX6_setBench_0 4 rfl rfl)
theorem dX6_setBench_7 : decode cX6_setBench 7 = .ok (.invokestatic 59, 3) := dk_184 0 59 (dk_at dksX6_setBench_0 7 rfl rfl)
theorem dX6_setBench_10 : decode cX6_setBench 10 = .ok (.ifCond .eq 31, 3) := dk_153 0 31 (dk_at dksX6_setBench_0 10 rfl rfl)
theorem dX6_setBench_13 : decode cX6_setBench 13 = .ok (.iload_n 2, 1) := dk_28 (dk_at dksX6_setBench_0 13 rfl rfl)
theorem dX6_setBench_14 : decode cX6_setBench 14 = .ok (.i2l, 1) := dk_133 (dk_at dksX6_setBench_0 14 rfl rfl)
theorem dX6_setBench_15 : decode cX6_setBench 15 = .ok (.lconst 0, 1) := dk_9 (dk_at dksX6_setBench_0 15 rfl rfl)
theorem dX6_setBench_16 : decode cX6_setBench 16 = .ok (.ldc2_w 82, 3) := dk_20 0 82 (dk_at dksX6_setBench_0 16 rfl rfl)
theorem dX6_setBench_19 : decode cX6_setBench 19 = .ok (.invokestatic 59, 3) := dk_184 0 59 (dk_at dksX6_setBench_0 19 rfl rfl)
theorem dX6_setBench_22 : decode cX6_setBench 22 = .ok (.ifCond .eq 19, 3) := dk_153 0 19 (dk_at dksX6_setBench_1 0 rfl rfl)
theorem dX6_setBench_25 : decode cX6_setBench 25 = .ok (.iload_n 3, 1) := dk_29 (dk_at dksX6_setBench_1 3 rfl rfl)
theorem dX6_setBench_26 : decode cX6_setBench 26 = .ok (.i2l, 1) := dk_133 (dk_at dksX6_setBench_1 4 rfl rfl)
theorem dX6_setBench_27 : decode cX6_setBench 27 = .ok (.lconst 1, 1) := dk_10 (dk_at dksX6_setBench_1 5 rfl rfl)
theorem dX6_setBench_28 : decode cX6_setBench 28 = .ok (.ldc2_w 169, 3) := dk_20 0 169 (dk_at dksX6_setBench_1 6 rfl rfl)
theorem dX6_setBench_31 : decode cX6_setBench 31 = .ok (.invokestatic 59, 3) := dk_184 0 59 (dk_at dksX6_setBench_1 9 rfl rfl)
theorem dX6_setBench_34 : decode cX6_setBench 34 = .ok (.ifCond .eq 7, 3) := dk_153 0 7 (dk_at dksX6_setBench_1 12 rfl rfl)
theorem dX6_setBench_37 : decode cX6_setBench 37 = .ok (.iconst 0, 1) := dk_3 (dk_at dksX6_setBench_1 15 rfl rfl)
theorem dX6_setBench_38 : decode cX6_setBench 38 = .ok (.goto 4, 3) := dk_167 0 4 (dk_at dksX6_setBench_1 16 rfl rfl)
theorem dX6_setBench_41 : decode cX6_setBench 41 = .ok (.iconst 1, 1) := dk_4 (dk_at dksX6_setBench_1 19 rfl rfl)
theorem dX6_setBench_42 : decode cX6_setBench 42 = .ok (.putfield 48, 3) := dk_181 0 48 (dk_at dksX6_setBench_1 20 rfl rfl)
theorem dX6_setBench_45 : decode cX6_setBench 45 = .ok (.aload_n 0, 1) := dk_42 (dk_at dksX6_setBench_1 23 rfl rfl)
theorem dX6_setBench_46 : decode cX6_setBench 46 = .ok (.getfield 48, 3) := dk_180 0 48 (dk_at dksX6_setBench_2 0 rfl rfl)
theorem dX6_setBench_49 : decode cX6_setBench 49 = .ok (.ifCond .eq 5, 3) := dk_153 0 5 (dk_at dksX6_setBench_2 3 rfl rfl)
theorem dX6_setBench_52 : decode cX6_setBench 52 = .ok (.iconst 0, 1) := dk_3 (dk_at dksX6_setBench_2 6 rfl rfl)
theorem dX6_setBench_53 : decode cX6_setBench 53 = .ok (.ireturn, 1) := dk_172 (dk_at dksX6_setBench_2 7 rfl rfl)
theorem dX6_setBench_54 : decode cX6_setBench 54 = .ok (.aload_n 0, 1) := dk_42 (dk_at dksX6_setBench_2 8 rfl rfl)
theorem dX6_setBench_55 : decode cX6_setBench 55 = .ok (.invokevirtual 134, 3) := dk_182 0 134 (dk_at dksX6_setBench_2 9 rfl rfl)
theorem dX6_setBench_58 : decode cX6_setBench 58 = .ok (.aload_n 0, 1) := dk_42 (dk_at dksX6_setBench_2 12 rfl rfl)
theorem dX6_setBench_59 : decode cX6_setBench 59 = .ok (.invokevirtual 110, 3) := dk_182 0 110 (dk_at dksX6_setBench_2 13 rfl rfl)
theorem dX6_setBench_62 : decode cX6_setBench 62 = .ok (.istore 4, 2) := dk_54 4 (dk_at dksX6_setBench_2 16 rfl rfl)
theorem dX6_setBench_64 : decode cX6_setBench 64 = .ok (.aload_n 0, 1) := dk_42 (dk_at dksX6_setBench_2 18 rfl rfl)
theorem dX6_setBench_65 : decode cX6_setBench 65 = .ok (.getfield 7, 3) := dk_180 0 7 (dk_at dksX6_setBench_2 19 rfl rfl)
theorem dX6_setBench_68 : decode cX6_setBench 68 = .ok (.bipush 17, 2) := dk_16 17 (dk_at dksX6_setBench_2 22 rfl rfl)
theorem dX6_setBench_70 : decode cX6_setBench 70 = .ok (.iload_n 1, 1) := dk_27 (dk_at dksX6_setBench_3 0 rfl rfl)
theorem dX6_setBench_71 : decode cX6_setBench 71 = .ok (.i2l, 1) := dk_133 (dk_at dksX6_setBench_3 1 rfl rfl)
theorem dX6_setBench_72 : decode cX6_setBench 72 = .ok (.lastore, 1) := dk_80 (dk_at dksX6_setBench_3 2 rfl rfl)
theorem dX6_setBench_73 : decode cX6_setBench 73 = .ok (.aload_n 0, 1) := dk_42 (dk_at dksX6_setBench_3 3 rfl rfl)
theorem dX6_setBench_74 : decode cX6_setBench 74 = .ok (.getfield 7, 3) := dk_180 0 7 (dk_at dksX6_setBench_3 4 rfl rfl)
theorem dX6_setBench_77 : decode cX6_setBench 77 = .ok (.bipush 18, 2) := dk_16 18 (dk_at dksX6_setBench_3 7 rfl rfl)
theorem dX6_setBench_79 : decode cX6_setBench 79 = .ok (.iload_n 2, 1) := dk_28 (dk_at dksX6_setBench_3 9 rfl rfl)
theorem dX6_setBench_80 : decode cX6_setBench 80 = .ok (.i2l, 1) := dk_133 (dk_at dksX6_setBench_3 10 rfl rfl)
theorem dX6_setBench_81 : decode cX6_setBench 81 = .ok (.lastore, 1) := dk_80 (dk_at dksX6_setBench_3 11 rfl rfl)
theorem dX6_setBench_82 : decode cX6_setBench 82 = .ok (.aload_n 0, 1) := dk_42 (dk_at dksX6_setBench_3 12 rfl rfl)
theorem dX6_setBench_83 : decode cX6_setBench 83 = .ok (.getfield 7, 3) := dk_180 0 7 (dk_at dksX6_setBench_3 13 rfl rfl)
theorem dX6_setBench_86 : decode cX6_setBench 86 = .ok (.bipush 19, 2) := dk_16 19 (dk_at dksX6_setBench_3 16 rfl rfl)
theorem dX6_setBench_88 : decode cX6_setBench 88 = .ok (.iload_n 3, 1) := dk_29 (dk_at dksX6_setBench_3 18 rfl rfl)
theorem dX6_setBench_89 : decode cX6_setBench 89 = .ok (.i2l, 1) := dk_133 (dk_at dksX6_setBench_3 19 rfl rfl)
theorem dX6_setBench_90 : decode cX6_setBench 90 = .ok (.lastore, 1) := dk_80 (dk_at dksX6_setBench_3 20 rfl rfl)
theorem dX6_setBench_91 : decode cX6_setBench 91 = .ok (.iload 4, 2) := dk_21 4 (dk_at dksX6_setBench_3 21 rfl rfl)
theorem dX6_setBench_93 : decode cX6_setBench 93 = .ok (.ireturn, 1) := dk_172 (dk_at dksX6_setBench_3 23 rfl rfl)
abbrev cX6_window : ByteArray := prog_10_method_7_code
def yX6_window : MethodName := ⟨RX6, "window", "()I"⟩
def dkwX6_window_0 : List UInt8 := [42, 180, 0, 7, 16, 19, 47, 136, 172]
abbrev dktX6_window_0 : List UInt8 := dkwX6_window_0 ++ []
theorem dksX6_window_0 : cX6_window.data.toList.drop 0 = dktX6_window_0 := by decide +kernel
theorem dX6_window_0 : decode cX6_window 0 = .ok (.aload_n 0, 1) := dk_42 (dk_at dksX6_window_0 0 rfl rfl)
theorem dX6_window_1 : decode cX6_window 1 = .ok (.getfield 7, 3) := dk_180 0 7 (dk_at dksX6_window_0 1 rfl rfl)
theorem dX6_window_4 : decode cX6_window 4 = .ok (.bipush 19, 2) := dk_16 19 (dk_at dksX6_window_0 4 rfl rfl)
theorem dX6_window_6 : decode cX6_window 6 = .ok (.laload, 1) := dk_47 (dk_at dksX6_window_0 6 rfl rfl)
theorem dX6_window_7 : decode cX6_window 7 = .ok (.l2i, 1) := dk_136 (dk_at dksX6_window_0 7 rfl rfl)
theorem dX6_window_8 : decode cX6_window 8 = .ok (.ireturn, 1) := dk_172 (dk_at dksX6_window_0 8 rfl rfl)
abbrev cX6_addPulse : ByteArray := prog_10_method_36_code
def yX6_addPulse : MethodName := ⟨RX6, "addPulse", "(II)I"⟩
def dkwX6_addPulse_1 : List UInt8 := [27, 28, 182, 0, 178, 172]
abbrev dktX6_addPulse_1 : List UInt8 := dkwX6_addPulse_1 ++ []
def dkwX6_addPulse_0 : List UInt8 := [42, 42, 27, 28, 182, 0, 175, 181, 0, 48, 42, 180, 0, 48, 153, 0, 5, 3, 172, 42, 182, 0, 134, 42]
abbrev dktX6_addPulse_0 : List UInt8 := dkwX6_addPulse_0 ++ dktX6_addPulse_1
theorem dksX6_addPulse_0 : cX6_addPulse.data.toList.drop 0 = dktX6_addPulse_0 := by decide +kernel
theorem dksX6_addPulse_1 : cX6_addPulse.data.toList.drop 24 = dktX6_addPulse_1 := dk_seg dksX6_addPulse_0 24 rfl rfl
theorem dX6_addPulse_0 : decode cX6_addPulse 0 = .ok (.aload_n 0, 1) := dk_42 (dk_at dksX6_addPulse_0 0 rfl rfl)
theorem dX6_addPulse_1 : decode cX6_addPulse 1 = .ok (.aload_n 0, 1) := dk_42 (dk_at dksX6_addPulse_0 1 rfl rfl)
theorem dX6_addPulse_2 : decode cX6_addPulse 2 = .ok (.iload_n 1, 1) := dk_27 (dk_at dksX6_addPulse_0 2 rfl rfl)
theorem dX6_addPulse_3 : decode cX6_addPulse 3 = .ok (.iload_n 2, 1) := dk_28 (dk_at dksX6_addPulse_0 3 rfl rfl)
theorem dX6_addPulse_4 : decode cX6_addPulse 4 = .ok (.invokevirtual 175, 3) := dk_182 0 175 (dk_at dksX6_addPulse_0 4 rfl rfl)
theorem dX6_addPulse_7 : decode cX6_addPulse 7 = .ok (.putfield 48, 3) := dk_181 0 48 (dk_at dksX6_addPulse_0 7 rfl rfl)
theorem dX6_addPulse_10 : decode cX6_addPulse 10 = .ok (.aload_n 0, 1) := dk_42 (dk_at dksX6_addPulse_0 10 rfl rfl)
theorem dX6_addPulse_11 : decode cX6_addPulse 11 = .ok (.getfield 48, 3) := dk_180 0 48 (dk_at dksX6_addPulse_0 11 rfl rfl)
theorem dX6_addPulse_14 : decode cX6_addPulse 14 = .ok (.ifCond .eq 5, 3) := dk_153 0 5 (dk_at dksX6_addPulse_0 14 rfl rfl)
theorem dX6_addPulse_17 : decode cX6_addPulse 17 = .ok (.iconst 0, 1) := dk_3 (dk_at dksX6_addPulse_0 17 rfl rfl)
theorem dX6_addPulse_18 : decode cX6_addPulse 18 = .ok (.ireturn, 1) := dk_172 (dk_at dksX6_addPulse_0 18 rfl rfl)
theorem dX6_addPulse_19 : decode cX6_addPulse 19 = .ok (.aload_n 0, 1) := dk_42 (dk_at dksX6_addPulse_0 19 rfl rfl)
theorem dX6_addPulse_20 : decode cX6_addPulse 20 = .ok (.invokevirtual 134, 3) := dk_182 0 134 (dk_at dksX6_addPulse_0 20 rfl rfl)
theorem dX6_addPulse_23 : decode cX6_addPulse 23 = .ok (.aload_n 0, 1) := dk_42 (dk_at dksX6_addPulse_0 23 rfl rfl)
theorem dX6_addPulse_24 : decode cX6_addPulse 24 = .ok (.iload_n 1, 1) := dk_27 (dk_at dksX6_addPulse_1 0 rfl rfl)
theorem dX6_addPulse_25 : decode cX6_addPulse 25 = .ok (.iload_n 2, 1) := dk_28 (dk_at dksX6_addPulse_1 1 rfl rfl)
theorem dX6_addPulse_26 : decode cX6_addPulse 26 = .ok (.invokevirtual 178, 3) := dk_182 0 178 (dk_at dksX6_addPulse_1 2 rfl rfl)
theorem dX6_addPulse_29 : decode cX6_addPulse 29 = .ok (.ireturn, 1) := dk_172 (dk_at dksX6_addPulse_1 5 rfl rfl)
abbrev cX6_whyNoPulse : ByteArray := prog_10_method_34_code
def yX6_whyNoPulse : MethodName := ⟨RX6, "whyNoPulse", "(II)I"⟩
def dkwX6_whyNoPulse_1 : List UInt8 := [4, 167, 0, 22, 42, 180, 0, 7, 16, 20, 47, 20, 0, 173, 148, 154, 0, 7, 5, 167, 0, 4, 3, 172]
abbrev dktX6_whyNoPulse_1 : List UInt8 := dkwX6_whyNoPulse_1 ++ []
def dkwX6_whyNoPulse_0 : List UInt8 := [27, 133, 9, 20, 0, 44, 184, 0, 59, 153, 0, 15, 28, 133, 10, 20, 0, 171, 184, 0, 59, 154, 0, 7]
abbrev dktX6_whyNoPulse_0 : List UInt8 := dkwX6_whyNoPulse_0 ++ dktX6_whyNoPulse_1
theorem dksX6_whyNoPulse_0 : cX6_whyNoPulse.data.toList.drop 0 = dktX6_whyNoPulse_0 := by decide +kernel
theorem dksX6_whyNoPulse_1 : cX6_whyNoPulse.data.toList.drop 24 = dktX6_whyNoPulse_1 := dk_seg dksX6_whyNoPulse_0 24 rfl rfl
theorem dX6_whyNoPulse_0 : decode cX6_whyNoPulse 0 = .ok (.iload_n 1, 1) := dk_27 (dk_at dksX6_whyNoPulse_0 0 rfl rfl)
theorem dX6_whyNoPulse_1 : decode cX6_whyNoPulse 1 = .ok (.i2l, 1) := dk_133 (dk_at dksX6_whyNoPulse_0 1 rfl rfl)
theorem dX6_whyNoPulse_2 : decode cX6_whyNoPulse 2 = .ok (.lconst 0, 1) := dk_9 (dk_at dksX6_whyNoPulse_0 2 rfl rfl)
theorem dX6_whyNoPulse_3 : decode cX6_whyNoPulse 3 = .ok (.ldc2_w 44, 3) := dk_20 0 44 (dk_at dksX6_whyNoPulse_0 3 rfl rfl)
theorem dX6_whyNoPulse_6 : decode cX6_whyNoPulse 6 = .ok (.invokestatic 59, 3) := dk_184 0 59 (dk_at dksX6_whyNoPulse_0 6 rfl rfl)
theorem dX6_whyNoPulse_9 : decode cX6_whyNoPulse 9 = .ok (.ifCond .eq 15, 3) := dk_153 0 15 (dk_at dksX6_whyNoPulse_0 9 rfl rfl)
theorem dX6_whyNoPulse_12 : decode cX6_whyNoPulse 12 = .ok (.iload_n 2, 1) := dk_28 (dk_at dksX6_whyNoPulse_0 12 rfl rfl)
theorem dX6_whyNoPulse_13 : decode cX6_whyNoPulse 13 = .ok (.i2l, 1) := dk_133 (dk_at dksX6_whyNoPulse_0 13 rfl rfl)
theorem dX6_whyNoPulse_14 : decode cX6_whyNoPulse 14 = .ok (.lconst 1, 1) := dk_10 (dk_at dksX6_whyNoPulse_0 14 rfl rfl)
theorem dX6_whyNoPulse_15 : decode cX6_whyNoPulse 15 = .ok (.ldc2_w 171, 3) := dk_20 0 171 (dk_at dksX6_whyNoPulse_0 15 rfl rfl)
theorem dX6_whyNoPulse_18 : decode cX6_whyNoPulse 18 = .ok (.invokestatic 59, 3) := dk_184 0 59 (dk_at dksX6_whyNoPulse_0 18 rfl rfl)
theorem dX6_whyNoPulse_21 : decode cX6_whyNoPulse 21 = .ok (.ifCond .ne 7, 3) := dk_154 0 7 (dk_at dksX6_whyNoPulse_0 21 rfl rfl)
theorem dX6_whyNoPulse_24 : decode cX6_whyNoPulse 24 = .ok (.iconst 1, 1) := dk_4 (dk_at dksX6_whyNoPulse_1 0 rfl rfl)
theorem dX6_whyNoPulse_25 : decode cX6_whyNoPulse 25 = .ok (.goto 22, 3) := dk_167 0 22 (dk_at dksX6_whyNoPulse_1 1 rfl rfl)
theorem dX6_whyNoPulse_28 : decode cX6_whyNoPulse 28 = .ok (.aload_n 0, 1) := dk_42 (dk_at dksX6_whyNoPulse_1 4 rfl rfl)
theorem dX6_whyNoPulse_29 : decode cX6_whyNoPulse 29 = .ok (.getfield 7, 3) := dk_180 0 7 (dk_at dksX6_whyNoPulse_1 5 rfl rfl)
theorem dX6_whyNoPulse_32 : decode cX6_whyNoPulse 32 = .ok (.bipush 20, 2) := dk_16 20 (dk_at dksX6_whyNoPulse_1 8 rfl rfl)
theorem dX6_whyNoPulse_34 : decode cX6_whyNoPulse 34 = .ok (.laload, 1) := dk_47 (dk_at dksX6_whyNoPulse_1 10 rfl rfl)
theorem dX6_whyNoPulse_35 : decode cX6_whyNoPulse 35 = .ok (.ldc2_w 173, 3) := dk_20 0 173 (dk_at dksX6_whyNoPulse_1 11 rfl rfl)
theorem dX6_whyNoPulse_38 : decode cX6_whyNoPulse 38 = .ok (.lcmp, 1) := dk_148 (dk_at dksX6_whyNoPulse_1 14 rfl rfl)
theorem dX6_whyNoPulse_39 : decode cX6_whyNoPulse 39 = .ok (.ifCond .ne 7, 3) := dk_154 0 7 (dk_at dksX6_whyNoPulse_1 15 rfl rfl)
theorem dX6_whyNoPulse_42 : decode cX6_whyNoPulse 42 = .ok (.iconst 2, 1) := dk_5 (dk_at dksX6_whyNoPulse_1 18 rfl rfl)
theorem dX6_whyNoPulse_43 : decode cX6_whyNoPulse 43 = .ok (.goto 4, 3) := dk_167 0 4 (dk_at dksX6_whyNoPulse_1 19 rfl rfl)
theorem dX6_whyNoPulse_46 : decode cX6_whyNoPulse 46 = .ok (.iconst 0, 1) := dk_3 (dk_at dksX6_whyNoPulse_1 22 rfl rfl)
theorem dX6_whyNoPulse_47 : decode cX6_whyNoPulse 47 = .ok (.ireturn, 1) := dk_172 (dk_at dksX6_whyNoPulse_1 23 rfl rfl)
abbrev cX6_addsPulse : ByteArray := prog_10_method_35_code
def yX6_addsPulse : MethodName := ⟨RX6, "addsPulse", "(II)I"⟩
def dkwX6_addsPulse_2 : List UInt8 := [16, 20, 47, 136, 172]
abbrev dktX6_addsPulse_2 : List UInt8 := dkwX6_addsPulse_2 ++ []
def dkwX6_addsPulse_1 : List UInt8 := [180, 0, 7, 29, 4, 96, 28, 133, 80, 42, 180, 0, 7, 16, 20, 92, 47, 10, 97, 80, 42, 180, 0, 7]
abbrev dktX6_addsPulse_1 : List UInt8 := dkwX6_addsPulse_1 ++ dktX6_addsPulse_2
def dkwX6_addsPulse_0 : List UInt8 := [16, 21, 5, 42, 180, 0, 7, 16, 20, 47, 136, 104, 96, 62, 42, 180, 0, 7, 29, 27, 133, 80, 42]
abbrev dktX6_addsPulse_0 : List UInt8 := dkwX6_addsPulse_0 ++ dktX6_addsPulse_1
theorem dksX6_addsPulse_0 : cX6_addsPulse.data.toList.drop 0 = dktX6_addsPulse_0 := by decide +kernel
theorem dksX6_addsPulse_1 : cX6_addsPulse.data.toList.drop 23 = dktX6_addsPulse_1 := dk_seg dksX6_addsPulse_0 23 rfl rfl
theorem dksX6_addsPulse_2 : cX6_addsPulse.data.toList.drop 47 = dktX6_addsPulse_2 := dk_seg dksX6_addsPulse_1 24 rfl rfl
theorem dX6_addsPulse_0 : decode cX6_addsPulse 0 = .ok (.bipush 21, 2) := dk_16 21 (dk_at dksX6_addsPulse_0 0 rfl rfl)
theorem dX6_addsPulse_2 : decode cX6_addsPulse 2 = .ok (.iconst 2, 1) := dk_5 (dk_at dksX6_addsPulse_0 2 rfl rfl)
theorem dX6_addsPulse_3 : decode cX6_addsPulse 3 = .ok (.aload_n 0, 1) := dk_42 (dk_at dksX6_addsPulse_0 3 rfl rfl)
theorem dX6_addsPulse_4 : decode cX6_addsPulse 4 = .ok (.getfield 7, 3) := dk_180 0 7 (dk_at dksX6_addsPulse_0 4 rfl rfl)
theorem dX6_addsPulse_7 : decode cX6_addsPulse 7 = .ok (.bipush 20, 2) := dk_16 20 (dk_at dksX6_addsPulse_0 7 rfl rfl)
theorem dX6_addsPulse_9 : decode cX6_addsPulse 9 = .ok (.laload, 1) := dk_47 (dk_at dksX6_addsPulse_0 9 rfl rfl)
theorem dX6_addsPulse_10 : decode cX6_addsPulse 10 = .ok (.l2i, 1) := dk_136 (dk_at dksX6_addsPulse_0 10 rfl rfl)
theorem dX6_addsPulse_11 : decode cX6_addsPulse 11 = .ok (.imul, 1) := dk_104 (dk_at dksX6_addsPulse_0 11 rfl rfl)
theorem dX6_addsPulse_12 : decode cX6_addsPulse 12 = .ok (.iadd, 1) := dk_96 (dk_at dksX6_addsPulse_0 12 rfl rfl)
theorem dX6_addsPulse_13 : decode cX6_addsPulse 13 = .ok (.istore_n 3, 1) := dk_62 (dk_at dksX6_addsPulse_0 13 rfl rfl)
theorem dX6_addsPulse_14 : decode cX6_addsPulse 14 = .ok (.aload_n 0, 1) := dk_42 (dk_at dksX6_addsPulse_0 14 rfl rfl)
theorem dX6_addsPulse_15 : decode cX6_addsPulse 15 = .ok (.getfield 7, 3) := dk_180 0 7 (dk_at dksX6_addsPulse_0 15 rfl rfl)
theorem dX6_addsPulse_18 : decode cX6_addsPulse 18 = .ok (.iload_n 3, 1) := dk_29 (dk_at dksX6_addsPulse_0 18 rfl rfl)
theorem dX6_addsPulse_19 : decode cX6_addsPulse 19 = .ok (.iload_n 1, 1) := dk_27 (dk_at dksX6_addsPulse_0 19 rfl rfl)
theorem dX6_addsPulse_20 : decode cX6_addsPulse 20 = .ok (.i2l, 1) := dk_133 (dk_at dksX6_addsPulse_0 20 rfl rfl)
theorem dX6_addsPulse_21 : decode cX6_addsPulse 21 = .ok (.lastore, 1) := dk_80 (dk_at dksX6_addsPulse_0 21 rfl rfl)
theorem dX6_addsPulse_22 : decode cX6_addsPulse 22 = .ok (.aload_n 0, 1) := dk_42 (dk_at dksX6_addsPulse_0 22 rfl rfl)
theorem dX6_addsPulse_23 : decode cX6_addsPulse 23 = .ok (.getfield 7, 3) := dk_180 0 7 (dk_at dksX6_addsPulse_1 0 rfl rfl)
theorem dX6_addsPulse_26 : decode cX6_addsPulse 26 = .ok (.iload_n 3, 1) := dk_29 (dk_at dksX6_addsPulse_1 3 rfl rfl)
theorem dX6_addsPulse_27 : decode cX6_addsPulse 27 = .ok (.iconst 1, 1) := dk_4 (dk_at dksX6_addsPulse_1 4 rfl rfl)
theorem dX6_addsPulse_28 : decode cX6_addsPulse 28 = .ok (.iadd, 1) := dk_96 (dk_at dksX6_addsPulse_1 5 rfl rfl)
theorem dX6_addsPulse_29 : decode cX6_addsPulse 29 = .ok (.iload_n 2, 1) := dk_28 (dk_at dksX6_addsPulse_1 6 rfl rfl)
theorem dX6_addsPulse_30 : decode cX6_addsPulse 30 = .ok (.i2l, 1) := dk_133 (dk_at dksX6_addsPulse_1 7 rfl rfl)
theorem dX6_addsPulse_31 : decode cX6_addsPulse 31 = .ok (.lastore, 1) := dk_80 (dk_at dksX6_addsPulse_1 8 rfl rfl)
theorem dX6_addsPulse_32 : decode cX6_addsPulse 32 = .ok (.aload_n 0, 1) := dk_42 (dk_at dksX6_addsPulse_1 9 rfl rfl)
theorem dX6_addsPulse_33 : decode cX6_addsPulse 33 = .ok (.getfield 7, 3) := dk_180 0 7 (dk_at dksX6_addsPulse_1 10 rfl rfl)
theorem dX6_addsPulse_36 : decode cX6_addsPulse 36 = .ok (.bipush 20, 2) := dk_16 20 (dk_at dksX6_addsPulse_1 13 rfl rfl)
theorem dX6_addsPulse_38 : decode cX6_addsPulse 38 = .ok (.dup2, 1) := dk_92 (dk_at dksX6_addsPulse_1 15 rfl rfl)
theorem dX6_addsPulse_39 : decode cX6_addsPulse 39 = .ok (.laload, 1) := dk_47 (dk_at dksX6_addsPulse_1 16 rfl rfl)
theorem dX6_addsPulse_40 : decode cX6_addsPulse 40 = .ok (.lconst 1, 1) := dk_10 (dk_at dksX6_addsPulse_1 17 rfl rfl)
theorem dX6_addsPulse_41 : decode cX6_addsPulse 41 = .ok (.ladd, 1) := dk_97 (dk_at dksX6_addsPulse_1 18 rfl rfl)
theorem dX6_addsPulse_42 : decode cX6_addsPulse 42 = .ok (.lastore, 1) := dk_80 (dk_at dksX6_addsPulse_1 19 rfl rfl)
theorem dX6_addsPulse_43 : decode cX6_addsPulse 43 = .ok (.aload_n 0, 1) := dk_42 (dk_at dksX6_addsPulse_1 20 rfl rfl)
theorem dX6_addsPulse_44 : decode cX6_addsPulse 44 = .ok (.getfield 7, 3) := dk_180 0 7 (dk_at dksX6_addsPulse_1 21 rfl rfl)
theorem dX6_addsPulse_47 : decode cX6_addsPulse 47 = .ok (.bipush 20, 2) := dk_16 20 (dk_at dksX6_addsPulse_2 0 rfl rfl)
theorem dX6_addsPulse_49 : decode cX6_addsPulse 49 = .ok (.laload, 1) := dk_47 (dk_at dksX6_addsPulse_2 2 rfl rfl)
theorem dX6_addsPulse_50 : decode cX6_addsPulse 50 = .ok (.l2i, 1) := dk_136 (dk_at dksX6_addsPulse_2 3 rfl rfl)
theorem dX6_addsPulse_51 : decode cX6_addsPulse 51 = .ok (.ireturn, 1) := dk_172 (dk_at dksX6_addsPulse_2 4 rfl rfl)
abbrev cX6_removePulse : ByteArray := prog_10_method_37_code
def yX6_removePulse : MethodName := ⟨RX6, "removePulse", "(I)I"⟩
def dkwX6_removePulse_5 : List UInt8 := [16, 20, 47, 136, 172]
abbrev dktX6_removePulse_5 : List UInt8 := dkwX6_removePulse_5 ++ []
def dkwX6_removePulse_4 : List UInt8 := [42, 180, 0, 7, 28, 42, 180, 0, 7, 28, 5, 96, 47, 80, 132, 2, 1, 167, 255, 218, 42, 180, 0, 7]
abbrev dktX6_removePulse_4 : List UInt8 := dkwX6_removePulse_4 ++ dktX6_removePulse_5
def dkwX6_removePulse_3 : List UInt8 := [104, 96, 61, 28, 133, 20, 0, 181, 20, 0, 183, 42, 180, 0, 7, 16, 20, 47, 105, 97, 148, 156, 0, 23]
abbrev dktX6_removePulse_3 : List UInt8 := dkwX6_removePulse_3 ++ dktX6_removePulse_4
def dkwX6_removePulse_2 : List UInt8 := [153, 0, 5, 3, 172, 42, 182, 0, 134, 42, 180, 0, 7, 16, 20, 92, 47, 10, 101, 80, 16, 21, 5, 27]
abbrev dktX6_removePulse_2 : List UInt8 := dkwX6_removePulse_2 ++ dktX6_removePulse_3
def dkwX6_removePulse_1 : List UInt8 := [180, 0, 7, 16, 20, 47, 10, 148, 154, 0, 7, 5, 167, 0, 4, 3, 181, 0, 48, 42, 180, 0, 48]
abbrev dktX6_removePulse_1 : List UInt8 := dkwX6_removePulse_1 ++ dktX6_removePulse_2
def dkwX6_removePulse_0 : List UInt8 := [42, 27, 133, 9, 42, 180, 0, 7, 16, 20, 47, 10, 101, 184, 0, 59, 154, 0, 7, 4, 167, 0, 20, 42]
abbrev dktX6_removePulse_0 : List UInt8 := dkwX6_removePulse_0 ++ dktX6_removePulse_1
theorem dksX6_removePulse_0 : cX6_removePulse.data.toList.drop 0 = dktX6_removePulse_0 := by decide +kernel
theorem dksX6_removePulse_1 : cX6_removePulse.data.toList.drop 24 = dktX6_removePulse_1 := dk_seg dksX6_removePulse_0 24 rfl rfl
theorem dksX6_removePulse_2 : cX6_removePulse.data.toList.drop 47 = dktX6_removePulse_2 := dk_seg dksX6_removePulse_1 23 rfl rfl
theorem dksX6_removePulse_3 : cX6_removePulse.data.toList.drop 71 = dktX6_removePulse_3 := dk_seg dksX6_removePulse_2 24 rfl rfl
theorem dksX6_removePulse_4 : cX6_removePulse.data.toList.drop 95 = dktX6_removePulse_4 := dk_seg dksX6_removePulse_3 24 rfl rfl
theorem dksX6_removePulse_5 : cX6_removePulse.data.toList.drop 119 = dktX6_removePulse_5 := dk_seg dksX6_removePulse_4 24 rfl rfl
theorem dX6_removePulse_0 : decode cX6_removePulse 0 = .ok (.aload_n 0, 1) := dk_42 (dk_at dksX6_removePulse_0 0 rfl rfl)
theorem dX6_removePulse_1 : decode cX6_removePulse 1 = .ok (.iload_n 1, 1) := dk_27 (dk_at dksX6_removePulse_0 1 rfl rfl)
theorem dX6_removePulse_2 : decode cX6_removePulse 2 = .ok (.i2l, 1) := dk_133 (dk_at dksX6_removePulse_0 2 rfl rfl)
theorem dX6_removePulse_3 : decode cX6_removePulse 3 = .ok (.lconst 0, 1) := dk_9 (dk_at dksX6_removePulse_0 3 rfl rfl)
theorem dX6_removePulse_4 : decode cX6_removePulse 4 = .ok (.aload_n 0, 1) := dk_42 (dk_at dksX6_removePulse_0 4 rfl rfl)
theorem dX6_removePulse_5 : decode cX6_removePulse 5 = .ok (.getfield 7, 3) := dk_180 0 7 (dk_at dksX6_removePulse_0 5 rfl rfl)
theorem dX6_removePulse_8 : decode cX6_removePulse 8 = .ok (.bipush 20, 2) := dk_16 20 (dk_at dksX6_removePulse_0 8 rfl rfl)
theorem dX6_removePulse_10 : decode cX6_removePulse 10 = .ok (.laload, 1) := dk_47 (dk_at dksX6_removePulse_0 10 rfl rfl)
theorem dX6_removePulse_11 : decode cX6_removePulse 11 = .ok (.lconst 1, 1) := dk_10 (dk_at dksX6_removePulse_0 11 rfl rfl)
theorem dX6_removePulse_12 : decode cX6_removePulse 12 = .ok (.lsub, 1) := dk_101 (dk_at dksX6_removePulse_0 12 rfl rfl)
theorem dX6_removePulse_13 : decode cX6_removePulse 13 = .ok (.invokestatic 59, 3) := dk_184 0 59 (dk_at dksX6_removePulse_0 13 rfl rfl)
theorem dX6_removePulse_16 : decode cX6_removePulse 16 = .ok (.ifCond .ne 7, 3) := dk_154 0 7 (dk_at dksX6_removePulse_0 16 rfl rfl)
theorem dX6_removePulse_19 : decode cX6_removePulse 19 = .ok (.iconst 1, 1) := dk_4 (dk_at dksX6_removePulse_0 19 rfl rfl)
theorem dX6_removePulse_20 : decode cX6_removePulse 20 = .ok (.goto 20, 3) := dk_167 0 20 (dk_at dksX6_removePulse_0 20 rfl rfl)
theorem dX6_removePulse_23 : decode cX6_removePulse 23 = .ok (.aload_n 0, 1) := dk_42 (dk_at dksX6_removePulse_0 23 rfl rfl)
theorem dX6_removePulse_24 : decode cX6_removePulse 24 = .ok (.getfield 7, 3) := dk_180 0 7 (dk_at dksX6_removePulse_1 0 rfl rfl)
theorem dX6_removePulse_27 : decode cX6_removePulse 27 = .ok (.bipush 20, 2) := dk_16 20 (dk_at dksX6_removePulse_1 3 rfl rfl)
theorem dX6_removePulse_29 : decode cX6_removePulse 29 = .ok (.laload, 1) := dk_47 (dk_at dksX6_removePulse_1 5 rfl rfl)
theorem dX6_removePulse_30 : decode cX6_removePulse 30 = .ok (.lconst 1, 1) := dk_10 (dk_at dksX6_removePulse_1 6 rfl rfl)
theorem dX6_removePulse_31 : decode cX6_removePulse 31 = .ok (.lcmp, 1) := dk_148 (dk_at dksX6_removePulse_1 7 rfl rfl)
theorem dX6_removePulse_32 : decode cX6_removePulse 32 = .ok (.ifCond .ne 7, 3) := dk_154 0 7 (dk_at dksX6_removePulse_1 8 rfl rfl)
theorem dX6_removePulse_35 : decode cX6_removePulse 35 = .ok (.iconst 2, 1) := dk_5 (dk_at dksX6_removePulse_1 11 rfl rfl)
theorem dX6_removePulse_36 : decode cX6_removePulse 36 = .ok (.goto 4, 3) := dk_167 0 4 (dk_at dksX6_removePulse_1 12 rfl rfl)
theorem dX6_removePulse_39 : decode cX6_removePulse 39 = .ok (.iconst 0, 1) := dk_3 (dk_at dksX6_removePulse_1 15 rfl rfl)
theorem dX6_removePulse_40 : decode cX6_removePulse 40 = .ok (.putfield 48, 3) := dk_181 0 48 (dk_at dksX6_removePulse_1 16 rfl rfl)
theorem dX6_removePulse_43 : decode cX6_removePulse 43 = .ok (.aload_n 0, 1) := dk_42 (dk_at dksX6_removePulse_1 19 rfl rfl)
theorem dX6_removePulse_44 : decode cX6_removePulse 44 = .ok (.getfield 48, 3) := dk_180 0 48 (dk_at dksX6_removePulse_1 20 rfl rfl)
theorem dX6_removePulse_47 : decode cX6_removePulse 47 = .ok (.ifCond .eq 5, 3) := dk_153 0 5 (dk_at dksX6_removePulse_2 0 rfl rfl)
theorem dX6_removePulse_50 : decode cX6_removePulse 50 = .ok (.iconst 0, 1) := dk_3 (dk_at dksX6_removePulse_2 3 rfl rfl)
theorem dX6_removePulse_51 : decode cX6_removePulse 51 = .ok (.ireturn, 1) := dk_172 (dk_at dksX6_removePulse_2 4 rfl rfl)
theorem dX6_removePulse_52 : decode cX6_removePulse 52 = .ok (.aload_n 0, 1) := dk_42 (dk_at dksX6_removePulse_2 5 rfl rfl)
theorem dX6_removePulse_53 : decode cX6_removePulse 53 = .ok (.invokevirtual 134, 3) := dk_182 0 134 (dk_at dksX6_removePulse_2 6 rfl rfl)
theorem dX6_removePulse_56 : decode cX6_removePulse 56 = .ok (.aload_n 0, 1) := dk_42 (dk_at dksX6_removePulse_2 9 rfl rfl)
theorem dX6_removePulse_57 : decode cX6_removePulse 57 = .ok (.getfield 7, 3) := dk_180 0 7 (dk_at dksX6_removePulse_2 10 rfl rfl)
theorem dX6_removePulse_60 : decode cX6_removePulse 60 = .ok (.bipush 20, 2) := dk_16 20 (dk_at dksX6_removePulse_2 13 rfl rfl)
theorem dX6_removePulse_62 : decode cX6_removePulse 62 = .ok (.dup2, 1) := dk_92 (dk_at dksX6_removePulse_2 15 rfl rfl)
theorem dX6_removePulse_63 : decode cX6_removePulse 63 = .ok (.laload, 1) := dk_47 (dk_at dksX6_removePulse_2 16 rfl rfl)
theorem dX6_removePulse_64 : decode cX6_removePulse 64 = .ok (.lconst 1, 1) := dk_10 (dk_at dksX6_removePulse_2 17 rfl rfl)
theorem dX6_removePulse_65 : decode cX6_removePulse 65 = .ok (.lsub, 1) := dk_101 (dk_at dksX6_removePulse_2 18 rfl rfl)
theorem dX6_removePulse_66 : decode cX6_removePulse 66 = .ok (.lastore, 1) := dk_80 (dk_at dksX6_removePulse_2 19 rfl rfl)
theorem dX6_removePulse_67 : decode cX6_removePulse 67 = .ok (.bipush 21, 2) := dk_16 21 (dk_at dksX6_removePulse_2 20 rfl rfl)
theorem dX6_removePulse_69 : decode cX6_removePulse 69 = .ok (.iconst 2, 1) := dk_5 (dk_at dksX6_removePulse_2 22 rfl rfl)
theorem dX6_removePulse_70 : decode cX6_removePulse 70 = .ok (.iload_n 1, 1) := dk_27 (dk_at dksX6_removePulse_2 23 rfl rfl)
theorem dX6_removePulse_71 : decode cX6_removePulse 71 = .ok (.imul, 1) := dk_104 (dk_at dksX6_removePulse_3 0 rfl rfl)
theorem dX6_removePulse_72 : decode cX6_removePulse 72 = .ok (.iadd, 1) := dk_96 (dk_at dksX6_removePulse_3 1 rfl rfl)
theorem dX6_removePulse_73 : decode cX6_removePulse 73 = .ok (.istore_n 2, 1) := dk_61 (dk_at dksX6_removePulse_3 2 rfl rfl)
theorem dX6_removePulse_74 : decode cX6_removePulse 74 = .ok (.iload_n 2, 1) := dk_28 (dk_at dksX6_removePulse_3 3 rfl rfl)
theorem dX6_removePulse_75 : decode cX6_removePulse 75 = .ok (.i2l, 1) := dk_133 (dk_at dksX6_removePulse_3 4 rfl rfl)
theorem dX6_removePulse_76 : decode cX6_removePulse 76 = .ok (.ldc2_w 181, 3) := dk_20 0 181 (dk_at dksX6_removePulse_3 5 rfl rfl)
theorem dX6_removePulse_79 : decode cX6_removePulse 79 = .ok (.ldc2_w 183, 3) := dk_20 0 183 (dk_at dksX6_removePulse_3 8 rfl rfl)
theorem dX6_removePulse_82 : decode cX6_removePulse 82 = .ok (.aload_n 0, 1) := dk_42 (dk_at dksX6_removePulse_3 11 rfl rfl)
theorem dX6_removePulse_83 : decode cX6_removePulse 83 = .ok (.getfield 7, 3) := dk_180 0 7 (dk_at dksX6_removePulse_3 12 rfl rfl)
theorem dX6_removePulse_86 : decode cX6_removePulse 86 = .ok (.bipush 20, 2) := dk_16 20 (dk_at dksX6_removePulse_3 15 rfl rfl)
theorem dX6_removePulse_88 : decode cX6_removePulse 88 = .ok (.laload, 1) := dk_47 (dk_at dksX6_removePulse_3 17 rfl rfl)
theorem dX6_removePulse_89 : decode cX6_removePulse 89 = .ok (.lmul, 1) := dk_105 (dk_at dksX6_removePulse_3 18 rfl rfl)
theorem dX6_removePulse_90 : decode cX6_removePulse 90 = .ok (.ladd, 1) := dk_97 (dk_at dksX6_removePulse_3 19 rfl rfl)
theorem dX6_removePulse_91 : decode cX6_removePulse 91 = .ok (.lcmp, 1) := dk_148 (dk_at dksX6_removePulse_3 20 rfl rfl)
theorem dX6_removePulse_92 : decode cX6_removePulse 92 = .ok (.ifCond .ge 23, 3) := dk_156 0 23 (dk_at dksX6_removePulse_3 21 rfl rfl)
theorem dX6_removePulse_95 : decode cX6_removePulse 95 = .ok (.aload_n 0, 1) := dk_42 (dk_at dksX6_removePulse_4 0 rfl rfl)
theorem dX6_removePulse_96 : decode cX6_removePulse 96 = .ok (.getfield 7, 3) := dk_180 0 7 (dk_at dksX6_removePulse_4 1 rfl rfl)
theorem dX6_removePulse_99 : decode cX6_removePulse 99 = .ok (.iload_n 2, 1) := dk_28 (dk_at dksX6_removePulse_4 4 rfl rfl)
theorem dX6_removePulse_100 : decode cX6_removePulse 100 = .ok (.aload_n 0, 1) := dk_42 (dk_at dksX6_removePulse_4 5 rfl rfl)
theorem dX6_removePulse_101 : decode cX6_removePulse 101 = .ok (.getfield 7, 3) := dk_180 0 7 (dk_at dksX6_removePulse_4 6 rfl rfl)
theorem dX6_removePulse_104 : decode cX6_removePulse 104 = .ok (.iload_n 2, 1) := dk_28 (dk_at dksX6_removePulse_4 9 rfl rfl)
theorem dX6_removePulse_105 : decode cX6_removePulse 105 = .ok (.iconst 2, 1) := dk_5 (dk_at dksX6_removePulse_4 10 rfl rfl)
theorem dX6_removePulse_106 : decode cX6_removePulse 106 = .ok (.iadd, 1) := dk_96 (dk_at dksX6_removePulse_4 11 rfl rfl)
theorem dX6_removePulse_107 : decode cX6_removePulse 107 = .ok (.laload, 1) := dk_47 (dk_at dksX6_removePulse_4 12 rfl rfl)
theorem dX6_removePulse_108 : decode cX6_removePulse 108 = .ok (.lastore, 1) := dk_80 (dk_at dksX6_removePulse_4 13 rfl rfl)
theorem dX6_removePulse_109 : decode cX6_removePulse 109 = .ok (.iinc 2 1, 3) := dk_132 2 1 (dk_at dksX6_removePulse_4 14 rfl rfl)
theorem dX6_removePulse_112 : decode cX6_removePulse 112 = .ok (.goto (-38), 3) := dk_167 255 218 (dk_at dksX6_removePulse_4 17 rfl rfl)
theorem dX6_removePulse_115 : decode cX6_removePulse 115 = .ok (.aload_n 0, 1) := dk_42 (dk_at dksX6_removePulse_4 20 rfl rfl)
theorem dX6_removePulse_116 : decode cX6_removePulse 116 = .ok (.getfield 7, 3) := dk_180 0 7 (dk_at dksX6_removePulse_4 21 rfl rfl)
theorem dX6_removePulse_119 : decode cX6_removePulse 119 = .ok (.bipush 20, 2) := dk_16 20 (dk_at dksX6_removePulse_5 0 rfl rfl)
theorem dX6_removePulse_121 : decode cX6_removePulse 121 = .ok (.laload, 1) := dk_47 (dk_at dksX6_removePulse_5 2 rfl rfl)
theorem dX6_removePulse_122 : decode cX6_removePulse 122 = .ok (.l2i, 1) := dk_136 (dk_at dksX6_removePulse_5 3 rfl rfl)
theorem dX6_removePulse_123 : decode cX6_removePulse 123 = .ok (.ireturn, 1) := dk_172 (dk_at dksX6_removePulse_5 4 rfl rfl)
abbrev cX6_part : ByteArray := prog_10_method_39_code
def yX6_part : MethodName := ⟨RX6, "part", "(II)I"⟩
def dkwX6_part_3 : List UInt8 := [16, 9, 27, 96, 47, 136, 172]
abbrev dktX6_part_3 : List UInt8 := dkwX6_part_3 ++ []
def dkwX6_part_2 : List UInt8 := [160, 0, 11, 42, 27, 182, 0, 185, 167, 0, 21, 42, 180, 0, 7, 28, 154, 0, 7, 4, 167, 0, 5]
abbrev dktX6_part_2 : List UInt8 := dkwX6_part_2 ++ dktX6_part_3
def dkwX6_part_1 : List UInt8 := [153, 0, 7, 3, 167, 0, 4, 5, 181, 0, 48, 42, 180, 0, 48, 153, 0, 5, 3, 172, 28, 5]
abbrev dktX6_part_1 : List UInt8 := dkwX6_part_1 ++ dktX6_part_2
def dkwX6_part_0 : List UInt8 := [42, 42, 27, 182, 0, 140, 154, 0, 7, 4, 167, 0, 20, 28, 133, 9, 20, 0, 183, 184, 0, 59]
abbrev dktX6_part_0 : List UInt8 := dkwX6_part_0 ++ dktX6_part_1
theorem dksX6_part_0 : cX6_part.data.toList.drop 0 = dktX6_part_0 := by decide +kernel
theorem dksX6_part_1 : cX6_part.data.toList.drop 22 = dktX6_part_1 := dk_seg dksX6_part_0 22 rfl rfl
theorem dksX6_part_2 : cX6_part.data.toList.drop 44 = dktX6_part_2 := dk_seg dksX6_part_1 22 rfl rfl
theorem dksX6_part_3 : cX6_part.data.toList.drop 67 = dktX6_part_3 := dk_seg dksX6_part_2 23 rfl rfl
theorem dX6_part_0 : decode cX6_part 0 = .ok (.aload_n 0, 1) := dk_42 (dk_at dksX6_part_0 0 rfl rfl)
theorem dX6_part_1 : decode cX6_part 1 = .ok (.aload_n 0, 1) := dk_42 (dk_at dksX6_part_0 1 rfl rfl)
theorem dX6_part_2 : decode cX6_part 2 = .ok (.iload_n 1, 1) := dk_27 (dk_at dksX6_part_0 2 rfl rfl)
theorem dX6_part_3 : decode cX6_part 3 = .ok (.invokevirtual 140, 3) := dk_182 0 140 (dk_at dksX6_part_0 3 rfl rfl)
theorem dX6_part_6 : decode cX6_part 6 = .ok (.ifCond .ne 7, 3) := dk_154 0 7 (dk_at dksX6_part_0 6 rfl rfl)
theorem dX6_part_9 : decode cX6_part 9 = .ok (.iconst 1, 1) := dk_4 (dk_at dksX6_part_0 9 rfl rfl)
theorem dX6_part_10 : decode cX6_part 10 = .ok (.goto 20, 3) := dk_167 0 20 (dk_at dksX6_part_0 10 rfl rfl)
theorem dX6_part_13 : decode cX6_part 13 = .ok (.iload_n 2, 1) := dk_28 (dk_at dksX6_part_0 13 rfl rfl)
theorem dX6_part_14 : decode cX6_part 14 = .ok (.i2l, 1) := dk_133 (dk_at dksX6_part_0 14 rfl rfl)
theorem dX6_part_15 : decode cX6_part 15 = .ok (.lconst 0, 1) := dk_9 (dk_at dksX6_part_0 15 rfl rfl)
theorem dX6_part_16 : decode cX6_part 16 = .ok (.ldc2_w 183, 3) := dk_20 0 183 (dk_at dksX6_part_0 16 rfl rfl)
theorem dX6_part_19 : decode cX6_part 19 = .ok (.invokestatic 59, 3) := dk_184 0 59 (dk_at dksX6_part_0 19 rfl rfl)
theorem dX6_part_22 : decode cX6_part 22 = .ok (.ifCond .eq 7, 3) := dk_153 0 7 (dk_at dksX6_part_1 0 rfl rfl)
theorem dX6_part_25 : decode cX6_part 25 = .ok (.iconst 0, 1) := dk_3 (dk_at dksX6_part_1 3 rfl rfl)
theorem dX6_part_26 : decode cX6_part 26 = .ok (.goto 4, 3) := dk_167 0 4 (dk_at dksX6_part_1 4 rfl rfl)
theorem dX6_part_29 : decode cX6_part 29 = .ok (.iconst 2, 1) := dk_5 (dk_at dksX6_part_1 7 rfl rfl)
theorem dX6_part_30 : decode cX6_part 30 = .ok (.putfield 48, 3) := dk_181 0 48 (dk_at dksX6_part_1 8 rfl rfl)
theorem dX6_part_33 : decode cX6_part 33 = .ok (.aload_n 0, 1) := dk_42 (dk_at dksX6_part_1 11 rfl rfl)
theorem dX6_part_34 : decode cX6_part 34 = .ok (.getfield 48, 3) := dk_180 0 48 (dk_at dksX6_part_1 12 rfl rfl)
theorem dX6_part_37 : decode cX6_part 37 = .ok (.ifCond .eq 5, 3) := dk_153 0 5 (dk_at dksX6_part_1 15 rfl rfl)
theorem dX6_part_40 : decode cX6_part 40 = .ok (.iconst 0, 1) := dk_3 (dk_at dksX6_part_1 18 rfl rfl)
theorem dX6_part_41 : decode cX6_part 41 = .ok (.ireturn, 1) := dk_172 (dk_at dksX6_part_1 19 rfl rfl)
theorem dX6_part_42 : decode cX6_part 42 = .ok (.iload_n 2, 1) := dk_28 (dk_at dksX6_part_1 20 rfl rfl)
theorem dX6_part_43 : decode cX6_part 43 = .ok (.iconst 2, 1) := dk_5 (dk_at dksX6_part_1 21 rfl rfl)
theorem dX6_part_44 : decode cX6_part 44 = .ok (.if_icmp .ne 11, 3) := dk_160 0 11 (dk_at dksX6_part_2 0 rfl rfl)
theorem dX6_part_47 : decode cX6_part 47 = .ok (.aload_n 0, 1) := dk_42 (dk_at dksX6_part_2 3 rfl rfl)
theorem dX6_part_48 : decode cX6_part 48 = .ok (.iload_n 1, 1) := dk_27 (dk_at dksX6_part_2 4 rfl rfl)
theorem dX6_part_49 : decode cX6_part 49 = .ok (.invokevirtual 185, 3) := dk_182 0 185 (dk_at dksX6_part_2 5 rfl rfl)
theorem dX6_part_52 : decode cX6_part 52 = .ok (.goto 21, 3) := dk_167 0 21 (dk_at dksX6_part_2 8 rfl rfl)
theorem dX6_part_55 : decode cX6_part 55 = .ok (.aload_n 0, 1) := dk_42 (dk_at dksX6_part_2 11 rfl rfl)
theorem dX6_part_56 : decode cX6_part 56 = .ok (.getfield 7, 3) := dk_180 0 7 (dk_at dksX6_part_2 12 rfl rfl)
theorem dX6_part_59 : decode cX6_part 59 = .ok (.iload_n 2, 1) := dk_28 (dk_at dksX6_part_2 15 rfl rfl)
theorem dX6_part_60 : decode cX6_part 60 = .ok (.ifCond .ne 7, 3) := dk_154 0 7 (dk_at dksX6_part_2 16 rfl rfl)
theorem dX6_part_63 : decode cX6_part 63 = .ok (.iconst 1, 1) := dk_4 (dk_at dksX6_part_2 19 rfl rfl)
theorem dX6_part_64 : decode cX6_part 64 = .ok (.goto 5, 3) := dk_167 0 5 (dk_at dksX6_part_2 20 rfl rfl)
theorem dX6_part_67 : decode cX6_part 67 = .ok (.bipush 9, 2) := dk_16 9 (dk_at dksX6_part_3 0 rfl rfl)
theorem dX6_part_69 : decode cX6_part 69 = .ok (.iload_n 1, 1) := dk_27 (dk_at dksX6_part_3 2 rfl rfl)
theorem dX6_part_70 : decode cX6_part 70 = .ok (.iadd, 1) := dk_96 (dk_at dksX6_part_3 3 rfl rfl)
theorem dX6_part_71 : decode cX6_part 71 = .ok (.laload, 1) := dk_47 (dk_at dksX6_part_3 4 rfl rfl)
theorem dX6_part_72 : decode cX6_part 72 = .ok (.l2i, 1) := dk_136 (dk_at dksX6_part_3 5 rfl rfl)
theorem dX6_part_73 : decode cX6_part 73 = .ok (.ireturn, 1) := dk_172 (dk_at dksX6_part_3 6 rfl rfl)
abbrev cX6_upTo : ByteArray := prog_10_method_38_code
def yX6_upTo : MethodName := ⟨RX6, "upTo", "(I)I"⟩
def dkwX6_upTo_1 : List UInt8 := [167, 255, 236, 28, 172]
abbrev dktX6_upTo_1 : List UInt8 := dkwX6_upTo_1 ++ []
def dkwX6_upTo_0 : List UInt8 := [3, 61, 3, 62, 29, 27, 163, 0, 21, 28, 42, 180, 0, 7, 4, 29, 96, 47, 136, 96, 61, 132, 3, 1]
abbrev dktX6_upTo_0 : List UInt8 := dkwX6_upTo_0 ++ dktX6_upTo_1
theorem dksX6_upTo_0 : cX6_upTo.data.toList.drop 0 = dktX6_upTo_0 := by decide +kernel
theorem dksX6_upTo_1 : cX6_upTo.data.toList.drop 24 = dktX6_upTo_1 := dk_seg dksX6_upTo_0 24 rfl rfl
theorem dX6_upTo_0 : decode cX6_upTo 0 = .ok (.iconst 0, 1) := dk_3 (dk_at dksX6_upTo_0 0 rfl rfl)
theorem dX6_upTo_1 : decode cX6_upTo 1 = .ok (.istore_n 2, 1) := dk_61 (dk_at dksX6_upTo_0 1 rfl rfl)
theorem dX6_upTo_2 : decode cX6_upTo 2 = .ok (.iconst 0, 1) := dk_3 (dk_at dksX6_upTo_0 2 rfl rfl)
theorem dX6_upTo_3 : decode cX6_upTo 3 = .ok (.istore_n 3, 1) := dk_62 (dk_at dksX6_upTo_0 3 rfl rfl)
theorem dX6_upTo_4 : decode cX6_upTo 4 = .ok (.iload_n 3, 1) := dk_29 (dk_at dksX6_upTo_0 4 rfl rfl)
theorem dX6_upTo_5 : decode cX6_upTo 5 = .ok (.iload_n 1, 1) := dk_27 (dk_at dksX6_upTo_0 5 rfl rfl)
theorem dX6_upTo_6 : decode cX6_upTo 6 = .ok (.if_icmp .gt 21, 3) := dk_163 0 21 (dk_at dksX6_upTo_0 6 rfl rfl)
theorem dX6_upTo_9 : decode cX6_upTo 9 = .ok (.iload_n 2, 1) := dk_28 (dk_at dksX6_upTo_0 9 rfl rfl)
theorem dX6_upTo_10 : decode cX6_upTo 10 = .ok (.aload_n 0, 1) := dk_42 (dk_at dksX6_upTo_0 10 rfl rfl)
theorem dX6_upTo_11 : decode cX6_upTo 11 = .ok (.getfield 7, 3) := dk_180 0 7 (dk_at dksX6_upTo_0 11 rfl rfl)
theorem dX6_upTo_14 : decode cX6_upTo 14 = .ok (.iconst 1, 1) := dk_4 (dk_at dksX6_upTo_0 14 rfl rfl)
theorem dX6_upTo_15 : decode cX6_upTo 15 = .ok (.iload_n 3, 1) := dk_29 (dk_at dksX6_upTo_0 15 rfl rfl)
theorem dX6_upTo_16 : decode cX6_upTo 16 = .ok (.iadd, 1) := dk_96 (dk_at dksX6_upTo_0 16 rfl rfl)
theorem dX6_upTo_17 : decode cX6_upTo 17 = .ok (.laload, 1) := dk_47 (dk_at dksX6_upTo_0 17 rfl rfl)
theorem dX6_upTo_18 : decode cX6_upTo 18 = .ok (.l2i, 1) := dk_136 (dk_at dksX6_upTo_0 18 rfl rfl)
theorem dX6_upTo_19 : decode cX6_upTo 19 = .ok (.iadd, 1) := dk_96 (dk_at dksX6_upTo_0 19 rfl rfl)
theorem dX6_upTo_20 : decode cX6_upTo 20 = .ok (.istore_n 2, 1) := dk_61 (dk_at dksX6_upTo_0 20 rfl rfl)
theorem dX6_upTo_21 : decode cX6_upTo 21 = .ok (.iinc 3 1, 3) := dk_132 3 1 (dk_at dksX6_upTo_0 21 rfl rfl)
theorem dX6_upTo_24 : decode cX6_upTo 24 = .ok (.goto (-20), 3) := dk_167 255 236 (dk_at dksX6_upTo_1 0 rfl rfl)
theorem dX6_upTo_27 : decode cX6_upTo 27 = .ok (.iload_n 2, 1) := dk_28 (dk_at dksX6_upTo_1 3 rfl rfl)
theorem dX6_upTo_28 : decode cX6_upTo 28 = .ok (.ireturn, 1) := dk_172 (dk_at dksX6_upTo_1 4 rfl rfl)
abbrev cX6_bench : ByteArray := prog_10_method_41_code
def yX6_bench : MethodName := ⟨RX6, "bench", "(I)I"⟩
def dkwX6_bench_1 : List UInt8 := [180, 0, 48, 153, 0, 7, 3, 167, 0, 8, 42, 27, 182, 0, 190, 172]
abbrev dktX6_bench_1 : List UInt8 := dkwX6_bench_1 ++ []
def dkwX6_bench_0 : List UInt8 := [42, 27, 133, 9, 20, 0, 188, 184, 0, 59, 153, 0, 7, 3, 167, 0, 4, 4, 181, 0, 48, 42]
abbrev dktX6_bench_0 : List UInt8 := dkwX6_bench_0 ++ dktX6_bench_1
theorem dksX6_bench_0 : cX6_bench.data.toList.drop 0 = dktX6_bench_0 := by decide +kernel
theorem dksX6_bench_1 : cX6_bench.data.toList.drop 22 = dktX6_bench_1 := dk_seg dksX6_bench_0 22 rfl rfl
theorem dX6_bench_0 : decode cX6_bench 0 = .ok (.aload_n 0, 1) := dk_42 (dk_at dksX6_bench_0 0 rfl rfl)
theorem dX6_bench_1 : decode cX6_bench 1 = .ok (.iload_n 1, 1) := dk_27 (dk_at dksX6_bench_0 1 rfl rfl)
theorem dX6_bench_2 : decode cX6_bench 2 = .ok (.i2l, 1) := dk_133 (dk_at dksX6_bench_0 2 rfl rfl)
theorem dX6_bench_3 : decode cX6_bench 3 = .ok (.lconst 0, 1) := dk_9 (dk_at dksX6_bench_0 3 rfl rfl)
theorem dX6_bench_4 : decode cX6_bench 4 = .ok (.ldc2_w 188, 3) := dk_20 0 188 (dk_at dksX6_bench_0 4 rfl rfl)
theorem dX6_bench_7 : decode cX6_bench 7 = .ok (.invokestatic 59, 3) := dk_184 0 59 (dk_at dksX6_bench_0 7 rfl rfl)
theorem dX6_bench_10 : decode cX6_bench 10 = .ok (.ifCond .eq 7, 3) := dk_153 0 7 (dk_at dksX6_bench_0 10 rfl rfl)
theorem dX6_bench_13 : decode cX6_bench 13 = .ok (.iconst 0, 1) := dk_3 (dk_at dksX6_bench_0 13 rfl rfl)
theorem dX6_bench_14 : decode cX6_bench 14 = .ok (.goto 4, 3) := dk_167 0 4 (dk_at dksX6_bench_0 14 rfl rfl)
theorem dX6_bench_17 : decode cX6_bench 17 = .ok (.iconst 1, 1) := dk_4 (dk_at dksX6_bench_0 17 rfl rfl)
theorem dX6_bench_18 : decode cX6_bench 18 = .ok (.putfield 48, 3) := dk_181 0 48 (dk_at dksX6_bench_0 18 rfl rfl)
theorem dX6_bench_21 : decode cX6_bench 21 = .ok (.aload_n 0, 1) := dk_42 (dk_at dksX6_bench_0 21 rfl rfl)
theorem dX6_bench_22 : decode cX6_bench 22 = .ok (.getfield 48, 3) := dk_180 0 48 (dk_at dksX6_bench_1 0 rfl rfl)
theorem dX6_bench_25 : decode cX6_bench 25 = .ok (.ifCond .eq 7, 3) := dk_153 0 7 (dk_at dksX6_bench_1 3 rfl rfl)
theorem dX6_bench_28 : decode cX6_bench 28 = .ok (.iconst 0, 1) := dk_3 (dk_at dksX6_bench_1 6 rfl rfl)
theorem dX6_bench_29 : decode cX6_bench 29 = .ok (.goto 8, 3) := dk_167 0 8 (dk_at dksX6_bench_1 7 rfl rfl)
theorem dX6_bench_32 : decode cX6_bench 32 = .ok (.aload_n 0, 1) := dk_42 (dk_at dksX6_bench_1 10 rfl rfl)
theorem dX6_bench_33 : decode cX6_bench 33 = .ok (.iload_n 1, 1) := dk_27 (dk_at dksX6_bench_1 11 rfl rfl)
theorem dX6_bench_34 : decode cX6_bench 34 = .ok (.invokevirtual 190, 3) := dk_182 0 190 (dk_at dksX6_bench_1 12 rfl rfl)
theorem dX6_bench_37 : decode cX6_bench 37 = .ok (.ireturn, 1) := dk_172 (dk_at dksX6_bench_1 15 rfl rfl)
abbrev cX6_benchOf : ByteArray := prog_10_method_40_code
def yX6_benchOf : MethodName := ⟨RX6, "benchOf", "(I)I"⟩
def dkwX6_benchOf_3 : List UInt8 := [16, 17, 27, 96, 5, 100, 47, 136, 172]
abbrev dktX6_benchOf_3 : List UInt8 := dkwX6_benchOf_3 ++ []
def dkwX6_benchOf_2 : List UInt8 := [42, 182, 0, 55, 172, 42, 180, 0, 7, 16, 20, 47, 136, 172, 42, 182, 0, 164, 172, 42, 180, 0, 7]
abbrev dktX6_benchOf_2 : List UInt8 := dkwX6_benchOf_2 ++ dktX6_benchOf_3
def dkwX6_benchOf_1 : List UInt8 := [171, 0, 0, 0, 0, 0, 54, 0, 0, 0, 3, 0, 0, 0, 0, 0, 0, 0, 35, 0, 0, 0, 1, 0, 0, 0, 40, 0, 0, 0, 5, 0, 0, 0, 49]
abbrev dktX6_benchOf_1 : List UInt8 := dkwX6_benchOf_1 ++ dktX6_benchOf_2
def dkwX6_benchOf_0 : List UInt8 := [27]
abbrev dktX6_benchOf_0 : List UInt8 := dkwX6_benchOf_0 ++ dktX6_benchOf_1
theorem dksX6_benchOf_0 : cX6_benchOf.data.toList.drop 0 = dktX6_benchOf_0 := by decide +kernel
theorem dksX6_benchOf_1 : cX6_benchOf.data.toList.drop 1 = dktX6_benchOf_1 := dk_seg dksX6_benchOf_0 1 rfl rfl
theorem dksX6_benchOf_2 : cX6_benchOf.data.toList.drop 36 = dktX6_benchOf_2 := dk_seg dksX6_benchOf_1 35 rfl rfl
theorem dksX6_benchOf_3 : cX6_benchOf.data.toList.drop 59 = dktX6_benchOf_3 := dk_seg dksX6_benchOf_2 23 rfl rfl
theorem dX6_benchOf_0 : decode cX6_benchOf 0 = .ok (.iload_n 1, 1) := dk_27 (dk_at dksX6_benchOf_0 0 rfl rfl)
theorem dX6_benchOf_1 : decode cX6_benchOf 1 = .ok (.lookupswitch 54 #[(0, 35), (1, 40), (5, 49)], 35) := by decide +kernel
theorem dX6_benchOf_36 : decode cX6_benchOf 36 = .ok (.aload_n 0, 1) := dk_42 (dk_at dksX6_benchOf_2 0 rfl rfl)
theorem dX6_benchOf_37 : decode cX6_benchOf 37 = .ok (.invokevirtual 55, 3) := dk_182 0 55 (dk_at dksX6_benchOf_2 1 rfl rfl)
theorem dX6_benchOf_40 : decode cX6_benchOf 40 = .ok (.ireturn, 1) := dk_172 (dk_at dksX6_benchOf_2 4 rfl rfl)
theorem dX6_benchOf_41 : decode cX6_benchOf 41 = .ok (.aload_n 0, 1) := dk_42 (dk_at dksX6_benchOf_2 5 rfl rfl)
theorem dX6_benchOf_42 : decode cX6_benchOf 42 = .ok (.getfield 7, 3) := dk_180 0 7 (dk_at dksX6_benchOf_2 6 rfl rfl)
theorem dX6_benchOf_45 : decode cX6_benchOf 45 = .ok (.bipush 20, 2) := dk_16 20 (dk_at dksX6_benchOf_2 9 rfl rfl)
theorem dX6_benchOf_47 : decode cX6_benchOf 47 = .ok (.laload, 1) := dk_47 (dk_at dksX6_benchOf_2 11 rfl rfl)
theorem dX6_benchOf_48 : decode cX6_benchOf 48 = .ok (.l2i, 1) := dk_136 (dk_at dksX6_benchOf_2 12 rfl rfl)
theorem dX6_benchOf_49 : decode cX6_benchOf 49 = .ok (.ireturn, 1) := dk_172 (dk_at dksX6_benchOf_2 13 rfl rfl)
theorem dX6_benchOf_50 : decode cX6_benchOf 50 = .ok (.aload_n 0, 1) := dk_42 (dk_at dksX6_benchOf_2 14 rfl rfl)
theorem dX6_benchOf_51 : decode cX6_benchOf 51 = .ok (.invokevirtual 164, 3) := dk_182 0 164 (dk_at dksX6_benchOf_2 15 rfl rfl)
theorem dX6_benchOf_54 : decode cX6_benchOf 54 = .ok (.ireturn, 1) := dk_172 (dk_at dksX6_benchOf_2 18 rfl rfl)
theorem dX6_benchOf_55 : decode cX6_benchOf 55 = .ok (.aload_n 0, 1) := dk_42 (dk_at dksX6_benchOf_2 19 rfl rfl)
theorem dX6_benchOf_56 : decode cX6_benchOf 56 = .ok (.getfield 7, 3) := dk_180 0 7 (dk_at dksX6_benchOf_2 20 rfl rfl)
theorem dX6_benchOf_59 : decode cX6_benchOf 59 = .ok (.bipush 17, 2) := dk_16 17 (dk_at dksX6_benchOf_3 0 rfl rfl)
theorem dX6_benchOf_61 : decode cX6_benchOf 61 = .ok (.iload_n 1, 1) := dk_27 (dk_at dksX6_benchOf_3 2 rfl rfl)
theorem dX6_benchOf_62 : decode cX6_benchOf 62 = .ok (.iadd, 1) := dk_96 (dk_at dksX6_benchOf_3 3 rfl rfl)
theorem dX6_benchOf_63 : decode cX6_benchOf 63 = .ok (.iconst 2, 1) := dk_5 (dk_at dksX6_benchOf_3 4 rfl rfl)
theorem dX6_benchOf_64 : decode cX6_benchOf 64 = .ok (.isub, 1) := dk_100 (dk_at dksX6_benchOf_3 5 rfl rfl)
theorem dX6_benchOf_65 : decode cX6_benchOf 65 = .ok (.laload, 1) := dk_47 (dk_at dksX6_benchOf_3 6 rfl rfl)
theorem dX6_benchOf_66 : decode cX6_benchOf 66 = .ok (.l2i, 1) := dk_136 (dk_at dksX6_benchOf_3 7 rfl rfl)
theorem dX6_benchOf_67 : decode cX6_benchOf 67 = .ok (.ireturn, 1) := dk_172 (dk_at dksX6_benchOf_3 8 rfl rfl)
abbrev cX6_echo : ByteArray := prog_10_method_42_code
def yX6_echo : MethodName := ⟨RX6, "echo", "(I)J"⟩
def dkwX6_echo_1 : List UInt8 := [180, 0, 48, 153, 0, 5, 9, 173, 42, 182, 0, 193, 42, 180, 0, 38, 27, 47, 173]
abbrev dktX6_echo_1 : List UInt8 := dkwX6_echo_1 ++ []
def dkwX6_echo_0 : List UInt8 := [42, 27, 133, 9, 42, 182, 0, 110, 133, 184, 0, 59, 153, 0, 7, 3, 167, 0, 4, 4, 181, 0, 48, 42]
abbrev dktX6_echo_0 : List UInt8 := dkwX6_echo_0 ++ dktX6_echo_1
theorem dksX6_echo_0 : cX6_echo.data.toList.drop 0 = dktX6_echo_0 := by decide +kernel
theorem dksX6_echo_1 : cX6_echo.data.toList.drop 24 = dktX6_echo_1 := dk_seg dksX6_echo_0 24 rfl rfl
theorem dX6_echo_0 : decode cX6_echo 0 = .ok (.aload_n 0, 1) := dk_42 (dk_at dksX6_echo_0 0 rfl rfl)
theorem dX6_echo_1 : decode cX6_echo 1 = .ok (.iload_n 1, 1) := dk_27 (dk_at dksX6_echo_0 1 rfl rfl)
theorem dX6_echo_2 : decode cX6_echo 2 = .ok (.i2l, 1) := dk_133 (dk_at dksX6_echo_0 2 rfl rfl)
theorem dX6_echo_3 : decode cX6_echo 3 = .ok (.lconst 0, 1) := dk_9 (dk_at dksX6_echo_0 3 rfl rfl)
theorem dX6_echo_4 : decode cX6_echo 4 = .ok (.aload_n 0, 1) := dk_42 (dk_at dksX6_echo_0 4 rfl rfl)
theorem dX6_echo_5 : decode cX6_echo 5 = .ok (.invokevirtual 110, 3) := dk_182 0 110 (dk_at dksX6_echo_0 5 rfl rfl)
theorem dX6_echo_8 : decode cX6_echo 8 = .ok (.i2l, 1) := dk_133 (dk_at dksX6_echo_0 8 rfl rfl)
theorem dX6_echo_9 : decode cX6_echo 9 = .ok (.invokestatic 59, 3) := dk_184 0 59 (dk_at dksX6_echo_0 9 rfl rfl)
theorem dX6_echo_12 : decode cX6_echo 12 = .ok (.ifCond .eq 7, 3) := dk_153 0 7 (dk_at dksX6_echo_0 12 rfl rfl)
theorem dX6_echo_15 : decode cX6_echo 15 = .ok (.iconst 0, 1) := dk_3 (dk_at dksX6_echo_0 15 rfl rfl)
theorem dX6_echo_16 : decode cX6_echo 16 = .ok (.goto 4, 3) := dk_167 0 4 (dk_at dksX6_echo_0 16 rfl rfl)
theorem dX6_echo_19 : decode cX6_echo 19 = .ok (.iconst 1, 1) := dk_4 (dk_at dksX6_echo_0 19 rfl rfl)
theorem dX6_echo_20 : decode cX6_echo 20 = .ok (.putfield 48, 3) := dk_181 0 48 (dk_at dksX6_echo_0 20 rfl rfl)
theorem dX6_echo_23 : decode cX6_echo 23 = .ok (.aload_n 0, 1) := dk_42 (dk_at dksX6_echo_0 23 rfl rfl)
theorem dX6_echo_24 : decode cX6_echo 24 = .ok (.getfield 48, 3) := dk_180 0 48 (dk_at dksX6_echo_1 0 rfl rfl)
theorem dX6_echo_27 : decode cX6_echo 27 = .ok (.ifCond .eq 5, 3) := dk_153 0 5 (dk_at dksX6_echo_1 3 rfl rfl)
theorem dX6_echo_30 : decode cX6_echo 30 = .ok (.lconst 0, 1) := dk_9 (dk_at dksX6_echo_1 6 rfl rfl)
theorem dX6_echo_31 : decode cX6_echo 31 = .ok (.lreturn, 1) := dk_173 (dk_at dksX6_echo_1 7 rfl rfl)
theorem dX6_echo_32 : decode cX6_echo 32 = .ok (.aload_n 0, 1) := dk_42 (dk_at dksX6_echo_1 8 rfl rfl)
theorem dX6_echo_33 : decode cX6_echo 33 = .ok (.invokevirtual 193, 3) := dk_182 0 193 (dk_at dksX6_echo_1 9 rfl rfl)
theorem dX6_echo_36 : decode cX6_echo 36 = .ok (.aload_n 0, 1) := dk_42 (dk_at dksX6_echo_1 12 rfl rfl)
theorem dX6_echo_37 : decode cX6_echo 37 = .ok (.getfield 38, 3) := dk_180 0 38 (dk_at dksX6_echo_1 13 rfl rfl)
theorem dX6_echo_40 : decode cX6_echo 40 = .ok (.iload_n 1, 1) := dk_27 (dk_at dksX6_echo_1 16 rfl rfl)
theorem dX6_echo_41 : decode cX6_echo 41 = .ok (.laload, 1) := dk_47 (dk_at dksX6_echo_1 17 rfl rfl)
theorem dX6_echo_42 : decode cX6_echo 42 = .ok (.lreturn, 1) := dk_173 (dk_at dksX6_echo_1 18 rfl rfl)
abbrev cX6_runPresent : ByteArray := prog_10_method_15_code
def yX6_runPresent : MethodName := ⟨RX6, "runPresent", "()V"⟩
def dkwX6_runPresent_5 : List UInt8 := [180, 0, 7, 16, 21, 5, 27, 104, 96, 4, 96, 47, 80, 132, 1, 1, 167, 255, 208, 42, 182, 0, 117, 177]
abbrev dktX6_runPresent_5 : List UInt8 := dkwX6_runPresent_5 ++ []
def dkwX6_runPresent_4 : List UInt8 := [180, 0, 26, 27, 42, 180, 0, 7, 16, 21, 5, 27, 104, 96, 47, 136, 79, 42, 180, 0, 29, 27, 42]
abbrev dktX6_runPresent_4 : List UInt8 := dkwX6_runPresent_4 ++ dktX6_runPresent_5
def dkwX6_runPresent_3 : List UInt8 := [42, 180, 0, 7, 16, 20, 47, 136, 181, 0, 84, 3, 60, 27, 42, 180, 0, 84, 162, 0, 46, 42]
abbrev dktX6_runPresent_3 : List UInt8 := dkwX6_runPresent_3 ++ dktX6_runPresent_4
def dkwX6_runPresent_2 : List UInt8 := [180, 0, 23, 27, 4, 96, 42, 180, 0, 7, 16, 9, 27, 96, 47, 136, 79, 132, 1, 1, 167, 255, 212, 42]
abbrev dktX6_runPresent_2 : List UInt8 := dkwX6_runPresent_2 ++ dktX6_runPresent_3
def dkwX6_runPresent_1 : List UInt8 := [27, 42, 180, 0, 79, 162, 0, 42, 42, 180, 0, 20, 27, 42, 180, 0, 7, 4, 27, 96, 47, 136, 79, 42]
abbrev dktX6_runPresent_1 : List UInt8 := dkwX6_runPresent_1 ++ dktX6_runPresent_2
def dkwX6_runPresent_0 : List UInt8 := [42, 42, 182, 0, 55, 181, 0, 79, 42, 180, 0, 23, 3, 42, 180, 0, 7, 16, 17, 47, 136, 79, 3, 60]
abbrev dktX6_runPresent_0 : List UInt8 := dkwX6_runPresent_0 ++ dktX6_runPresent_1
theorem dksX6_runPresent_0 : cX6_runPresent.data.toList.drop 0 = dktX6_runPresent_0 := by decide +kernel
theorem dksX6_runPresent_1 : cX6_runPresent.data.toList.drop 24 = dktX6_runPresent_1 := dk_seg dksX6_runPresent_0 24 rfl rfl
theorem dksX6_runPresent_2 : cX6_runPresent.data.toList.drop 48 = dktX6_runPresent_2 := dk_seg dksX6_runPresent_1 24 rfl rfl
theorem dksX6_runPresent_3 : cX6_runPresent.data.toList.drop 72 = dktX6_runPresent_3 := dk_seg dksX6_runPresent_2 24 rfl rfl
theorem dksX6_runPresent_4 : cX6_runPresent.data.toList.drop 94 = dktX6_runPresent_4 := dk_seg dksX6_runPresent_3 22 rfl rfl
theorem dksX6_runPresent_5 : cX6_runPresent.data.toList.drop 117 = dktX6_runPresent_5 := dk_seg dksX6_runPresent_4 23 rfl rfl
theorem dX6_runPresent_0 : decode cX6_runPresent 0 = .ok (.aload_n 0, 1) := dk_42 (dk_at dksX6_runPresent_0 0 rfl rfl)
theorem dX6_runPresent_1 : decode cX6_runPresent 1 = .ok (.aload_n 0, 1) := dk_42 (dk_at dksX6_runPresent_0 1 rfl rfl)
theorem dX6_runPresent_2 : decode cX6_runPresent 2 = .ok (.invokevirtual 55, 3) := dk_182 0 55 (dk_at dksX6_runPresent_0 2 rfl rfl)
theorem dX6_runPresent_5 : decode cX6_runPresent 5 = .ok (.putfield 79, 3) := dk_181 0 79 (dk_at dksX6_runPresent_0 5 rfl rfl)
theorem dX6_runPresent_8 : decode cX6_runPresent 8 = .ok (.aload_n 0, 1) := dk_42 (dk_at dksX6_runPresent_0 8 rfl rfl)
theorem dX6_runPresent_9 : decode cX6_runPresent 9 = .ok (.getfield 23, 3) := dk_180 0 23 (dk_at dksX6_runPresent_0 9 rfl rfl)
theorem dX6_runPresent_12 : decode cX6_runPresent 12 = .ok (.iconst 0, 1) := dk_3 (dk_at dksX6_runPresent_0 12 rfl rfl)
theorem dX6_runPresent_13 : decode cX6_runPresent 13 = .ok (.aload_n 0, 1) := dk_42 (dk_at dksX6_runPresent_0 13 rfl rfl)
theorem dX6_runPresent_14 : decode cX6_runPresent 14 = .ok (.getfield 7, 3) := dk_180 0 7 (dk_at dksX6_runPresent_0 14 rfl rfl)
theorem dX6_runPresent_17 : decode cX6_runPresent 17 = .ok (.bipush 17, 2) := dk_16 17 (dk_at dksX6_runPresent_0 17 rfl rfl)
theorem dX6_runPresent_19 : decode cX6_runPresent 19 = .ok (.laload, 1) := dk_47 (dk_at dksX6_runPresent_0 19 rfl rfl)
theorem dX6_runPresent_20 : decode cX6_runPresent 20 = .ok (.l2i, 1) := dk_136 (dk_at dksX6_runPresent_0 20 rfl rfl)
theorem dX6_runPresent_21 : decode cX6_runPresent 21 = .ok (.iastore, 1) := dk_79 (dk_at dksX6_runPresent_0 21 rfl rfl)
theorem dX6_runPresent_22 : decode cX6_runPresent 22 = .ok (.iconst 0, 1) := dk_3 (dk_at dksX6_runPresent_0 22 rfl rfl)
theorem dX6_runPresent_23 : decode cX6_runPresent 23 = .ok (.istore_n 1, 1) := dk_60 (dk_at dksX6_runPresent_0 23 rfl rfl)
theorem dX6_runPresent_24 : decode cX6_runPresent 24 = .ok (.iload_n 1, 1) := dk_27 (dk_at dksX6_runPresent_1 0 rfl rfl)
theorem dX6_runPresent_25 : decode cX6_runPresent 25 = .ok (.aload_n 0, 1) := dk_42 (dk_at dksX6_runPresent_1 1 rfl rfl)
theorem dX6_runPresent_26 : decode cX6_runPresent 26 = .ok (.getfield 79, 3) := dk_180 0 79 (dk_at dksX6_runPresent_1 2 rfl rfl)
theorem dX6_runPresent_29 : decode cX6_runPresent 29 = .ok (.if_icmp .ge 42, 3) := dk_162 0 42 (dk_at dksX6_runPresent_1 5 rfl rfl)
theorem dX6_runPresent_32 : decode cX6_runPresent 32 = .ok (.aload_n 0, 1) := dk_42 (dk_at dksX6_runPresent_1 8 rfl rfl)
theorem dX6_runPresent_33 : decode cX6_runPresent 33 = .ok (.getfield 20, 3) := dk_180 0 20 (dk_at dksX6_runPresent_1 9 rfl rfl)
theorem dX6_runPresent_36 : decode cX6_runPresent 36 = .ok (.iload_n 1, 1) := dk_27 (dk_at dksX6_runPresent_1 12 rfl rfl)
theorem dX6_runPresent_37 : decode cX6_runPresent 37 = .ok (.aload_n 0, 1) := dk_42 (dk_at dksX6_runPresent_1 13 rfl rfl)
theorem dX6_runPresent_38 : decode cX6_runPresent 38 = .ok (.getfield 7, 3) := dk_180 0 7 (dk_at dksX6_runPresent_1 14 rfl rfl)
theorem dX6_runPresent_41 : decode cX6_runPresent 41 = .ok (.iconst 1, 1) := dk_4 (dk_at dksX6_runPresent_1 17 rfl rfl)
theorem dX6_runPresent_42 : decode cX6_runPresent 42 = .ok (.iload_n 1, 1) := dk_27 (dk_at dksX6_runPresent_1 18 rfl rfl)
theorem dX6_runPresent_43 : decode cX6_runPresent 43 = .ok (.iadd, 1) := dk_96 (dk_at dksX6_runPresent_1 19 rfl rfl)
theorem dX6_runPresent_44 : decode cX6_runPresent 44 = .ok (.laload, 1) := dk_47 (dk_at dksX6_runPresent_1 20 rfl rfl)
theorem dX6_runPresent_45 : decode cX6_runPresent 45 = .ok (.l2i, 1) := dk_136 (dk_at dksX6_runPresent_1 21 rfl rfl)
theorem dX6_runPresent_46 : decode cX6_runPresent 46 = .ok (.iastore, 1) := dk_79 (dk_at dksX6_runPresent_1 22 rfl rfl)
theorem dX6_runPresent_47 : decode cX6_runPresent 47 = .ok (.aload_n 0, 1) := dk_42 (dk_at dksX6_runPresent_1 23 rfl rfl)
theorem dX6_runPresent_48 : decode cX6_runPresent 48 = .ok (.getfield 23, 3) := dk_180 0 23 (dk_at dksX6_runPresent_2 0 rfl rfl)
theorem dX6_runPresent_51 : decode cX6_runPresent 51 = .ok (.iload_n 1, 1) := dk_27 (dk_at dksX6_runPresent_2 3 rfl rfl)
theorem dX6_runPresent_52 : decode cX6_runPresent 52 = .ok (.iconst 1, 1) := dk_4 (dk_at dksX6_runPresent_2 4 rfl rfl)
theorem dX6_runPresent_53 : decode cX6_runPresent 53 = .ok (.iadd, 1) := dk_96 (dk_at dksX6_runPresent_2 5 rfl rfl)
theorem dX6_runPresent_54 : decode cX6_runPresent 54 = .ok (.aload_n 0, 1) := dk_42 (dk_at dksX6_runPresent_2 6 rfl rfl)
theorem dX6_runPresent_55 : decode cX6_runPresent 55 = .ok (.getfield 7, 3) := dk_180 0 7 (dk_at dksX6_runPresent_2 7 rfl rfl)
theorem dX6_runPresent_58 : decode cX6_runPresent 58 = .ok (.bipush 9, 2) := dk_16 9 (dk_at dksX6_runPresent_2 10 rfl rfl)
theorem dX6_runPresent_60 : decode cX6_runPresent 60 = .ok (.iload_n 1, 1) := dk_27 (dk_at dksX6_runPresent_2 12 rfl rfl)
theorem dX6_runPresent_61 : decode cX6_runPresent 61 = .ok (.iadd, 1) := dk_96 (dk_at dksX6_runPresent_2 13 rfl rfl)
theorem dX6_runPresent_62 : decode cX6_runPresent 62 = .ok (.laload, 1) := dk_47 (dk_at dksX6_runPresent_2 14 rfl rfl)
theorem dX6_runPresent_63 : decode cX6_runPresent 63 = .ok (.l2i, 1) := dk_136 (dk_at dksX6_runPresent_2 15 rfl rfl)
theorem dX6_runPresent_64 : decode cX6_runPresent 64 = .ok (.iastore, 1) := dk_79 (dk_at dksX6_runPresent_2 16 rfl rfl)
theorem dX6_runPresent_65 : decode cX6_runPresent 65 = .ok (.iinc 1 1, 3) := dk_132 1 1 (dk_at dksX6_runPresent_2 17 rfl rfl)
theorem dX6_runPresent_68 : decode cX6_runPresent 68 = .ok (.goto (-44), 3) := dk_167 255 212 (dk_at dksX6_runPresent_2 20 rfl rfl)
theorem dX6_runPresent_71 : decode cX6_runPresent 71 = .ok (.aload_n 0, 1) := dk_42 (dk_at dksX6_runPresent_2 23 rfl rfl)
theorem dX6_runPresent_72 : decode cX6_runPresent 72 = .ok (.aload_n 0, 1) := dk_42 (dk_at dksX6_runPresent_3 0 rfl rfl)
theorem dX6_runPresent_73 : decode cX6_runPresent 73 = .ok (.getfield 7, 3) := dk_180 0 7 (dk_at dksX6_runPresent_3 1 rfl rfl)
theorem dX6_runPresent_76 : decode cX6_runPresent 76 = .ok (.bipush 20, 2) := dk_16 20 (dk_at dksX6_runPresent_3 4 rfl rfl)
theorem dX6_runPresent_78 : decode cX6_runPresent 78 = .ok (.laload, 1) := dk_47 (dk_at dksX6_runPresent_3 6 rfl rfl)
theorem dX6_runPresent_79 : decode cX6_runPresent 79 = .ok (.l2i, 1) := dk_136 (dk_at dksX6_runPresent_3 7 rfl rfl)
theorem dX6_runPresent_80 : decode cX6_runPresent 80 = .ok (.putfield 84, 3) := dk_181 0 84 (dk_at dksX6_runPresent_3 8 rfl rfl)
theorem dX6_runPresent_83 : decode cX6_runPresent 83 = .ok (.iconst 0, 1) := dk_3 (dk_at dksX6_runPresent_3 11 rfl rfl)
theorem dX6_runPresent_84 : decode cX6_runPresent 84 = .ok (.istore_n 1, 1) := dk_60 (dk_at dksX6_runPresent_3 12 rfl rfl)
theorem dX6_runPresent_85 : decode cX6_runPresent 85 = .ok (.iload_n 1, 1) := dk_27 (dk_at dksX6_runPresent_3 13 rfl rfl)
theorem dX6_runPresent_86 : decode cX6_runPresent 86 = .ok (.aload_n 0, 1) := dk_42 (dk_at dksX6_runPresent_3 14 rfl rfl)
theorem dX6_runPresent_87 : decode cX6_runPresent 87 = .ok (.getfield 84, 3) := dk_180 0 84 (dk_at dksX6_runPresent_3 15 rfl rfl)
theorem dX6_runPresent_90 : decode cX6_runPresent 90 = .ok (.if_icmp .ge 46, 3) := dk_162 0 46 (dk_at dksX6_runPresent_3 18 rfl rfl)
theorem dX6_runPresent_93 : decode cX6_runPresent 93 = .ok (.aload_n 0, 1) := dk_42 (dk_at dksX6_runPresent_3 21 rfl rfl)
theorem dX6_runPresent_94 : decode cX6_runPresent 94 = .ok (.getfield 26, 3) := dk_180 0 26 (dk_at dksX6_runPresent_4 0 rfl rfl)
theorem dX6_runPresent_97 : decode cX6_runPresent 97 = .ok (.iload_n 1, 1) := dk_27 (dk_at dksX6_runPresent_4 3 rfl rfl)
theorem dX6_runPresent_98 : decode cX6_runPresent 98 = .ok (.aload_n 0, 1) := dk_42 (dk_at dksX6_runPresent_4 4 rfl rfl)
theorem dX6_runPresent_99 : decode cX6_runPresent 99 = .ok (.getfield 7, 3) := dk_180 0 7 (dk_at dksX6_runPresent_4 5 rfl rfl)
theorem dX6_runPresent_102 : decode cX6_runPresent 102 = .ok (.bipush 21, 2) := dk_16 21 (dk_at dksX6_runPresent_4 8 rfl rfl)
theorem dX6_runPresent_104 : decode cX6_runPresent 104 = .ok (.iconst 2, 1) := dk_5 (dk_at dksX6_runPresent_4 10 rfl rfl)
theorem dX6_runPresent_105 : decode cX6_runPresent 105 = .ok (.iload_n 1, 1) := dk_27 (dk_at dksX6_runPresent_4 11 rfl rfl)
theorem dX6_runPresent_106 : decode cX6_runPresent 106 = .ok (.imul, 1) := dk_104 (dk_at dksX6_runPresent_4 12 rfl rfl)
theorem dX6_runPresent_107 : decode cX6_runPresent 107 = .ok (.iadd, 1) := dk_96 (dk_at dksX6_runPresent_4 13 rfl rfl)
theorem dX6_runPresent_108 : decode cX6_runPresent 108 = .ok (.laload, 1) := dk_47 (dk_at dksX6_runPresent_4 14 rfl rfl)
theorem dX6_runPresent_109 : decode cX6_runPresent 109 = .ok (.l2i, 1) := dk_136 (dk_at dksX6_runPresent_4 15 rfl rfl)
theorem dX6_runPresent_110 : decode cX6_runPresent 110 = .ok (.iastore, 1) := dk_79 (dk_at dksX6_runPresent_4 16 rfl rfl)
theorem dX6_runPresent_111 : decode cX6_runPresent 111 = .ok (.aload_n 0, 1) := dk_42 (dk_at dksX6_runPresent_4 17 rfl rfl)
theorem dX6_runPresent_112 : decode cX6_runPresent 112 = .ok (.getfield 29, 3) := dk_180 0 29 (dk_at dksX6_runPresent_4 18 rfl rfl)
theorem dX6_runPresent_115 : decode cX6_runPresent 115 = .ok (.iload_n 1, 1) := dk_27 (dk_at dksX6_runPresent_4 21 rfl rfl)
theorem dX6_runPresent_116 : decode cX6_runPresent 116 = .ok (.aload_n 0, 1) := dk_42 (dk_at dksX6_runPresent_4 22 rfl rfl)
theorem dX6_runPresent_117 : decode cX6_runPresent 117 = .ok (.getfield 7, 3) := dk_180 0 7 (dk_at dksX6_runPresent_5 0 rfl rfl)
theorem dX6_runPresent_120 : decode cX6_runPresent 120 = .ok (.bipush 21, 2) := dk_16 21 (dk_at dksX6_runPresent_5 3 rfl rfl)
theorem dX6_runPresent_122 : decode cX6_runPresent 122 = .ok (.iconst 2, 1) := dk_5 (dk_at dksX6_runPresent_5 5 rfl rfl)
theorem dX6_runPresent_123 : decode cX6_runPresent 123 = .ok (.iload_n 1, 1) := dk_27 (dk_at dksX6_runPresent_5 6 rfl rfl)
theorem dX6_runPresent_124 : decode cX6_runPresent 124 = .ok (.imul, 1) := dk_104 (dk_at dksX6_runPresent_5 7 rfl rfl)
theorem dX6_runPresent_125 : decode cX6_runPresent 125 = .ok (.iadd, 1) := dk_96 (dk_at dksX6_runPresent_5 8 rfl rfl)
theorem dX6_runPresent_126 : decode cX6_runPresent 126 = .ok (.iconst 1, 1) := dk_4 (dk_at dksX6_runPresent_5 9 rfl rfl)
theorem dX6_runPresent_127 : decode cX6_runPresent 127 = .ok (.iadd, 1) := dk_96 (dk_at dksX6_runPresent_5 10 rfl rfl)
theorem dX6_runPresent_128 : decode cX6_runPresent 128 = .ok (.laload, 1) := dk_47 (dk_at dksX6_runPresent_5 11 rfl rfl)
theorem dX6_runPresent_129 : decode cX6_runPresent 129 = .ok (.lastore, 1) := dk_80 (dk_at dksX6_runPresent_5 12 rfl rfl)
theorem dX6_runPresent_130 : decode cX6_runPresent 130 = .ok (.iinc 1 1, 3) := dk_132 1 1 (dk_at dksX6_runPresent_5 13 rfl rfl)
theorem dX6_runPresent_133 : decode cX6_runPresent 133 = .ok (.goto (-48), 3) := dk_167 255 208 (dk_at dksX6_runPresent_5 16 rfl rfl)
theorem dX6_runPresent_136 : decode cX6_runPresent 136 = .ok (.aload_n 0, 1) := dk_42 (dk_at dksX6_runPresent_5 19 rfl rfl)
theorem dX6_runPresent_137 : decode cX6_runPresent 137 = .ok (.invokevirtual 117, 3) := dk_182 0 117 (dk_at dksX6_runPresent_5 20 rfl rfl)
theorem dX6_runPresent_140 : decode cX6_runPresent 140 = .ok (.return_, 1) := dk_177 (dk_at dksX6_runPresent_5 23 rfl rfl)
abbrev cX6_runLine : ByteArray := prog_10_method_14_code
def yX6_runLine : MethodName := ⟨RX6, "runLine", "()V"⟩
def dkwX6_runLine_5 : List UInt8 := [182, 0, 113, 132, 2, 1, 167, 255, 232, 132, 1, 1, 167, 255, 181, 177]
abbrev dktX6_runLine_5 : List UInt8 := dkwX6_runLine_5 ++ []
def dkwX6_runLine_4 : List UInt8 := [181, 0, 63, 3, 61, 28, 42, 180, 0, 79, 163, 0, 22, 42, 180, 0, 79, 158, 0, 15, 42, 28, 27]
abbrev dktX6_runLine_4 : List UInt8 := dkwX6_runLine_4 ++ dktX6_runLine_5
def dkwX6_runLine_3 : List UInt8 := [27, 182, 0, 99, 42, 89, 180, 0, 107, 42, 180, 0, 66, 97, 181, 0, 107, 42, 9, 181, 0, 66, 42, 3]
abbrev dktX6_runLine_3 : List UInt8 := dkwX6_runLine_3 ++ dktX6_runLine_4
def dkwX6_runLine_2 : List UInt8 := [132, 1, 1, 167, 255, 239, 3, 60, 27, 42, 182, 0, 110, 163, 0, 73, 42, 180, 0, 79, 154, 0, 31, 42]
abbrev dktX6_runLine_2 : List UInt8 := dkwX6_runLine_2 ++ dktX6_runLine_3
def dkwX6_runLine_1 : List UInt8 := [181, 0, 63, 42, 9, 181, 0, 66, 3, 60, 27, 17, 0, 201, 162, 0, 16, 42, 180, 0, 38, 27, 9, 80]
abbrev dktX6_runLine_1 : List UInt8 := dkwX6_runLine_1 ++ dktX6_runLine_2
def dkwX6_runLine_0 : List UInt8 := [42, 9, 181, 0, 107, 42, 9, 181, 0, 76, 42, 3, 181, 0, 70, 42, 3, 181, 0, 73, 42, 3]
abbrev dktX6_runLine_0 : List UInt8 := dkwX6_runLine_0 ++ dktX6_runLine_1
theorem dksX6_runLine_0 : cX6_runLine.data.toList.drop 0 = dktX6_runLine_0 := by decide +kernel
theorem dksX6_runLine_1 : cX6_runLine.data.toList.drop 22 = dktX6_runLine_1 := dk_seg dksX6_runLine_0 22 rfl rfl
theorem dksX6_runLine_2 : cX6_runLine.data.toList.drop 46 = dktX6_runLine_2 := dk_seg dksX6_runLine_1 24 rfl rfl
theorem dksX6_runLine_3 : cX6_runLine.data.toList.drop 70 = dktX6_runLine_3 := dk_seg dksX6_runLine_2 24 rfl rfl
theorem dksX6_runLine_4 : cX6_runLine.data.toList.drop 94 = dktX6_runLine_4 := dk_seg dksX6_runLine_3 24 rfl rfl
theorem dksX6_runLine_5 : cX6_runLine.data.toList.drop 117 = dktX6_runLine_5 := dk_seg dksX6_runLine_4 23 rfl rfl
theorem dX6_runLine_0 : decode cX6_runLine 0 = .ok (.aload_n 0, 1) := dk_42 (dk_at dksX6_runLine_0 0 rfl rfl)
theorem dX6_runLine_1 : decode cX6_runLine 1 = .ok (.lconst 0, 1) := dk_9 (dk_at dksX6_runLine_0 1 rfl rfl)
theorem dX6_runLine_2 : decode cX6_runLine 2 = .ok (.putfield 107, 3) := dk_181 0 107 (dk_at dksX6_runLine_0 2 rfl rfl)
theorem dX6_runLine_5 : decode cX6_runLine 5 = .ok (.aload_n 0, 1) := dk_42 (dk_at dksX6_runLine_0 5 rfl rfl)
theorem dX6_runLine_6 : decode cX6_runLine 6 = .ok (.lconst 0, 1) := dk_9 (dk_at dksX6_runLine_0 6 rfl rfl)
theorem dX6_runLine_7 : decode cX6_runLine 7 = .ok (.putfield 76, 3) := dk_181 0 76 (dk_at dksX6_runLine_0 7 rfl rfl)
theorem dX6_runLine_10 : decode cX6_runLine 10 = .ok (.aload_n 0, 1) := dk_42 (dk_at dksX6_runLine_0 10 rfl rfl)
theorem dX6_runLine_11 : decode cX6_runLine 11 = .ok (.iconst 0, 1) := dk_3 (dk_at dksX6_runLine_0 11 rfl rfl)
theorem dX6_runLine_12 : decode cX6_runLine 12 = .ok (.putfield 70, 3) := dk_181 0 70 (dk_at dksX6_runLine_0 12 rfl rfl)
theorem dX6_runLine_15 : decode cX6_runLine 15 = .ok (.aload_n 0, 1) := dk_42 (dk_at dksX6_runLine_0 15 rfl rfl)
theorem dX6_runLine_16 : decode cX6_runLine 16 = .ok (.iconst 0, 1) := dk_3 (dk_at dksX6_runLine_0 16 rfl rfl)
theorem dX6_runLine_17 : decode cX6_runLine 17 = .ok (.putfield 73, 3) := dk_181 0 73 (dk_at dksX6_runLine_0 17 rfl rfl)
theorem dX6_runLine_20 : decode cX6_runLine 20 = .ok (.aload_n 0, 1) := dk_42 (dk_at dksX6_runLine_0 20 rfl rfl)
theorem dX6_runLine_21 : decode cX6_runLine 21 = .ok (.iconst 0, 1) := dk_3 (dk_at dksX6_runLine_0 21 rfl rfl)
theorem dX6_runLine_22 : decode cX6_runLine 22 = .ok (.putfield 63, 3) := dk_181 0 63 (dk_at dksX6_runLine_1 0 rfl rfl)
theorem dX6_runLine_25 : decode cX6_runLine 25 = .ok (.aload_n 0, 1) := dk_42 (dk_at dksX6_runLine_1 3 rfl rfl)
theorem dX6_runLine_26 : decode cX6_runLine 26 = .ok (.lconst 0, 1) := dk_9 (dk_at dksX6_runLine_1 4 rfl rfl)
theorem dX6_runLine_27 : decode cX6_runLine 27 = .ok (.putfield 66, 3) := dk_181 0 66 (dk_at dksX6_runLine_1 5 rfl rfl)
theorem dX6_runLine_30 : decode cX6_runLine 30 = .ok (.iconst 0, 1) := dk_3 (dk_at dksX6_runLine_1 8 rfl rfl)
theorem dX6_runLine_31 : decode cX6_runLine 31 = .ok (.istore_n 1, 1) := dk_60 (dk_at dksX6_runLine_1 9 rfl rfl)
theorem dX6_runLine_32 : decode cX6_runLine 32 = .ok (.iload_n 1, 1) := dk_27 (dk_at dksX6_runLine_1 10 rfl rfl)
theorem dX6_runLine_33 : decode cX6_runLine 33 = .ok (.sipush 201, 3) := dk_17 0 201 (dk_at dksX6_runLine_1 11 rfl rfl)
theorem dX6_runLine_36 : decode cX6_runLine 36 = .ok (.if_icmp .ge 16, 3) := dk_162 0 16 (dk_at dksX6_runLine_1 14 rfl rfl)
theorem dX6_runLine_39 : decode cX6_runLine 39 = .ok (.aload_n 0, 1) := dk_42 (dk_at dksX6_runLine_1 17 rfl rfl)
theorem dX6_runLine_40 : decode cX6_runLine 40 = .ok (.getfield 38, 3) := dk_180 0 38 (dk_at dksX6_runLine_1 18 rfl rfl)
theorem dX6_runLine_43 : decode cX6_runLine 43 = .ok (.iload_n 1, 1) := dk_27 (dk_at dksX6_runLine_1 21 rfl rfl)
theorem dX6_runLine_44 : decode cX6_runLine 44 = .ok (.lconst 0, 1) := dk_9 (dk_at dksX6_runLine_1 22 rfl rfl)
theorem dX6_runLine_45 : decode cX6_runLine 45 = .ok (.lastore, 1) := dk_80 (dk_at dksX6_runLine_1 23 rfl rfl)
theorem dX6_runLine_46 : decode cX6_runLine 46 = .ok (.iinc 1 1, 3) := dk_132 1 1 (dk_at dksX6_runLine_2 0 rfl rfl)
theorem dX6_runLine_49 : decode cX6_runLine 49 = .ok (.goto (-17), 3) := dk_167 255 239 (dk_at dksX6_runLine_2 3 rfl rfl)
theorem dX6_runLine_52 : decode cX6_runLine 52 = .ok (.iconst 0, 1) := dk_3 (dk_at dksX6_runLine_2 6 rfl rfl)
theorem dX6_runLine_53 : decode cX6_runLine 53 = .ok (.istore_n 1, 1) := dk_60 (dk_at dksX6_runLine_2 7 rfl rfl)
theorem dX6_runLine_54 : decode cX6_runLine 54 = .ok (.iload_n 1, 1) := dk_27 (dk_at dksX6_runLine_2 8 rfl rfl)
theorem dX6_runLine_55 : decode cX6_runLine 55 = .ok (.aload_n 0, 1) := dk_42 (dk_at dksX6_runLine_2 9 rfl rfl)
theorem dX6_runLine_56 : decode cX6_runLine 56 = .ok (.invokevirtual 110, 3) := dk_182 0 110 (dk_at dksX6_runLine_2 10 rfl rfl)
theorem dX6_runLine_59 : decode cX6_runLine 59 = .ok (.if_icmp .gt 73, 3) := dk_163 0 73 (dk_at dksX6_runLine_2 13 rfl rfl)
theorem dX6_runLine_62 : decode cX6_runLine 62 = .ok (.aload_n 0, 1) := dk_42 (dk_at dksX6_runLine_2 16 rfl rfl)
theorem dX6_runLine_63 : decode cX6_runLine 63 = .ok (.getfield 79, 3) := dk_180 0 79 (dk_at dksX6_runLine_2 17 rfl rfl)
theorem dX6_runLine_66 : decode cX6_runLine 66 = .ok (.ifCond .ne 31, 3) := dk_154 0 31 (dk_at dksX6_runLine_2 20 rfl rfl)
theorem dX6_runLine_69 : decode cX6_runLine 69 = .ok (.aload_n 0, 1) := dk_42 (dk_at dksX6_runLine_2 23 rfl rfl)
theorem dX6_runLine_70 : decode cX6_runLine 70 = .ok (.iload_n 1, 1) := dk_27 (dk_at dksX6_runLine_3 0 rfl rfl)
theorem dX6_runLine_71 : decode cX6_runLine 71 = .ok (.invokevirtual 99, 3) := dk_182 0 99 (dk_at dksX6_runLine_3 1 rfl rfl)
theorem dX6_runLine_74 : decode cX6_runLine 74 = .ok (.aload_n 0, 1) := dk_42 (dk_at dksX6_runLine_3 4 rfl rfl)
theorem dX6_runLine_75 : decode cX6_runLine 75 = .ok (.dup, 1) := dk_89 (dk_at dksX6_runLine_3 5 rfl rfl)
theorem dX6_runLine_76 : decode cX6_runLine 76 = .ok (.getfield 107, 3) := dk_180 0 107 (dk_at dksX6_runLine_3 6 rfl rfl)
theorem dX6_runLine_79 : decode cX6_runLine 79 = .ok (.aload_n 0, 1) := dk_42 (dk_at dksX6_runLine_3 9 rfl rfl)
theorem dX6_runLine_80 : decode cX6_runLine 80 = .ok (.getfield 66, 3) := dk_180 0 66 (dk_at dksX6_runLine_3 10 rfl rfl)
theorem dX6_runLine_83 : decode cX6_runLine 83 = .ok (.ladd, 1) := dk_97 (dk_at dksX6_runLine_3 13 rfl rfl)
theorem dX6_runLine_84 : decode cX6_runLine 84 = .ok (.putfield 107, 3) := dk_181 0 107 (dk_at dksX6_runLine_3 14 rfl rfl)
theorem dX6_runLine_87 : decode cX6_runLine 87 = .ok (.aload_n 0, 1) := dk_42 (dk_at dksX6_runLine_3 17 rfl rfl)
theorem dX6_runLine_88 : decode cX6_runLine 88 = .ok (.lconst 0, 1) := dk_9 (dk_at dksX6_runLine_3 18 rfl rfl)
theorem dX6_runLine_89 : decode cX6_runLine 89 = .ok (.putfield 66, 3) := dk_181 0 66 (dk_at dksX6_runLine_3 19 rfl rfl)
theorem dX6_runLine_92 : decode cX6_runLine 92 = .ok (.aload_n 0, 1) := dk_42 (dk_at dksX6_runLine_3 22 rfl rfl)
theorem dX6_runLine_93 : decode cX6_runLine 93 = .ok (.iconst 0, 1) := dk_3 (dk_at dksX6_runLine_3 23 rfl rfl)
theorem dX6_runLine_94 : decode cX6_runLine 94 = .ok (.putfield 63, 3) := dk_181 0 63 (dk_at dksX6_runLine_4 0 rfl rfl)
theorem dX6_runLine_97 : decode cX6_runLine 97 = .ok (.iconst 0, 1) := dk_3 (dk_at dksX6_runLine_4 3 rfl rfl)
theorem dX6_runLine_98 : decode cX6_runLine 98 = .ok (.istore_n 2, 1) := dk_61 (dk_at dksX6_runLine_4 4 rfl rfl)
theorem dX6_runLine_99 : decode cX6_runLine 99 = .ok (.iload_n 2, 1) := dk_28 (dk_at dksX6_runLine_4 5 rfl rfl)
theorem dX6_runLine_100 : decode cX6_runLine 100 = .ok (.aload_n 0, 1) := dk_42 (dk_at dksX6_runLine_4 6 rfl rfl)
theorem dX6_runLine_101 : decode cX6_runLine 101 = .ok (.getfield 79, 3) := dk_180 0 79 (dk_at dksX6_runLine_4 7 rfl rfl)
theorem dX6_runLine_104 : decode cX6_runLine 104 = .ok (.if_icmp .gt 22, 3) := dk_163 0 22 (dk_at dksX6_runLine_4 10 rfl rfl)
theorem dX6_runLine_107 : decode cX6_runLine 107 = .ok (.aload_n 0, 1) := dk_42 (dk_at dksX6_runLine_4 13 rfl rfl)
theorem dX6_runLine_108 : decode cX6_runLine 108 = .ok (.getfield 79, 3) := dk_180 0 79 (dk_at dksX6_runLine_4 14 rfl rfl)
theorem dX6_runLine_111 : decode cX6_runLine 111 = .ok (.ifCond .le 15, 3) := dk_158 0 15 (dk_at dksX6_runLine_4 17 rfl rfl)
theorem dX6_runLine_114 : decode cX6_runLine 114 = .ok (.aload_n 0, 1) := dk_42 (dk_at dksX6_runLine_4 20 rfl rfl)
theorem dX6_runLine_115 : decode cX6_runLine 115 = .ok (.iload_n 2, 1) := dk_28 (dk_at dksX6_runLine_4 21 rfl rfl)
theorem dX6_runLine_116 : decode cX6_runLine 116 = .ok (.iload_n 1, 1) := dk_27 (dk_at dksX6_runLine_4 22 rfl rfl)
theorem dX6_runLine_117 : decode cX6_runLine 117 = .ok (.invokevirtual 113, 3) := dk_182 0 113 (dk_at dksX6_runLine_5 0 rfl rfl)
theorem dX6_runLine_120 : decode cX6_runLine 120 = .ok (.iinc 2 1, 3) := dk_132 2 1 (dk_at dksX6_runLine_5 3 rfl rfl)
theorem dX6_runLine_123 : decode cX6_runLine 123 = .ok (.goto (-24), 3) := dk_167 255 232 (dk_at dksX6_runLine_5 6 rfl rfl)
theorem dX6_runLine_126 : decode cX6_runLine 126 = .ok (.iinc 1 1, 3) := dk_132 1 1 (dk_at dksX6_runLine_5 9 rfl rfl)
theorem dX6_runLine_129 : decode cX6_runLine 129 = .ok (.goto (-75), 3) := dk_167 255 181 (dk_at dksX6_runLine_5 12 rfl rfl)
theorem dX6_runLine_132 : decode cX6_runLine 132 = .ok (.return_, 1) := dk_177 (dk_at dksX6_runLine_5 15 rfl rfl)
abbrev cX6_passPulses : ByteArray := prog_10_method_12_code
def yX6_passPulses : MethodName := ⟨RX6, "passPulses", "(I)V"⟩
def dkwX6_passPulses_1 : List UInt8 := [180, 0, 29, 28, 47, 167, 0, 4, 9, 182, 0, 87, 132, 2, 1, 167, 255, 221, 177]
abbrev dktX6_passPulses_1 : List UInt8 := dkwX6_passPulses_1 ++ []
def dkwX6_passPulses_0 : List UInt8 := [3, 61, 28, 42, 180, 0, 84, 162, 0, 33, 42, 42, 180, 0, 26, 28, 46, 27, 160, 0, 12, 42]
abbrev dktX6_passPulses_0 : List UInt8 := dkwX6_passPulses_0 ++ dktX6_passPulses_1
theorem dksX6_passPulses_0 : cX6_passPulses.data.toList.drop 0 = dktX6_passPulses_0 := by decide +kernel
theorem dksX6_passPulses_1 : cX6_passPulses.data.toList.drop 22 = dktX6_passPulses_1 := dk_seg dksX6_passPulses_0 22 rfl rfl
theorem dX6_passPulses_0 : decode cX6_passPulses 0 = .ok (.iconst 0, 1) := dk_3 (dk_at dksX6_passPulses_0 0 rfl rfl)
theorem dX6_passPulses_1 : decode cX6_passPulses 1 = .ok (.istore_n 2, 1) := dk_61 (dk_at dksX6_passPulses_0 1 rfl rfl)
theorem dX6_passPulses_2 : decode cX6_passPulses 2 = .ok (.iload_n 2, 1) := dk_28 (dk_at dksX6_passPulses_0 2 rfl rfl)
theorem dX6_passPulses_3 : decode cX6_passPulses 3 = .ok (.aload_n 0, 1) := dk_42 (dk_at dksX6_passPulses_0 3 rfl rfl)
theorem dX6_passPulses_4 : decode cX6_passPulses 4 = .ok (.getfield 84, 3) := dk_180 0 84 (dk_at dksX6_passPulses_0 4 rfl rfl)
theorem dX6_passPulses_7 : decode cX6_passPulses 7 = .ok (.if_icmp .ge 33, 3) := dk_162 0 33 (dk_at dksX6_passPulses_0 7 rfl rfl)
theorem dX6_passPulses_10 : decode cX6_passPulses 10 = .ok (.aload_n 0, 1) := dk_42 (dk_at dksX6_passPulses_0 10 rfl rfl)
theorem dX6_passPulses_11 : decode cX6_passPulses 11 = .ok (.aload_n 0, 1) := dk_42 (dk_at dksX6_passPulses_0 11 rfl rfl)
theorem dX6_passPulses_12 : decode cX6_passPulses 12 = .ok (.getfield 26, 3) := dk_180 0 26 (dk_at dksX6_passPulses_0 12 rfl rfl)
theorem dX6_passPulses_15 : decode cX6_passPulses 15 = .ok (.iload_n 2, 1) := dk_28 (dk_at dksX6_passPulses_0 15 rfl rfl)
theorem dX6_passPulses_16 : decode cX6_passPulses 16 = .ok (.iaload, 1) := dk_46 (dk_at dksX6_passPulses_0 16 rfl rfl)
theorem dX6_passPulses_17 : decode cX6_passPulses 17 = .ok (.iload_n 1, 1) := dk_27 (dk_at dksX6_passPulses_0 17 rfl rfl)
theorem dX6_passPulses_18 : decode cX6_passPulses 18 = .ok (.if_icmp .ne 12, 3) := dk_160 0 12 (dk_at dksX6_passPulses_0 18 rfl rfl)
theorem dX6_passPulses_21 : decode cX6_passPulses 21 = .ok (.aload_n 0, 1) := dk_42 (dk_at dksX6_passPulses_0 21 rfl rfl)
theorem dX6_passPulses_22 : decode cX6_passPulses 22 = .ok (.getfield 29, 3) := dk_180 0 29 (dk_at dksX6_passPulses_1 0 rfl rfl)
theorem dX6_passPulses_25 : decode cX6_passPulses 25 = .ok (.iload_n 2, 1) := dk_28 (dk_at dksX6_passPulses_1 3 rfl rfl)
theorem dX6_passPulses_26 : decode cX6_passPulses 26 = .ok (.laload, 1) := dk_47 (dk_at dksX6_passPulses_1 4 rfl rfl)
theorem dX6_passPulses_27 : decode cX6_passPulses 27 = .ok (.goto 4, 3) := dk_167 0 4 (dk_at dksX6_passPulses_1 5 rfl rfl)
theorem dX6_passPulses_30 : decode cX6_passPulses 30 = .ok (.lconst 0, 1) := dk_9 (dk_at dksX6_passPulses_1 8 rfl rfl)
theorem dX6_passPulses_31 : decode cX6_passPulses 31 = .ok (.invokevirtual 87, 3) := dk_182 0 87 (dk_at dksX6_passPulses_1 9 rfl rfl)
theorem dX6_passPulses_34 : decode cX6_passPulses 34 = .ok (.iinc 2 1, 3) := dk_132 2 1 (dk_at dksX6_passPulses_1 12 rfl rfl)
theorem dX6_passPulses_37 : decode cX6_passPulses 37 = .ok (.goto (-35), 3) := dk_167 255 221 (dk_at dksX6_passPulses_1 15 rfl rfl)
theorem dX6_passPulses_40 : decode cX6_passPulses 40 = .ok (.return_, 1) := dk_177 (dk_at dksX6_passPulses_1 18 rfl rfl)
abbrev cX6_contribute : ByteArray := prog_10_method_8_code
def yX6_contribute : MethodName := ⟨RX6, "contribute", "(J)V"⟩
def dkwX6_contribute_1 : List UInt8 := [180, 0, 66, 31, 97, 181, 0, 66, 177]
abbrev dktX6_contribute_1 : List UInt8 := dkwX6_contribute_1 ++ []
def dkwX6_contribute_0 : List UInt8 := [42, 89, 180, 0, 63, 31, 9, 148, 158, 0, 7, 4, 167, 0, 4, 3, 96, 181, 0, 63, 42, 89]
abbrev dktX6_contribute_0 : List UInt8 := dkwX6_contribute_0 ++ dktX6_contribute_1
theorem dksX6_contribute_0 : cX6_contribute.data.toList.drop 0 = dktX6_contribute_0 := by decide +kernel
theorem dksX6_contribute_1 : cX6_contribute.data.toList.drop 22 = dktX6_contribute_1 := dk_seg dksX6_contribute_0 22 rfl rfl
theorem dX6_contribute_0 : decode cX6_contribute 0 = .ok (.aload_n 0, 1) := dk_42 (dk_at dksX6_contribute_0 0 rfl rfl)
theorem dX6_contribute_1 : decode cX6_contribute 1 = .ok (.dup, 1) := dk_89 (dk_at dksX6_contribute_0 1 rfl rfl)
theorem dX6_contribute_2 : decode cX6_contribute 2 = .ok (.getfield 63, 3) := dk_180 0 63 (dk_at dksX6_contribute_0 2 rfl rfl)
theorem dX6_contribute_5 : decode cX6_contribute 5 = .ok (.lload_n 1, 1) := dk_31 (dk_at dksX6_contribute_0 5 rfl rfl)
theorem dX6_contribute_6 : decode cX6_contribute 6 = .ok (.lconst 0, 1) := dk_9 (dk_at dksX6_contribute_0 6 rfl rfl)
theorem dX6_contribute_7 : decode cX6_contribute 7 = .ok (.lcmp, 1) := dk_148 (dk_at dksX6_contribute_0 7 rfl rfl)
theorem dX6_contribute_8 : decode cX6_contribute 8 = .ok (.ifCond .le 7, 3) := dk_158 0 7 (dk_at dksX6_contribute_0 8 rfl rfl)
theorem dX6_contribute_11 : decode cX6_contribute 11 = .ok (.iconst 1, 1) := dk_4 (dk_at dksX6_contribute_0 11 rfl rfl)
theorem dX6_contribute_12 : decode cX6_contribute 12 = .ok (.goto 4, 3) := dk_167 0 4 (dk_at dksX6_contribute_0 12 rfl rfl)
theorem dX6_contribute_15 : decode cX6_contribute 15 = .ok (.iconst 0, 1) := dk_3 (dk_at dksX6_contribute_0 15 rfl rfl)
theorem dX6_contribute_16 : decode cX6_contribute 16 = .ok (.iadd, 1) := dk_96 (dk_at dksX6_contribute_0 16 rfl rfl)
theorem dX6_contribute_17 : decode cX6_contribute 17 = .ok (.putfield 63, 3) := dk_181 0 63 (dk_at dksX6_contribute_0 17 rfl rfl)
theorem dX6_contribute_20 : decode cX6_contribute 20 = .ok (.aload_n 0, 1) := dk_42 (dk_at dksX6_contribute_0 20 rfl rfl)
theorem dX6_contribute_21 : decode cX6_contribute 21 = .ok (.dup, 1) := dk_89 (dk_at dksX6_contribute_0 21 rfl rfl)
theorem dX6_contribute_22 : decode cX6_contribute 22 = .ok (.getfield 66, 3) := dk_180 0 66 (dk_at dksX6_contribute_1 0 rfl rfl)
theorem dX6_contribute_25 : decode cX6_contribute 25 = .ok (.lload_n 1, 1) := dk_31 (dk_at dksX6_contribute_1 3 rfl rfl)
theorem dX6_contribute_26 : decode cX6_contribute 26 = .ok (.ladd, 1) := dk_97 (dk_at dksX6_contribute_1 4 rfl rfl)
theorem dX6_contribute_27 : decode cX6_contribute 27 = .ok (.putfield 66, 3) := dk_181 0 66 (dk_at dksX6_contribute_1 5 rfl rfl)
theorem dX6_contribute_30 : decode cX6_contribute 30 = .ok (.return_, 1) := dk_177 (dk_at dksX6_contribute_1 8 rfl rfl)
abbrev cX6_runAt : ByteArray := prog_10_method_13_code
def yX6_runAt : MethodName := ⟨RX6, "runAt", "(II)V"⟩
def dkwX6_runAt_6 : List UInt8 := [22, 5, 22, 9, 101, 80, 177]
abbrev dktX6_runAt_6 : List UInt8 := dkwX6_runAt_6 ++ []
def dkwX6_runAt_5 : List UInt8 := [180, 0, 35, 17, 0, 201, 27, 104, 28, 96, 42, 182, 0, 103, 80, 167, 0, 14, 42, 180, 0, 38, 28]
abbrev dktX6_runAt_5 : List UInt8 := dkwX6_runAt_5 ++ dktX6_runAt_6
def dkwX6_runAt_4 : List UInt8 := [97, 181, 0, 107, 27, 158, 0, 37, 42, 22, 7, 182, 0, 87, 42, 22, 5, 22, 9, 101, 182, 0, 87, 42]
abbrev dktX6_runAt_4 : List UInt8 := dkwX6_runAt_4 ++ dktX6_runAt_5
def dkwX6_runAt_3 : List UInt8 := [17, 0, 201, 27, 104, 28, 96, 42, 182, 0, 103, 80, 167, 0, 16, 42, 89, 180, 0, 107, 33, 22, 7, 101]
abbrev dktX6_runAt_3 : List UInt8 := dkwX6_runAt_3 ++ dktX6_runAt_4
def dkwX6_runAt_2 : List UInt8 := [182, 0, 87, 42, 33, 22, 7, 101, 182, 0, 87, 27, 154, 0, 8, 42, 28, 182, 0, 99, 42, 180, 0, 32]
abbrev dktX6_runAt_2 : List UInt8 := dkwX6_runAt_2 ++ dktX6_runAt_3
def dkwX6_runAt_1 : List UInt8 := [55, 7, 42, 22, 5, 27, 182, 0, 95, 55, 9, 27, 42, 180, 0, 79, 162, 0, 45, 42, 22, 9]
abbrev dktX6_runAt_1 : List UInt8 := dkwX6_runAt_1 ++ dktX6_runAt_2
def dkwX6_runAt_0 : List UInt8 := [42, 27, 28, 3, 182, 0, 91, 66, 42, 27, 28, 4, 182, 0, 91, 55, 5, 42, 33, 27, 182, 0, 95]
abbrev dktX6_runAt_0 : List UInt8 := dkwX6_runAt_0 ++ dktX6_runAt_1
theorem dksX6_runAt_0 : cX6_runAt.data.toList.drop 0 = dktX6_runAt_0 := by decide +kernel
theorem dksX6_runAt_1 : cX6_runAt.data.toList.drop 23 = dktX6_runAt_1 := dk_seg dksX6_runAt_0 23 rfl rfl
theorem dksX6_runAt_2 : cX6_runAt.data.toList.drop 45 = dktX6_runAt_2 := dk_seg dksX6_runAt_1 22 rfl rfl
theorem dksX6_runAt_3 : cX6_runAt.data.toList.drop 69 = dktX6_runAt_3 := dk_seg dksX6_runAt_2 24 rfl rfl
theorem dksX6_runAt_4 : cX6_runAt.data.toList.drop 93 = dktX6_runAt_4 := dk_seg dksX6_runAt_3 24 rfl rfl
theorem dksX6_runAt_5 : cX6_runAt.data.toList.drop 117 = dktX6_runAt_5 := dk_seg dksX6_runAt_4 24 rfl rfl
theorem dksX6_runAt_6 : cX6_runAt.data.toList.drop 140 = dktX6_runAt_6 := dk_seg dksX6_runAt_5 23 rfl rfl
theorem dX6_runAt_0 : decode cX6_runAt 0 = .ok (.aload_n 0, 1) := dk_42 (dk_at dksX6_runAt_0 0 rfl rfl)
theorem dX6_runAt_1 : decode cX6_runAt 1 = .ok (.iload_n 1, 1) := dk_27 (dk_at dksX6_runAt_0 1 rfl rfl)
theorem dX6_runAt_2 : decode cX6_runAt 2 = .ok (.iload_n 2, 1) := dk_28 (dk_at dksX6_runAt_0 2 rfl rfl)
theorem dX6_runAt_3 : decode cX6_runAt 3 = .ok (.iconst 0, 1) := dk_3 (dk_at dksX6_runAt_0 3 rfl rfl)
theorem dX6_runAt_4 : decode cX6_runAt 4 = .ok (.invokevirtual 91, 3) := dk_182 0 91 (dk_at dksX6_runAt_0 4 rfl rfl)
theorem dX6_runAt_7 : decode cX6_runAt 7 = .ok (.lstore_n 3, 1) := dk_66 (dk_at dksX6_runAt_0 7 rfl rfl)
theorem dX6_runAt_8 : decode cX6_runAt 8 = .ok (.aload_n 0, 1) := dk_42 (dk_at dksX6_runAt_0 8 rfl rfl)
theorem dX6_runAt_9 : decode cX6_runAt 9 = .ok (.iload_n 1, 1) := dk_27 (dk_at dksX6_runAt_0 9 rfl rfl)
theorem dX6_runAt_10 : decode cX6_runAt 10 = .ok (.iload_n 2, 1) := dk_28 (dk_at dksX6_runAt_0 10 rfl rfl)
theorem dX6_runAt_11 : decode cX6_runAt 11 = .ok (.iconst 1, 1) := dk_4 (dk_at dksX6_runAt_0 11 rfl rfl)
theorem dX6_runAt_12 : decode cX6_runAt 12 = .ok (.invokevirtual 91, 3) := dk_182 0 91 (dk_at dksX6_runAt_0 12 rfl rfl)
theorem dX6_runAt_15 : decode cX6_runAt 15 = .ok (.lstore 5, 2) := dk_55 5 (dk_at dksX6_runAt_0 15 rfl rfl)
theorem dX6_runAt_17 : decode cX6_runAt 17 = .ok (.aload_n 0, 1) := dk_42 (dk_at dksX6_runAt_0 17 rfl rfl)
theorem dX6_runAt_18 : decode cX6_runAt 18 = .ok (.lload_n 3, 1) := dk_33 (dk_at dksX6_runAt_0 18 rfl rfl)
theorem dX6_runAt_19 : decode cX6_runAt 19 = .ok (.iload_n 1, 1) := dk_27 (dk_at dksX6_runAt_0 19 rfl rfl)
theorem dX6_runAt_20 : decode cX6_runAt 20 = .ok (.invokevirtual 95, 3) := dk_182 0 95 (dk_at dksX6_runAt_0 20 rfl rfl)
theorem dX6_runAt_23 : decode cX6_runAt 23 = .ok (.lstore 7, 2) := dk_55 7 (dk_at dksX6_runAt_1 0 rfl rfl)
theorem dX6_runAt_25 : decode cX6_runAt 25 = .ok (.aload_n 0, 1) := dk_42 (dk_at dksX6_runAt_1 2 rfl rfl)
theorem dX6_runAt_26 : decode cX6_runAt 26 = .ok (.lload 5, 2) := dk_22 5 (dk_at dksX6_runAt_1 3 rfl rfl)
theorem dX6_runAt_28 : decode cX6_runAt 28 = .ok (.iload_n 1, 1) := dk_27 (dk_at dksX6_runAt_1 5 rfl rfl)
theorem dX6_runAt_29 : decode cX6_runAt 29 = .ok (.invokevirtual 95, 3) := dk_182 0 95 (dk_at dksX6_runAt_1 6 rfl rfl)
theorem dX6_runAt_32 : decode cX6_runAt 32 = .ok (.lstore 9, 2) := dk_55 9 (dk_at dksX6_runAt_1 9 rfl rfl)
theorem dX6_runAt_34 : decode cX6_runAt 34 = .ok (.iload_n 1, 1) := dk_27 (dk_at dksX6_runAt_1 11 rfl rfl)
theorem dX6_runAt_35 : decode cX6_runAt 35 = .ok (.aload_n 0, 1) := dk_42 (dk_at dksX6_runAt_1 12 rfl rfl)
theorem dX6_runAt_36 : decode cX6_runAt 36 = .ok (.getfield 79, 3) := dk_180 0 79 (dk_at dksX6_runAt_1 13 rfl rfl)
theorem dX6_runAt_39 : decode cX6_runAt 39 = .ok (.if_icmp .ge 45, 3) := dk_162 0 45 (dk_at dksX6_runAt_1 16 rfl rfl)
theorem dX6_runAt_42 : decode cX6_runAt 42 = .ok (.aload_n 0, 1) := dk_42 (dk_at dksX6_runAt_1 19 rfl rfl)
theorem dX6_runAt_43 : decode cX6_runAt 43 = .ok (.lload 9, 2) := dk_22 9 (dk_at dksX6_runAt_1 20 rfl rfl)
theorem dX6_runAt_45 : decode cX6_runAt 45 = .ok (.invokevirtual 87, 3) := dk_182 0 87 (dk_at dksX6_runAt_2 0 rfl rfl)
theorem dX6_runAt_48 : decode cX6_runAt 48 = .ok (.aload_n 0, 1) := dk_42 (dk_at dksX6_runAt_2 3 rfl rfl)
theorem dX6_runAt_49 : decode cX6_runAt 49 = .ok (.lload_n 3, 1) := dk_33 (dk_at dksX6_runAt_2 4 rfl rfl)
theorem dX6_runAt_50 : decode cX6_runAt 50 = .ok (.lload 7, 2) := dk_22 7 (dk_at dksX6_runAt_2 5 rfl rfl)
theorem dX6_runAt_52 : decode cX6_runAt 52 = .ok (.lsub, 1) := dk_101 (dk_at dksX6_runAt_2 7 rfl rfl)
theorem dX6_runAt_53 : decode cX6_runAt 53 = .ok (.invokevirtual 87, 3) := dk_182 0 87 (dk_at dksX6_runAt_2 8 rfl rfl)
theorem dX6_runAt_56 : decode cX6_runAt 56 = .ok (.iload_n 1, 1) := dk_27 (dk_at dksX6_runAt_2 11 rfl rfl)
theorem dX6_runAt_57 : decode cX6_runAt 57 = .ok (.ifCond .ne 8, 3) := dk_154 0 8 (dk_at dksX6_runAt_2 12 rfl rfl)
theorem dX6_runAt_60 : decode cX6_runAt 60 = .ok (.aload_n 0, 1) := dk_42 (dk_at dksX6_runAt_2 15 rfl rfl)
theorem dX6_runAt_61 : decode cX6_runAt 61 = .ok (.iload_n 2, 1) := dk_28 (dk_at dksX6_runAt_2 16 rfl rfl)
theorem dX6_runAt_62 : decode cX6_runAt 62 = .ok (.invokevirtual 99, 3) := dk_182 0 99 (dk_at dksX6_runAt_2 17 rfl rfl)
theorem dX6_runAt_65 : decode cX6_runAt 65 = .ok (.aload_n 0, 1) := dk_42 (dk_at dksX6_runAt_2 20 rfl rfl)
theorem dX6_runAt_66 : decode cX6_runAt 66 = .ok (.getfield 32, 3) := dk_180 0 32 (dk_at dksX6_runAt_2 21 rfl rfl)
theorem dX6_runAt_69 : decode cX6_runAt 69 = .ok (.sipush 201, 3) := dk_17 0 201 (dk_at dksX6_runAt_3 0 rfl rfl)
theorem dX6_runAt_72 : decode cX6_runAt 72 = .ok (.iload_n 1, 1) := dk_27 (dk_at dksX6_runAt_3 3 rfl rfl)
theorem dX6_runAt_73 : decode cX6_runAt 73 = .ok (.imul, 1) := dk_104 (dk_at dksX6_runAt_3 4 rfl rfl)
theorem dX6_runAt_74 : decode cX6_runAt 74 = .ok (.iload_n 2, 1) := dk_28 (dk_at dksX6_runAt_3 5 rfl rfl)
theorem dX6_runAt_75 : decode cX6_runAt 75 = .ok (.iadd, 1) := dk_96 (dk_at dksX6_runAt_3 6 rfl rfl)
theorem dX6_runAt_76 : decode cX6_runAt 76 = .ok (.aload_n 0, 1) := dk_42 (dk_at dksX6_runAt_3 7 rfl rfl)
theorem dX6_runAt_77 : decode cX6_runAt 77 = .ok (.invokevirtual 103, 3) := dk_182 0 103 (dk_at dksX6_runAt_3 8 rfl rfl)
theorem dX6_runAt_80 : decode cX6_runAt 80 = .ok (.lastore, 1) := dk_80 (dk_at dksX6_runAt_3 11 rfl rfl)
theorem dX6_runAt_81 : decode cX6_runAt 81 = .ok (.goto 16, 3) := dk_167 0 16 (dk_at dksX6_runAt_3 12 rfl rfl)
theorem dX6_runAt_84 : decode cX6_runAt 84 = .ok (.aload_n 0, 1) := dk_42 (dk_at dksX6_runAt_3 15 rfl rfl)
theorem dX6_runAt_85 : decode cX6_runAt 85 = .ok (.dup, 1) := dk_89 (dk_at dksX6_runAt_3 16 rfl rfl)
theorem dX6_runAt_86 : decode cX6_runAt 86 = .ok (.getfield 107, 3) := dk_180 0 107 (dk_at dksX6_runAt_3 17 rfl rfl)
theorem dX6_runAt_89 : decode cX6_runAt 89 = .ok (.lload_n 3, 1) := dk_33 (dk_at dksX6_runAt_3 20 rfl rfl)
theorem dX6_runAt_90 : decode cX6_runAt 90 = .ok (.lload 7, 2) := dk_22 7 (dk_at dksX6_runAt_3 21 rfl rfl)
theorem dX6_runAt_92 : decode cX6_runAt 92 = .ok (.lsub, 1) := dk_101 (dk_at dksX6_runAt_3 23 rfl rfl)
theorem dX6_runAt_93 : decode cX6_runAt 93 = .ok (.ladd, 1) := dk_97 (dk_at dksX6_runAt_4 0 rfl rfl)
theorem dX6_runAt_94 : decode cX6_runAt 94 = .ok (.putfield 107, 3) := dk_181 0 107 (dk_at dksX6_runAt_4 1 rfl rfl)
theorem dX6_runAt_97 : decode cX6_runAt 97 = .ok (.iload_n 1, 1) := dk_27 (dk_at dksX6_runAt_4 4 rfl rfl)
theorem dX6_runAt_98 : decode cX6_runAt 98 = .ok (.ifCond .le 37, 3) := dk_158 0 37 (dk_at dksX6_runAt_4 5 rfl rfl)
theorem dX6_runAt_101 : decode cX6_runAt 101 = .ok (.aload_n 0, 1) := dk_42 (dk_at dksX6_runAt_4 8 rfl rfl)
theorem dX6_runAt_102 : decode cX6_runAt 102 = .ok (.lload 7, 2) := dk_22 7 (dk_at dksX6_runAt_4 9 rfl rfl)
theorem dX6_runAt_104 : decode cX6_runAt 104 = .ok (.invokevirtual 87, 3) := dk_182 0 87 (dk_at dksX6_runAt_4 11 rfl rfl)
theorem dX6_runAt_107 : decode cX6_runAt 107 = .ok (.aload_n 0, 1) := dk_42 (dk_at dksX6_runAt_4 14 rfl rfl)
theorem dX6_runAt_108 : decode cX6_runAt 108 = .ok (.lload 5, 2) := dk_22 5 (dk_at dksX6_runAt_4 15 rfl rfl)
theorem dX6_runAt_110 : decode cX6_runAt 110 = .ok (.lload 9, 2) := dk_22 9 (dk_at dksX6_runAt_4 17 rfl rfl)
theorem dX6_runAt_112 : decode cX6_runAt 112 = .ok (.lsub, 1) := dk_101 (dk_at dksX6_runAt_4 19 rfl rfl)
theorem dX6_runAt_113 : decode cX6_runAt 113 = .ok (.invokevirtual 87, 3) := dk_182 0 87 (dk_at dksX6_runAt_4 20 rfl rfl)
theorem dX6_runAt_116 : decode cX6_runAt 116 = .ok (.aload_n 0, 1) := dk_42 (dk_at dksX6_runAt_4 23 rfl rfl)
theorem dX6_runAt_117 : decode cX6_runAt 117 = .ok (.getfield 35, 3) := dk_180 0 35 (dk_at dksX6_runAt_5 0 rfl rfl)
theorem dX6_runAt_120 : decode cX6_runAt 120 = .ok (.sipush 201, 3) := dk_17 0 201 (dk_at dksX6_runAt_5 3 rfl rfl)
theorem dX6_runAt_123 : decode cX6_runAt 123 = .ok (.iload_n 1, 1) := dk_27 (dk_at dksX6_runAt_5 6 rfl rfl)
theorem dX6_runAt_124 : decode cX6_runAt 124 = .ok (.imul, 1) := dk_104 (dk_at dksX6_runAt_5 7 rfl rfl)
theorem dX6_runAt_125 : decode cX6_runAt 125 = .ok (.iload_n 2, 1) := dk_28 (dk_at dksX6_runAt_5 8 rfl rfl)
theorem dX6_runAt_126 : decode cX6_runAt 126 = .ok (.iadd, 1) := dk_96 (dk_at dksX6_runAt_5 9 rfl rfl)
theorem dX6_runAt_127 : decode cX6_runAt 127 = .ok (.aload_n 0, 1) := dk_42 (dk_at dksX6_runAt_5 10 rfl rfl)
theorem dX6_runAt_128 : decode cX6_runAt 128 = .ok (.invokevirtual 103, 3) := dk_182 0 103 (dk_at dksX6_runAt_5 11 rfl rfl)
theorem dX6_runAt_131 : decode cX6_runAt 131 = .ok (.lastore, 1) := dk_80 (dk_at dksX6_runAt_5 14 rfl rfl)
theorem dX6_runAt_132 : decode cX6_runAt 132 = .ok (.goto 14, 3) := dk_167 0 14 (dk_at dksX6_runAt_5 15 rfl rfl)
theorem dX6_runAt_135 : decode cX6_runAt 135 = .ok (.aload_n 0, 1) := dk_42 (dk_at dksX6_runAt_5 18 rfl rfl)
theorem dX6_runAt_136 : decode cX6_runAt 136 = .ok (.getfield 38, 3) := dk_180 0 38 (dk_at dksX6_runAt_5 19 rfl rfl)
theorem dX6_runAt_139 : decode cX6_runAt 139 = .ok (.iload_n 2, 1) := dk_28 (dk_at dksX6_runAt_5 22 rfl rfl)
theorem dX6_runAt_140 : decode cX6_runAt 140 = .ok (.lload 5, 2) := dk_22 5 (dk_at dksX6_runAt_6 0 rfl rfl)
theorem dX6_runAt_142 : decode cX6_runAt 142 = .ok (.lload 9, 2) := dk_22 9 (dk_at dksX6_runAt_6 2 rfl rfl)
theorem dX6_runAt_144 : decode cX6_runAt 144 = .ok (.lsub, 1) := dk_101 (dk_at dksX6_runAt_6 4 rfl rfl)
theorem dX6_runAt_145 : decode cX6_runAt 145 = .ok (.lastore, 1) := dk_80 (dk_at dksX6_runAt_6 5 rfl rfl)
theorem dX6_runAt_146 : decode cX6_runAt 146 = .ok (.return_, 1) := dk_177 (dk_at dksX6_runAt_6 6 rfl rfl)
abbrev cX6_arrives : ByteArray := prog_10_method_10_code
def yX6_arrives : MethodName := ⟨RX6, "arrives", "(IIZ)J"⟩
def dkwX6_arrives_3 : List UInt8 := [167, 0, 18, 42, 180, 0, 32, 17, 0, 201, 27, 4, 100, 104, 21, 5, 96, 47, 173]
abbrev dktX6_arrives_3 : List UInt8 := dkwX6_arrives_3 ++ []
def dkwX6_arrives_2 : List UInt8 := [100, 54, 5, 29, 153, 0, 21, 42, 180, 0, 35, 17, 0, 201, 27, 4, 96, 104, 21, 5, 96, 47]
abbrev dktX6_arrives_2 : List UInt8 := dkwX6_arrives_2 ++ dktX6_arrives_3
def dkwX6_arrives_1 : List UInt8 := [162, 0, 14, 28, 42, 180, 0, 20, 21, 4, 46, 162, 0, 5, 9, 173, 28, 42, 180, 0, 20, 21, 4, 46]
abbrev dktX6_arrives_1 : List UInt8 := dkwX6_arrives_1 ++ dktX6_arrives_2
def dkwX6_arrives_0 : List UInt8 := [29, 153, 0, 7, 27, 167, 0, 6, 27, 4, 100, 54, 4, 21, 4, 155, 0, 23, 21, 4, 42, 180, 0, 79]
abbrev dktX6_arrives_0 : List UInt8 := dkwX6_arrives_0 ++ dktX6_arrives_1
theorem dksX6_arrives_0 : cX6_arrives.data.toList.drop 0 = dktX6_arrives_0 := by decide +kernel
theorem dksX6_arrives_1 : cX6_arrives.data.toList.drop 24 = dktX6_arrives_1 := dk_seg dksX6_arrives_0 24 rfl rfl
theorem dksX6_arrives_2 : cX6_arrives.data.toList.drop 48 = dktX6_arrives_2 := dk_seg dksX6_arrives_1 24 rfl rfl
theorem dksX6_arrives_3 : cX6_arrives.data.toList.drop 70 = dktX6_arrives_3 := dk_seg dksX6_arrives_2 22 rfl rfl
theorem dX6_arrives_0 : decode cX6_arrives 0 = .ok (.iload_n 3, 1) := dk_29 (dk_at dksX6_arrives_0 0 rfl rfl)
theorem dX6_arrives_1 : decode cX6_arrives 1 = .ok (.ifCond .eq 7, 3) := dk_153 0 7 (dk_at dksX6_arrives_0 1 rfl rfl)
theorem dX6_arrives_4 : decode cX6_arrives 4 = .ok (.iload_n 1, 1) := dk_27 (dk_at dksX6_arrives_0 4 rfl rfl)
theorem dX6_arrives_5 : decode cX6_arrives 5 = .ok (.goto 6, 3) := dk_167 0 6 (dk_at dksX6_arrives_0 5 rfl rfl)
theorem dX6_arrives_8 : decode cX6_arrives 8 = .ok (.iload_n 1, 1) := dk_27 (dk_at dksX6_arrives_0 8 rfl rfl)
theorem dX6_arrives_9 : decode cX6_arrives 9 = .ok (.iconst 1, 1) := dk_4 (dk_at dksX6_arrives_0 9 rfl rfl)
theorem dX6_arrives_10 : decode cX6_arrives 10 = .ok (.isub, 1) := dk_100 (dk_at dksX6_arrives_0 10 rfl rfl)
theorem dX6_arrives_11 : decode cX6_arrives 11 = .ok (.istore 4, 2) := dk_54 4 (dk_at dksX6_arrives_0 11 rfl rfl)
theorem dX6_arrives_13 : decode cX6_arrives 13 = .ok (.iload 4, 2) := dk_21 4 (dk_at dksX6_arrives_0 13 rfl rfl)
theorem dX6_arrives_15 : decode cX6_arrives 15 = .ok (.ifCond .lt 23, 3) := dk_155 0 23 (dk_at dksX6_arrives_0 15 rfl rfl)
theorem dX6_arrives_18 : decode cX6_arrives 18 = .ok (.iload 4, 2) := dk_21 4 (dk_at dksX6_arrives_0 18 rfl rfl)
theorem dX6_arrives_20 : decode cX6_arrives 20 = .ok (.aload_n 0, 1) := dk_42 (dk_at dksX6_arrives_0 20 rfl rfl)
theorem dX6_arrives_21 : decode cX6_arrives 21 = .ok (.getfield 79, 3) := dk_180 0 79 (dk_at dksX6_arrives_0 21 rfl rfl)
theorem dX6_arrives_24 : decode cX6_arrives 24 = .ok (.if_icmp .ge 14, 3) := dk_162 0 14 (dk_at dksX6_arrives_1 0 rfl rfl)
theorem dX6_arrives_27 : decode cX6_arrives 27 = .ok (.iload_n 2, 1) := dk_28 (dk_at dksX6_arrives_1 3 rfl rfl)
theorem dX6_arrives_28 : decode cX6_arrives 28 = .ok (.aload_n 0, 1) := dk_42 (dk_at dksX6_arrives_1 4 rfl rfl)
theorem dX6_arrives_29 : decode cX6_arrives 29 = .ok (.getfield 20, 3) := dk_180 0 20 (dk_at dksX6_arrives_1 5 rfl rfl)
theorem dX6_arrives_32 : decode cX6_arrives 32 = .ok (.iload 4, 2) := dk_21 4 (dk_at dksX6_arrives_1 8 rfl rfl)
theorem dX6_arrives_34 : decode cX6_arrives 34 = .ok (.iaload, 1) := dk_46 (dk_at dksX6_arrives_1 10 rfl rfl)
theorem dX6_arrives_35 : decode cX6_arrives 35 = .ok (.if_icmp .ge 5, 3) := dk_162 0 5 (dk_at dksX6_arrives_1 11 rfl rfl)
theorem dX6_arrives_38 : decode cX6_arrives 38 = .ok (.lconst 0, 1) := dk_9 (dk_at dksX6_arrives_1 14 rfl rfl)
theorem dX6_arrives_39 : decode cX6_arrives 39 = .ok (.lreturn, 1) := dk_173 (dk_at dksX6_arrives_1 15 rfl rfl)
theorem dX6_arrives_40 : decode cX6_arrives 40 = .ok (.iload_n 2, 1) := dk_28 (dk_at dksX6_arrives_1 16 rfl rfl)
theorem dX6_arrives_41 : decode cX6_arrives 41 = .ok (.aload_n 0, 1) := dk_42 (dk_at dksX6_arrives_1 17 rfl rfl)
theorem dX6_arrives_42 : decode cX6_arrives 42 = .ok (.getfield 20, 3) := dk_180 0 20 (dk_at dksX6_arrives_1 18 rfl rfl)
theorem dX6_arrives_45 : decode cX6_arrives 45 = .ok (.iload 4, 2) := dk_21 4 (dk_at dksX6_arrives_1 21 rfl rfl)
theorem dX6_arrives_47 : decode cX6_arrives 47 = .ok (.iaload, 1) := dk_46 (dk_at dksX6_arrives_1 23 rfl rfl)
theorem dX6_arrives_48 : decode cX6_arrives 48 = .ok (.isub, 1) := dk_100 (dk_at dksX6_arrives_2 0 rfl rfl)
theorem dX6_arrives_49 : decode cX6_arrives 49 = .ok (.istore 5, 2) := dk_54 5 (dk_at dksX6_arrives_2 1 rfl rfl)
theorem dX6_arrives_51 : decode cX6_arrives 51 = .ok (.iload_n 3, 1) := dk_29 (dk_at dksX6_arrives_2 3 rfl rfl)
theorem dX6_arrives_52 : decode cX6_arrives 52 = .ok (.ifCond .eq 21, 3) := dk_153 0 21 (dk_at dksX6_arrives_2 4 rfl rfl)
theorem dX6_arrives_55 : decode cX6_arrives 55 = .ok (.aload_n 0, 1) := dk_42 (dk_at dksX6_arrives_2 7 rfl rfl)
theorem dX6_arrives_56 : decode cX6_arrives 56 = .ok (.getfield 35, 3) := dk_180 0 35 (dk_at dksX6_arrives_2 8 rfl rfl)
theorem dX6_arrives_59 : decode cX6_arrives 59 = .ok (.sipush 201, 3) := dk_17 0 201 (dk_at dksX6_arrives_2 11 rfl rfl)
theorem dX6_arrives_62 : decode cX6_arrives 62 = .ok (.iload_n 1, 1) := dk_27 (dk_at dksX6_arrives_2 14 rfl rfl)
theorem dX6_arrives_63 : decode cX6_arrives 63 = .ok (.iconst 1, 1) := dk_4 (dk_at dksX6_arrives_2 15 rfl rfl)
theorem dX6_arrives_64 : decode cX6_arrives 64 = .ok (.iadd, 1) := dk_96 (dk_at dksX6_arrives_2 16 rfl rfl)
theorem dX6_arrives_65 : decode cX6_arrives 65 = .ok (.imul, 1) := dk_104 (dk_at dksX6_arrives_2 17 rfl rfl)
theorem dX6_arrives_66 : decode cX6_arrives 66 = .ok (.iload 5, 2) := dk_21 5 (dk_at dksX6_arrives_2 18 rfl rfl)
theorem dX6_arrives_68 : decode cX6_arrives 68 = .ok (.iadd, 1) := dk_96 (dk_at dksX6_arrives_2 20 rfl rfl)
theorem dX6_arrives_69 : decode cX6_arrives 69 = .ok (.laload, 1) := dk_47 (dk_at dksX6_arrives_2 21 rfl rfl)
theorem dX6_arrives_70 : decode cX6_arrives 70 = .ok (.goto 18, 3) := dk_167 0 18 (dk_at dksX6_arrives_3 0 rfl rfl)
theorem dX6_arrives_73 : decode cX6_arrives 73 = .ok (.aload_n 0, 1) := dk_42 (dk_at dksX6_arrives_3 3 rfl rfl)
theorem dX6_arrives_74 : decode cX6_arrives 74 = .ok (.getfield 32, 3) := dk_180 0 32 (dk_at dksX6_arrives_3 4 rfl rfl)
theorem dX6_arrives_77 : decode cX6_arrives 77 = .ok (.sipush 201, 3) := dk_17 0 201 (dk_at dksX6_arrives_3 7 rfl rfl)
theorem dX6_arrives_80 : decode cX6_arrives 80 = .ok (.iload_n 1, 1) := dk_27 (dk_at dksX6_arrives_3 10 rfl rfl)
theorem dX6_arrives_81 : decode cX6_arrives 81 = .ok (.iconst 1, 1) := dk_4 (dk_at dksX6_arrives_3 11 rfl rfl)
theorem dX6_arrives_82 : decode cX6_arrives 82 = .ok (.isub, 1) := dk_100 (dk_at dksX6_arrives_3 12 rfl rfl)
theorem dX6_arrives_83 : decode cX6_arrives 83 = .ok (.imul, 1) := dk_104 (dk_at dksX6_arrives_3 13 rfl rfl)
theorem dX6_arrives_84 : decode cX6_arrives 84 = .ok (.iload 5, 2) := dk_21 5 (dk_at dksX6_arrives_3 14 rfl rfl)
theorem dX6_arrives_86 : decode cX6_arrives 86 = .ok (.iadd, 1) := dk_96 (dk_at dksX6_arrives_3 16 rfl rfl)
theorem dX6_arrives_87 : decode cX6_arrives 87 = .ok (.laload, 1) := dk_47 (dk_at dksX6_arrives_3 17 rfl rfl)
theorem dX6_arrives_88 : decode cX6_arrives 88 = .ok (.lreturn, 1) := dk_173 (dk_at dksX6_arrives_3 18 rfl rfl)
abbrev cX6_back : ByteArray := prog_10_method_11_code
def yX6_back : MethodName := ⟨RX6, "back", "(JI)J"⟩
def dkwX6_back_0 : List UInt8 := [31, 42, 180, 0, 23, 29, 46, 133, 105, 20, 0, 82, 109, 173]
abbrev dktX6_back_0 : List UInt8 := dkwX6_back_0 ++ []
theorem dksX6_back_0 : cX6_back.data.toList.drop 0 = dktX6_back_0 := by decide +kernel
theorem dX6_back_0 : decode cX6_back 0 = .ok (.lload_n 1, 1) := dk_31 (dk_at dksX6_back_0 0 rfl rfl)
theorem dX6_back_1 : decode cX6_back 1 = .ok (.aload_n 0, 1) := dk_42 (dk_at dksX6_back_0 1 rfl rfl)
theorem dX6_back_2 : decode cX6_back 2 = .ok (.getfield 23, 3) := dk_180 0 23 (dk_at dksX6_back_0 2 rfl rfl)
theorem dX6_back_5 : decode cX6_back 5 = .ok (.iload_n 3, 1) := dk_29 (dk_at dksX6_back_0 5 rfl rfl)
theorem dX6_back_6 : decode cX6_back 6 = .ok (.iaload, 1) := dk_46 (dk_at dksX6_back_0 6 rfl rfl)
theorem dX6_back_7 : decode cX6_back 7 = .ok (.i2l, 1) := dk_133 (dk_at dksX6_back_0 7 rfl rfl)
theorem dX6_back_8 : decode cX6_back 8 = .ok (.lmul, 1) := dk_105 (dk_at dksX6_back_0 8 rfl rfl)
theorem dX6_back_9 : decode cX6_back 9 = .ok (.ldc2_w 82, 3) := dk_20 0 82 (dk_at dksX6_back_0 9 rfl rfl)
theorem dX6_back_12 : decode cX6_back 12 = .ok (.ldiv, 1) := dk_109 (dk_at dksX6_back_0 12 rfl rfl)
theorem dX6_back_13 : decode cX6_back 13 = .ok (.lreturn, 1) := dk_173 (dk_at dksX6_back_0 13 rfl rfl)
abbrev cX6_setsOut : ByteArray := prog_10_method_9_code
def yX6_setsOut : MethodName := ⟨RX6, "setsOut", "()J"⟩
def dkwX6_setsOut_3 : List UInt8 := [181, 0, 63, 42, 9, 181, 0, 66, 31, 173]
abbrev dktX6_setsOut_3 : List UInt8 := dkwX6_setsOut_3 ++ []
def dkwX6_setsOut_2 : List UInt8 := [180, 0, 73, 4, 96, 181, 0, 73, 42, 89, 180, 0, 76, 31, 97, 181, 0, 76, 9, 64, 42, 3]
abbrev dktX6_setsOut_2 : List UInt8 := dkwX6_setsOut_2 ++ dktX6_setsOut_3
def dkwX6_setsOut_1 : List UInt8 := [180, 0, 66, 64, 31, 9, 148, 158, 0, 37, 31, 42, 180, 0, 7, 16, 18, 47, 148, 156, 0, 25, 42, 89]
abbrev dktX6_setsOut_1 : List UInt8 := dkwX6_setsOut_1 ++ dktX6_setsOut_2
def dkwX6_setsOut_0 : List UInt8 := [42, 89, 180, 0, 70, 42, 180, 0, 63, 4, 164, 0, 7, 4, 167, 0, 4, 3, 96, 181, 0, 70, 42]
abbrev dktX6_setsOut_0 : List UInt8 := dkwX6_setsOut_0 ++ dktX6_setsOut_1
theorem dksX6_setsOut_0 : cX6_setsOut.data.toList.drop 0 = dktX6_setsOut_0 := by decide +kernel
theorem dksX6_setsOut_1 : cX6_setsOut.data.toList.drop 23 = dktX6_setsOut_1 := dk_seg dksX6_setsOut_0 23 rfl rfl
theorem dksX6_setsOut_2 : cX6_setsOut.data.toList.drop 47 = dktX6_setsOut_2 := dk_seg dksX6_setsOut_1 24 rfl rfl
theorem dksX6_setsOut_3 : cX6_setsOut.data.toList.drop 69 = dktX6_setsOut_3 := dk_seg dksX6_setsOut_2 22 rfl rfl
theorem dX6_setsOut_0 : decode cX6_setsOut 0 = .ok (.aload_n 0, 1) := dk_42 (dk_at dksX6_setsOut_0 0 rfl rfl)
theorem dX6_setsOut_1 : decode cX6_setsOut 1 = .ok (.dup, 1) := dk_89 (dk_at dksX6_setsOut_0 1 rfl rfl)
theorem dX6_setsOut_2 : decode cX6_setsOut 2 = .ok (.getfield 70, 3) := dk_180 0 70 (dk_at dksX6_setsOut_0 2 rfl rfl)
theorem dX6_setsOut_5 : decode cX6_setsOut 5 = .ok (.aload_n 0, 1) := dk_42 (dk_at dksX6_setsOut_0 5 rfl rfl)
theorem dX6_setsOut_6 : decode cX6_setsOut 6 = .ok (.getfield 63, 3) := dk_180 0 63 (dk_at dksX6_setsOut_0 6 rfl rfl)
theorem dX6_setsOut_9 : decode cX6_setsOut 9 = .ok (.iconst 1, 1) := dk_4 (dk_at dksX6_setsOut_0 9 rfl rfl)
theorem dX6_setsOut_10 : decode cX6_setsOut 10 = .ok (.if_icmp .le 7, 3) := dk_164 0 7 (dk_at dksX6_setsOut_0 10 rfl rfl)
theorem dX6_setsOut_13 : decode cX6_setsOut 13 = .ok (.iconst 1, 1) := dk_4 (dk_at dksX6_setsOut_0 13 rfl rfl)
theorem dX6_setsOut_14 : decode cX6_setsOut 14 = .ok (.goto 4, 3) := dk_167 0 4 (dk_at dksX6_setsOut_0 14 rfl rfl)
theorem dX6_setsOut_17 : decode cX6_setsOut 17 = .ok (.iconst 0, 1) := dk_3 (dk_at dksX6_setsOut_0 17 rfl rfl)
theorem dX6_setsOut_18 : decode cX6_setsOut 18 = .ok (.iadd, 1) := dk_96 (dk_at dksX6_setsOut_0 18 rfl rfl)
theorem dX6_setsOut_19 : decode cX6_setsOut 19 = .ok (.putfield 70, 3) := dk_181 0 70 (dk_at dksX6_setsOut_0 19 rfl rfl)
theorem dX6_setsOut_22 : decode cX6_setsOut 22 = .ok (.aload_n 0, 1) := dk_42 (dk_at dksX6_setsOut_0 22 rfl rfl)
theorem dX6_setsOut_23 : decode cX6_setsOut 23 = .ok (.getfield 66, 3) := dk_180 0 66 (dk_at dksX6_setsOut_1 0 rfl rfl)
theorem dX6_setsOut_26 : decode cX6_setsOut 26 = .ok (.lstore_n 1, 1) := dk_64 (dk_at dksX6_setsOut_1 3 rfl rfl)
theorem dX6_setsOut_27 : decode cX6_setsOut 27 = .ok (.lload_n 1, 1) := dk_31 (dk_at dksX6_setsOut_1 4 rfl rfl)
theorem dX6_setsOut_28 : decode cX6_setsOut 28 = .ok (.lconst 0, 1) := dk_9 (dk_at dksX6_setsOut_1 5 rfl rfl)
theorem dX6_setsOut_29 : decode cX6_setsOut 29 = .ok (.lcmp, 1) := dk_148 (dk_at dksX6_setsOut_1 6 rfl rfl)
theorem dX6_setsOut_30 : decode cX6_setsOut 30 = .ok (.ifCond .le 37, 3) := dk_158 0 37 (dk_at dksX6_setsOut_1 7 rfl rfl)
theorem dX6_setsOut_33 : decode cX6_setsOut 33 = .ok (.lload_n 1, 1) := dk_31 (dk_at dksX6_setsOut_1 10 rfl rfl)
theorem dX6_setsOut_34 : decode cX6_setsOut 34 = .ok (.aload_n 0, 1) := dk_42 (dk_at dksX6_setsOut_1 11 rfl rfl)
theorem dX6_setsOut_35 : decode cX6_setsOut 35 = .ok (.getfield 7, 3) := dk_180 0 7 (dk_at dksX6_setsOut_1 12 rfl rfl)
theorem dX6_setsOut_38 : decode cX6_setsOut 38 = .ok (.bipush 18, 2) := dk_16 18 (dk_at dksX6_setsOut_1 15 rfl rfl)
theorem dX6_setsOut_40 : decode cX6_setsOut 40 = .ok (.laload, 1) := dk_47 (dk_at dksX6_setsOut_1 17 rfl rfl)
theorem dX6_setsOut_41 : decode cX6_setsOut 41 = .ok (.lcmp, 1) := dk_148 (dk_at dksX6_setsOut_1 18 rfl rfl)
theorem dX6_setsOut_42 : decode cX6_setsOut 42 = .ok (.ifCond .ge 25, 3) := dk_156 0 25 (dk_at dksX6_setsOut_1 19 rfl rfl)
theorem dX6_setsOut_45 : decode cX6_setsOut 45 = .ok (.aload_n 0, 1) := dk_42 (dk_at dksX6_setsOut_1 22 rfl rfl)
theorem dX6_setsOut_46 : decode cX6_setsOut 46 = .ok (.dup, 1) := dk_89 (dk_at dksX6_setsOut_1 23 rfl rfl)
theorem dX6_setsOut_47 : decode cX6_setsOut 47 = .ok (.getfield 73, 3) := dk_180 0 73 (dk_at dksX6_setsOut_2 0 rfl rfl)
theorem dX6_setsOut_50 : decode cX6_setsOut 50 = .ok (.iconst 1, 1) := dk_4 (dk_at dksX6_setsOut_2 3 rfl rfl)
theorem dX6_setsOut_51 : decode cX6_setsOut 51 = .ok (.iadd, 1) := dk_96 (dk_at dksX6_setsOut_2 4 rfl rfl)
theorem dX6_setsOut_52 : decode cX6_setsOut 52 = .ok (.putfield 73, 3) := dk_181 0 73 (dk_at dksX6_setsOut_2 5 rfl rfl)
theorem dX6_setsOut_55 : decode cX6_setsOut 55 = .ok (.aload_n 0, 1) := dk_42 (dk_at dksX6_setsOut_2 8 rfl rfl)
theorem dX6_setsOut_56 : decode cX6_setsOut 56 = .ok (.dup, 1) := dk_89 (dk_at dksX6_setsOut_2 9 rfl rfl)
theorem dX6_setsOut_57 : decode cX6_setsOut 57 = .ok (.getfield 76, 3) := dk_180 0 76 (dk_at dksX6_setsOut_2 10 rfl rfl)
theorem dX6_setsOut_60 : decode cX6_setsOut 60 = .ok (.lload_n 1, 1) := dk_31 (dk_at dksX6_setsOut_2 13 rfl rfl)
theorem dX6_setsOut_61 : decode cX6_setsOut 61 = .ok (.ladd, 1) := dk_97 (dk_at dksX6_setsOut_2 14 rfl rfl)
theorem dX6_setsOut_62 : decode cX6_setsOut 62 = .ok (.putfield 76, 3) := dk_181 0 76 (dk_at dksX6_setsOut_2 15 rfl rfl)
theorem dX6_setsOut_65 : decode cX6_setsOut 65 = .ok (.lconst 0, 1) := dk_9 (dk_at dksX6_setsOut_2 18 rfl rfl)
theorem dX6_setsOut_66 : decode cX6_setsOut 66 = .ok (.lstore_n 1, 1) := dk_64 (dk_at dksX6_setsOut_2 19 rfl rfl)
theorem dX6_setsOut_67 : decode cX6_setsOut 67 = .ok (.aload_n 0, 1) := dk_42 (dk_at dksX6_setsOut_2 20 rfl rfl)
theorem dX6_setsOut_68 : decode cX6_setsOut 68 = .ok (.iconst 0, 1) := dk_3 (dk_at dksX6_setsOut_2 21 rfl rfl)
theorem dX6_setsOut_69 : decode cX6_setsOut 69 = .ok (.putfield 63, 3) := dk_181 0 63 (dk_at dksX6_setsOut_3 0 rfl rfl)
theorem dX6_setsOut_72 : decode cX6_setsOut 72 = .ok (.aload_n 0, 1) := dk_42 (dk_at dksX6_setsOut_3 3 rfl rfl)
theorem dX6_setsOut_73 : decode cX6_setsOut 73 = .ok (.lconst 0, 1) := dk_9 (dk_at dksX6_setsOut_3 4 rfl rfl)
theorem dX6_setsOut_74 : decode cX6_setsOut 74 = .ok (.putfield 66, 3) := dk_181 0 66 (dk_at dksX6_setsOut_3 5 rfl rfl)
theorem dX6_setsOut_77 : decode cX6_setsOut 77 = .ok (.lload_n 1, 1) := dk_31 (dk_at dksX6_setsOut_3 8 rfl rfl)
theorem dX6_setsOut_78 : decode cX6_setsOut 78 = .ok (.lreturn, 1) := dk_173 (dk_at dksX6_setsOut_3 9 rfl rfl)
abbrev cX6_echoTime : ByteArray := prog_10_method_43_code
def yX6_echoTime : MethodName := ⟨RX6, "echoTime", "(I)I"⟩
def dkwX6_echoTime_2 : List UInt8 := [158, 0, 12, 28, 154, 0, 5, 29, 172, 132, 2, 255, 132, 3, 1, 167, 255, 226, 2, 172]
abbrev dktX6_echoTime_2 : List UInt8 := dkwX6_echoTime_2 ++ []
def dkwX6_echoTime_1 : List UInt8 := [182, 0, 193, 27, 61, 3, 62, 29, 17, 0, 201, 162, 0, 29, 42, 180, 0, 38, 29, 47, 9, 148]
abbrev dktX6_echoTime_1 : List UInt8 := dkwX6_echoTime_1 ++ dktX6_echoTime_2
def dkwX6_echoTime_0 : List UInt8 := [42, 27, 156, 0, 7, 4, 167, 0, 4, 3, 181, 0, 48, 42, 180, 0, 48, 153, 0, 5, 3, 172, 42]
abbrev dktX6_echoTime_0 : List UInt8 := dkwX6_echoTime_0 ++ dktX6_echoTime_1
theorem dksX6_echoTime_0 : cX6_echoTime.data.toList.drop 0 = dktX6_echoTime_0 := by decide +kernel
theorem dksX6_echoTime_1 : cX6_echoTime.data.toList.drop 23 = dktX6_echoTime_1 := dk_seg dksX6_echoTime_0 23 rfl rfl
theorem dksX6_echoTime_2 : cX6_echoTime.data.toList.drop 45 = dktX6_echoTime_2 := dk_seg dksX6_echoTime_1 22 rfl rfl
theorem dX6_echoTime_0 : decode cX6_echoTime 0 = .ok (.aload_n 0, 1) := dk_42 (dk_at dksX6_echoTime_0 0 rfl rfl)
theorem dX6_echoTime_1 : decode cX6_echoTime 1 = .ok (.iload_n 1, 1) := dk_27 (dk_at dksX6_echoTime_0 1 rfl rfl)
theorem dX6_echoTime_2 : decode cX6_echoTime 2 = .ok (.ifCond .ge 7, 3) := dk_156 0 7 (dk_at dksX6_echoTime_0 2 rfl rfl)
theorem dX6_echoTime_5 : decode cX6_echoTime 5 = .ok (.iconst 1, 1) := dk_4 (dk_at dksX6_echoTime_0 5 rfl rfl)
theorem dX6_echoTime_6 : decode cX6_echoTime 6 = .ok (.goto 4, 3) := dk_167 0 4 (dk_at dksX6_echoTime_0 6 rfl rfl)
theorem dX6_echoTime_9 : decode cX6_echoTime 9 = .ok (.iconst 0, 1) := dk_3 (dk_at dksX6_echoTime_0 9 rfl rfl)
theorem dX6_echoTime_10 : decode cX6_echoTime 10 = .ok (.putfield 48, 3) := dk_181 0 48 (dk_at dksX6_echoTime_0 10 rfl rfl)
theorem dX6_echoTime_13 : decode cX6_echoTime 13 = .ok (.aload_n 0, 1) := dk_42 (dk_at dksX6_echoTime_0 13 rfl rfl)
theorem dX6_echoTime_14 : decode cX6_echoTime 14 = .ok (.getfield 48, 3) := dk_180 0 48 (dk_at dksX6_echoTime_0 14 rfl rfl)
theorem dX6_echoTime_17 : decode cX6_echoTime 17 = .ok (.ifCond .eq 5, 3) := dk_153 0 5 (dk_at dksX6_echoTime_0 17 rfl rfl)
theorem dX6_echoTime_20 : decode cX6_echoTime 20 = .ok (.iconst 0, 1) := dk_3 (dk_at dksX6_echoTime_0 20 rfl rfl)
theorem dX6_echoTime_21 : decode cX6_echoTime 21 = .ok (.ireturn, 1) := dk_172 (dk_at dksX6_echoTime_0 21 rfl rfl)
theorem dX6_echoTime_22 : decode cX6_echoTime 22 = .ok (.aload_n 0, 1) := dk_42 (dk_at dksX6_echoTime_0 22 rfl rfl)
theorem dX6_echoTime_23 : decode cX6_echoTime 23 = .ok (.invokevirtual 193, 3) := dk_182 0 193 (dk_at dksX6_echoTime_1 0 rfl rfl)
theorem dX6_echoTime_26 : decode cX6_echoTime 26 = .ok (.iload_n 1, 1) := dk_27 (dk_at dksX6_echoTime_1 3 rfl rfl)
theorem dX6_echoTime_27 : decode cX6_echoTime 27 = .ok (.istore_n 2, 1) := dk_61 (dk_at dksX6_echoTime_1 4 rfl rfl)
theorem dX6_echoTime_28 : decode cX6_echoTime 28 = .ok (.iconst 0, 1) := dk_3 (dk_at dksX6_echoTime_1 5 rfl rfl)
theorem dX6_echoTime_29 : decode cX6_echoTime 29 = .ok (.istore_n 3, 1) := dk_62 (dk_at dksX6_echoTime_1 6 rfl rfl)
theorem dX6_echoTime_30 : decode cX6_echoTime 30 = .ok (.iload_n 3, 1) := dk_29 (dk_at dksX6_echoTime_1 7 rfl rfl)
theorem dX6_echoTime_31 : decode cX6_echoTime 31 = .ok (.sipush 201, 3) := dk_17 0 201 (dk_at dksX6_echoTime_1 8 rfl rfl)
theorem dX6_echoTime_34 : decode cX6_echoTime 34 = .ok (.if_icmp .ge 29, 3) := dk_162 0 29 (dk_at dksX6_echoTime_1 11 rfl rfl)
theorem dX6_echoTime_37 : decode cX6_echoTime 37 = .ok (.aload_n 0, 1) := dk_42 (dk_at dksX6_echoTime_1 14 rfl rfl)
theorem dX6_echoTime_38 : decode cX6_echoTime 38 = .ok (.getfield 38, 3) := dk_180 0 38 (dk_at dksX6_echoTime_1 15 rfl rfl)
theorem dX6_echoTime_41 : decode cX6_echoTime 41 = .ok (.iload_n 3, 1) := dk_29 (dk_at dksX6_echoTime_1 18 rfl rfl)
theorem dX6_echoTime_42 : decode cX6_echoTime 42 = .ok (.laload, 1) := dk_47 (dk_at dksX6_echoTime_1 19 rfl rfl)
theorem dX6_echoTime_43 : decode cX6_echoTime 43 = .ok (.lconst 0, 1) := dk_9 (dk_at dksX6_echoTime_1 20 rfl rfl)
theorem dX6_echoTime_44 : decode cX6_echoTime 44 = .ok (.lcmp, 1) := dk_148 (dk_at dksX6_echoTime_1 21 rfl rfl)
theorem dX6_echoTime_45 : decode cX6_echoTime 45 = .ok (.ifCond .le 12, 3) := dk_158 0 12 (dk_at dksX6_echoTime_2 0 rfl rfl)
theorem dX6_echoTime_48 : decode cX6_echoTime 48 = .ok (.iload_n 2, 1) := dk_28 (dk_at dksX6_echoTime_2 3 rfl rfl)
theorem dX6_echoTime_49 : decode cX6_echoTime 49 = .ok (.ifCond .ne 5, 3) := dk_154 0 5 (dk_at dksX6_echoTime_2 4 rfl rfl)
theorem dX6_echoTime_52 : decode cX6_echoTime 52 = .ok (.iload_n 3, 1) := dk_29 (dk_at dksX6_echoTime_2 7 rfl rfl)
theorem dX6_echoTime_53 : decode cX6_echoTime 53 = .ok (.ireturn, 1) := dk_172 (dk_at dksX6_echoTime_2 8 rfl rfl)
theorem dX6_echoTime_54 : decode cX6_echoTime 54 = .ok (.iinc 2 (-1), 3) := dk_132 2 255 (dk_at dksX6_echoTime_2 9 rfl rfl)
theorem dX6_echoTime_57 : decode cX6_echoTime 57 = .ok (.iinc 3 1, 3) := dk_132 3 1 (dk_at dksX6_echoTime_2 12 rfl rfl)
theorem dX6_echoTime_60 : decode cX6_echoTime 60 = .ok (.goto (-30), 3) := dk_167 255 226 (dk_at dksX6_echoTime_2 15 rfl rfl)
theorem dX6_echoTime_63 : decode cX6_echoTime 63 = .ok (.iconst (-1), 1) := dk_2 (dk_at dksX6_echoTime_2 18 rfl rfl)
theorem dX6_echoTime_64 : decode cX6_echoTime 64 = .ok (.ireturn, 1) := dk_172 (dk_at dksX6_echoTime_2 19 rfl rfl)
abbrev cX6_total : ByteArray := prog_10_method_45_code
def yX6_total : MethodName := ⟨RX6, "total", "(I)J"⟩
def dkwX6_total_1 : List UInt8 := [180, 0, 48, 153, 0, 5, 9, 173, 42, 182, 0, 193, 42, 27, 182, 0, 201, 173]
abbrev dktX6_total_1 : List UInt8 := dkwX6_total_1 ++ []
def dkwX6_total_0 : List UInt8 := [42, 27, 133, 9, 20, 0, 199, 184, 0, 59, 153, 0, 7, 3, 167, 0, 4, 4, 181, 0, 48, 42]
abbrev dktX6_total_0 : List UInt8 := dkwX6_total_0 ++ dktX6_total_1
theorem dksX6_total_0 : cX6_total.data.toList.drop 0 = dktX6_total_0 := by decide +kernel
theorem dksX6_total_1 : cX6_total.data.toList.drop 22 = dktX6_total_1 := dk_seg dksX6_total_0 22 rfl rfl
theorem dX6_total_0 : decode cX6_total 0 = .ok (.aload_n 0, 1) := dk_42 (dk_at dksX6_total_0 0 rfl rfl)
theorem dX6_total_1 : decode cX6_total 1 = .ok (.iload_n 1, 1) := dk_27 (dk_at dksX6_total_0 1 rfl rfl)
theorem dX6_total_2 : decode cX6_total 2 = .ok (.i2l, 1) := dk_133 (dk_at dksX6_total_0 2 rfl rfl)
theorem dX6_total_3 : decode cX6_total 3 = .ok (.lconst 0, 1) := dk_9 (dk_at dksX6_total_0 3 rfl rfl)
theorem dX6_total_4 : decode cX6_total 4 = .ok (.ldc2_w 199, 3) := dk_20 0 199 (dk_at dksX6_total_0 4 rfl rfl)
theorem dX6_total_7 : decode cX6_total 7 = .ok (.invokestatic 59, 3) := dk_184 0 59 (dk_at dksX6_total_0 7 rfl rfl)
theorem dX6_total_10 : decode cX6_total 10 = .ok (.ifCond .eq 7, 3) := dk_153 0 7 (dk_at dksX6_total_0 10 rfl rfl)
theorem dX6_total_13 : decode cX6_total 13 = .ok (.iconst 0, 1) := dk_3 (dk_at dksX6_total_0 13 rfl rfl)
theorem dX6_total_14 : decode cX6_total 14 = .ok (.goto 4, 3) := dk_167 0 4 (dk_at dksX6_total_0 14 rfl rfl)
theorem dX6_total_17 : decode cX6_total 17 = .ok (.iconst 1, 1) := dk_4 (dk_at dksX6_total_0 17 rfl rfl)
theorem dX6_total_18 : decode cX6_total 18 = .ok (.putfield 48, 3) := dk_181 0 48 (dk_at dksX6_total_0 18 rfl rfl)
theorem dX6_total_21 : decode cX6_total 21 = .ok (.aload_n 0, 1) := dk_42 (dk_at dksX6_total_0 21 rfl rfl)
theorem dX6_total_22 : decode cX6_total 22 = .ok (.getfield 48, 3) := dk_180 0 48 (dk_at dksX6_total_1 0 rfl rfl)
theorem dX6_total_25 : decode cX6_total 25 = .ok (.ifCond .eq 5, 3) := dk_153 0 5 (dk_at dksX6_total_1 3 rfl rfl)
theorem dX6_total_28 : decode cX6_total 28 = .ok (.lconst 0, 1) := dk_9 (dk_at dksX6_total_1 6 rfl rfl)
theorem dX6_total_29 : decode cX6_total 29 = .ok (.lreturn, 1) := dk_173 (dk_at dksX6_total_1 7 rfl rfl)
theorem dX6_total_30 : decode cX6_total 30 = .ok (.aload_n 0, 1) := dk_42 (dk_at dksX6_total_1 8 rfl rfl)
theorem dX6_total_31 : decode cX6_total 31 = .ok (.invokevirtual 193, 3) := dk_182 0 193 (dk_at dksX6_total_1 9 rfl rfl)
theorem dX6_total_34 : decode cX6_total 34 = .ok (.aload_n 0, 1) := dk_42 (dk_at dksX6_total_1 12 rfl rfl)
theorem dX6_total_35 : decode cX6_total 35 = .ok (.iload_n 1, 1) := dk_27 (dk_at dksX6_total_1 13 rfl rfl)
theorem dX6_total_36 : decode cX6_total 36 = .ok (.invokevirtual 201, 3) := dk_182 0 201 (dk_at dksX6_total_1 14 rfl rfl)
theorem dX6_total_39 : decode cX6_total 39 = .ok (.lreturn, 1) := dk_173 (dk_at dksX6_total_1 17 rfl rfl)
abbrev cX6_totalOf : ByteArray := prog_10_method_44_code
def yX6_totalOf : MethodName := ⟨RX6, "totalOf", "(I)J"⟩
def dkwX6_totalOf_8 : List UInt8 := [133, 173, 42, 180, 0, 73, 133, 173, 21, 6, 133, 173, 22, 4, 173]
abbrev dktX6_totalOf_8 : List UInt8 := dkwX6_totalOf_8 ++ []
def dkwX6_totalOf_7 : List UInt8 := [22, 7, 173, 32, 173, 42, 180, 0, 107, 173, 42, 180, 0, 76, 173, 42, 182, 0, 196, 173, 42, 180, 0, 70]
abbrev dktX6_totalOf_7 : List UInt8 := dkwX6_totalOf_7 ++ dktX6_totalOf_8
def dkwX6_totalOf_6 : List UInt8 := [170, 0, 0, 0, 0, 0, 0, 84, 0, 0, 0, 0, 0, 0, 0, 7, 0, 0, 0, 48, 0, 0, 0, 51, 0, 0, 0, 53, 0, 0, 0, 58, 0, 0, 0, 63, 0, 0, 0, 68, 0, 0, 0, 74, 0, 0, 0, 80]
abbrev dktX6_totalOf_6 : List UInt8 := dkwX6_totalOf_6 ++ dktX6_totalOf_7
def dkwX6_totalOf_5 : List UInt8 := [180, 0, 29, 21, 9, 47, 167, 0, 4, 9, 97, 55, 7, 132, 9, 1, 167, 255, 214, 27]
abbrev dktX6_totalOf_5 : List UInt8 := dkwX6_totalOf_5 ++ dktX6_totalOf_6
def dkwX6_totalOf_4 : List UInt8 := [180, 0, 84, 162, 0, 39, 22, 7, 42, 180, 0, 26, 21, 9, 46, 42, 182, 0, 110, 163, 0, 13, 42]
abbrev dktX6_totalOf_4 : List UInt8 := dkwX6_totalOf_4 ++ dktX6_totalOf_5
def dkwX6_totalOf_3 : List UInt8 := [167, 0, 4, 3, 96, 54, 6, 132, 7, 1, 167, 255, 186, 9, 55, 7, 3, 54, 9, 21, 9, 42]
abbrev dktX6_totalOf_3 : List UInt8 := dkwX6_totalOf_3 ++ dktX6_totalOf_4
def dkwX6_totalOf_2 : List UInt8 := [47, 167, 0, 5, 22, 4, 55, 4, 21, 6, 42, 180, 0, 38, 21, 7, 47, 9, 148, 158, 0, 7, 4]
abbrev dktX6_totalOf_2 : List UInt8 := dkwX6_totalOf_2 ++ dktX6_totalOf_3
def dkwX6_totalOf_1 : List UInt8 := [21, 7, 47, 97, 65, 42, 180, 0, 38, 21, 7, 47, 22, 4, 148, 158, 0, 13, 42, 180, 0, 38, 21, 7]
abbrev dktX6_totalOf_1 : List UInt8 := dkwX6_totalOf_1 ++ dktX6_totalOf_2
def dkwX6_totalOf_0 : List UInt8 := [9, 65, 9, 55, 4, 3, 54, 6, 3, 54, 7, 21, 7, 17, 0, 201, 162, 0, 68, 32, 42, 180, 0, 38]
abbrev dktX6_totalOf_0 : List UInt8 := dkwX6_totalOf_0 ++ dktX6_totalOf_1
theorem dksX6_totalOf_0 : cX6_totalOf.data.toList.drop 0 = dktX6_totalOf_0 := by decide +kernel
theorem dksX6_totalOf_1 : cX6_totalOf.data.toList.drop 24 = dktX6_totalOf_1 := dk_seg dksX6_totalOf_0 24 rfl rfl
theorem dksX6_totalOf_2 : cX6_totalOf.data.toList.drop 48 = dktX6_totalOf_2 := dk_seg dksX6_totalOf_1 24 rfl rfl
theorem dksX6_totalOf_3 : cX6_totalOf.data.toList.drop 71 = dktX6_totalOf_3 := dk_seg dksX6_totalOf_2 23 rfl rfl
theorem dksX6_totalOf_4 : cX6_totalOf.data.toList.drop 93 = dktX6_totalOf_4 := dk_seg dksX6_totalOf_3 22 rfl rfl
theorem dksX6_totalOf_5 : cX6_totalOf.data.toList.drop 116 = dktX6_totalOf_5 := dk_seg dksX6_totalOf_4 23 rfl rfl
theorem dksX6_totalOf_6 : cX6_totalOf.data.toList.drop 136 = dktX6_totalOf_6 := dk_seg dksX6_totalOf_5 20 rfl rfl
theorem dksX6_totalOf_7 : cX6_totalOf.data.toList.drop 184 = dktX6_totalOf_7 := dk_seg dksX6_totalOf_6 48 rfl rfl
theorem dksX6_totalOf_8 : cX6_totalOf.data.toList.drop 208 = dktX6_totalOf_8 := dk_seg dksX6_totalOf_7 24 rfl rfl
theorem dX6_totalOf_0 : decode cX6_totalOf 0 = .ok (.lconst 0, 1) := dk_9 (dk_at dksX6_totalOf_0 0 rfl rfl)
theorem dX6_totalOf_1 : decode cX6_totalOf 1 = .ok (.lstore_n 2, 1) := dk_65 (dk_at dksX6_totalOf_0 1 rfl rfl)
theorem dX6_totalOf_2 : decode cX6_totalOf 2 = .ok (.lconst 0, 1) := dk_9 (dk_at dksX6_totalOf_0 2 rfl rfl)
theorem dX6_totalOf_3 : decode cX6_totalOf 3 = .ok (.lstore 4, 2) := dk_55 4 (dk_at dksX6_totalOf_0 3 rfl rfl)
theorem dX6_totalOf_5 : decode cX6_totalOf 5 = .ok (.iconst 0, 1) := dk_3 (dk_at dksX6_totalOf_0 5 rfl rfl)
theorem dX6_totalOf_6 : decode cX6_totalOf 6 = .ok (.istore 6, 2) := dk_54 6 (dk_at dksX6_totalOf_0 6 rfl rfl)
theorem dX6_totalOf_8 : decode cX6_totalOf 8 = .ok (.iconst 0, 1) := dk_3 (dk_at dksX6_totalOf_0 8 rfl rfl)
theorem dX6_totalOf_9 : decode cX6_totalOf 9 = .ok (.istore 7, 2) := dk_54 7 (dk_at dksX6_totalOf_0 9 rfl rfl)
theorem dX6_totalOf_11 : decode cX6_totalOf 11 = .ok (.iload 7, 2) := dk_21 7 (dk_at dksX6_totalOf_0 11 rfl rfl)
theorem dX6_totalOf_13 : decode cX6_totalOf 13 = .ok (.sipush 201, 3) := dk_17 0 201 (dk_at dksX6_totalOf_0 13 rfl rfl)
theorem dX6_totalOf_16 : decode cX6_totalOf 16 = .ok (.if_icmp .ge 68, 3) := dk_162 0 68 (dk_at dksX6_totalOf_0 16 rfl rfl)
theorem dX6_totalOf_19 : decode cX6_totalOf 19 = .ok (.lload_n 2, 1) := dk_32 (dk_at dksX6_totalOf_0 19 rfl rfl)
theorem dX6_totalOf_20 : decode cX6_totalOf 20 = .ok (.aload_n 0, 1) := dk_42 (dk_at dksX6_totalOf_0 20 rfl rfl)
theorem dX6_totalOf_21 : decode cX6_totalOf 21 = .ok (.getfield 38, 3) := dk_180 0 38 (dk_at dksX6_totalOf_0 21 rfl rfl)
theorem dX6_totalOf_24 : decode cX6_totalOf 24 = .ok (.iload 7, 2) := dk_21 7 (dk_at dksX6_totalOf_1 0 rfl rfl)
theorem dX6_totalOf_26 : decode cX6_totalOf 26 = .ok (.laload, 1) := dk_47 (dk_at dksX6_totalOf_1 2 rfl rfl)
theorem dX6_totalOf_27 : decode cX6_totalOf 27 = .ok (.ladd, 1) := dk_97 (dk_at dksX6_totalOf_1 3 rfl rfl)
theorem dX6_totalOf_28 : decode cX6_totalOf 28 = .ok (.lstore_n 2, 1) := dk_65 (dk_at dksX6_totalOf_1 4 rfl rfl)
theorem dX6_totalOf_29 : decode cX6_totalOf 29 = .ok (.aload_n 0, 1) := dk_42 (dk_at dksX6_totalOf_1 5 rfl rfl)
theorem dX6_totalOf_30 : decode cX6_totalOf 30 = .ok (.getfield 38, 3) := dk_180 0 38 (dk_at dksX6_totalOf_1 6 rfl rfl)
theorem dX6_totalOf_33 : decode cX6_totalOf 33 = .ok (.iload 7, 2) := dk_21 7 (dk_at dksX6_totalOf_1 9 rfl rfl)
theorem dX6_totalOf_35 : decode cX6_totalOf 35 = .ok (.laload, 1) := dk_47 (dk_at dksX6_totalOf_1 11 rfl rfl)
theorem dX6_totalOf_36 : decode cX6_totalOf 36 = .ok (.lload 4, 2) := dk_22 4 (dk_at dksX6_totalOf_1 12 rfl rfl)
theorem dX6_totalOf_38 : decode cX6_totalOf 38 = .ok (.lcmp, 1) := dk_148 (dk_at dksX6_totalOf_1 14 rfl rfl)
theorem dX6_totalOf_39 : decode cX6_totalOf 39 = .ok (.ifCond .le 13, 3) := dk_158 0 13 (dk_at dksX6_totalOf_1 15 rfl rfl)
theorem dX6_totalOf_42 : decode cX6_totalOf 42 = .ok (.aload_n 0, 1) := dk_42 (dk_at dksX6_totalOf_1 18 rfl rfl)
theorem dX6_totalOf_43 : decode cX6_totalOf 43 = .ok (.getfield 38, 3) := dk_180 0 38 (dk_at dksX6_totalOf_1 19 rfl rfl)
theorem dX6_totalOf_46 : decode cX6_totalOf 46 = .ok (.iload 7, 2) := dk_21 7 (dk_at dksX6_totalOf_1 22 rfl rfl)
theorem dX6_totalOf_48 : decode cX6_totalOf 48 = .ok (.laload, 1) := dk_47 (dk_at dksX6_totalOf_2 0 rfl rfl)
theorem dX6_totalOf_49 : decode cX6_totalOf 49 = .ok (.goto 5, 3) := dk_167 0 5 (dk_at dksX6_totalOf_2 1 rfl rfl)
theorem dX6_totalOf_52 : decode cX6_totalOf 52 = .ok (.lload 4, 2) := dk_22 4 (dk_at dksX6_totalOf_2 4 rfl rfl)
theorem dX6_totalOf_54 : decode cX6_totalOf 54 = .ok (.lstore 4, 2) := dk_55 4 (dk_at dksX6_totalOf_2 6 rfl rfl)
theorem dX6_totalOf_56 : decode cX6_totalOf 56 = .ok (.iload 6, 2) := dk_21 6 (dk_at dksX6_totalOf_2 8 rfl rfl)
theorem dX6_totalOf_58 : decode cX6_totalOf 58 = .ok (.aload_n 0, 1) := dk_42 (dk_at dksX6_totalOf_2 10 rfl rfl)
theorem dX6_totalOf_59 : decode cX6_totalOf 59 = .ok (.getfield 38, 3) := dk_180 0 38 (dk_at dksX6_totalOf_2 11 rfl rfl)
theorem dX6_totalOf_62 : decode cX6_totalOf 62 = .ok (.iload 7, 2) := dk_21 7 (dk_at dksX6_totalOf_2 14 rfl rfl)
theorem dX6_totalOf_64 : decode cX6_totalOf 64 = .ok (.laload, 1) := dk_47 (dk_at dksX6_totalOf_2 16 rfl rfl)
theorem dX6_totalOf_65 : decode cX6_totalOf 65 = .ok (.lconst 0, 1) := dk_9 (dk_at dksX6_totalOf_2 17 rfl rfl)
theorem dX6_totalOf_66 : decode cX6_totalOf 66 = .ok (.lcmp, 1) := dk_148 (dk_at dksX6_totalOf_2 18 rfl rfl)
theorem dX6_totalOf_67 : decode cX6_totalOf 67 = .ok (.ifCond .le 7, 3) := dk_158 0 7 (dk_at dksX6_totalOf_2 19 rfl rfl)
theorem dX6_totalOf_70 : decode cX6_totalOf 70 = .ok (.iconst 1, 1) := dk_4 (dk_at dksX6_totalOf_2 22 rfl rfl)
theorem dX6_totalOf_71 : decode cX6_totalOf 71 = .ok (.goto 4, 3) := dk_167 0 4 (dk_at dksX6_totalOf_3 0 rfl rfl)
theorem dX6_totalOf_74 : decode cX6_totalOf 74 = .ok (.iconst 0, 1) := dk_3 (dk_at dksX6_totalOf_3 3 rfl rfl)
theorem dX6_totalOf_75 : decode cX6_totalOf 75 = .ok (.iadd, 1) := dk_96 (dk_at dksX6_totalOf_3 4 rfl rfl)
theorem dX6_totalOf_76 : decode cX6_totalOf 76 = .ok (.istore 6, 2) := dk_54 6 (dk_at dksX6_totalOf_3 5 rfl rfl)
theorem dX6_totalOf_78 : decode cX6_totalOf 78 = .ok (.iinc 7 1, 3) := dk_132 7 1 (dk_at dksX6_totalOf_3 7 rfl rfl)
theorem dX6_totalOf_81 : decode cX6_totalOf 81 = .ok (.goto (-70), 3) := dk_167 255 186 (dk_at dksX6_totalOf_3 10 rfl rfl)
theorem dX6_totalOf_84 : decode cX6_totalOf 84 = .ok (.lconst 0, 1) := dk_9 (dk_at dksX6_totalOf_3 13 rfl rfl)
theorem dX6_totalOf_85 : decode cX6_totalOf 85 = .ok (.lstore 7, 2) := dk_55 7 (dk_at dksX6_totalOf_3 14 rfl rfl)
theorem dX6_totalOf_87 : decode cX6_totalOf 87 = .ok (.iconst 0, 1) := dk_3 (dk_at dksX6_totalOf_3 16 rfl rfl)
theorem dX6_totalOf_88 : decode cX6_totalOf 88 = .ok (.istore 9, 2) := dk_54 9 (dk_at dksX6_totalOf_3 17 rfl rfl)
theorem dX6_totalOf_90 : decode cX6_totalOf 90 = .ok (.iload 9, 2) := dk_21 9 (dk_at dksX6_totalOf_3 19 rfl rfl)
theorem dX6_totalOf_92 : decode cX6_totalOf 92 = .ok (.aload_n 0, 1) := dk_42 (dk_at dksX6_totalOf_3 21 rfl rfl)
theorem dX6_totalOf_93 : decode cX6_totalOf 93 = .ok (.getfield 84, 3) := dk_180 0 84 (dk_at dksX6_totalOf_4 0 rfl rfl)
theorem dX6_totalOf_96 : decode cX6_totalOf 96 = .ok (.if_icmp .ge 39, 3) := dk_162 0 39 (dk_at dksX6_totalOf_4 3 rfl rfl)
theorem dX6_totalOf_99 : decode cX6_totalOf 99 = .ok (.lload 7, 2) := dk_22 7 (dk_at dksX6_totalOf_4 6 rfl rfl)
theorem dX6_totalOf_101 : decode cX6_totalOf 101 = .ok (.aload_n 0, 1) := dk_42 (dk_at dksX6_totalOf_4 8 rfl rfl)
theorem dX6_totalOf_102 : decode cX6_totalOf 102 = .ok (.getfield 26, 3) := dk_180 0 26 (dk_at dksX6_totalOf_4 9 rfl rfl)
theorem dX6_totalOf_105 : decode cX6_totalOf 105 = .ok (.iload 9, 2) := dk_21 9 (dk_at dksX6_totalOf_4 12 rfl rfl)
theorem dX6_totalOf_107 : decode cX6_totalOf 107 = .ok (.iaload, 1) := dk_46 (dk_at dksX6_totalOf_4 14 rfl rfl)
theorem dX6_totalOf_108 : decode cX6_totalOf 108 = .ok (.aload_n 0, 1) := dk_42 (dk_at dksX6_totalOf_4 15 rfl rfl)
theorem dX6_totalOf_109 : decode cX6_totalOf 109 = .ok (.invokevirtual 110, 3) := dk_182 0 110 (dk_at dksX6_totalOf_4 16 rfl rfl)
theorem dX6_totalOf_112 : decode cX6_totalOf 112 = .ok (.if_icmp .gt 13, 3) := dk_163 0 13 (dk_at dksX6_totalOf_4 19 rfl rfl)
theorem dX6_totalOf_115 : decode cX6_totalOf 115 = .ok (.aload_n 0, 1) := dk_42 (dk_at dksX6_totalOf_4 22 rfl rfl)
theorem dX6_totalOf_116 : decode cX6_totalOf 116 = .ok (.getfield 29, 3) := dk_180 0 29 (dk_at dksX6_totalOf_5 0 rfl rfl)
theorem dX6_totalOf_119 : decode cX6_totalOf 119 = .ok (.iload 9, 2) := dk_21 9 (dk_at dksX6_totalOf_5 3 rfl rfl)
theorem dX6_totalOf_121 : decode cX6_totalOf 121 = .ok (.laload, 1) := dk_47 (dk_at dksX6_totalOf_5 5 rfl rfl)
theorem dX6_totalOf_122 : decode cX6_totalOf 122 = .ok (.goto 4, 3) := dk_167 0 4 (dk_at dksX6_totalOf_5 6 rfl rfl)
theorem dX6_totalOf_125 : decode cX6_totalOf 125 = .ok (.lconst 0, 1) := dk_9 (dk_at dksX6_totalOf_5 9 rfl rfl)
theorem dX6_totalOf_126 : decode cX6_totalOf 126 = .ok (.ladd, 1) := dk_97 (dk_at dksX6_totalOf_5 10 rfl rfl)
theorem dX6_totalOf_127 : decode cX6_totalOf 127 = .ok (.lstore 7, 2) := dk_55 7 (dk_at dksX6_totalOf_5 11 rfl rfl)
theorem dX6_totalOf_129 : decode cX6_totalOf 129 = .ok (.iinc 9 1, 3) := dk_132 9 1 (dk_at dksX6_totalOf_5 13 rfl rfl)
theorem dX6_totalOf_132 : decode cX6_totalOf 132 = .ok (.goto (-42), 3) := dk_167 255 214 (dk_at dksX6_totalOf_5 16 rfl rfl)
theorem dX6_totalOf_135 : decode cX6_totalOf 135 = .ok (.iload_n 1, 1) := dk_27 (dk_at dksX6_totalOf_5 19 rfl rfl)
theorem dX6_totalOf_136 : decode cX6_totalOf 136 = .ok (.tableswitch 84 0 7 #[48, 51, 53, 58, 63, 68, 74, 80], 48) := by decide +kernel
theorem dX6_totalOf_184 : decode cX6_totalOf 184 = .ok (.lload 7, 2) := dk_22 7 (dk_at dksX6_totalOf_7 0 rfl rfl)
theorem dX6_totalOf_186 : decode cX6_totalOf 186 = .ok (.lreturn, 1) := dk_173 (dk_at dksX6_totalOf_7 2 rfl rfl)
theorem dX6_totalOf_187 : decode cX6_totalOf 187 = .ok (.lload_n 2, 1) := dk_32 (dk_at dksX6_totalOf_7 3 rfl rfl)
theorem dX6_totalOf_188 : decode cX6_totalOf 188 = .ok (.lreturn, 1) := dk_173 (dk_at dksX6_totalOf_7 4 rfl rfl)
theorem dX6_totalOf_189 : decode cX6_totalOf 189 = .ok (.aload_n 0, 1) := dk_42 (dk_at dksX6_totalOf_7 5 rfl rfl)
theorem dX6_totalOf_190 : decode cX6_totalOf 190 = .ok (.getfield 107, 3) := dk_180 0 107 (dk_at dksX6_totalOf_7 6 rfl rfl)
theorem dX6_totalOf_193 : decode cX6_totalOf 193 = .ok (.lreturn, 1) := dk_173 (dk_at dksX6_totalOf_7 9 rfl rfl)
theorem dX6_totalOf_194 : decode cX6_totalOf 194 = .ok (.aload_n 0, 1) := dk_42 (dk_at dksX6_totalOf_7 10 rfl rfl)
theorem dX6_totalOf_195 : decode cX6_totalOf 195 = .ok (.getfield 76, 3) := dk_180 0 76 (dk_at dksX6_totalOf_7 11 rfl rfl)
theorem dX6_totalOf_198 : decode cX6_totalOf 198 = .ok (.lreturn, 1) := dk_173 (dk_at dksX6_totalOf_7 14 rfl rfl)
theorem dX6_totalOf_199 : decode cX6_totalOf 199 = .ok (.aload_n 0, 1) := dk_42 (dk_at dksX6_totalOf_7 15 rfl rfl)
theorem dX6_totalOf_200 : decode cX6_totalOf 200 = .ok (.invokevirtual 196, 3) := dk_182 0 196 (dk_at dksX6_totalOf_7 16 rfl rfl)
theorem dX6_totalOf_203 : decode cX6_totalOf 203 = .ok (.lreturn, 1) := dk_173 (dk_at dksX6_totalOf_7 19 rfl rfl)
theorem dX6_totalOf_204 : decode cX6_totalOf 204 = .ok (.aload_n 0, 1) := dk_42 (dk_at dksX6_totalOf_7 20 rfl rfl)
theorem dX6_totalOf_205 : decode cX6_totalOf 205 = .ok (.getfield 70, 3) := dk_180 0 70 (dk_at dksX6_totalOf_7 21 rfl rfl)
theorem dX6_totalOf_208 : decode cX6_totalOf 208 = .ok (.i2l, 1) := dk_133 (dk_at dksX6_totalOf_8 0 rfl rfl)
theorem dX6_totalOf_209 : decode cX6_totalOf 209 = .ok (.lreturn, 1) := dk_173 (dk_at dksX6_totalOf_8 1 rfl rfl)
theorem dX6_totalOf_210 : decode cX6_totalOf 210 = .ok (.aload_n 0, 1) := dk_42 (dk_at dksX6_totalOf_8 2 rfl rfl)
theorem dX6_totalOf_211 : decode cX6_totalOf 211 = .ok (.getfield 73, 3) := dk_180 0 73 (dk_at dksX6_totalOf_8 3 rfl rfl)
theorem dX6_totalOf_214 : decode cX6_totalOf 214 = .ok (.i2l, 1) := dk_133 (dk_at dksX6_totalOf_8 6 rfl rfl)
theorem dX6_totalOf_215 : decode cX6_totalOf 215 = .ok (.lreturn, 1) := dk_173 (dk_at dksX6_totalOf_8 7 rfl rfl)
theorem dX6_totalOf_216 : decode cX6_totalOf 216 = .ok (.iload 6, 2) := dk_21 6 (dk_at dksX6_totalOf_8 8 rfl rfl)
theorem dX6_totalOf_218 : decode cX6_totalOf 218 = .ok (.i2l, 1) := dk_133 (dk_at dksX6_totalOf_8 10 rfl rfl)
theorem dX6_totalOf_219 : decode cX6_totalOf 219 = .ok (.lreturn, 1) := dk_173 (dk_at dksX6_totalOf_8 11 rfl rfl)
theorem dX6_totalOf_220 : decode cX6_totalOf 220 = .ok (.lload 4, 2) := dk_22 4 (dk_at dksX6_totalOf_8 12 rfl rfl)
theorem dX6_totalOf_222 : decode cX6_totalOf 222 = .ok (.lreturn, 1) := dk_173 (dk_at dksX6_totalOf_8 14 rfl rfl)
abbrev cX6_underWay : ByteArray := prog_10_method_16_code
def yX6_underWay : MethodName := ⟨RX6, "underWay", "()J"⟩
def dkwX6_underWay_4 : List UInt8 := [132, 3, 1, 167, 255, 163, 31, 173]
abbrev dktX6_underWay_4 : List UInt8 := dkwX6_underWay_4 ++ []
def dkwX6_underWay_3 : List UInt8 := [17, 0, 201, 29, 4, 96, 104, 21, 4, 96, 47, 97, 167, 0, 4, 9, 97, 64, 132, 4, 1, 167, 255, 180]
abbrev dktX6_underWay_3 : List UInt8 := dkwX6_underWay_3 ++ dktX6_underWay_4
def dkwX6_underWay_2 : List UInt8 := [21, 5, 153, 0, 35, 42, 180, 0, 32, 17, 0, 201, 29, 104, 21, 4, 96, 47, 42, 180, 0, 35]
abbrev dktX6_underWay_2 : List UInt8 := dkwX6_underWay_2 ++ dktX6_underWay_3
def dkwX6_underWay_1 : List UInt8 := [21, 4, 42, 180, 0, 20, 29, 46, 96, 42, 182, 0, 110, 164, 0, 7, 4, 167, 0, 4, 3, 54, 5, 31]
abbrev dktX6_underWay_1 : List UInt8 := dkwX6_underWay_1 ++ dktX6_underWay_2
def dkwX6_underWay_0 : List UInt8 := [9, 64, 3, 62, 29, 42, 180, 0, 79, 162, 0, 91, 3, 54, 4, 21, 4, 42, 182, 0, 110, 163, 0, 73]
abbrev dktX6_underWay_0 : List UInt8 := dkwX6_underWay_0 ++ dktX6_underWay_1
theorem dksX6_underWay_0 : cX6_underWay.data.toList.drop 0 = dktX6_underWay_0 := by decide +kernel
theorem dksX6_underWay_1 : cX6_underWay.data.toList.drop 24 = dktX6_underWay_1 := dk_seg dksX6_underWay_0 24 rfl rfl
theorem dksX6_underWay_2 : cX6_underWay.data.toList.drop 48 = dktX6_underWay_2 := dk_seg dksX6_underWay_1 24 rfl rfl
theorem dksX6_underWay_3 : cX6_underWay.data.toList.drop 70 = dktX6_underWay_3 := dk_seg dksX6_underWay_2 22 rfl rfl
theorem dksX6_underWay_4 : cX6_underWay.data.toList.drop 94 = dktX6_underWay_4 := dk_seg dksX6_underWay_3 24 rfl rfl
theorem dX6_underWay_0 : decode cX6_underWay 0 = .ok (.lconst 0, 1) := dk_9 (dk_at dksX6_underWay_0 0 rfl rfl)
theorem dX6_underWay_1 : decode cX6_underWay 1 = .ok (.lstore_n 1, 1) := dk_64 (dk_at dksX6_underWay_0 1 rfl rfl)
theorem dX6_underWay_2 : decode cX6_underWay 2 = .ok (.iconst 0, 1) := dk_3 (dk_at dksX6_underWay_0 2 rfl rfl)
theorem dX6_underWay_3 : decode cX6_underWay 3 = .ok (.istore_n 3, 1) := dk_62 (dk_at dksX6_underWay_0 3 rfl rfl)
theorem dX6_underWay_4 : decode cX6_underWay 4 = .ok (.iload_n 3, 1) := dk_29 (dk_at dksX6_underWay_0 4 rfl rfl)
theorem dX6_underWay_5 : decode cX6_underWay 5 = .ok (.aload_n 0, 1) := dk_42 (dk_at dksX6_underWay_0 5 rfl rfl)
theorem dX6_underWay_6 : decode cX6_underWay 6 = .ok (.getfield 79, 3) := dk_180 0 79 (dk_at dksX6_underWay_0 6 rfl rfl)
theorem dX6_underWay_9 : decode cX6_underWay 9 = .ok (.if_icmp .ge 91, 3) := dk_162 0 91 (dk_at dksX6_underWay_0 9 rfl rfl)
theorem dX6_underWay_12 : decode cX6_underWay 12 = .ok (.iconst 0, 1) := dk_3 (dk_at dksX6_underWay_0 12 rfl rfl)
theorem dX6_underWay_13 : decode cX6_underWay 13 = .ok (.istore 4, 2) := dk_54 4 (dk_at dksX6_underWay_0 13 rfl rfl)
theorem dX6_underWay_15 : decode cX6_underWay 15 = .ok (.iload 4, 2) := dk_21 4 (dk_at dksX6_underWay_0 15 rfl rfl)
theorem dX6_underWay_17 : decode cX6_underWay 17 = .ok (.aload_n 0, 1) := dk_42 (dk_at dksX6_underWay_0 17 rfl rfl)
theorem dX6_underWay_18 : decode cX6_underWay 18 = .ok (.invokevirtual 110, 3) := dk_182 0 110 (dk_at dksX6_underWay_0 18 rfl rfl)
theorem dX6_underWay_21 : decode cX6_underWay 21 = .ok (.if_icmp .gt 73, 3) := dk_163 0 73 (dk_at dksX6_underWay_0 21 rfl rfl)
theorem dX6_underWay_24 : decode cX6_underWay 24 = .ok (.iload 4, 2) := dk_21 4 (dk_at dksX6_underWay_1 0 rfl rfl)
theorem dX6_underWay_26 : decode cX6_underWay 26 = .ok (.aload_n 0, 1) := dk_42 (dk_at dksX6_underWay_1 2 rfl rfl)
theorem dX6_underWay_27 : decode cX6_underWay 27 = .ok (.getfield 20, 3) := dk_180 0 20 (dk_at dksX6_underWay_1 3 rfl rfl)
theorem dX6_underWay_30 : decode cX6_underWay 30 = .ok (.iload_n 3, 1) := dk_29 (dk_at dksX6_underWay_1 6 rfl rfl)
theorem dX6_underWay_31 : decode cX6_underWay 31 = .ok (.iaload, 1) := dk_46 (dk_at dksX6_underWay_1 7 rfl rfl)
theorem dX6_underWay_32 : decode cX6_underWay 32 = .ok (.iadd, 1) := dk_96 (dk_at dksX6_underWay_1 8 rfl rfl)
theorem dX6_underWay_33 : decode cX6_underWay 33 = .ok (.aload_n 0, 1) := dk_42 (dk_at dksX6_underWay_1 9 rfl rfl)
theorem dX6_underWay_34 : decode cX6_underWay 34 = .ok (.invokevirtual 110, 3) := dk_182 0 110 (dk_at dksX6_underWay_1 10 rfl rfl)
theorem dX6_underWay_37 : decode cX6_underWay 37 = .ok (.if_icmp .le 7, 3) := dk_164 0 7 (dk_at dksX6_underWay_1 13 rfl rfl)
theorem dX6_underWay_40 : decode cX6_underWay 40 = .ok (.iconst 1, 1) := dk_4 (dk_at dksX6_underWay_1 16 rfl rfl)
theorem dX6_underWay_41 : decode cX6_underWay 41 = .ok (.goto 4, 3) := dk_167 0 4 (dk_at dksX6_underWay_1 17 rfl rfl)
theorem dX6_underWay_44 : decode cX6_underWay 44 = .ok (.iconst 0, 1) := dk_3 (dk_at dksX6_underWay_1 20 rfl rfl)
theorem dX6_underWay_45 : decode cX6_underWay 45 = .ok (.istore 5, 2) := dk_54 5 (dk_at dksX6_underWay_1 21 rfl rfl)
theorem dX6_underWay_47 : decode cX6_underWay 47 = .ok (.lload_n 1, 1) := dk_31 (dk_at dksX6_underWay_1 23 rfl rfl)
theorem dX6_underWay_48 : decode cX6_underWay 48 = .ok (.iload 5, 2) := dk_21 5 (dk_at dksX6_underWay_2 0 rfl rfl)
theorem dX6_underWay_50 : decode cX6_underWay 50 = .ok (.ifCond .eq 35, 3) := dk_153 0 35 (dk_at dksX6_underWay_2 2 rfl rfl)
theorem dX6_underWay_53 : decode cX6_underWay 53 = .ok (.aload_n 0, 1) := dk_42 (dk_at dksX6_underWay_2 5 rfl rfl)
theorem dX6_underWay_54 : decode cX6_underWay 54 = .ok (.getfield 32, 3) := dk_180 0 32 (dk_at dksX6_underWay_2 6 rfl rfl)
theorem dX6_underWay_57 : decode cX6_underWay 57 = .ok (.sipush 201, 3) := dk_17 0 201 (dk_at dksX6_underWay_2 9 rfl rfl)
theorem dX6_underWay_60 : decode cX6_underWay 60 = .ok (.iload_n 3, 1) := dk_29 (dk_at dksX6_underWay_2 12 rfl rfl)
theorem dX6_underWay_61 : decode cX6_underWay 61 = .ok (.imul, 1) := dk_104 (dk_at dksX6_underWay_2 13 rfl rfl)
theorem dX6_underWay_62 : decode cX6_underWay 62 = .ok (.iload 4, 2) := dk_21 4 (dk_at dksX6_underWay_2 14 rfl rfl)
theorem dX6_underWay_64 : decode cX6_underWay 64 = .ok (.iadd, 1) := dk_96 (dk_at dksX6_underWay_2 16 rfl rfl)
theorem dX6_underWay_65 : decode cX6_underWay 65 = .ok (.laload, 1) := dk_47 (dk_at dksX6_underWay_2 17 rfl rfl)
theorem dX6_underWay_66 : decode cX6_underWay 66 = .ok (.aload_n 0, 1) := dk_42 (dk_at dksX6_underWay_2 18 rfl rfl)
theorem dX6_underWay_67 : decode cX6_underWay 67 = .ok (.getfield 35, 3) := dk_180 0 35 (dk_at dksX6_underWay_2 19 rfl rfl)
theorem dX6_underWay_70 : decode cX6_underWay 70 = .ok (.sipush 201, 3) := dk_17 0 201 (dk_at dksX6_underWay_3 0 rfl rfl)
theorem dX6_underWay_73 : decode cX6_underWay 73 = .ok (.iload_n 3, 1) := dk_29 (dk_at dksX6_underWay_3 3 rfl rfl)
theorem dX6_underWay_74 : decode cX6_underWay 74 = .ok (.iconst 1, 1) := dk_4 (dk_at dksX6_underWay_3 4 rfl rfl)
theorem dX6_underWay_75 : decode cX6_underWay 75 = .ok (.iadd, 1) := dk_96 (dk_at dksX6_underWay_3 5 rfl rfl)
theorem dX6_underWay_76 : decode cX6_underWay 76 = .ok (.imul, 1) := dk_104 (dk_at dksX6_underWay_3 6 rfl rfl)
theorem dX6_underWay_77 : decode cX6_underWay 77 = .ok (.iload 4, 2) := dk_21 4 (dk_at dksX6_underWay_3 7 rfl rfl)
theorem dX6_underWay_79 : decode cX6_underWay 79 = .ok (.iadd, 1) := dk_96 (dk_at dksX6_underWay_3 9 rfl rfl)
theorem dX6_underWay_80 : decode cX6_underWay 80 = .ok (.laload, 1) := dk_47 (dk_at dksX6_underWay_3 10 rfl rfl)
theorem dX6_underWay_81 : decode cX6_underWay 81 = .ok (.ladd, 1) := dk_97 (dk_at dksX6_underWay_3 11 rfl rfl)
theorem dX6_underWay_82 : decode cX6_underWay 82 = .ok (.goto 4, 3) := dk_167 0 4 (dk_at dksX6_underWay_3 12 rfl rfl)
theorem dX6_underWay_85 : decode cX6_underWay 85 = .ok (.lconst 0, 1) := dk_9 (dk_at dksX6_underWay_3 15 rfl rfl)
theorem dX6_underWay_86 : decode cX6_underWay 86 = .ok (.ladd, 1) := dk_97 (dk_at dksX6_underWay_3 16 rfl rfl)
theorem dX6_underWay_87 : decode cX6_underWay 87 = .ok (.lstore_n 1, 1) := dk_64 (dk_at dksX6_underWay_3 17 rfl rfl)
theorem dX6_underWay_88 : decode cX6_underWay 88 = .ok (.iinc 4 1, 3) := dk_132 4 1 (dk_at dksX6_underWay_3 18 rfl rfl)
theorem dX6_underWay_91 : decode cX6_underWay 91 = .ok (.goto (-76), 3) := dk_167 255 180 (dk_at dksX6_underWay_3 21 rfl rfl)
theorem dX6_underWay_94 : decode cX6_underWay 94 = .ok (.iinc 3 1, 3) := dk_132 3 1 (dk_at dksX6_underWay_4 0 rfl rfl)
theorem dX6_underWay_97 : decode cX6_underWay 97 = .ok (.goto (-93), 3) := dk_167 255 163 (dk_at dksX6_underWay_4 3 rfl rfl)
theorem dX6_underWay_100 : decode cX6_underWay 100 = .ok (.lload_n 1, 1) := dk_31 (dk_at dksX6_underWay_4 6 rfl rfl)
theorem dX6_underWay_101 : decode cX6_underWay 101 = .ok (.lreturn, 1) := dk_173 (dk_at dksX6_underWay_4 7 rfl rfl)
abbrev cX6_arrival : ByteArray := prog_10_method_46_code
def yX6_arrival : MethodName := ⟨RX6, "arrival", "(IIZ)J"⟩
def dkwX6_arrival_2 : List UInt8 := [153, 0, 5, 9, 173, 42, 182, 0, 193, 42, 27, 28, 29, 182, 0, 91, 173]
abbrev dktX6_arrival_2 : List UInt8 := dkwX6_arrival_2 ++ []
def dkwX6_arrival_1 : List UInt8 := [182, 0, 110, 133, 184, 0, 59, 153, 0, 7, 3, 167, 0, 4, 5, 181, 0, 48, 42, 180, 0, 48]
abbrev dktX6_arrival_1 : List UInt8 := dkwX6_arrival_1 ++ dktX6_arrival_2
def dkwX6_arrival_0 : List UInt8 := [42, 27, 133, 9, 42, 182, 0, 55, 133, 184, 0, 59, 154, 0, 7, 4, 167, 0, 22, 28, 133, 9, 42]
abbrev dktX6_arrival_0 : List UInt8 := dkwX6_arrival_0 ++ dktX6_arrival_1
theorem dksX6_arrival_0 : cX6_arrival.data.toList.drop 0 = dktX6_arrival_0 := by decide +kernel
theorem dksX6_arrival_1 : cX6_arrival.data.toList.drop 23 = dktX6_arrival_1 := dk_seg dksX6_arrival_0 23 rfl rfl
theorem dksX6_arrival_2 : cX6_arrival.data.toList.drop 45 = dktX6_arrival_2 := dk_seg dksX6_arrival_1 22 rfl rfl
theorem dX6_arrival_0 : decode cX6_arrival 0 = .ok (.aload_n 0, 1) := dk_42 (dk_at dksX6_arrival_0 0 rfl rfl)
theorem dX6_arrival_1 : decode cX6_arrival 1 = .ok (.iload_n 1, 1) := dk_27 (dk_at dksX6_arrival_0 1 rfl rfl)
theorem dX6_arrival_2 : decode cX6_arrival 2 = .ok (.i2l, 1) := dk_133 (dk_at dksX6_arrival_0 2 rfl rfl)
theorem dX6_arrival_3 : decode cX6_arrival 3 = .ok (.lconst 0, 1) := dk_9 (dk_at dksX6_arrival_0 3 rfl rfl)
theorem dX6_arrival_4 : decode cX6_arrival 4 = .ok (.aload_n 0, 1) := dk_42 (dk_at dksX6_arrival_0 4 rfl rfl)
theorem dX6_arrival_5 : decode cX6_arrival 5 = .ok (.invokevirtual 55, 3) := dk_182 0 55 (dk_at dksX6_arrival_0 5 rfl rfl)
theorem dX6_arrival_8 : decode cX6_arrival 8 = .ok (.i2l, 1) := dk_133 (dk_at dksX6_arrival_0 8 rfl rfl)
theorem dX6_arrival_9 : decode cX6_arrival 9 = .ok (.invokestatic 59, 3) := dk_184 0 59 (dk_at dksX6_arrival_0 9 rfl rfl)
theorem dX6_arrival_12 : decode cX6_arrival 12 = .ok (.ifCond .ne 7, 3) := dk_154 0 7 (dk_at dksX6_arrival_0 12 rfl rfl)
theorem dX6_arrival_15 : decode cX6_arrival 15 = .ok (.iconst 1, 1) := dk_4 (dk_at dksX6_arrival_0 15 rfl rfl)
theorem dX6_arrival_16 : decode cX6_arrival 16 = .ok (.goto 22, 3) := dk_167 0 22 (dk_at dksX6_arrival_0 16 rfl rfl)
theorem dX6_arrival_19 : decode cX6_arrival 19 = .ok (.iload_n 2, 1) := dk_28 (dk_at dksX6_arrival_0 19 rfl rfl)
theorem dX6_arrival_20 : decode cX6_arrival 20 = .ok (.i2l, 1) := dk_133 (dk_at dksX6_arrival_0 20 rfl rfl)
theorem dX6_arrival_21 : decode cX6_arrival 21 = .ok (.lconst 0, 1) := dk_9 (dk_at dksX6_arrival_0 21 rfl rfl)
theorem dX6_arrival_22 : decode cX6_arrival 22 = .ok (.aload_n 0, 1) := dk_42 (dk_at dksX6_arrival_0 22 rfl rfl)
theorem dX6_arrival_23 : decode cX6_arrival 23 = .ok (.invokevirtual 110, 3) := dk_182 0 110 (dk_at dksX6_arrival_1 0 rfl rfl)
theorem dX6_arrival_26 : decode cX6_arrival 26 = .ok (.i2l, 1) := dk_133 (dk_at dksX6_arrival_1 3 rfl rfl)
theorem dX6_arrival_27 : decode cX6_arrival 27 = .ok (.invokestatic 59, 3) := dk_184 0 59 (dk_at dksX6_arrival_1 4 rfl rfl)
theorem dX6_arrival_30 : decode cX6_arrival 30 = .ok (.ifCond .eq 7, 3) := dk_153 0 7 (dk_at dksX6_arrival_1 7 rfl rfl)
theorem dX6_arrival_33 : decode cX6_arrival 33 = .ok (.iconst 0, 1) := dk_3 (dk_at dksX6_arrival_1 10 rfl rfl)
theorem dX6_arrival_34 : decode cX6_arrival 34 = .ok (.goto 4, 3) := dk_167 0 4 (dk_at dksX6_arrival_1 11 rfl rfl)
theorem dX6_arrival_37 : decode cX6_arrival 37 = .ok (.iconst 2, 1) := dk_5 (dk_at dksX6_arrival_1 14 rfl rfl)
theorem dX6_arrival_38 : decode cX6_arrival 38 = .ok (.putfield 48, 3) := dk_181 0 48 (dk_at dksX6_arrival_1 15 rfl rfl)
theorem dX6_arrival_41 : decode cX6_arrival 41 = .ok (.aload_n 0, 1) := dk_42 (dk_at dksX6_arrival_1 18 rfl rfl)
theorem dX6_arrival_42 : decode cX6_arrival 42 = .ok (.getfield 48, 3) := dk_180 0 48 (dk_at dksX6_arrival_1 19 rfl rfl)
theorem dX6_arrival_45 : decode cX6_arrival 45 = .ok (.ifCond .eq 5, 3) := dk_153 0 5 (dk_at dksX6_arrival_2 0 rfl rfl)
theorem dX6_arrival_48 : decode cX6_arrival 48 = .ok (.lconst 0, 1) := dk_9 (dk_at dksX6_arrival_2 3 rfl rfl)
theorem dX6_arrival_49 : decode cX6_arrival 49 = .ok (.lreturn, 1) := dk_173 (dk_at dksX6_arrival_2 4 rfl rfl)
theorem dX6_arrival_50 : decode cX6_arrival 50 = .ok (.aload_n 0, 1) := dk_42 (dk_at dksX6_arrival_2 5 rfl rfl)
theorem dX6_arrival_51 : decode cX6_arrival 51 = .ok (.invokevirtual 193, 3) := dk_182 0 193 (dk_at dksX6_arrival_2 6 rfl rfl)
theorem dX6_arrival_54 : decode cX6_arrival 54 = .ok (.aload_n 0, 1) := dk_42 (dk_at dksX6_arrival_2 9 rfl rfl)
theorem dX6_arrival_55 : decode cX6_arrival 55 = .ok (.iload_n 1, 1) := dk_27 (dk_at dksX6_arrival_2 10 rfl rfl)
theorem dX6_arrival_56 : decode cX6_arrival 56 = .ok (.iload_n 2, 1) := dk_28 (dk_at dksX6_arrival_2 11 rfl rfl)
theorem dX6_arrival_57 : decode cX6_arrival 57 = .ok (.iload_n 3, 1) := dk_29 (dk_at dksX6_arrival_2 12 rfl rfl)
theorem dX6_arrival_58 : decode cX6_arrival 58 = .ok (.invokevirtual 91, 3) := dk_182 0 91 (dk_at dksX6_arrival_2 13 rfl rfl)
theorem dX6_arrival_61 : decode cX6_arrival 61 = .ok (.lreturn, 1) := dk_173 (dk_at dksX6_arrival_2 16 rfl rfl)
abbrev cX6_echoByte : ByteArray := prog_10_method_49_code
def yX6_echoByte : MethodName := ⟨RX6, "echoByte", "(I)I"⟩
def dkwX6_echoByte_6 : List UInt8 := [132, 3, 1, 167, 255, 144, 2, 172]
abbrev dktX6_echoByte_6 : List UInt8 := dkwX6_echoByte_6 ++ []
def dkwX6_echoByte_5 : List UInt8 := [21, 4, 4, 96, 21, 5, 96, 160, 0, 6, 16, 59, 172, 28, 21, 4, 21, 5, 96, 5, 96, 100, 61]
abbrev dktX6_echoByte_5 : List UInt8 := dkwX6_echoByte_5 ++ dktX6_echoByte_6
def dkwX6_echoByte_4 : List UInt8 := [21, 5, 96, 162, 0, 19, 42, 180, 0, 38, 29, 47, 28, 21, 4, 100, 4, 100, 184, 0, 211, 172, 28]
abbrev dktX6_echoByte_4 : List UInt8 := dkwX6_echoByte_4 ++ dktX6_echoByte_5
def dkwX6_echoByte_3 : List UInt8 := [162, 0, 10, 29, 133, 28, 184, 0, 211, 172, 28, 21, 4, 160, 0, 6, 16, 58, 172, 28, 21, 4, 4, 96]
abbrev dktX6_echoByte_3 : List UInt8 := dkwX6_echoByte_3 ++ dktX6_echoByte_4
def dkwX6_echoByte_2 : List UInt8 := [158, 0, 94, 29, 133, 184, 0, 207, 54, 4, 42, 180, 0, 38, 29, 47, 184, 0, 207, 54, 5, 28, 21, 4]
abbrev dktX6_echoByte_2 : List UInt8 := dkwX6_echoByte_2 ++ dktX6_echoByte_3
def dkwX6_echoByte_1 : List UInt8 := [182, 0, 193, 27, 61, 3, 62, 29, 17, 0, 201, 162, 0, 111, 42, 180, 0, 38, 29, 47, 9, 148]
abbrev dktX6_echoByte_1 : List UInt8 := dkwX6_echoByte_1 ++ dktX6_echoByte_2
def dkwX6_echoByte_0 : List UInt8 := [42, 27, 156, 0, 7, 4, 167, 0, 4, 3, 181, 0, 48, 42, 180, 0, 48, 153, 0, 5, 3, 172, 42]
abbrev dktX6_echoByte_0 : List UInt8 := dkwX6_echoByte_0 ++ dktX6_echoByte_1
theorem dksX6_echoByte_0 : cX6_echoByte.data.toList.drop 0 = dktX6_echoByte_0 := by decide +kernel
theorem dksX6_echoByte_1 : cX6_echoByte.data.toList.drop 23 = dktX6_echoByte_1 := dk_seg dksX6_echoByte_0 23 rfl rfl
theorem dksX6_echoByte_2 : cX6_echoByte.data.toList.drop 45 = dktX6_echoByte_2 := dk_seg dksX6_echoByte_1 22 rfl rfl
theorem dksX6_echoByte_3 : cX6_echoByte.data.toList.drop 69 = dktX6_echoByte_3 := dk_seg dksX6_echoByte_2 24 rfl rfl
theorem dksX6_echoByte_4 : cX6_echoByte.data.toList.drop 93 = dktX6_echoByte_4 := dk_seg dksX6_echoByte_3 24 rfl rfl
theorem dksX6_echoByte_5 : cX6_echoByte.data.toList.drop 116 = dktX6_echoByte_5 := dk_seg dksX6_echoByte_4 23 rfl rfl
theorem dksX6_echoByte_6 : cX6_echoByte.data.toList.drop 139 = dktX6_echoByte_6 := dk_seg dksX6_echoByte_5 23 rfl rfl
theorem dX6_echoByte_0 : decode cX6_echoByte 0 = .ok (.aload_n 0, 1) := dk_42 (dk_at dksX6_echoByte_0 0 rfl rfl)
theorem dX6_echoByte_1 : decode cX6_echoByte 1 = .ok (.iload_n 1, 1) := dk_27 (dk_at dksX6_echoByte_0 1 rfl rfl)
theorem dX6_echoByte_2 : decode cX6_echoByte 2 = .ok (.ifCond .ge 7, 3) := dk_156 0 7 (dk_at dksX6_echoByte_0 2 rfl rfl)
theorem dX6_echoByte_5 : decode cX6_echoByte 5 = .ok (.iconst 1, 1) := dk_4 (dk_at dksX6_echoByte_0 5 rfl rfl)
theorem dX6_echoByte_6 : decode cX6_echoByte 6 = .ok (.goto 4, 3) := dk_167 0 4 (dk_at dksX6_echoByte_0 6 rfl rfl)
theorem dX6_echoByte_9 : decode cX6_echoByte 9 = .ok (.iconst 0, 1) := dk_3 (dk_at dksX6_echoByte_0 9 rfl rfl)
theorem dX6_echoByte_10 : decode cX6_echoByte 10 = .ok (.putfield 48, 3) := dk_181 0 48 (dk_at dksX6_echoByte_0 10 rfl rfl)
theorem dX6_echoByte_13 : decode cX6_echoByte 13 = .ok (.aload_n 0, 1) := dk_42 (dk_at dksX6_echoByte_0 13 rfl rfl)
theorem dX6_echoByte_14 : decode cX6_echoByte 14 = .ok (.getfield 48, 3) := dk_180 0 48 (dk_at dksX6_echoByte_0 14 rfl rfl)
theorem dX6_echoByte_17 : decode cX6_echoByte 17 = .ok (.ifCond .eq 5, 3) := dk_153 0 5 (dk_at dksX6_echoByte_0 17 rfl rfl)
theorem dX6_echoByte_20 : decode cX6_echoByte 20 = .ok (.iconst 0, 1) := dk_3 (dk_at dksX6_echoByte_0 20 rfl rfl)
theorem dX6_echoByte_21 : decode cX6_echoByte 21 = .ok (.ireturn, 1) := dk_172 (dk_at dksX6_echoByte_0 21 rfl rfl)
theorem dX6_echoByte_22 : decode cX6_echoByte 22 = .ok (.aload_n 0, 1) := dk_42 (dk_at dksX6_echoByte_0 22 rfl rfl)
theorem dX6_echoByte_23 : decode cX6_echoByte 23 = .ok (.invokevirtual 193, 3) := dk_182 0 193 (dk_at dksX6_echoByte_1 0 rfl rfl)
theorem dX6_echoByte_26 : decode cX6_echoByte 26 = .ok (.iload_n 1, 1) := dk_27 (dk_at dksX6_echoByte_1 3 rfl rfl)
theorem dX6_echoByte_27 : decode cX6_echoByte 27 = .ok (.istore_n 2, 1) := dk_61 (dk_at dksX6_echoByte_1 4 rfl rfl)
theorem dX6_echoByte_28 : decode cX6_echoByte 28 = .ok (.iconst 0, 1) := dk_3 (dk_at dksX6_echoByte_1 5 rfl rfl)
theorem dX6_echoByte_29 : decode cX6_echoByte 29 = .ok (.istore_n 3, 1) := dk_62 (dk_at dksX6_echoByte_1 6 rfl rfl)
theorem dX6_echoByte_30 : decode cX6_echoByte 30 = .ok (.iload_n 3, 1) := dk_29 (dk_at dksX6_echoByte_1 7 rfl rfl)
theorem dX6_echoByte_31 : decode cX6_echoByte 31 = .ok (.sipush 201, 3) := dk_17 0 201 (dk_at dksX6_echoByte_1 8 rfl rfl)
theorem dX6_echoByte_34 : decode cX6_echoByte 34 = .ok (.if_icmp .ge 111, 3) := dk_162 0 111 (dk_at dksX6_echoByte_1 11 rfl rfl)
theorem dX6_echoByte_37 : decode cX6_echoByte 37 = .ok (.aload_n 0, 1) := dk_42 (dk_at dksX6_echoByte_1 14 rfl rfl)
theorem dX6_echoByte_38 : decode cX6_echoByte 38 = .ok (.getfield 38, 3) := dk_180 0 38 (dk_at dksX6_echoByte_1 15 rfl rfl)
theorem dX6_echoByte_41 : decode cX6_echoByte 41 = .ok (.iload_n 3, 1) := dk_29 (dk_at dksX6_echoByte_1 18 rfl rfl)
theorem dX6_echoByte_42 : decode cX6_echoByte 42 = .ok (.laload, 1) := dk_47 (dk_at dksX6_echoByte_1 19 rfl rfl)
theorem dX6_echoByte_43 : decode cX6_echoByte 43 = .ok (.lconst 0, 1) := dk_9 (dk_at dksX6_echoByte_1 20 rfl rfl)
theorem dX6_echoByte_44 : decode cX6_echoByte 44 = .ok (.lcmp, 1) := dk_148 (dk_at dksX6_echoByte_1 21 rfl rfl)
theorem dX6_echoByte_45 : decode cX6_echoByte 45 = .ok (.ifCond .le 94, 3) := dk_158 0 94 (dk_at dksX6_echoByte_2 0 rfl rfl)
theorem dX6_echoByte_48 : decode cX6_echoByte 48 = .ok (.iload_n 3, 1) := dk_29 (dk_at dksX6_echoByte_2 3 rfl rfl)
theorem dX6_echoByte_49 : decode cX6_echoByte 49 = .ok (.i2l, 1) := dk_133 (dk_at dksX6_echoByte_2 4 rfl rfl)
theorem dX6_echoByte_50 : decode cX6_echoByte 50 = .ok (.invokestatic 207, 3) := dk_184 0 207 (dk_at dksX6_echoByte_2 5 rfl rfl)
theorem dX6_echoByte_53 : decode cX6_echoByte 53 = .ok (.istore 4, 2) := dk_54 4 (dk_at dksX6_echoByte_2 8 rfl rfl)
theorem dX6_echoByte_55 : decode cX6_echoByte 55 = .ok (.aload_n 0, 1) := dk_42 (dk_at dksX6_echoByte_2 10 rfl rfl)
theorem dX6_echoByte_56 : decode cX6_echoByte 56 = .ok (.getfield 38, 3) := dk_180 0 38 (dk_at dksX6_echoByte_2 11 rfl rfl)
theorem dX6_echoByte_59 : decode cX6_echoByte 59 = .ok (.iload_n 3, 1) := dk_29 (dk_at dksX6_echoByte_2 14 rfl rfl)
theorem dX6_echoByte_60 : decode cX6_echoByte 60 = .ok (.laload, 1) := dk_47 (dk_at dksX6_echoByte_2 15 rfl rfl)
theorem dX6_echoByte_61 : decode cX6_echoByte 61 = .ok (.invokestatic 207, 3) := dk_184 0 207 (dk_at dksX6_echoByte_2 16 rfl rfl)
theorem dX6_echoByte_64 : decode cX6_echoByte 64 = .ok (.istore 5, 2) := dk_54 5 (dk_at dksX6_echoByte_2 19 rfl rfl)
theorem dX6_echoByte_66 : decode cX6_echoByte 66 = .ok (.iload_n 2, 1) := dk_28 (dk_at dksX6_echoByte_2 21 rfl rfl)
theorem dX6_echoByte_67 : decode cX6_echoByte 67 = .ok (.iload 4, 2) := dk_21 4 (dk_at dksX6_echoByte_2 22 rfl rfl)
theorem dX6_echoByte_69 : decode cX6_echoByte 69 = .ok (.if_icmp .ge 10, 3) := dk_162 0 10 (dk_at dksX6_echoByte_3 0 rfl rfl)
theorem dX6_echoByte_72 : decode cX6_echoByte 72 = .ok (.iload_n 3, 1) := dk_29 (dk_at dksX6_echoByte_3 3 rfl rfl)
theorem dX6_echoByte_73 : decode cX6_echoByte 73 = .ok (.i2l, 1) := dk_133 (dk_at dksX6_echoByte_3 4 rfl rfl)
theorem dX6_echoByte_74 : decode cX6_echoByte 74 = .ok (.iload_n 2, 1) := dk_28 (dk_at dksX6_echoByte_3 5 rfl rfl)
theorem dX6_echoByte_75 : decode cX6_echoByte 75 = .ok (.invokestatic 211, 3) := dk_184 0 211 (dk_at dksX6_echoByte_3 6 rfl rfl)
theorem dX6_echoByte_78 : decode cX6_echoByte 78 = .ok (.ireturn, 1) := dk_172 (dk_at dksX6_echoByte_3 9 rfl rfl)
theorem dX6_echoByte_79 : decode cX6_echoByte 79 = .ok (.iload_n 2, 1) := dk_28 (dk_at dksX6_echoByte_3 10 rfl rfl)
theorem dX6_echoByte_80 : decode cX6_echoByte 80 = .ok (.iload 4, 2) := dk_21 4 (dk_at dksX6_echoByte_3 11 rfl rfl)
theorem dX6_echoByte_82 : decode cX6_echoByte 82 = .ok (.if_icmp .ne 6, 3) := dk_160 0 6 (dk_at dksX6_echoByte_3 13 rfl rfl)
theorem dX6_echoByte_85 : decode cX6_echoByte 85 = .ok (.bipush 58, 2) := dk_16 58 (dk_at dksX6_echoByte_3 16 rfl rfl)
theorem dX6_echoByte_87 : decode cX6_echoByte 87 = .ok (.ireturn, 1) := dk_172 (dk_at dksX6_echoByte_3 18 rfl rfl)
theorem dX6_echoByte_88 : decode cX6_echoByte 88 = .ok (.iload_n 2, 1) := dk_28 (dk_at dksX6_echoByte_3 19 rfl rfl)
theorem dX6_echoByte_89 : decode cX6_echoByte 89 = .ok (.iload 4, 2) := dk_21 4 (dk_at dksX6_echoByte_3 20 rfl rfl)
theorem dX6_echoByte_91 : decode cX6_echoByte 91 = .ok (.iconst 1, 1) := dk_4 (dk_at dksX6_echoByte_3 22 rfl rfl)
theorem dX6_echoByte_92 : decode cX6_echoByte 92 = .ok (.iadd, 1) := dk_96 (dk_at dksX6_echoByte_3 23 rfl rfl)
theorem dX6_echoByte_93 : decode cX6_echoByte 93 = .ok (.iload 5, 2) := dk_21 5 (dk_at dksX6_echoByte_4 0 rfl rfl)
theorem dX6_echoByte_95 : decode cX6_echoByte 95 = .ok (.iadd, 1) := dk_96 (dk_at dksX6_echoByte_4 2 rfl rfl)
theorem dX6_echoByte_96 : decode cX6_echoByte 96 = .ok (.if_icmp .ge 19, 3) := dk_162 0 19 (dk_at dksX6_echoByte_4 3 rfl rfl)
theorem dX6_echoByte_99 : decode cX6_echoByte 99 = .ok (.aload_n 0, 1) := dk_42 (dk_at dksX6_echoByte_4 6 rfl rfl)
theorem dX6_echoByte_100 : decode cX6_echoByte 100 = .ok (.getfield 38, 3) := dk_180 0 38 (dk_at dksX6_echoByte_4 7 rfl rfl)
theorem dX6_echoByte_103 : decode cX6_echoByte 103 = .ok (.iload_n 3, 1) := dk_29 (dk_at dksX6_echoByte_4 10 rfl rfl)
theorem dX6_echoByte_104 : decode cX6_echoByte 104 = .ok (.laload, 1) := dk_47 (dk_at dksX6_echoByte_4 11 rfl rfl)
theorem dX6_echoByte_105 : decode cX6_echoByte 105 = .ok (.iload_n 2, 1) := dk_28 (dk_at dksX6_echoByte_4 12 rfl rfl)
theorem dX6_echoByte_106 : decode cX6_echoByte 106 = .ok (.iload 4, 2) := dk_21 4 (dk_at dksX6_echoByte_4 13 rfl rfl)
theorem dX6_echoByte_108 : decode cX6_echoByte 108 = .ok (.isub, 1) := dk_100 (dk_at dksX6_echoByte_4 15 rfl rfl)
theorem dX6_echoByte_109 : decode cX6_echoByte 109 = .ok (.iconst 1, 1) := dk_4 (dk_at dksX6_echoByte_4 16 rfl rfl)
theorem dX6_echoByte_110 : decode cX6_echoByte 110 = .ok (.isub, 1) := dk_100 (dk_at dksX6_echoByte_4 17 rfl rfl)
theorem dX6_echoByte_111 : decode cX6_echoByte 111 = .ok (.invokestatic 211, 3) := dk_184 0 211 (dk_at dksX6_echoByte_4 18 rfl rfl)
theorem dX6_echoByte_114 : decode cX6_echoByte 114 = .ok (.ireturn, 1) := dk_172 (dk_at dksX6_echoByte_4 21 rfl rfl)
theorem dX6_echoByte_115 : decode cX6_echoByte 115 = .ok (.iload_n 2, 1) := dk_28 (dk_at dksX6_echoByte_4 22 rfl rfl)
theorem dX6_echoByte_116 : decode cX6_echoByte 116 = .ok (.iload 4, 2) := dk_21 4 (dk_at dksX6_echoByte_5 0 rfl rfl)
theorem dX6_echoByte_118 : decode cX6_echoByte 118 = .ok (.iconst 1, 1) := dk_4 (dk_at dksX6_echoByte_5 2 rfl rfl)
theorem dX6_echoByte_119 : decode cX6_echoByte 119 = .ok (.iadd, 1) := dk_96 (dk_at dksX6_echoByte_5 3 rfl rfl)
theorem dX6_echoByte_120 : decode cX6_echoByte 120 = .ok (.iload 5, 2) := dk_21 5 (dk_at dksX6_echoByte_5 4 rfl rfl)
theorem dX6_echoByte_122 : decode cX6_echoByte 122 = .ok (.iadd, 1) := dk_96 (dk_at dksX6_echoByte_5 6 rfl rfl)
theorem dX6_echoByte_123 : decode cX6_echoByte 123 = .ok (.if_icmp .ne 6, 3) := dk_160 0 6 (dk_at dksX6_echoByte_5 7 rfl rfl)
theorem dX6_echoByte_126 : decode cX6_echoByte 126 = .ok (.bipush 59, 2) := dk_16 59 (dk_at dksX6_echoByte_5 10 rfl rfl)
theorem dX6_echoByte_128 : decode cX6_echoByte 128 = .ok (.ireturn, 1) := dk_172 (dk_at dksX6_echoByte_5 12 rfl rfl)
theorem dX6_echoByte_129 : decode cX6_echoByte 129 = .ok (.iload_n 2, 1) := dk_28 (dk_at dksX6_echoByte_5 13 rfl rfl)
theorem dX6_echoByte_130 : decode cX6_echoByte 130 = .ok (.iload 4, 2) := dk_21 4 (dk_at dksX6_echoByte_5 14 rfl rfl)
theorem dX6_echoByte_132 : decode cX6_echoByte 132 = .ok (.iload 5, 2) := dk_21 5 (dk_at dksX6_echoByte_5 16 rfl rfl)
theorem dX6_echoByte_134 : decode cX6_echoByte 134 = .ok (.iadd, 1) := dk_96 (dk_at dksX6_echoByte_5 18 rfl rfl)
theorem dX6_echoByte_135 : decode cX6_echoByte 135 = .ok (.iconst 2, 1) := dk_5 (dk_at dksX6_echoByte_5 19 rfl rfl)
theorem dX6_echoByte_136 : decode cX6_echoByte 136 = .ok (.iadd, 1) := dk_96 (dk_at dksX6_echoByte_5 20 rfl rfl)
theorem dX6_echoByte_137 : decode cX6_echoByte 137 = .ok (.isub, 1) := dk_100 (dk_at dksX6_echoByte_5 21 rfl rfl)
theorem dX6_echoByte_138 : decode cX6_echoByte 138 = .ok (.istore_n 2, 1) := dk_61 (dk_at dksX6_echoByte_5 22 rfl rfl)
theorem dX6_echoByte_139 : decode cX6_echoByte 139 = .ok (.iinc 3 1, 3) := dk_132 3 1 (dk_at dksX6_echoByte_6 0 rfl rfl)
theorem dX6_echoByte_142 : decode cX6_echoByte 142 = .ok (.goto (-112), 3) := dk_167 255 144 (dk_at dksX6_echoByte_6 3 rfl rfl)
theorem dX6_echoByte_145 : decode cX6_echoByte 145 = .ok (.iconst (-1), 1) := dk_2 (dk_at dksX6_echoByte_6 6 rfl rfl)
theorem dX6_echoByte_146 : decode cX6_echoByte 146 = .ok (.ireturn, 1) := dk_172 (dk_at dksX6_echoByte_6 7 rfl rfl)
abbrev cX6_digits : ByteArray := prog_10_method_47_code
def yX6_digits : MethodName := ⟨RX6, "digits", "(J)I"⟩
def dkwX6_digits_1 : List UInt8 := [167, 255, 241, 28, 172]
abbrev dktX6_digits_1 : List UInt8 := dkwX6_digits_1 ++ []
def dkwX6_digits_0 : List UInt8 := [4, 61, 30, 20, 0, 205, 109, 66, 33, 9, 148, 158, 0, 15, 132, 2, 1, 33, 20, 0, 205, 109, 66]
abbrev dktX6_digits_0 : List UInt8 := dkwX6_digits_0 ++ dktX6_digits_1
theorem dksX6_digits_0 : cX6_digits.data.toList.drop 0 = dktX6_digits_0 := by decide +kernel
theorem dksX6_digits_1 : cX6_digits.data.toList.drop 23 = dktX6_digits_1 := dk_seg dksX6_digits_0 23 rfl rfl
theorem dX6_digits_0 : decode cX6_digits 0 = .ok (.iconst 1, 1) := dk_4 (dk_at dksX6_digits_0 0 rfl rfl)
theorem dX6_digits_1 : decode cX6_digits 1 = .ok (.istore_n 2, 1) := dk_61 (dk_at dksX6_digits_0 1 rfl rfl)
theorem dX6_digits_2 : decode cX6_digits 2 = .ok (.lload_n 0, 1) := dk_30 (dk_at dksX6_digits_0 2 rfl rfl)
theorem dX6_digits_3 : decode cX6_digits 3 = .ok (.ldc2_w 205, 3) := dk_20 0 205 (dk_at dksX6_digits_0 3 rfl rfl)
theorem dX6_digits_6 : decode cX6_digits 6 = .ok (.ldiv, 1) := dk_109 (dk_at dksX6_digits_0 6 rfl rfl)
theorem dX6_digits_7 : decode cX6_digits 7 = .ok (.lstore_n 3, 1) := dk_66 (dk_at dksX6_digits_0 7 rfl rfl)
theorem dX6_digits_8 : decode cX6_digits 8 = .ok (.lload_n 3, 1) := dk_33 (dk_at dksX6_digits_0 8 rfl rfl)
theorem dX6_digits_9 : decode cX6_digits 9 = .ok (.lconst 0, 1) := dk_9 (dk_at dksX6_digits_0 9 rfl rfl)
theorem dX6_digits_10 : decode cX6_digits 10 = .ok (.lcmp, 1) := dk_148 (dk_at dksX6_digits_0 10 rfl rfl)
theorem dX6_digits_11 : decode cX6_digits 11 = .ok (.ifCond .le 15, 3) := dk_158 0 15 (dk_at dksX6_digits_0 11 rfl rfl)
theorem dX6_digits_14 : decode cX6_digits 14 = .ok (.iinc 2 1, 3) := dk_132 2 1 (dk_at dksX6_digits_0 14 rfl rfl)
theorem dX6_digits_17 : decode cX6_digits 17 = .ok (.lload_n 3, 1) := dk_33 (dk_at dksX6_digits_0 17 rfl rfl)
theorem dX6_digits_18 : decode cX6_digits 18 = .ok (.ldc2_w 205, 3) := dk_20 0 205 (dk_at dksX6_digits_0 18 rfl rfl)
theorem dX6_digits_21 : decode cX6_digits 21 = .ok (.ldiv, 1) := dk_109 (dk_at dksX6_digits_0 21 rfl rfl)
theorem dX6_digits_22 : decode cX6_digits 22 = .ok (.lstore_n 3, 1) := dk_66 (dk_at dksX6_digits_0 22 rfl rfl)
theorem dX6_digits_23 : decode cX6_digits 23 = .ok (.goto (-15), 3) := dk_167 255 241 (dk_at dksX6_digits_1 0 rfl rfl)
theorem dX6_digits_26 : decode cX6_digits 26 = .ok (.iload_n 2, 1) := dk_28 (dk_at dksX6_digits_1 3 rfl rfl)
theorem dX6_digits_27 : decode cX6_digits 27 = .ok (.ireturn, 1) := dk_172 (dk_at dksX6_digits_1 4 rfl rfl)
abbrev cX6_digitOf : ByteArray := prog_10_method_48_code
def yX6_digitOf : MethodName := ⟨RX6, "digitOf", "(JI)I"⟩
def dkwX6_digitOf_1 : List UInt8 := [132, 5, 255, 167, 255, 241, 33, 20, 0, 205, 113, 136, 16, 48, 96, 172]
abbrev dktX6_digitOf_1 : List UInt8 := dkwX6_digitOf_1 ++ []
def dkwX6_digitOf_0 : List UInt8 := [30, 66, 30, 184, 0, 207, 4, 100, 54, 5, 21, 5, 28, 164, 0, 15, 33, 20, 0, 205, 109, 66]
abbrev dktX6_digitOf_0 : List UInt8 := dkwX6_digitOf_0 ++ dktX6_digitOf_1
theorem dksX6_digitOf_0 : cX6_digitOf.data.toList.drop 0 = dktX6_digitOf_0 := by decide +kernel
theorem dksX6_digitOf_1 : cX6_digitOf.data.toList.drop 22 = dktX6_digitOf_1 := dk_seg dksX6_digitOf_0 22 rfl rfl
theorem dX6_digitOf_0 : decode cX6_digitOf 0 = .ok (.lload_n 0, 1) := dk_30 (dk_at dksX6_digitOf_0 0 rfl rfl)
theorem dX6_digitOf_1 : decode cX6_digitOf 1 = .ok (.lstore_n 3, 1) := dk_66 (dk_at dksX6_digitOf_0 1 rfl rfl)
theorem dX6_digitOf_2 : decode cX6_digitOf 2 = .ok (.lload_n 0, 1) := dk_30 (dk_at dksX6_digitOf_0 2 rfl rfl)
theorem dX6_digitOf_3 : decode cX6_digitOf 3 = .ok (.invokestatic 207, 3) := dk_184 0 207 (dk_at dksX6_digitOf_0 3 rfl rfl)
theorem dX6_digitOf_6 : decode cX6_digitOf 6 = .ok (.iconst 1, 1) := dk_4 (dk_at dksX6_digitOf_0 6 rfl rfl)
theorem dX6_digitOf_7 : decode cX6_digitOf 7 = .ok (.isub, 1) := dk_100 (dk_at dksX6_digitOf_0 7 rfl rfl)
theorem dX6_digitOf_8 : decode cX6_digitOf 8 = .ok (.istore 5, 2) := dk_54 5 (dk_at dksX6_digitOf_0 8 rfl rfl)
theorem dX6_digitOf_10 : decode cX6_digitOf 10 = .ok (.iload 5, 2) := dk_21 5 (dk_at dksX6_digitOf_0 10 rfl rfl)
theorem dX6_digitOf_12 : decode cX6_digitOf 12 = .ok (.iload_n 2, 1) := dk_28 (dk_at dksX6_digitOf_0 12 rfl rfl)
theorem dX6_digitOf_13 : decode cX6_digitOf 13 = .ok (.if_icmp .le 15, 3) := dk_164 0 15 (dk_at dksX6_digitOf_0 13 rfl rfl)
theorem dX6_digitOf_16 : decode cX6_digitOf 16 = .ok (.lload_n 3, 1) := dk_33 (dk_at dksX6_digitOf_0 16 rfl rfl)
theorem dX6_digitOf_17 : decode cX6_digitOf 17 = .ok (.ldc2_w 205, 3) := dk_20 0 205 (dk_at dksX6_digitOf_0 17 rfl rfl)
theorem dX6_digitOf_20 : decode cX6_digitOf 20 = .ok (.ldiv, 1) := dk_109 (dk_at dksX6_digitOf_0 20 rfl rfl)
theorem dX6_digitOf_21 : decode cX6_digitOf 21 = .ok (.lstore_n 3, 1) := dk_66 (dk_at dksX6_digitOf_0 21 rfl rfl)
theorem dX6_digitOf_22 : decode cX6_digitOf 22 = .ok (.iinc 5 (-1), 3) := dk_132 5 255 (dk_at dksX6_digitOf_1 0 rfl rfl)
theorem dX6_digitOf_25 : decode cX6_digitOf 25 = .ok (.goto (-15), 3) := dk_167 255 241 (dk_at dksX6_digitOf_1 3 rfl rfl)
theorem dX6_digitOf_28 : decode cX6_digitOf 28 = .ok (.lload_n 3, 1) := dk_33 (dk_at dksX6_digitOf_1 6 rfl rfl)
theorem dX6_digitOf_29 : decode cX6_digitOf 29 = .ok (.ldc2_w 205, 3) := dk_20 0 205 (dk_at dksX6_digitOf_1 7 rfl rfl)
theorem dX6_digitOf_32 : decode cX6_digitOf 32 = .ok (.lrem, 1) := dk_113 (dk_at dksX6_digitOf_1 10 rfl rfl)
theorem dX6_digitOf_33 : decode cX6_digitOf 33 = .ok (.l2i, 1) := dk_136 (dk_at dksX6_digitOf_1 11 rfl rfl)
theorem dX6_digitOf_34 : decode cX6_digitOf 34 = .ok (.bipush 48, 2) := dk_16 48 (dk_at dksX6_digitOf_1 12 rfl rfl)
theorem dX6_digitOf_36 : decode cX6_digitOf 36 = .ok (.iadd, 1) := dk_96 (dk_at dksX6_digitOf_1 14 rfl rfl)
theorem dX6_digitOf_37 : decode cX6_digitOf 37 = .ok (.ireturn, 1) := dk_172 (dk_at dksX6_digitOf_1 15 rfl rfl)
abbrev cX6_keepSound : ByteArray := prog_10_method_51_code
def yX6_keepSound : MethodName := ⟨RX6, "keepSound", "()I"⟩
def dkwX6_keepSound_0 : List UInt8 := [42, 3, 181, 0, 48, 42, 182, 0, 134, 42, 16, 29, 182, 0, 215, 172]
abbrev dktX6_keepSound_0 : List UInt8 := dkwX6_keepSound_0 ++ []
theorem dksX6_keepSound_0 : cX6_keepSound.data.toList.drop 0 = dktX6_keepSound_0 := by decide +kernel
theorem dX6_keepSound_0 : decode cX6_keepSound 0 = .ok (.aload_n 0, 1) := dk_42 (dk_at dksX6_keepSound_0 0 rfl rfl)
theorem dX6_keepSound_1 : decode cX6_keepSound 1 = .ok (.iconst 0, 1) := dk_3 (dk_at dksX6_keepSound_0 1 rfl rfl)
theorem dX6_keepSound_2 : decode cX6_keepSound 2 = .ok (.putfield 48, 3) := dk_181 0 48 (dk_at dksX6_keepSound_0 2 rfl rfl)
theorem dX6_keepSound_5 : decode cX6_keepSound 5 = .ok (.aload_n 0, 1) := dk_42 (dk_at dksX6_keepSound_0 5 rfl rfl)
theorem dX6_keepSound_6 : decode cX6_keepSound 6 = .ok (.invokevirtual 134, 3) := dk_182 0 134 (dk_at dksX6_keepSound_0 6 rfl rfl)
theorem dX6_keepSound_9 : decode cX6_keepSound 9 = .ok (.aload_n 0, 1) := dk_42 (dk_at dksX6_keepSound_0 9 rfl rfl)
theorem dX6_keepSound_10 : decode cX6_keepSound 10 = .ok (.bipush 29, 2) := dk_16 29 (dk_at dksX6_keepSound_0 10 rfl rfl)
theorem dX6_keepSound_12 : decode cX6_keepSound 12 = .ok (.invokevirtual 215, 3) := dk_182 0 215 (dk_at dksX6_keepSound_0 12 rfl rfl)
theorem dX6_keepSound_15 : decode cX6_keepSound 15 = .ok (.ireturn, 1) := dk_172 (dk_at dksX6_keepSound_0 15 rfl rfl)
abbrev cX6_copies : ByteArray := prog_10_method_50_code
def yX6_copies : MethodName := ⟨RX6, "copies", "(I)I"⟩
def dkwX6_copies_2 : List UInt8 := [61, 132, 3, 1, 167, 255, 213, 28, 172]
abbrev dktX6_copies_2 : List UInt8 := dkwX6_copies_2 ++ []
def dkwX6_copies_1 : List UInt8 := [180, 0, 38, 29, 47, 80, 28, 42, 180, 0, 38, 29, 47, 9, 148, 158, 0, 7, 4, 167, 0, 4, 3, 96]
abbrev dktX6_copies_1 : List UInt8 := dkwX6_copies_1 ++ dktX6_copies_2
def dkwX6_copies_0 : List UInt8 := [42, 182, 0, 193, 3, 61, 3, 62, 29, 17, 0, 201, 162, 0, 42, 42, 180, 0, 7, 27, 29, 96, 42]
abbrev dktX6_copies_0 : List UInt8 := dkwX6_copies_0 ++ dktX6_copies_1
theorem dksX6_copies_0 : cX6_copies.data.toList.drop 0 = dktX6_copies_0 := by decide +kernel
theorem dksX6_copies_1 : cX6_copies.data.toList.drop 23 = dktX6_copies_1 := dk_seg dksX6_copies_0 23 rfl rfl
theorem dksX6_copies_2 : cX6_copies.data.toList.drop 47 = dktX6_copies_2 := dk_seg dksX6_copies_1 24 rfl rfl
theorem dX6_copies_0 : decode cX6_copies 0 = .ok (.aload_n 0, 1) := dk_42 (dk_at dksX6_copies_0 0 rfl rfl)
theorem dX6_copies_1 : decode cX6_copies 1 = .ok (.invokevirtual 193, 3) := dk_182 0 193 (dk_at dksX6_copies_0 1 rfl rfl)
theorem dX6_copies_4 : decode cX6_copies 4 = .ok (.iconst 0, 1) := dk_3 (dk_at dksX6_copies_0 4 rfl rfl)
theorem dX6_copies_5 : decode cX6_copies 5 = .ok (.istore_n 2, 1) := dk_61 (dk_at dksX6_copies_0 5 rfl rfl)
theorem dX6_copies_6 : decode cX6_copies 6 = .ok (.iconst 0, 1) := dk_3 (dk_at dksX6_copies_0 6 rfl rfl)
theorem dX6_copies_7 : decode cX6_copies 7 = .ok (.istore_n 3, 1) := dk_62 (dk_at dksX6_copies_0 7 rfl rfl)
theorem dX6_copies_8 : decode cX6_copies 8 = .ok (.iload_n 3, 1) := dk_29 (dk_at dksX6_copies_0 8 rfl rfl)
theorem dX6_copies_9 : decode cX6_copies 9 = .ok (.sipush 201, 3) := dk_17 0 201 (dk_at dksX6_copies_0 9 rfl rfl)
theorem dX6_copies_12 : decode cX6_copies 12 = .ok (.if_icmp .ge 42, 3) := dk_162 0 42 (dk_at dksX6_copies_0 12 rfl rfl)
theorem dX6_copies_15 : decode cX6_copies 15 = .ok (.aload_n 0, 1) := dk_42 (dk_at dksX6_copies_0 15 rfl rfl)
theorem dX6_copies_16 : decode cX6_copies 16 = .ok (.getfield 7, 3) := dk_180 0 7 (dk_at dksX6_copies_0 16 rfl rfl)
theorem dX6_copies_19 : decode cX6_copies 19 = .ok (.iload_n 1, 1) := dk_27 (dk_at dksX6_copies_0 19 rfl rfl)
theorem dX6_copies_20 : decode cX6_copies 20 = .ok (.iload_n 3, 1) := dk_29 (dk_at dksX6_copies_0 20 rfl rfl)
theorem dX6_copies_21 : decode cX6_copies 21 = .ok (.iadd, 1) := dk_96 (dk_at dksX6_copies_0 21 rfl rfl)
theorem dX6_copies_22 : decode cX6_copies 22 = .ok (.aload_n 0, 1) := dk_42 (dk_at dksX6_copies_0 22 rfl rfl)
theorem dX6_copies_23 : decode cX6_copies 23 = .ok (.getfield 38, 3) := dk_180 0 38 (dk_at dksX6_copies_1 0 rfl rfl)
theorem dX6_copies_26 : decode cX6_copies 26 = .ok (.iload_n 3, 1) := dk_29 (dk_at dksX6_copies_1 3 rfl rfl)
theorem dX6_copies_27 : decode cX6_copies 27 = .ok (.laload, 1) := dk_47 (dk_at dksX6_copies_1 4 rfl rfl)
theorem dX6_copies_28 : decode cX6_copies 28 = .ok (.lastore, 1) := dk_80 (dk_at dksX6_copies_1 5 rfl rfl)
theorem dX6_copies_29 : decode cX6_copies 29 = .ok (.iload_n 2, 1) := dk_28 (dk_at dksX6_copies_1 6 rfl rfl)
theorem dX6_copies_30 : decode cX6_copies 30 = .ok (.aload_n 0, 1) := dk_42 (dk_at dksX6_copies_1 7 rfl rfl)
theorem dX6_copies_31 : decode cX6_copies 31 = .ok (.getfield 38, 3) := dk_180 0 38 (dk_at dksX6_copies_1 8 rfl rfl)
theorem dX6_copies_34 : decode cX6_copies 34 = .ok (.iload_n 3, 1) := dk_29 (dk_at dksX6_copies_1 11 rfl rfl)
theorem dX6_copies_35 : decode cX6_copies 35 = .ok (.laload, 1) := dk_47 (dk_at dksX6_copies_1 12 rfl rfl)
theorem dX6_copies_36 : decode cX6_copies 36 = .ok (.lconst 0, 1) := dk_9 (dk_at dksX6_copies_1 13 rfl rfl)
theorem dX6_copies_37 : decode cX6_copies 37 = .ok (.lcmp, 1) := dk_148 (dk_at dksX6_copies_1 14 rfl rfl)
theorem dX6_copies_38 : decode cX6_copies 38 = .ok (.ifCond .le 7, 3) := dk_158 0 7 (dk_at dksX6_copies_1 15 rfl rfl)
theorem dX6_copies_41 : decode cX6_copies 41 = .ok (.iconst 1, 1) := dk_4 (dk_at dksX6_copies_1 18 rfl rfl)
theorem dX6_copies_42 : decode cX6_copies 42 = .ok (.goto 4, 3) := dk_167 0 4 (dk_at dksX6_copies_1 19 rfl rfl)
theorem dX6_copies_45 : decode cX6_copies 45 = .ok (.iconst 0, 1) := dk_3 (dk_at dksX6_copies_1 22 rfl rfl)
theorem dX6_copies_46 : decode cX6_copies 46 = .ok (.iadd, 1) := dk_96 (dk_at dksX6_copies_1 23 rfl rfl)
theorem dX6_copies_47 : decode cX6_copies 47 = .ok (.istore_n 2, 1) := dk_61 (dk_at dksX6_copies_2 0 rfl rfl)
theorem dX6_copies_48 : decode cX6_copies 48 = .ok (.iinc 3 1, 3) := dk_132 3 1 (dk_at dksX6_copies_2 1 rfl rfl)
theorem dX6_copies_51 : decode cX6_copies 51 = .ok (.goto (-43), 3) := dk_167 255 213 (dk_at dksX6_copies_2 4 rfl rfl)
theorem dX6_copies_54 : decode cX6_copies 54 = .ok (.iload_n 2, 1) := dk_28 (dk_at dksX6_copies_2 7 rfl rfl)
theorem dX6_copies_55 : decode cX6_copies 55 = .ok (.ireturn, 1) := dk_172 (dk_at dksX6_copies_2 8 rfl rfl)
abbrev cX6_differences : ByteArray := prog_10_method_53_code
def yX6_differences : MethodName := ⟨RX6, "differences", "()I"⟩
def dkwX6_differences_0 : List UInt8 := [42, 3, 181, 0, 48, 42, 182, 0, 193, 42, 182, 0, 218, 172]
abbrev dktX6_differences_0 : List UInt8 := dkwX6_differences_0 ++ []
theorem dksX6_differences_0 : cX6_differences.data.toList.drop 0 = dktX6_differences_0 := by decide +kernel
theorem dX6_differences_0 : decode cX6_differences 0 = .ok (.aload_n 0, 1) := dk_42 (dk_at dksX6_differences_0 0 rfl rfl)
theorem dX6_differences_1 : decode cX6_differences 1 = .ok (.iconst 0, 1) := dk_3 (dk_at dksX6_differences_0 1 rfl rfl)
theorem dX6_differences_2 : decode cX6_differences 2 = .ok (.putfield 48, 3) := dk_181 0 48 (dk_at dksX6_differences_0 2 rfl rfl)
theorem dX6_differences_5 : decode cX6_differences 5 = .ok (.aload_n 0, 1) := dk_42 (dk_at dksX6_differences_0 5 rfl rfl)
theorem dX6_differences_6 : decode cX6_differences 6 = .ok (.invokevirtual 193, 3) := dk_182 0 193 (dk_at dksX6_differences_0 6 rfl rfl)
theorem dX6_differences_9 : decode cX6_differences 9 = .ok (.aload_n 0, 1) := dk_42 (dk_at dksX6_differences_0 9 rfl rfl)
theorem dX6_differences_10 : decode cX6_differences 10 = .ok (.invokevirtual 218, 3) := dk_182 0 218 (dk_at dksX6_differences_0 10 rfl rfl)
theorem dX6_differences_13 : decode cX6_differences 13 = .ok (.ireturn, 1) := dk_172 (dk_at dksX6_differences_0 13 rfl rfl)
abbrev cX6_differencesNow : ByteArray := prog_10_method_52_code
def yX6_differencesNow : MethodName := ⟨RX6, "differencesNow", "()I"⟩
def dkwX6_differencesNow_1 : List UInt8 := [16, 29, 28, 96, 47, 148, 153, 0, 7, 4, 167, 0, 4, 3, 96, 60, 132, 2, 1, 167, 255, 218, 27, 172]
abbrev dktX6_differencesNow_1 : List UInt8 := dkwX6_differencesNow_1 ++ []
def dkwX6_differencesNow_0 : List UInt8 := [3, 60, 3, 61, 28, 42, 182, 0, 110, 163, 0, 36, 27, 42, 180, 0, 38, 28, 47, 42, 180, 0, 7]
abbrev dktX6_differencesNow_0 : List UInt8 := dkwX6_differencesNow_0 ++ dktX6_differencesNow_1
theorem dksX6_differencesNow_0 : cX6_differencesNow.data.toList.drop 0 = dktX6_differencesNow_0 := by decide +kernel
theorem dksX6_differencesNow_1 : cX6_differencesNow.data.toList.drop 23 = dktX6_differencesNow_1 := dk_seg dksX6_differencesNow_0 23 rfl rfl
theorem dX6_differencesNow_0 : decode cX6_differencesNow 0 = .ok (.iconst 0, 1) := dk_3 (dk_at dksX6_differencesNow_0 0 rfl rfl)
theorem dX6_differencesNow_1 : decode cX6_differencesNow 1 = .ok (.istore_n 1, 1) := dk_60 (dk_at dksX6_differencesNow_0 1 rfl rfl)
theorem dX6_differencesNow_2 : decode cX6_differencesNow 2 = .ok (.iconst 0, 1) := dk_3 (dk_at dksX6_differencesNow_0 2 rfl rfl)
theorem dX6_differencesNow_3 : decode cX6_differencesNow 3 = .ok (.istore_n 2, 1) := dk_61 (dk_at dksX6_differencesNow_0 3 rfl rfl)
theorem dX6_differencesNow_4 : decode cX6_differencesNow 4 = .ok (.iload_n 2, 1) := dk_28 (dk_at dksX6_differencesNow_0 4 rfl rfl)
theorem dX6_differencesNow_5 : decode cX6_differencesNow 5 = .ok (.aload_n 0, 1) := dk_42 (dk_at dksX6_differencesNow_0 5 rfl rfl)
theorem dX6_differencesNow_6 : decode cX6_differencesNow 6 = .ok (.invokevirtual 110, 3) := dk_182 0 110 (dk_at dksX6_differencesNow_0 6 rfl rfl)
theorem dX6_differencesNow_9 : decode cX6_differencesNow 9 = .ok (.if_icmp .gt 36, 3) := dk_163 0 36 (dk_at dksX6_differencesNow_0 9 rfl rfl)
theorem dX6_differencesNow_12 : decode cX6_differencesNow 12 = .ok (.iload_n 1, 1) := dk_27 (dk_at dksX6_differencesNow_0 12 rfl rfl)
theorem dX6_differencesNow_13 : decode cX6_differencesNow 13 = .ok (.aload_n 0, 1) := dk_42 (dk_at dksX6_differencesNow_0 13 rfl rfl)
theorem dX6_differencesNow_14 : decode cX6_differencesNow 14 = .ok (.getfield 38, 3) := dk_180 0 38 (dk_at dksX6_differencesNow_0 14 rfl rfl)
theorem dX6_differencesNow_17 : decode cX6_differencesNow 17 = .ok (.iload_n 2, 1) := dk_28 (dk_at dksX6_differencesNow_0 17 rfl rfl)
theorem dX6_differencesNow_18 : decode cX6_differencesNow 18 = .ok (.laload, 1) := dk_47 (dk_at dksX6_differencesNow_0 18 rfl rfl)
theorem dX6_differencesNow_19 : decode cX6_differencesNow 19 = .ok (.aload_n 0, 1) := dk_42 (dk_at dksX6_differencesNow_0 19 rfl rfl)
theorem dX6_differencesNow_20 : decode cX6_differencesNow 20 = .ok (.getfield 7, 3) := dk_180 0 7 (dk_at dksX6_differencesNow_0 20 rfl rfl)
theorem dX6_differencesNow_23 : decode cX6_differencesNow 23 = .ok (.bipush 29, 2) := dk_16 29 (dk_at dksX6_differencesNow_1 0 rfl rfl)
theorem dX6_differencesNow_25 : decode cX6_differencesNow 25 = .ok (.iload_n 2, 1) := dk_28 (dk_at dksX6_differencesNow_1 2 rfl rfl)
theorem dX6_differencesNow_26 : decode cX6_differencesNow 26 = .ok (.iadd, 1) := dk_96 (dk_at dksX6_differencesNow_1 3 rfl rfl)
theorem dX6_differencesNow_27 : decode cX6_differencesNow 27 = .ok (.laload, 1) := dk_47 (dk_at dksX6_differencesNow_1 4 rfl rfl)
theorem dX6_differencesNow_28 : decode cX6_differencesNow 28 = .ok (.lcmp, 1) := dk_148 (dk_at dksX6_differencesNow_1 5 rfl rfl)
theorem dX6_differencesNow_29 : decode cX6_differencesNow 29 = .ok (.ifCond .eq 7, 3) := dk_153 0 7 (dk_at dksX6_differencesNow_1 6 rfl rfl)
theorem dX6_differencesNow_32 : decode cX6_differencesNow 32 = .ok (.iconst 1, 1) := dk_4 (dk_at dksX6_differencesNow_1 9 rfl rfl)
theorem dX6_differencesNow_33 : decode cX6_differencesNow 33 = .ok (.goto 4, 3) := dk_167 0 4 (dk_at dksX6_differencesNow_1 10 rfl rfl)
theorem dX6_differencesNow_36 : decode cX6_differencesNow 36 = .ok (.iconst 0, 1) := dk_3 (dk_at dksX6_differencesNow_1 13 rfl rfl)
theorem dX6_differencesNow_37 : decode cX6_differencesNow 37 = .ok (.iadd, 1) := dk_96 (dk_at dksX6_differencesNow_1 14 rfl rfl)
theorem dX6_differencesNow_38 : decode cX6_differencesNow 38 = .ok (.istore_n 1, 1) := dk_60 (dk_at dksX6_differencesNow_1 15 rfl rfl)
theorem dX6_differencesNow_39 : decode cX6_differencesNow 39 = .ok (.iinc 2 1, 3) := dk_132 2 1 (dk_at dksX6_differencesNow_1 16 rfl rfl)
theorem dX6_differencesNow_42 : decode cX6_differencesNow 42 = .ok (.goto (-38), 3) := dk_167 255 218 (dk_at dksX6_differencesNow_1 19 rfl rfl)
theorem dX6_differencesNow_45 : decode cX6_differencesNow 45 = .ok (.iload_n 1, 1) := dk_27 (dk_at dksX6_differencesNow_1 22 rfl rfl)
theorem dX6_differencesNow_46 : decode cX6_differencesNow 46 = .ok (.ireturn, 1) := dk_172 (dk_at dksX6_differencesNow_1 23 rfl rfl)
abbrev cX6_fault : ByteArray := prog_10_method_56_code
def yX6_fault : MethodName := ⟨RX6, "fault", "(I)I"⟩
def dkwX6_fault_1 : List UInt8 := [180, 0, 48, 153, 0, 5, 3, 172, 42, 182, 0, 193, 42, 27, 182, 0, 226, 172]
abbrev dktX6_fault_1 : List UInt8 := dkwX6_fault_1 ++ []
def dkwX6_fault_0 : List UInt8 := [42, 27, 133, 9, 20, 0, 224, 184, 0, 59, 153, 0, 7, 3, 167, 0, 4, 4, 181, 0, 48, 42]
abbrev dktX6_fault_0 : List UInt8 := dkwX6_fault_0 ++ dktX6_fault_1
theorem dksX6_fault_0 : cX6_fault.data.toList.drop 0 = dktX6_fault_0 := by decide +kernel
theorem dksX6_fault_1 : cX6_fault.data.toList.drop 22 = dktX6_fault_1 := dk_seg dksX6_fault_0 22 rfl rfl
theorem dX6_fault_0 : decode cX6_fault 0 = .ok (.aload_n 0, 1) := dk_42 (dk_at dksX6_fault_0 0 rfl rfl)
theorem dX6_fault_1 : decode cX6_fault 1 = .ok (.iload_n 1, 1) := dk_27 (dk_at dksX6_fault_0 1 rfl rfl)
theorem dX6_fault_2 : decode cX6_fault 2 = .ok (.i2l, 1) := dk_133 (dk_at dksX6_fault_0 2 rfl rfl)
theorem dX6_fault_3 : decode cX6_fault 3 = .ok (.lconst 0, 1) := dk_9 (dk_at dksX6_fault_0 3 rfl rfl)
theorem dX6_fault_4 : decode cX6_fault 4 = .ok (.ldc2_w 224, 3) := dk_20 0 224 (dk_at dksX6_fault_0 4 rfl rfl)
theorem dX6_fault_7 : decode cX6_fault 7 = .ok (.invokestatic 59, 3) := dk_184 0 59 (dk_at dksX6_fault_0 7 rfl rfl)
theorem dX6_fault_10 : decode cX6_fault 10 = .ok (.ifCond .eq 7, 3) := dk_153 0 7 (dk_at dksX6_fault_0 10 rfl rfl)
theorem dX6_fault_13 : decode cX6_fault 13 = .ok (.iconst 0, 1) := dk_3 (dk_at dksX6_fault_0 13 rfl rfl)
theorem dX6_fault_14 : decode cX6_fault 14 = .ok (.goto 4, 3) := dk_167 0 4 (dk_at dksX6_fault_0 14 rfl rfl)
theorem dX6_fault_17 : decode cX6_fault 17 = .ok (.iconst 1, 1) := dk_4 (dk_at dksX6_fault_0 17 rfl rfl)
theorem dX6_fault_18 : decode cX6_fault 18 = .ok (.putfield 48, 3) := dk_181 0 48 (dk_at dksX6_fault_0 18 rfl rfl)
theorem dX6_fault_21 : decode cX6_fault 21 = .ok (.aload_n 0, 1) := dk_42 (dk_at dksX6_fault_0 21 rfl rfl)
theorem dX6_fault_22 : decode cX6_fault 22 = .ok (.getfield 48, 3) := dk_180 0 48 (dk_at dksX6_fault_1 0 rfl rfl)
theorem dX6_fault_25 : decode cX6_fault 25 = .ok (.ifCond .eq 5, 3) := dk_153 0 5 (dk_at dksX6_fault_1 3 rfl rfl)
theorem dX6_fault_28 : decode cX6_fault 28 = .ok (.iconst 0, 1) := dk_3 (dk_at dksX6_fault_1 6 rfl rfl)
theorem dX6_fault_29 : decode cX6_fault 29 = .ok (.ireturn, 1) := dk_172 (dk_at dksX6_fault_1 7 rfl rfl)
theorem dX6_fault_30 : decode cX6_fault 30 = .ok (.aload_n 0, 1) := dk_42 (dk_at dksX6_fault_1 8 rfl rfl)
theorem dX6_fault_31 : decode cX6_fault 31 = .ok (.invokevirtual 193, 3) := dk_182 0 193 (dk_at dksX6_fault_1 9 rfl rfl)
theorem dX6_fault_34 : decode cX6_fault 34 = .ok (.aload_n 0, 1) := dk_42 (dk_at dksX6_fault_1 12 rfl rfl)
theorem dX6_fault_35 : decode cX6_fault 35 = .ok (.iload_n 1, 1) := dk_27 (dk_at dksX6_fault_1 13 rfl rfl)
theorem dX6_fault_36 : decode cX6_fault 36 = .ok (.invokevirtual 226, 3) := dk_182 0 226 (dk_at dksX6_fault_1 14 rfl rfl)
theorem dX6_fault_39 : decode cX6_fault 39 = .ok (.ireturn, 1) := dk_172 (dk_at dksX6_fault_1 17 rfl rfl)
abbrev cX6_faultOf : ByteArray := prog_10_method_55_code
def yX6_faultOf : MethodName := ⟨RX6, "faultOf", "(I)I"⟩
def dkwX6_faultOf_6 : List UInt8 := [21, 4, 182, 0, 185, 104, 163, 0, 6, 21, 4, 172, 132, 4, 1, 167, 255, 202, 2, 172]
abbrev dktX6_faultOf_6 : List UInt8 := dkwX6_faultOf_6 ++ []
def dkwX6_faultOf_5 : List UInt8 := [21, 4, 182, 0, 185, 133, 42, 180, 0, 7, 4, 21, 4, 96, 47, 101, 105, 148, 158, 0, 18, 29, 5, 42]
abbrev dktX6_faultOf_5 : List UInt8 := dkwX6_faultOf_5 ++ dktX6_faultOf_6
def dkwX6_faultOf_4 : List UInt8 := [167, 0, 4, 2, 172, 3, 54, 4, 21, 4, 42, 182, 0, 55, 162, 0, 51, 29, 133, 20, 0, 183, 42]
abbrev dktX6_faultOf_4 : List UInt8 := dkwX6_faultOf_4 ++ dktX6_faultOf_5
def dkwX6_faultOf_3 : List UInt8 := [160, 0, 28, 42, 180, 0, 38, 28, 47, 42, 180, 0, 7, 16, 29, 28, 96, 47, 148, 158, 0, 7, 4]
abbrev dktX6_faultOf_3 : List UInt8 := dkwX6_faultOf_3 ++ dktX6_faultOf_4
def dkwX6_faultOf_2 : List UInt8 := [182, 0, 221, 100, 62, 27, 5, 162, 0, 13, 27, 154, 0, 7, 28, 167, 0, 4, 29, 172, 27, 6]
abbrev dktX6_faultOf_2 : List UInt8 := dkwX6_faultOf_2 ++ dktX6_faultOf_3
def dkwX6_faultOf_1 : List UInt8 := [47, 148, 154, 0, 9, 132, 2, 1, 167, 255, 226, 28, 42, 182, 0, 110, 164, 0, 5, 2, 172, 28, 42]
abbrev dktX6_faultOf_1 : List UInt8 := dkwX6_faultOf_1 ++ dktX6_faultOf_2
def dkwX6_faultOf_0 : List UInt8 := [3, 61, 28, 42, 182, 0, 110, 163, 0, 28, 42, 180, 0, 38, 28, 47, 42, 180, 0, 7, 16, 29, 28, 96]
abbrev dktX6_faultOf_0 : List UInt8 := dkwX6_faultOf_0 ++ dktX6_faultOf_1
theorem dksX6_faultOf_0 : cX6_faultOf.data.toList.drop 0 = dktX6_faultOf_0 := by decide +kernel
theorem dksX6_faultOf_1 : cX6_faultOf.data.toList.drop 24 = dktX6_faultOf_1 := dk_seg dksX6_faultOf_0 24 rfl rfl
theorem dksX6_faultOf_2 : cX6_faultOf.data.toList.drop 47 = dktX6_faultOf_2 := dk_seg dksX6_faultOf_1 23 rfl rfl
theorem dksX6_faultOf_3 : cX6_faultOf.data.toList.drop 69 = dktX6_faultOf_3 := dk_seg dksX6_faultOf_2 22 rfl rfl
theorem dksX6_faultOf_4 : cX6_faultOf.data.toList.drop 92 = dktX6_faultOf_4 := dk_seg dksX6_faultOf_3 23 rfl rfl
theorem dksX6_faultOf_5 : cX6_faultOf.data.toList.drop 115 = dktX6_faultOf_5 := dk_seg dksX6_faultOf_4 23 rfl rfl
theorem dksX6_faultOf_6 : cX6_faultOf.data.toList.drop 139 = dktX6_faultOf_6 := dk_seg dksX6_faultOf_5 24 rfl rfl
theorem dX6_faultOf_0 : decode cX6_faultOf 0 = .ok (.iconst 0, 1) := dk_3 (dk_at dksX6_faultOf_0 0 rfl rfl)
theorem dX6_faultOf_1 : decode cX6_faultOf 1 = .ok (.istore_n 2, 1) := dk_61 (dk_at dksX6_faultOf_0 1 rfl rfl)
theorem dX6_faultOf_2 : decode cX6_faultOf 2 = .ok (.iload_n 2, 1) := dk_28 (dk_at dksX6_faultOf_0 2 rfl rfl)
theorem dX6_faultOf_3 : decode cX6_faultOf 3 = .ok (.aload_n 0, 1) := dk_42 (dk_at dksX6_faultOf_0 3 rfl rfl)
theorem dX6_faultOf_4 : decode cX6_faultOf 4 = .ok (.invokevirtual 110, 3) := dk_182 0 110 (dk_at dksX6_faultOf_0 4 rfl rfl)
theorem dX6_faultOf_7 : decode cX6_faultOf 7 = .ok (.if_icmp .gt 28, 3) := dk_163 0 28 (dk_at dksX6_faultOf_0 7 rfl rfl)
theorem dX6_faultOf_10 : decode cX6_faultOf 10 = .ok (.aload_n 0, 1) := dk_42 (dk_at dksX6_faultOf_0 10 rfl rfl)
theorem dX6_faultOf_11 : decode cX6_faultOf 11 = .ok (.getfield 38, 3) := dk_180 0 38 (dk_at dksX6_faultOf_0 11 rfl rfl)
theorem dX6_faultOf_14 : decode cX6_faultOf 14 = .ok (.iload_n 2, 1) := dk_28 (dk_at dksX6_faultOf_0 14 rfl rfl)
theorem dX6_faultOf_15 : decode cX6_faultOf 15 = .ok (.laload, 1) := dk_47 (dk_at dksX6_faultOf_0 15 rfl rfl)
theorem dX6_faultOf_16 : decode cX6_faultOf 16 = .ok (.aload_n 0, 1) := dk_42 (dk_at dksX6_faultOf_0 16 rfl rfl)
theorem dX6_faultOf_17 : decode cX6_faultOf 17 = .ok (.getfield 7, 3) := dk_180 0 7 (dk_at dksX6_faultOf_0 17 rfl rfl)
theorem dX6_faultOf_20 : decode cX6_faultOf 20 = .ok (.bipush 29, 2) := dk_16 29 (dk_at dksX6_faultOf_0 20 rfl rfl)
theorem dX6_faultOf_22 : decode cX6_faultOf 22 = .ok (.iload_n 2, 1) := dk_28 (dk_at dksX6_faultOf_0 22 rfl rfl)
theorem dX6_faultOf_23 : decode cX6_faultOf 23 = .ok (.iadd, 1) := dk_96 (dk_at dksX6_faultOf_0 23 rfl rfl)
theorem dX6_faultOf_24 : decode cX6_faultOf 24 = .ok (.laload, 1) := dk_47 (dk_at dksX6_faultOf_1 0 rfl rfl)
theorem dX6_faultOf_25 : decode cX6_faultOf 25 = .ok (.lcmp, 1) := dk_148 (dk_at dksX6_faultOf_1 1 rfl rfl)
theorem dX6_faultOf_26 : decode cX6_faultOf 26 = .ok (.ifCond .ne 9, 3) := dk_154 0 9 (dk_at dksX6_faultOf_1 2 rfl rfl)
theorem dX6_faultOf_29 : decode cX6_faultOf 29 = .ok (.iinc 2 1, 3) := dk_132 2 1 (dk_at dksX6_faultOf_1 5 rfl rfl)
theorem dX6_faultOf_32 : decode cX6_faultOf 32 = .ok (.goto (-30), 3) := dk_167 255 226 (dk_at dksX6_faultOf_1 8 rfl rfl)
theorem dX6_faultOf_35 : decode cX6_faultOf 35 = .ok (.iload_n 2, 1) := dk_28 (dk_at dksX6_faultOf_1 11 rfl rfl)
theorem dX6_faultOf_36 : decode cX6_faultOf 36 = .ok (.aload_n 0, 1) := dk_42 (dk_at dksX6_faultOf_1 12 rfl rfl)
theorem dX6_faultOf_37 : decode cX6_faultOf 37 = .ok (.invokevirtual 110, 3) := dk_182 0 110 (dk_at dksX6_faultOf_1 13 rfl rfl)
theorem dX6_faultOf_40 : decode cX6_faultOf 40 = .ok (.if_icmp .le 5, 3) := dk_164 0 5 (dk_at dksX6_faultOf_1 16 rfl rfl)
theorem dX6_faultOf_43 : decode cX6_faultOf 43 = .ok (.iconst (-1), 1) := dk_2 (dk_at dksX6_faultOf_1 19 rfl rfl)
theorem dX6_faultOf_44 : decode cX6_faultOf 44 = .ok (.ireturn, 1) := dk_172 (dk_at dksX6_faultOf_1 20 rfl rfl)
theorem dX6_faultOf_45 : decode cX6_faultOf 45 = .ok (.iload_n 2, 1) := dk_28 (dk_at dksX6_faultOf_1 21 rfl rfl)
theorem dX6_faultOf_46 : decode cX6_faultOf 46 = .ok (.aload_n 0, 1) := dk_42 (dk_at dksX6_faultOf_1 22 rfl rfl)
theorem dX6_faultOf_47 : decode cX6_faultOf 47 = .ok (.invokevirtual 221, 3) := dk_182 0 221 (dk_at dksX6_faultOf_2 0 rfl rfl)
theorem dX6_faultOf_50 : decode cX6_faultOf 50 = .ok (.isub, 1) := dk_100 (dk_at dksX6_faultOf_2 3 rfl rfl)
theorem dX6_faultOf_51 : decode cX6_faultOf 51 = .ok (.istore_n 3, 1) := dk_62 (dk_at dksX6_faultOf_2 4 rfl rfl)
theorem dX6_faultOf_52 : decode cX6_faultOf 52 = .ok (.iload_n 1, 1) := dk_27 (dk_at dksX6_faultOf_2 5 rfl rfl)
theorem dX6_faultOf_53 : decode cX6_faultOf 53 = .ok (.iconst 2, 1) := dk_5 (dk_at dksX6_faultOf_2 6 rfl rfl)
theorem dX6_faultOf_54 : decode cX6_faultOf 54 = .ok (.if_icmp .ge 13, 3) := dk_162 0 13 (dk_at dksX6_faultOf_2 7 rfl rfl)
theorem dX6_faultOf_57 : decode cX6_faultOf 57 = .ok (.iload_n 1, 1) := dk_27 (dk_at dksX6_faultOf_2 10 rfl rfl)
theorem dX6_faultOf_58 : decode cX6_faultOf 58 = .ok (.ifCond .ne 7, 3) := dk_154 0 7 (dk_at dksX6_faultOf_2 11 rfl rfl)
theorem dX6_faultOf_61 : decode cX6_faultOf 61 = .ok (.iload_n 2, 1) := dk_28 (dk_at dksX6_faultOf_2 14 rfl rfl)
theorem dX6_faultOf_62 : decode cX6_faultOf 62 = .ok (.goto 4, 3) := dk_167 0 4 (dk_at dksX6_faultOf_2 15 rfl rfl)
theorem dX6_faultOf_65 : decode cX6_faultOf 65 = .ok (.iload_n 3, 1) := dk_29 (dk_at dksX6_faultOf_2 18 rfl rfl)
theorem dX6_faultOf_66 : decode cX6_faultOf 66 = .ok (.ireturn, 1) := dk_172 (dk_at dksX6_faultOf_2 19 rfl rfl)
theorem dX6_faultOf_67 : decode cX6_faultOf 67 = .ok (.iload_n 1, 1) := dk_27 (dk_at dksX6_faultOf_2 20 rfl rfl)
theorem dX6_faultOf_68 : decode cX6_faultOf 68 = .ok (.iconst 3, 1) := dk_6 (dk_at dksX6_faultOf_2 21 rfl rfl)
theorem dX6_faultOf_69 : decode cX6_faultOf 69 = .ok (.if_icmp .ne 28, 3) := dk_160 0 28 (dk_at dksX6_faultOf_3 0 rfl rfl)
theorem dX6_faultOf_72 : decode cX6_faultOf 72 = .ok (.aload_n 0, 1) := dk_42 (dk_at dksX6_faultOf_3 3 rfl rfl)
theorem dX6_faultOf_73 : decode cX6_faultOf 73 = .ok (.getfield 38, 3) := dk_180 0 38 (dk_at dksX6_faultOf_3 4 rfl rfl)
theorem dX6_faultOf_76 : decode cX6_faultOf 76 = .ok (.iload_n 2, 1) := dk_28 (dk_at dksX6_faultOf_3 7 rfl rfl)
theorem dX6_faultOf_77 : decode cX6_faultOf 77 = .ok (.laload, 1) := dk_47 (dk_at dksX6_faultOf_3 8 rfl rfl)
theorem dX6_faultOf_78 : decode cX6_faultOf 78 = .ok (.aload_n 0, 1) := dk_42 (dk_at dksX6_faultOf_3 9 rfl rfl)
theorem dX6_faultOf_79 : decode cX6_faultOf 79 = .ok (.getfield 7, 3) := dk_180 0 7 (dk_at dksX6_faultOf_3 10 rfl rfl)
theorem dX6_faultOf_82 : decode cX6_faultOf 82 = .ok (.bipush 29, 2) := dk_16 29 (dk_at dksX6_faultOf_3 13 rfl rfl)
theorem dX6_faultOf_84 : decode cX6_faultOf 84 = .ok (.iload_n 2, 1) := dk_28 (dk_at dksX6_faultOf_3 15 rfl rfl)
theorem dX6_faultOf_85 : decode cX6_faultOf 85 = .ok (.iadd, 1) := dk_96 (dk_at dksX6_faultOf_3 16 rfl rfl)
theorem dX6_faultOf_86 : decode cX6_faultOf 86 = .ok (.laload, 1) := dk_47 (dk_at dksX6_faultOf_3 17 rfl rfl)
theorem dX6_faultOf_87 : decode cX6_faultOf 87 = .ok (.lcmp, 1) := dk_148 (dk_at dksX6_faultOf_3 18 rfl rfl)
theorem dX6_faultOf_88 : decode cX6_faultOf 88 = .ok (.ifCond .le 7, 3) := dk_158 0 7 (dk_at dksX6_faultOf_3 19 rfl rfl)
theorem dX6_faultOf_91 : decode cX6_faultOf 91 = .ok (.iconst 1, 1) := dk_4 (dk_at dksX6_faultOf_3 22 rfl rfl)
theorem dX6_faultOf_92 : decode cX6_faultOf 92 = .ok (.goto 4, 3) := dk_167 0 4 (dk_at dksX6_faultOf_4 0 rfl rfl)
theorem dX6_faultOf_95 : decode cX6_faultOf 95 = .ok (.iconst (-1), 1) := dk_2 (dk_at dksX6_faultOf_4 3 rfl rfl)
theorem dX6_faultOf_96 : decode cX6_faultOf 96 = .ok (.ireturn, 1) := dk_172 (dk_at dksX6_faultOf_4 4 rfl rfl)
theorem dX6_faultOf_97 : decode cX6_faultOf 97 = .ok (.iconst 0, 1) := dk_3 (dk_at dksX6_faultOf_4 5 rfl rfl)
theorem dX6_faultOf_98 : decode cX6_faultOf 98 = .ok (.istore 4, 2) := dk_54 4 (dk_at dksX6_faultOf_4 6 rfl rfl)
theorem dX6_faultOf_100 : decode cX6_faultOf 100 = .ok (.iload 4, 2) := dk_21 4 (dk_at dksX6_faultOf_4 8 rfl rfl)
theorem dX6_faultOf_102 : decode cX6_faultOf 102 = .ok (.aload_n 0, 1) := dk_42 (dk_at dksX6_faultOf_4 10 rfl rfl)
theorem dX6_faultOf_103 : decode cX6_faultOf 103 = .ok (.invokevirtual 55, 3) := dk_182 0 55 (dk_at dksX6_faultOf_4 11 rfl rfl)
theorem dX6_faultOf_106 : decode cX6_faultOf 106 = .ok (.if_icmp .ge 51, 3) := dk_162 0 51 (dk_at dksX6_faultOf_4 14 rfl rfl)
theorem dX6_faultOf_109 : decode cX6_faultOf 109 = .ok (.iload_n 3, 1) := dk_29 (dk_at dksX6_faultOf_4 17 rfl rfl)
theorem dX6_faultOf_110 : decode cX6_faultOf 110 = .ok (.i2l, 1) := dk_133 (dk_at dksX6_faultOf_4 18 rfl rfl)
theorem dX6_faultOf_111 : decode cX6_faultOf 111 = .ok (.ldc2_w 183, 3) := dk_20 0 183 (dk_at dksX6_faultOf_4 19 rfl rfl)
theorem dX6_faultOf_114 : decode cX6_faultOf 114 = .ok (.aload_n 0, 1) := dk_42 (dk_at dksX6_faultOf_4 22 rfl rfl)
theorem dX6_faultOf_115 : decode cX6_faultOf 115 = .ok (.iload 4, 2) := dk_21 4 (dk_at dksX6_faultOf_5 0 rfl rfl)
theorem dX6_faultOf_117 : decode cX6_faultOf 117 = .ok (.invokevirtual 185, 3) := dk_182 0 185 (dk_at dksX6_faultOf_5 2 rfl rfl)
theorem dX6_faultOf_120 : decode cX6_faultOf 120 = .ok (.i2l, 1) := dk_133 (dk_at dksX6_faultOf_5 5 rfl rfl)
theorem dX6_faultOf_121 : decode cX6_faultOf 121 = .ok (.aload_n 0, 1) := dk_42 (dk_at dksX6_faultOf_5 6 rfl rfl)
theorem dX6_faultOf_122 : decode cX6_faultOf 122 = .ok (.getfield 7, 3) := dk_180 0 7 (dk_at dksX6_faultOf_5 7 rfl rfl)
theorem dX6_faultOf_125 : decode cX6_faultOf 125 = .ok (.iconst 1, 1) := dk_4 (dk_at dksX6_faultOf_5 10 rfl rfl)
theorem dX6_faultOf_126 : decode cX6_faultOf 126 = .ok (.iload 4, 2) := dk_21 4 (dk_at dksX6_faultOf_5 11 rfl rfl)
theorem dX6_faultOf_128 : decode cX6_faultOf 128 = .ok (.iadd, 1) := dk_96 (dk_at dksX6_faultOf_5 13 rfl rfl)
theorem dX6_faultOf_129 : decode cX6_faultOf 129 = .ok (.laload, 1) := dk_47 (dk_at dksX6_faultOf_5 14 rfl rfl)
theorem dX6_faultOf_130 : decode cX6_faultOf 130 = .ok (.lsub, 1) := dk_101 (dk_at dksX6_faultOf_5 15 rfl rfl)
theorem dX6_faultOf_131 : decode cX6_faultOf 131 = .ok (.lmul, 1) := dk_105 (dk_at dksX6_faultOf_5 16 rfl rfl)
theorem dX6_faultOf_132 : decode cX6_faultOf 132 = .ok (.lcmp, 1) := dk_148 (dk_at dksX6_faultOf_5 17 rfl rfl)
theorem dX6_faultOf_133 : decode cX6_faultOf 133 = .ok (.ifCond .le 18, 3) := dk_158 0 18 (dk_at dksX6_faultOf_5 18 rfl rfl)
theorem dX6_faultOf_136 : decode cX6_faultOf 136 = .ok (.iload_n 3, 1) := dk_29 (dk_at dksX6_faultOf_5 21 rfl rfl)
theorem dX6_faultOf_137 : decode cX6_faultOf 137 = .ok (.iconst 2, 1) := dk_5 (dk_at dksX6_faultOf_5 22 rfl rfl)
theorem dX6_faultOf_138 : decode cX6_faultOf 138 = .ok (.aload_n 0, 1) := dk_42 (dk_at dksX6_faultOf_5 23 rfl rfl)
theorem dX6_faultOf_139 : decode cX6_faultOf 139 = .ok (.iload 4, 2) := dk_21 4 (dk_at dksX6_faultOf_6 0 rfl rfl)
theorem dX6_faultOf_141 : decode cX6_faultOf 141 = .ok (.invokevirtual 185, 3) := dk_182 0 185 (dk_at dksX6_faultOf_6 2 rfl rfl)
theorem dX6_faultOf_144 : decode cX6_faultOf 144 = .ok (.imul, 1) := dk_104 (dk_at dksX6_faultOf_6 5 rfl rfl)
theorem dX6_faultOf_145 : decode cX6_faultOf 145 = .ok (.if_icmp .gt 6, 3) := dk_163 0 6 (dk_at dksX6_faultOf_6 6 rfl rfl)
theorem dX6_faultOf_148 : decode cX6_faultOf 148 = .ok (.iload 4, 2) := dk_21 4 (dk_at dksX6_faultOf_6 9 rfl rfl)
theorem dX6_faultOf_150 : decode cX6_faultOf 150 = .ok (.ireturn, 1) := dk_172 (dk_at dksX6_faultOf_6 11 rfl rfl)
theorem dX6_faultOf_151 : decode cX6_faultOf 151 = .ok (.iinc 4 1, 3) := dk_132 4 1 (dk_at dksX6_faultOf_6 12 rfl rfl)
theorem dX6_faultOf_154 : decode cX6_faultOf 154 = .ok (.goto (-54), 3) := dk_167 255 202 (dk_at dksX6_faultOf_6 15 rfl rfl)
theorem dX6_faultOf_157 : decode cX6_faultOf 157 = .ok (.iconst (-1), 1) := dk_2 (dk_at dksX6_faultOf_6 18 rfl rfl)
theorem dX6_faultOf_158 : decode cX6_faultOf 158 = .ok (.ireturn, 1) := dk_172 (dk_at dksX6_faultOf_6 19 rfl rfl)
abbrev cX6_earliest : ByteArray := prog_10_method_54_code
def yX6_earliest : MethodName := ⟨RX6, "earliest", "()I"⟩
def dkwX6_earliest_1 : List UInt8 := [162, 0, 12, 42, 180, 0, 26, 28, 46, 167, 0, 4, 27, 60, 132, 2, 1, 167, 255, 224, 27, 172]
abbrev dktX6_earliest_1 : List UInt8 := dkwX6_earliest_1 ++ []
def dkwX6_earliest_0 : List UInt8 := [42, 180, 0, 26, 3, 46, 60, 4, 61, 28, 42, 180, 0, 84, 162, 0, 30, 42, 180, 0, 26, 28, 46, 27]
abbrev dktX6_earliest_0 : List UInt8 := dkwX6_earliest_0 ++ dktX6_earliest_1
theorem dksX6_earliest_0 : cX6_earliest.data.toList.drop 0 = dktX6_earliest_0 := by decide +kernel
theorem dksX6_earliest_1 : cX6_earliest.data.toList.drop 24 = dktX6_earliest_1 := dk_seg dksX6_earliest_0 24 rfl rfl
theorem dX6_earliest_0 : decode cX6_earliest 0 = .ok (.aload_n 0, 1) := dk_42 (dk_at dksX6_earliest_0 0 rfl rfl)
theorem dX6_earliest_1 : decode cX6_earliest 1 = .ok (.getfield 26, 3) := dk_180 0 26 (dk_at dksX6_earliest_0 1 rfl rfl)
theorem dX6_earliest_4 : decode cX6_earliest 4 = .ok (.iconst 0, 1) := dk_3 (dk_at dksX6_earliest_0 4 rfl rfl)
theorem dX6_earliest_5 : decode cX6_earliest 5 = .ok (.iaload, 1) := dk_46 (dk_at dksX6_earliest_0 5 rfl rfl)
theorem dX6_earliest_6 : decode cX6_earliest 6 = .ok (.istore_n 1, 1) := dk_60 (dk_at dksX6_earliest_0 6 rfl rfl)
theorem dX6_earliest_7 : decode cX6_earliest 7 = .ok (.iconst 1, 1) := dk_4 (dk_at dksX6_earliest_0 7 rfl rfl)
theorem dX6_earliest_8 : decode cX6_earliest 8 = .ok (.istore_n 2, 1) := dk_61 (dk_at dksX6_earliest_0 8 rfl rfl)
theorem dX6_earliest_9 : decode cX6_earliest 9 = .ok (.iload_n 2, 1) := dk_28 (dk_at dksX6_earliest_0 9 rfl rfl)
theorem dX6_earliest_10 : decode cX6_earliest 10 = .ok (.aload_n 0, 1) := dk_42 (dk_at dksX6_earliest_0 10 rfl rfl)
theorem dX6_earliest_11 : decode cX6_earliest 11 = .ok (.getfield 84, 3) := dk_180 0 84 (dk_at dksX6_earliest_0 11 rfl rfl)
theorem dX6_earliest_14 : decode cX6_earliest 14 = .ok (.if_icmp .ge 30, 3) := dk_162 0 30 (dk_at dksX6_earliest_0 14 rfl rfl)
theorem dX6_earliest_17 : decode cX6_earliest 17 = .ok (.aload_n 0, 1) := dk_42 (dk_at dksX6_earliest_0 17 rfl rfl)
theorem dX6_earliest_18 : decode cX6_earliest 18 = .ok (.getfield 26, 3) := dk_180 0 26 (dk_at dksX6_earliest_0 18 rfl rfl)
theorem dX6_earliest_21 : decode cX6_earliest 21 = .ok (.iload_n 2, 1) := dk_28 (dk_at dksX6_earliest_0 21 rfl rfl)
theorem dX6_earliest_22 : decode cX6_earliest 22 = .ok (.iaload, 1) := dk_46 (dk_at dksX6_earliest_0 22 rfl rfl)
theorem dX6_earliest_23 : decode cX6_earliest 23 = .ok (.iload_n 1, 1) := dk_27 (dk_at dksX6_earliest_0 23 rfl rfl)
theorem dX6_earliest_24 : decode cX6_earliest 24 = .ok (.if_icmp .ge 12, 3) := dk_162 0 12 (dk_at dksX6_earliest_1 0 rfl rfl)
theorem dX6_earliest_27 : decode cX6_earliest 27 = .ok (.aload_n 0, 1) := dk_42 (dk_at dksX6_earliest_1 3 rfl rfl)
theorem dX6_earliest_28 : decode cX6_earliest 28 = .ok (.getfield 26, 3) := dk_180 0 26 (dk_at dksX6_earliest_1 4 rfl rfl)
theorem dX6_earliest_31 : decode cX6_earliest 31 = .ok (.iload_n 2, 1) := dk_28 (dk_at dksX6_earliest_1 7 rfl rfl)
theorem dX6_earliest_32 : decode cX6_earliest 32 = .ok (.iaload, 1) := dk_46 (dk_at dksX6_earliest_1 8 rfl rfl)
theorem dX6_earliest_33 : decode cX6_earliest 33 = .ok (.goto 4, 3) := dk_167 0 4 (dk_at dksX6_earliest_1 9 rfl rfl)
theorem dX6_earliest_36 : decode cX6_earliest 36 = .ok (.iload_n 1, 1) := dk_27 (dk_at dksX6_earliest_1 12 rfl rfl)
theorem dX6_earliest_37 : decode cX6_earliest 37 = .ok (.istore_n 1, 1) := dk_60 (dk_at dksX6_earliest_1 13 rfl rfl)
theorem dX6_earliest_38 : decode cX6_earliest 38 = .ok (.iinc 2 1, 3) := dk_132 2 1 (dk_at dksX6_earliest_1 14 rfl rfl)
theorem dX6_earliest_41 : decode cX6_earliest 41 = .ok (.goto (-32), 3) := dk_167 255 224 (dk_at dksX6_earliest_1 17 rfl rfl)
theorem dX6_earliest_44 : decode cX6_earliest 44 = .ok (.iload_n 1, 1) := dk_27 (dk_at dksX6_earliest_1 20 rfl rfl)
theorem dX6_earliest_45 : decode cX6_earliest 45 = .ok (.ireturn, 1) := dk_172 (dk_at dksX6_earliest_1 21 rfl rfl)
abbrev cX6_observe : ByteArray := prog_10_method_57_code
def yX6_observe : MethodName := ⟨RX6, "observe", "()I"⟩
def dkwX6_observe_0 : List UInt8 := [42, 3, 181, 0, 48, 42, 182, 0, 134, 42, 17, 0, 230, 182, 0, 215, 172]
abbrev dktX6_observe_0 : List UInt8 := dkwX6_observe_0 ++ []
theorem dksX6_observe_0 : cX6_observe.data.toList.drop 0 = dktX6_observe_0 := by decide +kernel
theorem dX6_observe_0 : decode cX6_observe 0 = .ok (.aload_n 0, 1) := dk_42 (dk_at dksX6_observe_0 0 rfl rfl)
theorem dX6_observe_1 : decode cX6_observe 1 = .ok (.iconst 0, 1) := dk_3 (dk_at dksX6_observe_0 1 rfl rfl)
theorem dX6_observe_2 : decode cX6_observe 2 = .ok (.putfield 48, 3) := dk_181 0 48 (dk_at dksX6_observe_0 2 rfl rfl)
theorem dX6_observe_5 : decode cX6_observe 5 = .ok (.aload_n 0, 1) := dk_42 (dk_at dksX6_observe_0 5 rfl rfl)
theorem dX6_observe_6 : decode cX6_observe 6 = .ok (.invokevirtual 134, 3) := dk_182 0 134 (dk_at dksX6_observe_0 6 rfl rfl)
theorem dX6_observe_9 : decode cX6_observe 9 = .ok (.aload_n 0, 1) := dk_42 (dk_at dksX6_observe_0 9 rfl rfl)
theorem dX6_observe_10 : decode cX6_observe 10 = .ok (.sipush 230, 3) := dk_17 0 230 (dk_at dksX6_observe_0 10 rfl rfl)
theorem dX6_observe_13 : decode cX6_observe 13 = .ok (.invokevirtual 215, 3) := dk_182 0 215 (dk_at dksX6_observe_0 13 rfl rfl)
theorem dX6_observe_16 : decode cX6_observe 16 = .ok (.ireturn, 1) := dk_172 (dk_at dksX6_observe_0 16 rfl rfl)
abbrev cX6_setObserved : ByteArray := prog_10_method_58_code
def yX6_setObserved : MethodName := ⟨RX6, "setObserved", "(IJ)J"⟩
def dkwX6_setObserved_3 : List UInt8 := [173]
abbrev dktX6_setObserved_3 : List UInt8 := dkwX6_setObserved_3 ++ []
def dkwX6_setObserved_2 : List UInt8 := [180, 0, 7, 17, 0, 230, 27, 96, 47, 55, 4, 42, 180, 0, 7, 17, 0, 230, 27, 96, 32, 80, 22, 4]
abbrev dktX6_setObserved_2 : List UInt8 := dkwX6_setObserved_2 ++ dktX6_setObserved_3
def dkwX6_setObserved_1 : List UInt8 := [3, 167, 0, 4, 4, 181, 0, 48, 42, 180, 0, 48, 153, 0, 5, 9, 173, 42, 182, 0, 134, 42]
abbrev dktX6_setObserved_1 : List UInt8 := dkwX6_setObserved_1 ++ dktX6_setObserved_2
def dkwX6_setObserved_0 : List UInt8 := [42, 27, 133, 9, 20, 0, 169, 184, 0, 59, 153, 0, 18, 32, 9, 20, 0, 229, 184, 0, 59, 153, 0, 7]
abbrev dktX6_setObserved_0 : List UInt8 := dkwX6_setObserved_0 ++ dktX6_setObserved_1
theorem dksX6_setObserved_0 : cX6_setObserved.data.toList.drop 0 = dktX6_setObserved_0 := by decide +kernel
theorem dksX6_setObserved_1 : cX6_setObserved.data.toList.drop 24 = dktX6_setObserved_1 := dk_seg dksX6_setObserved_0 24 rfl rfl
theorem dksX6_setObserved_2 : cX6_setObserved.data.toList.drop 46 = dktX6_setObserved_2 := dk_seg dksX6_setObserved_1 22 rfl rfl
theorem dksX6_setObserved_3 : cX6_setObserved.data.toList.drop 70 = dktX6_setObserved_3 := dk_seg dksX6_setObserved_2 24 rfl rfl
theorem dX6_setObserved_0 : decode cX6_setObserved 0 = .ok (.aload_n 0, 1) := dk_42 (dk_at dksX6_setObserved_0 0 rfl rfl)
theorem dX6_setObserved_1 : decode cX6_setObserved 1 = .ok (.iload_n 1, 1) := dk_27 (dk_at dksX6_setObserved_0 1 rfl rfl)
theorem dX6_setObserved_2 : decode cX6_setObserved 2 = .ok (.i2l, 1) := dk_133 (dk_at dksX6_setObserved_0 2 rfl rfl)
theorem dX6_setObserved_3 : decode cX6_setObserved 3 = .ok (.lconst 0, 1) := dk_9 (dk_at dksX6_setObserved_0 3 rfl rfl)
theorem dX6_setObserved_4 : decode cX6_setObserved 4 = .ok (.ldc2_w 169, 3) := dk_20 0 169 (dk_at dksX6_setObserved_0 4 rfl rfl)
theorem dX6_setObserved_7 : decode cX6_setObserved 7 = .ok (.invokestatic 59, 3) := dk_184 0 59 (dk_at dksX6_setObserved_0 7 rfl rfl)
theorem dX6_setObserved_10 : decode cX6_setObserved 10 = .ok (.ifCond .eq 18, 3) := dk_153 0 18 (dk_at dksX6_setObserved_0 10 rfl rfl)
theorem dX6_setObserved_13 : decode cX6_setObserved 13 = .ok (.lload_n 2, 1) := dk_32 (dk_at dksX6_setObserved_0 13 rfl rfl)
theorem dX6_setObserved_14 : decode cX6_setObserved 14 = .ok (.lconst 0, 1) := dk_9 (dk_at dksX6_setObserved_0 14 rfl rfl)
theorem dX6_setObserved_15 : decode cX6_setObserved 15 = .ok (.ldc2_w 229, 3) := dk_20 0 229 (dk_at dksX6_setObserved_0 15 rfl rfl)
theorem dX6_setObserved_18 : decode cX6_setObserved 18 = .ok (.invokestatic 59, 3) := dk_184 0 59 (dk_at dksX6_setObserved_0 18 rfl rfl)
theorem dX6_setObserved_21 : decode cX6_setObserved 21 = .ok (.ifCond .eq 7, 3) := dk_153 0 7 (dk_at dksX6_setObserved_0 21 rfl rfl)
theorem dX6_setObserved_24 : decode cX6_setObserved 24 = .ok (.iconst 0, 1) := dk_3 (dk_at dksX6_setObserved_1 0 rfl rfl)
theorem dX6_setObserved_25 : decode cX6_setObserved 25 = .ok (.goto 4, 3) := dk_167 0 4 (dk_at dksX6_setObserved_1 1 rfl rfl)
theorem dX6_setObserved_28 : decode cX6_setObserved 28 = .ok (.iconst 1, 1) := dk_4 (dk_at dksX6_setObserved_1 4 rfl rfl)
theorem dX6_setObserved_29 : decode cX6_setObserved 29 = .ok (.putfield 48, 3) := dk_181 0 48 (dk_at dksX6_setObserved_1 5 rfl rfl)
theorem dX6_setObserved_32 : decode cX6_setObserved 32 = .ok (.aload_n 0, 1) := dk_42 (dk_at dksX6_setObserved_1 8 rfl rfl)
theorem dX6_setObserved_33 : decode cX6_setObserved 33 = .ok (.getfield 48, 3) := dk_180 0 48 (dk_at dksX6_setObserved_1 9 rfl rfl)
theorem dX6_setObserved_36 : decode cX6_setObserved 36 = .ok (.ifCond .eq 5, 3) := dk_153 0 5 (dk_at dksX6_setObserved_1 12 rfl rfl)
theorem dX6_setObserved_39 : decode cX6_setObserved 39 = .ok (.lconst 0, 1) := dk_9 (dk_at dksX6_setObserved_1 15 rfl rfl)
theorem dX6_setObserved_40 : decode cX6_setObserved 40 = .ok (.lreturn, 1) := dk_173 (dk_at dksX6_setObserved_1 16 rfl rfl)
theorem dX6_setObserved_41 : decode cX6_setObserved 41 = .ok (.aload_n 0, 1) := dk_42 (dk_at dksX6_setObserved_1 17 rfl rfl)
theorem dX6_setObserved_42 : decode cX6_setObserved 42 = .ok (.invokevirtual 134, 3) := dk_182 0 134 (dk_at dksX6_setObserved_1 18 rfl rfl)
theorem dX6_setObserved_45 : decode cX6_setObserved 45 = .ok (.aload_n 0, 1) := dk_42 (dk_at dksX6_setObserved_1 21 rfl rfl)
theorem dX6_setObserved_46 : decode cX6_setObserved 46 = .ok (.getfield 7, 3) := dk_180 0 7 (dk_at dksX6_setObserved_2 0 rfl rfl)
theorem dX6_setObserved_49 : decode cX6_setObserved 49 = .ok (.sipush 230, 3) := dk_17 0 230 (dk_at dksX6_setObserved_2 3 rfl rfl)
theorem dX6_setObserved_52 : decode cX6_setObserved 52 = .ok (.iload_n 1, 1) := dk_27 (dk_at dksX6_setObserved_2 6 rfl rfl)
theorem dX6_setObserved_53 : decode cX6_setObserved 53 = .ok (.iadd, 1) := dk_96 (dk_at dksX6_setObserved_2 7 rfl rfl)
theorem dX6_setObserved_54 : decode cX6_setObserved 54 = .ok (.laload, 1) := dk_47 (dk_at dksX6_setObserved_2 8 rfl rfl)
theorem dX6_setObserved_55 : decode cX6_setObserved 55 = .ok (.lstore 4, 2) := dk_55 4 (dk_at dksX6_setObserved_2 9 rfl rfl)
theorem dX6_setObserved_57 : decode cX6_setObserved 57 = .ok (.aload_n 0, 1) := dk_42 (dk_at dksX6_setObserved_2 11 rfl rfl)
theorem dX6_setObserved_58 : decode cX6_setObserved 58 = .ok (.getfield 7, 3) := dk_180 0 7 (dk_at dksX6_setObserved_2 12 rfl rfl)
theorem dX6_setObserved_61 : decode cX6_setObserved 61 = .ok (.sipush 230, 3) := dk_17 0 230 (dk_at dksX6_setObserved_2 15 rfl rfl)
theorem dX6_setObserved_64 : decode cX6_setObserved 64 = .ok (.iload_n 1, 1) := dk_27 (dk_at dksX6_setObserved_2 18 rfl rfl)
theorem dX6_setObserved_65 : decode cX6_setObserved 65 = .ok (.iadd, 1) := dk_96 (dk_at dksX6_setObserved_2 19 rfl rfl)
theorem dX6_setObserved_66 : decode cX6_setObserved 66 = .ok (.lload_n 2, 1) := dk_32 (dk_at dksX6_setObserved_2 20 rfl rfl)
theorem dX6_setObserved_67 : decode cX6_setObserved 67 = .ok (.lastore, 1) := dk_80 (dk_at dksX6_setObserved_2 21 rfl rfl)
theorem dX6_setObserved_68 : decode cX6_setObserved 68 = .ok (.lload 4, 2) := dk_22 4 (dk_at dksX6_setObserved_2 22 rfl rfl)
theorem dX6_setObserved_70 : decode cX6_setObserved 70 = .ok (.lreturn, 1) := dk_173 (dk_at dksX6_setObserved_3 0 rfl rfl)
abbrev cX6_observed : ByteArray := prog_10_method_59_code
def yX6_observed : MethodName := ⟨RX6, "observed", "(I)J"⟩
def dkwX6_observed_1 : List UInt8 := [180, 0, 48, 153, 0, 7, 9, 167, 0, 13, 42, 180, 0, 7, 17, 0, 230, 27, 96, 47, 173]
abbrev dktX6_observed_1 : List UInt8 := dkwX6_observed_1 ++ []
def dkwX6_observed_0 : List UInt8 := [42, 27, 133, 9, 20, 0, 169, 184, 0, 59, 153, 0, 7, 3, 167, 0, 4, 4, 181, 0, 48, 42]
abbrev dktX6_observed_0 : List UInt8 := dkwX6_observed_0 ++ dktX6_observed_1
theorem dksX6_observed_0 : cX6_observed.data.toList.drop 0 = dktX6_observed_0 := by decide +kernel
theorem dksX6_observed_1 : cX6_observed.data.toList.drop 22 = dktX6_observed_1 := dk_seg dksX6_observed_0 22 rfl rfl
theorem dX6_observed_0 : decode cX6_observed 0 = .ok (.aload_n 0, 1) := dk_42 (dk_at dksX6_observed_0 0 rfl rfl)
theorem dX6_observed_1 : decode cX6_observed 1 = .ok (.iload_n 1, 1) := dk_27 (dk_at dksX6_observed_0 1 rfl rfl)
theorem dX6_observed_2 : decode cX6_observed 2 = .ok (.i2l, 1) := dk_133 (dk_at dksX6_observed_0 2 rfl rfl)
theorem dX6_observed_3 : decode cX6_observed 3 = .ok (.lconst 0, 1) := dk_9 (dk_at dksX6_observed_0 3 rfl rfl)
theorem dX6_observed_4 : decode cX6_observed 4 = .ok (.ldc2_w 169, 3) := dk_20 0 169 (dk_at dksX6_observed_0 4 rfl rfl)
theorem dX6_observed_7 : decode cX6_observed 7 = .ok (.invokestatic 59, 3) := dk_184 0 59 (dk_at dksX6_observed_0 7 rfl rfl)
theorem dX6_observed_10 : decode cX6_observed 10 = .ok (.ifCond .eq 7, 3) := dk_153 0 7 (dk_at dksX6_observed_0 10 rfl rfl)
theorem dX6_observed_13 : decode cX6_observed 13 = .ok (.iconst 0, 1) := dk_3 (dk_at dksX6_observed_0 13 rfl rfl)
theorem dX6_observed_14 : decode cX6_observed 14 = .ok (.goto 4, 3) := dk_167 0 4 (dk_at dksX6_observed_0 14 rfl rfl)
theorem dX6_observed_17 : decode cX6_observed 17 = .ok (.iconst 1, 1) := dk_4 (dk_at dksX6_observed_0 17 rfl rfl)
theorem dX6_observed_18 : decode cX6_observed 18 = .ok (.putfield 48, 3) := dk_181 0 48 (dk_at dksX6_observed_0 18 rfl rfl)
theorem dX6_observed_21 : decode cX6_observed 21 = .ok (.aload_n 0, 1) := dk_42 (dk_at dksX6_observed_0 21 rfl rfl)
theorem dX6_observed_22 : decode cX6_observed 22 = .ok (.getfield 48, 3) := dk_180 0 48 (dk_at dksX6_observed_1 0 rfl rfl)
theorem dX6_observed_25 : decode cX6_observed 25 = .ok (.ifCond .eq 7, 3) := dk_153 0 7 (dk_at dksX6_observed_1 3 rfl rfl)
theorem dX6_observed_28 : decode cX6_observed 28 = .ok (.lconst 0, 1) := dk_9 (dk_at dksX6_observed_1 6 rfl rfl)
theorem dX6_observed_29 : decode cX6_observed 29 = .ok (.goto 13, 3) := dk_167 0 13 (dk_at dksX6_observed_1 7 rfl rfl)
theorem dX6_observed_32 : decode cX6_observed 32 = .ok (.aload_n 0, 1) := dk_42 (dk_at dksX6_observed_1 10 rfl rfl)
theorem dX6_observed_33 : decode cX6_observed 33 = .ok (.getfield 7, 3) := dk_180 0 7 (dk_at dksX6_observed_1 11 rfl rfl)
theorem dX6_observed_36 : decode cX6_observed 36 = .ok (.sipush 230, 3) := dk_17 0 230 (dk_at dksX6_observed_1 14 rfl rfl)
theorem dX6_observed_39 : decode cX6_observed 39 = .ok (.iload_n 1, 1) := dk_27 (dk_at dksX6_observed_1 17 rfl rfl)
theorem dX6_observed_40 : decode cX6_observed 40 = .ok (.iadd, 1) := dk_96 (dk_at dksX6_observed_1 18 rfl rfl)
theorem dX6_observed_41 : decode cX6_observed 41 = .ok (.laload, 1) := dk_47 (dk_at dksX6_observed_1 19 rfl rfl)
theorem dX6_observed_42 : decode cX6_observed 42 = .ok (.lreturn, 1) := dk_173 (dk_at dksX6_observed_1 20 rfl rfl)
abbrev cX6_peel : ByteArray := prog_10_method_65_code
def yX6_peel : MethodName := ⟨RX6, "peel", "(I)I"⟩
def dkwX6_peel_1 : List UInt8 := [180, 0, 48, 153, 0, 5, 3, 172, 42, 182, 0, 250, 42, 27, 182, 0, 253, 172]
abbrev dktX6_peel_1 : List UInt8 := dkwX6_peel_1 ++ []
def dkwX6_peel_0 : List UInt8 := [42, 27, 133, 9, 20, 0, 224, 184, 0, 59, 153, 0, 7, 3, 167, 0, 4, 4, 181, 0, 48, 42]
abbrev dktX6_peel_0 : List UInt8 := dkwX6_peel_0 ++ dktX6_peel_1
theorem dksX6_peel_0 : cX6_peel.data.toList.drop 0 = dktX6_peel_0 := by decide +kernel
theorem dksX6_peel_1 : cX6_peel.data.toList.drop 22 = dktX6_peel_1 := dk_seg dksX6_peel_0 22 rfl rfl
theorem dX6_peel_0 : decode cX6_peel 0 = .ok (.aload_n 0, 1) := dk_42 (dk_at dksX6_peel_0 0 rfl rfl)
theorem dX6_peel_1 : decode cX6_peel 1 = .ok (.iload_n 1, 1) := dk_27 (dk_at dksX6_peel_0 1 rfl rfl)
theorem dX6_peel_2 : decode cX6_peel 2 = .ok (.i2l, 1) := dk_133 (dk_at dksX6_peel_0 2 rfl rfl)
theorem dX6_peel_3 : decode cX6_peel 3 = .ok (.lconst 0, 1) := dk_9 (dk_at dksX6_peel_0 3 rfl rfl)
theorem dX6_peel_4 : decode cX6_peel 4 = .ok (.ldc2_w 224, 3) := dk_20 0 224 (dk_at dksX6_peel_0 4 rfl rfl)
theorem dX6_peel_7 : decode cX6_peel 7 = .ok (.invokestatic 59, 3) := dk_184 0 59 (dk_at dksX6_peel_0 7 rfl rfl)
theorem dX6_peel_10 : decode cX6_peel 10 = .ok (.ifCond .eq 7, 3) := dk_153 0 7 (dk_at dksX6_peel_0 10 rfl rfl)
theorem dX6_peel_13 : decode cX6_peel 13 = .ok (.iconst 0, 1) := dk_3 (dk_at dksX6_peel_0 13 rfl rfl)
theorem dX6_peel_14 : decode cX6_peel 14 = .ok (.goto 4, 3) := dk_167 0 4 (dk_at dksX6_peel_0 14 rfl rfl)
theorem dX6_peel_17 : decode cX6_peel 17 = .ok (.iconst 1, 1) := dk_4 (dk_at dksX6_peel_0 17 rfl rfl)
theorem dX6_peel_18 : decode cX6_peel 18 = .ok (.putfield 48, 3) := dk_181 0 48 (dk_at dksX6_peel_0 18 rfl rfl)
theorem dX6_peel_21 : decode cX6_peel 21 = .ok (.aload_n 0, 1) := dk_42 (dk_at dksX6_peel_0 21 rfl rfl)
theorem dX6_peel_22 : decode cX6_peel 22 = .ok (.getfield 48, 3) := dk_180 0 48 (dk_at dksX6_peel_1 0 rfl rfl)
theorem dX6_peel_25 : decode cX6_peel 25 = .ok (.ifCond .eq 5, 3) := dk_153 0 5 (dk_at dksX6_peel_1 3 rfl rfl)
theorem dX6_peel_28 : decode cX6_peel 28 = .ok (.iconst 0, 1) := dk_3 (dk_at dksX6_peel_1 6 rfl rfl)
theorem dX6_peel_29 : decode cX6_peel 29 = .ok (.ireturn, 1) := dk_172 (dk_at dksX6_peel_1 7 rfl rfl)
theorem dX6_peel_30 : decode cX6_peel 30 = .ok (.aload_n 0, 1) := dk_42 (dk_at dksX6_peel_1 8 rfl rfl)
theorem dX6_peel_31 : decode cX6_peel 31 = .ok (.invokevirtual 250, 3) := dk_182 0 250 (dk_at dksX6_peel_1 9 rfl rfl)
theorem dX6_peel_34 : decode cX6_peel 34 = .ok (.aload_n 0, 1) := dk_42 (dk_at dksX6_peel_1 12 rfl rfl)
theorem dX6_peel_35 : decode cX6_peel 35 = .ok (.iload_n 1, 1) := dk_27 (dk_at dksX6_peel_1 13 rfl rfl)
theorem dX6_peel_36 : decode cX6_peel 36 = .ok (.invokevirtual 253, 3) := dk_182 0 253 (dk_at dksX6_peel_1 14 rfl rfl)
theorem dX6_peel_39 : decode cX6_peel 39 = .ok (.ireturn, 1) := dk_172 (dk_at dksX6_peel_1 17 rfl rfl)
abbrev cX6_peelAll : ByteArray := prog_10_method_63_code
def yX6_peelAll : MethodName := ⟨RX6, "peelAll", "()V"⟩
def dkwX6_peelAll_2 : List UInt8 := [181, 0, 231, 42, 182, 0, 117, 4, 60, 27, 153, 0, 11, 42, 182, 0, 246, 60, 167, 255, 247, 177]
abbrev dktX6_peelAll_2 : List UInt8 := dkwX6_peelAll_2 ++ []
def dkwX6_peelAll_1 : List UInt8 := [42, 180, 0, 26, 3, 3, 79, 42, 180, 0, 29, 3, 42, 180, 0, 7, 16, 22, 47, 80, 42, 3]
abbrev dktX6_peelAll_1 : List UInt8 := dkwX6_peelAll_1 ++ dktX6_peelAll_2
def dkwX6_peelAll_0 : List UInt8 := [42, 3, 181, 0, 79, 42, 180, 0, 23, 3, 42, 180, 0, 7, 16, 17, 47, 136, 79, 42, 4, 181, 0, 84]
abbrev dktX6_peelAll_0 : List UInt8 := dkwX6_peelAll_0 ++ dktX6_peelAll_1
theorem dksX6_peelAll_0 : cX6_peelAll.data.toList.drop 0 = dktX6_peelAll_0 := by decide +kernel
theorem dksX6_peelAll_1 : cX6_peelAll.data.toList.drop 24 = dktX6_peelAll_1 := dk_seg dksX6_peelAll_0 24 rfl rfl
theorem dksX6_peelAll_2 : cX6_peelAll.data.toList.drop 46 = dktX6_peelAll_2 := dk_seg dksX6_peelAll_1 22 rfl rfl
theorem dX6_peelAll_0 : decode cX6_peelAll 0 = .ok (.aload_n 0, 1) := dk_42 (dk_at dksX6_peelAll_0 0 rfl rfl)
theorem dX6_peelAll_1 : decode cX6_peelAll 1 = .ok (.iconst 0, 1) := dk_3 (dk_at dksX6_peelAll_0 1 rfl rfl)
theorem dX6_peelAll_2 : decode cX6_peelAll 2 = .ok (.putfield 79, 3) := dk_181 0 79 (dk_at dksX6_peelAll_0 2 rfl rfl)
theorem dX6_peelAll_5 : decode cX6_peelAll 5 = .ok (.aload_n 0, 1) := dk_42 (dk_at dksX6_peelAll_0 5 rfl rfl)
theorem dX6_peelAll_6 : decode cX6_peelAll 6 = .ok (.getfield 23, 3) := dk_180 0 23 (dk_at dksX6_peelAll_0 6 rfl rfl)
theorem dX6_peelAll_9 : decode cX6_peelAll 9 = .ok (.iconst 0, 1) := dk_3 (dk_at dksX6_peelAll_0 9 rfl rfl)
theorem dX6_peelAll_10 : decode cX6_peelAll 10 = .ok (.aload_n 0, 1) := dk_42 (dk_at dksX6_peelAll_0 10 rfl rfl)
theorem dX6_peelAll_11 : decode cX6_peelAll 11 = .ok (.getfield 7, 3) := dk_180 0 7 (dk_at dksX6_peelAll_0 11 rfl rfl)
theorem dX6_peelAll_14 : decode cX6_peelAll 14 = .ok (.bipush 17, 2) := dk_16 17 (dk_at dksX6_peelAll_0 14 rfl rfl)
theorem dX6_peelAll_16 : decode cX6_peelAll 16 = .ok (.laload, 1) := dk_47 (dk_at dksX6_peelAll_0 16 rfl rfl)
theorem dX6_peelAll_17 : decode cX6_peelAll 17 = .ok (.l2i, 1) := dk_136 (dk_at dksX6_peelAll_0 17 rfl rfl)
theorem dX6_peelAll_18 : decode cX6_peelAll 18 = .ok (.iastore, 1) := dk_79 (dk_at dksX6_peelAll_0 18 rfl rfl)
theorem dX6_peelAll_19 : decode cX6_peelAll 19 = .ok (.aload_n 0, 1) := dk_42 (dk_at dksX6_peelAll_0 19 rfl rfl)
theorem dX6_peelAll_20 : decode cX6_peelAll 20 = .ok (.iconst 1, 1) := dk_4 (dk_at dksX6_peelAll_0 20 rfl rfl)
theorem dX6_peelAll_21 : decode cX6_peelAll 21 = .ok (.putfield 84, 3) := dk_181 0 84 (dk_at dksX6_peelAll_0 21 rfl rfl)
theorem dX6_peelAll_24 : decode cX6_peelAll 24 = .ok (.aload_n 0, 1) := dk_42 (dk_at dksX6_peelAll_1 0 rfl rfl)
theorem dX6_peelAll_25 : decode cX6_peelAll 25 = .ok (.getfield 26, 3) := dk_180 0 26 (dk_at dksX6_peelAll_1 1 rfl rfl)
theorem dX6_peelAll_28 : decode cX6_peelAll 28 = .ok (.iconst 0, 1) := dk_3 (dk_at dksX6_peelAll_1 4 rfl rfl)
theorem dX6_peelAll_29 : decode cX6_peelAll 29 = .ok (.iconst 0, 1) := dk_3 (dk_at dksX6_peelAll_1 5 rfl rfl)
theorem dX6_peelAll_30 : decode cX6_peelAll 30 = .ok (.iastore, 1) := dk_79 (dk_at dksX6_peelAll_1 6 rfl rfl)
theorem dX6_peelAll_31 : decode cX6_peelAll 31 = .ok (.aload_n 0, 1) := dk_42 (dk_at dksX6_peelAll_1 7 rfl rfl)
theorem dX6_peelAll_32 : decode cX6_peelAll 32 = .ok (.getfield 29, 3) := dk_180 0 29 (dk_at dksX6_peelAll_1 8 rfl rfl)
theorem dX6_peelAll_35 : decode cX6_peelAll 35 = .ok (.iconst 0, 1) := dk_3 (dk_at dksX6_peelAll_1 11 rfl rfl)
theorem dX6_peelAll_36 : decode cX6_peelAll 36 = .ok (.aload_n 0, 1) := dk_42 (dk_at dksX6_peelAll_1 12 rfl rfl)
theorem dX6_peelAll_37 : decode cX6_peelAll 37 = .ok (.getfield 7, 3) := dk_180 0 7 (dk_at dksX6_peelAll_1 13 rfl rfl)
theorem dX6_peelAll_40 : decode cX6_peelAll 40 = .ok (.bipush 22, 2) := dk_16 22 (dk_at dksX6_peelAll_1 16 rfl rfl)
theorem dX6_peelAll_42 : decode cX6_peelAll 42 = .ok (.laload, 1) := dk_47 (dk_at dksX6_peelAll_1 18 rfl rfl)
theorem dX6_peelAll_43 : decode cX6_peelAll 43 = .ok (.lastore, 1) := dk_80 (dk_at dksX6_peelAll_1 19 rfl rfl)
theorem dX6_peelAll_44 : decode cX6_peelAll 44 = .ok (.aload_n 0, 1) := dk_42 (dk_at dksX6_peelAll_1 20 rfl rfl)
theorem dX6_peelAll_45 : decode cX6_peelAll 45 = .ok (.iconst 0, 1) := dk_3 (dk_at dksX6_peelAll_1 21 rfl rfl)
theorem dX6_peelAll_46 : decode cX6_peelAll 46 = .ok (.putfield 231, 3) := dk_181 0 231 (dk_at dksX6_peelAll_2 0 rfl rfl)
theorem dX6_peelAll_49 : decode cX6_peelAll 49 = .ok (.aload_n 0, 1) := dk_42 (dk_at dksX6_peelAll_2 3 rfl rfl)
theorem dX6_peelAll_50 : decode cX6_peelAll 50 = .ok (.invokevirtual 117, 3) := dk_182 0 117 (dk_at dksX6_peelAll_2 4 rfl rfl)
theorem dX6_peelAll_53 : decode cX6_peelAll 53 = .ok (.iconst 1, 1) := dk_4 (dk_at dksX6_peelAll_2 7 rfl rfl)
theorem dX6_peelAll_54 : decode cX6_peelAll 54 = .ok (.istore_n 1, 1) := dk_60 (dk_at dksX6_peelAll_2 8 rfl rfl)
theorem dX6_peelAll_55 : decode cX6_peelAll 55 = .ok (.iload_n 1, 1) := dk_27 (dk_at dksX6_peelAll_2 9 rfl rfl)
theorem dX6_peelAll_56 : decode cX6_peelAll 56 = .ok (.ifCond .eq 11, 3) := dk_153 0 11 (dk_at dksX6_peelAll_2 10 rfl rfl)
theorem dX6_peelAll_59 : decode cX6_peelAll 59 = .ok (.aload_n 0, 1) := dk_42 (dk_at dksX6_peelAll_2 13 rfl rfl)
theorem dX6_peelAll_60 : decode cX6_peelAll 60 = .ok (.invokevirtual 246, 3) := dk_182 0 246 (dk_at dksX6_peelAll_2 14 rfl rfl)
theorem dX6_peelAll_63 : decode cX6_peelAll 63 = .ok (.istore_n 1, 1) := dk_60 (dk_at dksX6_peelAll_2 17 rfl rfl)
theorem dX6_peelAll_64 : decode cX6_peelAll 64 = .ok (.goto (-9), 3) := dk_167 255 247 (dk_at dksX6_peelAll_2 18 rfl rfl)
theorem dX6_peelAll_67 : decode cX6_peelAll 67 = .ok (.return_, 1) := dk_177 (dk_at dksX6_peelAll_2 21 rfl rfl)
abbrev cX6_peels : ByteArray := prog_10_method_62_code
def yX6_peels : MethodName := ⟨RX6, "peels", "()Z"⟩
def dkwX6_peels_4 : List UInt8 := [172, 42, 4, 181, 0, 240, 42, 27, 182, 0, 243, 172]
abbrev dktX6_peels_4 : List UInt8 := dkwX6_peels_4 ++ []
def dkwX6_peels_3 : List UInt8 := [180, 0, 231, 100, 16, 20, 163, 0, 12, 42, 180, 0, 79, 16, 8, 160, 0, 10, 42, 5, 181, 0, 240, 3]
abbrev dktX6_peels_3 : List UInt8 := dkwX6_peels_3 ++ dktX6_peels_4
def dkwX6_peels_2 : List UInt8 := [159, 0, 13, 27, 5, 42, 180, 0, 231, 104, 163, 0, 10, 42, 4, 181, 0, 240, 3, 172, 27, 5, 108, 42]
abbrev dktX6_peels_2 : List UInt8 := dkwX6_peels_2 ++ dktX6_peels_3
def dkwX6_peels_1 : List UInt8 := [180, 0, 7, 17, 0, 230, 27, 96, 47, 42, 180, 0, 38, 27, 47, 148, 155, 0, 20, 27, 5, 112, 4]
abbrev dktX6_peels_1 : List UInt8 := dkwX6_peels_1 ++ dktX6_peels_2
def dkwX6_peels_0 : List UInt8 := [42, 182, 0, 234, 60, 42, 27, 181, 0, 237, 27, 2, 160, 0, 10, 42, 3, 181, 0, 240, 3, 172, 42]
abbrev dktX6_peels_0 : List UInt8 := dkwX6_peels_0 ++ dktX6_peels_1
theorem dksX6_peels_0 : cX6_peels.data.toList.drop 0 = dktX6_peels_0 := by decide +kernel
theorem dksX6_peels_1 : cX6_peels.data.toList.drop 23 = dktX6_peels_1 := dk_seg dksX6_peels_0 23 rfl rfl
theorem dksX6_peels_2 : cX6_peels.data.toList.drop 46 = dktX6_peels_2 := dk_seg dksX6_peels_1 23 rfl rfl
theorem dksX6_peels_3 : cX6_peels.data.toList.drop 70 = dktX6_peels_3 := dk_seg dksX6_peels_2 24 rfl rfl
theorem dksX6_peels_4 : cX6_peels.data.toList.drop 94 = dktX6_peels_4 := dk_seg dksX6_peels_3 24 rfl rfl
theorem dX6_peels_0 : decode cX6_peels 0 = .ok (.aload_n 0, 1) := dk_42 (dk_at dksX6_peels_0 0 rfl rfl)
theorem dX6_peels_1 : decode cX6_peels 1 = .ok (.invokevirtual 234, 3) := dk_182 0 234 (dk_at dksX6_peels_0 1 rfl rfl)
theorem dX6_peels_4 : decode cX6_peels 4 = .ok (.istore_n 1, 1) := dk_60 (dk_at dksX6_peels_0 4 rfl rfl)
theorem dX6_peels_5 : decode cX6_peels 5 = .ok (.aload_n 0, 1) := dk_42 (dk_at dksX6_peels_0 5 rfl rfl)
theorem dX6_peels_6 : decode cX6_peels 6 = .ok (.iload_n 1, 1) := dk_27 (dk_at dksX6_peels_0 6 rfl rfl)
theorem dX6_peels_7 : decode cX6_peels 7 = .ok (.putfield 237, 3) := dk_181 0 237 (dk_at dksX6_peels_0 7 rfl rfl)
theorem dX6_peels_10 : decode cX6_peels 10 = .ok (.iload_n 1, 1) := dk_27 (dk_at dksX6_peels_0 10 rfl rfl)
theorem dX6_peels_11 : decode cX6_peels 11 = .ok (.iconst (-1), 1) := dk_2 (dk_at dksX6_peels_0 11 rfl rfl)
theorem dX6_peels_12 : decode cX6_peels 12 = .ok (.if_icmp .ne 10, 3) := dk_160 0 10 (dk_at dksX6_peels_0 12 rfl rfl)
theorem dX6_peels_15 : decode cX6_peels 15 = .ok (.aload_n 0, 1) := dk_42 (dk_at dksX6_peels_0 15 rfl rfl)
theorem dX6_peels_16 : decode cX6_peels 16 = .ok (.iconst 0, 1) := dk_3 (dk_at dksX6_peels_0 16 rfl rfl)
theorem dX6_peels_17 : decode cX6_peels 17 = .ok (.putfield 240, 3) := dk_181 0 240 (dk_at dksX6_peels_0 17 rfl rfl)
theorem dX6_peels_20 : decode cX6_peels 20 = .ok (.iconst 0, 1) := dk_3 (dk_at dksX6_peels_0 20 rfl rfl)
theorem dX6_peels_21 : decode cX6_peels 21 = .ok (.ireturn, 1) := dk_172 (dk_at dksX6_peels_0 21 rfl rfl)
theorem dX6_peels_22 : decode cX6_peels 22 = .ok (.aload_n 0, 1) := dk_42 (dk_at dksX6_peels_0 22 rfl rfl)
theorem dX6_peels_23 : decode cX6_peels 23 = .ok (.getfield 7, 3) := dk_180 0 7 (dk_at dksX6_peels_1 0 rfl rfl)
theorem dX6_peels_26 : decode cX6_peels 26 = .ok (.sipush 230, 3) := dk_17 0 230 (dk_at dksX6_peels_1 3 rfl rfl)
theorem dX6_peels_29 : decode cX6_peels 29 = .ok (.iload_n 1, 1) := dk_27 (dk_at dksX6_peels_1 6 rfl rfl)
theorem dX6_peels_30 : decode cX6_peels 30 = .ok (.iadd, 1) := dk_96 (dk_at dksX6_peels_1 7 rfl rfl)
theorem dX6_peels_31 : decode cX6_peels 31 = .ok (.laload, 1) := dk_47 (dk_at dksX6_peels_1 8 rfl rfl)
theorem dX6_peels_32 : decode cX6_peels 32 = .ok (.aload_n 0, 1) := dk_42 (dk_at dksX6_peels_1 9 rfl rfl)
theorem dX6_peels_33 : decode cX6_peels 33 = .ok (.getfield 38, 3) := dk_180 0 38 (dk_at dksX6_peels_1 10 rfl rfl)
theorem dX6_peels_36 : decode cX6_peels 36 = .ok (.iload_n 1, 1) := dk_27 (dk_at dksX6_peels_1 13 rfl rfl)
theorem dX6_peels_37 : decode cX6_peels 37 = .ok (.laload, 1) := dk_47 (dk_at dksX6_peels_1 14 rfl rfl)
theorem dX6_peels_38 : decode cX6_peels 38 = .ok (.lcmp, 1) := dk_148 (dk_at dksX6_peels_1 15 rfl rfl)
theorem dX6_peels_39 : decode cX6_peels 39 = .ok (.ifCond .lt 20, 3) := dk_155 0 20 (dk_at dksX6_peels_1 16 rfl rfl)
theorem dX6_peels_42 : decode cX6_peels 42 = .ok (.iload_n 1, 1) := dk_27 (dk_at dksX6_peels_1 19 rfl rfl)
theorem dX6_peels_43 : decode cX6_peels 43 = .ok (.iconst 2, 1) := dk_5 (dk_at dksX6_peels_1 20 rfl rfl)
theorem dX6_peels_44 : decode cX6_peels 44 = .ok (.irem, 1) := dk_112 (dk_at dksX6_peels_1 21 rfl rfl)
theorem dX6_peels_45 : decode cX6_peels 45 = .ok (.iconst 1, 1) := dk_4 (dk_at dksX6_peels_1 22 rfl rfl)
theorem dX6_peels_46 : decode cX6_peels 46 = .ok (.if_icmp .eq 13, 3) := dk_159 0 13 (dk_at dksX6_peels_2 0 rfl rfl)
theorem dX6_peels_49 : decode cX6_peels 49 = .ok (.iload_n 1, 1) := dk_27 (dk_at dksX6_peels_2 3 rfl rfl)
theorem dX6_peels_50 : decode cX6_peels 50 = .ok (.iconst 2, 1) := dk_5 (dk_at dksX6_peels_2 4 rfl rfl)
theorem dX6_peels_51 : decode cX6_peels 51 = .ok (.aload_n 0, 1) := dk_42 (dk_at dksX6_peels_2 5 rfl rfl)
theorem dX6_peels_52 : decode cX6_peels 52 = .ok (.getfield 231, 3) := dk_180 0 231 (dk_at dksX6_peels_2 6 rfl rfl)
theorem dX6_peels_55 : decode cX6_peels 55 = .ok (.imul, 1) := dk_104 (dk_at dksX6_peels_2 9 rfl rfl)
theorem dX6_peels_56 : decode cX6_peels 56 = .ok (.if_icmp .gt 10, 3) := dk_163 0 10 (dk_at dksX6_peels_2 10 rfl rfl)
theorem dX6_peels_59 : decode cX6_peels 59 = .ok (.aload_n 0, 1) := dk_42 (dk_at dksX6_peels_2 13 rfl rfl)
theorem dX6_peels_60 : decode cX6_peels 60 = .ok (.iconst 1, 1) := dk_4 (dk_at dksX6_peels_2 14 rfl rfl)
theorem dX6_peels_61 : decode cX6_peels 61 = .ok (.putfield 240, 3) := dk_181 0 240 (dk_at dksX6_peels_2 15 rfl rfl)
theorem dX6_peels_64 : decode cX6_peels 64 = .ok (.iconst 0, 1) := dk_3 (dk_at dksX6_peels_2 18 rfl rfl)
theorem dX6_peels_65 : decode cX6_peels 65 = .ok (.ireturn, 1) := dk_172 (dk_at dksX6_peels_2 19 rfl rfl)
theorem dX6_peels_66 : decode cX6_peels 66 = .ok (.iload_n 1, 1) := dk_27 (dk_at dksX6_peels_2 20 rfl rfl)
theorem dX6_peels_67 : decode cX6_peels 67 = .ok (.iconst 2, 1) := dk_5 (dk_at dksX6_peels_2 21 rfl rfl)
theorem dX6_peels_68 : decode cX6_peels 68 = .ok (.idiv, 1) := dk_108 (dk_at dksX6_peels_2 22 rfl rfl)
theorem dX6_peels_69 : decode cX6_peels 69 = .ok (.aload_n 0, 1) := dk_42 (dk_at dksX6_peels_2 23 rfl rfl)
theorem dX6_peels_70 : decode cX6_peels 70 = .ok (.getfield 231, 3) := dk_180 0 231 (dk_at dksX6_peels_3 0 rfl rfl)
theorem dX6_peels_73 : decode cX6_peels 73 = .ok (.isub, 1) := dk_100 (dk_at dksX6_peels_3 3 rfl rfl)
theorem dX6_peels_74 : decode cX6_peels 74 = .ok (.bipush 20, 2) := dk_16 20 (dk_at dksX6_peels_3 4 rfl rfl)
theorem dX6_peels_76 : decode cX6_peels 76 = .ok (.if_icmp .gt 12, 3) := dk_163 0 12 (dk_at dksX6_peels_3 6 rfl rfl)
theorem dX6_peels_79 : decode cX6_peels 79 = .ok (.aload_n 0, 1) := dk_42 (dk_at dksX6_peels_3 9 rfl rfl)
theorem dX6_peels_80 : decode cX6_peels 80 = .ok (.getfield 79, 3) := dk_180 0 79 (dk_at dksX6_peels_3 10 rfl rfl)
theorem dX6_peels_83 : decode cX6_peels 83 = .ok (.bipush 8, 2) := dk_16 8 (dk_at dksX6_peels_3 13 rfl rfl)
theorem dX6_peels_85 : decode cX6_peels 85 = .ok (.if_icmp .ne 10, 3) := dk_160 0 10 (dk_at dksX6_peels_3 15 rfl rfl)
theorem dX6_peels_88 : decode cX6_peels 88 = .ok (.aload_n 0, 1) := dk_42 (dk_at dksX6_peels_3 18 rfl rfl)
theorem dX6_peels_89 : decode cX6_peels 89 = .ok (.iconst 2, 1) := dk_5 (dk_at dksX6_peels_3 19 rfl rfl)
theorem dX6_peels_90 : decode cX6_peels 90 = .ok (.putfield 240, 3) := dk_181 0 240 (dk_at dksX6_peels_3 20 rfl rfl)
theorem dX6_peels_93 : decode cX6_peels 93 = .ok (.iconst 0, 1) := dk_3 (dk_at dksX6_peels_3 23 rfl rfl)
theorem dX6_peels_94 : decode cX6_peels 94 = .ok (.ireturn, 1) := dk_172 (dk_at dksX6_peels_4 0 rfl rfl)
theorem dX6_peels_95 : decode cX6_peels 95 = .ok (.aload_n 0, 1) := dk_42 (dk_at dksX6_peels_4 1 rfl rfl)
theorem dX6_peels_96 : decode cX6_peels 96 = .ok (.iconst 1, 1) := dk_4 (dk_at dksX6_peels_4 2 rfl rfl)
theorem dX6_peels_97 : decode cX6_peels 97 = .ok (.putfield 240, 3) := dk_181 0 240 (dk_at dksX6_peels_4 3 rfl rfl)
theorem dX6_peels_100 : decode cX6_peels 100 = .ok (.aload_n 0, 1) := dk_42 (dk_at dksX6_peels_4 6 rfl rfl)
theorem dX6_peels_101 : decode cX6_peels 101 = .ok (.iload_n 1, 1) := dk_27 (dk_at dksX6_peels_4 7 rfl rfl)
theorem dX6_peels_102 : decode cX6_peels 102 = .ok (.invokevirtual 243, 3) := dk_182 0 243 (dk_at dksX6_peels_4 8 rfl rfl)
theorem dX6_peels_105 : decode cX6_peels 105 = .ok (.ireturn, 1) := dk_172 (dk_at dksX6_peels_4 11 rfl rfl)
abbrev cX6_firstUnlike : ByteArray := prog_10_method_60_code
def yX6_firstUnlike : MethodName := ⟨RX6, "firstUnlike", "()I"⟩
def dkwX6_firstUnlike_1 : List UInt8 := [27, 47, 148, 153, 0, 5, 27, 172, 132, 1, 1, 167, 255, 223, 2, 172]
abbrev dktX6_firstUnlike_1 : List UInt8 := dkwX6_firstUnlike_1 ++ []
def dkwX6_firstUnlike_0 : List UInt8 := [3, 60, 27, 42, 182, 0, 110, 163, 0, 31, 42, 180, 0, 7, 17, 0, 230, 27, 96, 47, 42, 180, 0, 38]
abbrev dktX6_firstUnlike_0 : List UInt8 := dkwX6_firstUnlike_0 ++ dktX6_firstUnlike_1
theorem dksX6_firstUnlike_0 : cX6_firstUnlike.data.toList.drop 0 = dktX6_firstUnlike_0 := by decide +kernel
theorem dksX6_firstUnlike_1 : cX6_firstUnlike.data.toList.drop 24 = dktX6_firstUnlike_1 := dk_seg dksX6_firstUnlike_0 24 rfl rfl
theorem dX6_firstUnlike_0 : decode cX6_firstUnlike 0 = .ok (.iconst 0, 1) := dk_3 (dk_at dksX6_firstUnlike_0 0 rfl rfl)
theorem dX6_firstUnlike_1 : decode cX6_firstUnlike 1 = .ok (.istore_n 1, 1) := dk_60 (dk_at dksX6_firstUnlike_0 1 rfl rfl)
theorem dX6_firstUnlike_2 : decode cX6_firstUnlike 2 = .ok (.iload_n 1, 1) := dk_27 (dk_at dksX6_firstUnlike_0 2 rfl rfl)
theorem dX6_firstUnlike_3 : decode cX6_firstUnlike 3 = .ok (.aload_n 0, 1) := dk_42 (dk_at dksX6_firstUnlike_0 3 rfl rfl)
theorem dX6_firstUnlike_4 : decode cX6_firstUnlike 4 = .ok (.invokevirtual 110, 3) := dk_182 0 110 (dk_at dksX6_firstUnlike_0 4 rfl rfl)
theorem dX6_firstUnlike_7 : decode cX6_firstUnlike 7 = .ok (.if_icmp .gt 31, 3) := dk_163 0 31 (dk_at dksX6_firstUnlike_0 7 rfl rfl)
theorem dX6_firstUnlike_10 : decode cX6_firstUnlike 10 = .ok (.aload_n 0, 1) := dk_42 (dk_at dksX6_firstUnlike_0 10 rfl rfl)
theorem dX6_firstUnlike_11 : decode cX6_firstUnlike 11 = .ok (.getfield 7, 3) := dk_180 0 7 (dk_at dksX6_firstUnlike_0 11 rfl rfl)
theorem dX6_firstUnlike_14 : decode cX6_firstUnlike 14 = .ok (.sipush 230, 3) := dk_17 0 230 (dk_at dksX6_firstUnlike_0 14 rfl rfl)
theorem dX6_firstUnlike_17 : decode cX6_firstUnlike 17 = .ok (.iload_n 1, 1) := dk_27 (dk_at dksX6_firstUnlike_0 17 rfl rfl)
theorem dX6_firstUnlike_18 : decode cX6_firstUnlike 18 = .ok (.iadd, 1) := dk_96 (dk_at dksX6_firstUnlike_0 18 rfl rfl)
theorem dX6_firstUnlike_19 : decode cX6_firstUnlike 19 = .ok (.laload, 1) := dk_47 (dk_at dksX6_firstUnlike_0 19 rfl rfl)
theorem dX6_firstUnlike_20 : decode cX6_firstUnlike 20 = .ok (.aload_n 0, 1) := dk_42 (dk_at dksX6_firstUnlike_0 20 rfl rfl)
theorem dX6_firstUnlike_21 : decode cX6_firstUnlike 21 = .ok (.getfield 38, 3) := dk_180 0 38 (dk_at dksX6_firstUnlike_0 21 rfl rfl)
theorem dX6_firstUnlike_24 : decode cX6_firstUnlike 24 = .ok (.iload_n 1, 1) := dk_27 (dk_at dksX6_firstUnlike_1 0 rfl rfl)
theorem dX6_firstUnlike_25 : decode cX6_firstUnlike 25 = .ok (.laload, 1) := dk_47 (dk_at dksX6_firstUnlike_1 1 rfl rfl)
theorem dX6_firstUnlike_26 : decode cX6_firstUnlike 26 = .ok (.lcmp, 1) := dk_148 (dk_at dksX6_firstUnlike_1 2 rfl rfl)
theorem dX6_firstUnlike_27 : decode cX6_firstUnlike 27 = .ok (.ifCond .eq 5, 3) := dk_153 0 5 (dk_at dksX6_firstUnlike_1 3 rfl rfl)
theorem dX6_firstUnlike_30 : decode cX6_firstUnlike 30 = .ok (.iload_n 1, 1) := dk_27 (dk_at dksX6_firstUnlike_1 6 rfl rfl)
theorem dX6_firstUnlike_31 : decode cX6_firstUnlike 31 = .ok (.ireturn, 1) := dk_172 (dk_at dksX6_firstUnlike_1 7 rfl rfl)
theorem dX6_firstUnlike_32 : decode cX6_firstUnlike 32 = .ok (.iinc 1 1, 3) := dk_132 1 1 (dk_at dksX6_firstUnlike_1 8 rfl rfl)
theorem dX6_firstUnlike_35 : decode cX6_firstUnlike 35 = .ok (.goto (-33), 3) := dk_167 255 223 (dk_at dksX6_firstUnlike_1 11 rfl rfl)
theorem dX6_firstUnlike_38 : decode cX6_firstUnlike 38 = .ok (.iconst (-1), 1) := dk_2 (dk_at dksX6_firstUnlike_1 14 rfl rfl)
theorem dX6_firstUnlike_39 : decode cX6_firstUnlike 39 = .ok (.ireturn, 1) := dk_172 (dk_at dksX6_firstUnlike_1 15 rfl rfl)
abbrev cX6_puts : ByteArray := prog_10_method_61_code
def yX6_puts : MethodName := ⟨RX6, "puts", "(I)Z"⟩
def dkwX6_puts_8 : List UInt8 := [180, 0, 231, 21, 5, 153, 0, 7, 28, 167, 0, 4, 3, 96, 181, 0, 231, 21, 5, 172]
abbrev dktX6_puts_8 : List UInt8 := dkwX6_puts_8 ++ []
def dkwX6_puts_7 : List UInt8 := [54, 5, 42, 89, 180, 0, 79, 21, 5, 153, 0, 7, 3, 167, 0, 4, 4, 100, 181, 0, 79, 42, 89]
abbrev dktX6_puts_7 : List UInt8 := dkwX6_puts_7 ++ dktX6_puts_8
def dkwX6_puts_6 : List UInt8 := [180, 0, 38, 27, 47, 42, 180, 0, 7, 17, 0, 230, 27, 96, 47, 148, 154, 0, 7, 4, 167, 0, 4, 3]
abbrev dktX6_puts_6 : List UInt8 := dkwX6_puts_6 ++ dktX6_puts_7
def dkwX6_puts_5 : List UInt8 := [21, 5, 54, 4, 167, 255, 169, 42, 180, 0, 23, 42, 180, 0, 79, 29, 79, 42, 182, 0, 117, 42]
abbrev dktX6_puts_5 : List UInt8 := dkwX6_puts_5 ++ dktX6_puts_6
def dkwX6_puts_4 : List UInt8 := [180, 0, 38, 27, 47, 42, 180, 0, 7, 17, 0, 230, 27, 96, 47, 148, 156, 0, 8, 21, 4, 167, 0, 5]
abbrev dktX6_puts_4 : List UInt8 := dkwX6_puts_4 ++ dktX6_puts_5
def dkwX6_puts_3 : List UInt8 := [180, 0, 7, 17, 0, 230, 27, 96, 47, 148, 156, 0, 10, 21, 5, 4, 96, 167, 0, 4, 29, 62, 42]
abbrev dktX6_puts_3 : List UInt8 := dkwX6_puts_3 ++ dktX6_puts_4
def dkwX6_puts_2 : List UInt8 := [54, 5, 42, 180, 0, 23, 42, 180, 0, 79, 21, 5, 79, 42, 182, 0, 117, 42, 180, 0, 38, 27, 47, 42]
abbrev dktX6_puts_2 : List UInt8 := dkwX6_puts_2 ++ dktX6_puts_3
def dkwX6_puts_1 : List UInt8 := [28, 79, 42, 89, 180, 0, 79, 4, 96, 181, 0, 79, 29, 21, 4, 162, 0, 87, 29, 21, 4, 96, 5, 108]
abbrev dktX6_puts_1 : List UInt8 := dkwX6_puts_1 ++ dktX6_puts_2
def dkwX6_puts_0 : List UInt8 := [27, 5, 108, 42, 180, 0, 231, 100, 61, 4, 62, 17, 3, 232, 54, 4, 42, 180, 0, 20, 42, 180, 0, 79]
abbrev dktX6_puts_0 : List UInt8 := dkwX6_puts_0 ++ dktX6_puts_1
theorem dksX6_puts_0 : cX6_puts.data.toList.drop 0 = dktX6_puts_0 := by decide +kernel
theorem dksX6_puts_1 : cX6_puts.data.toList.drop 24 = dktX6_puts_1 := dk_seg dksX6_puts_0 24 rfl rfl
theorem dksX6_puts_2 : cX6_puts.data.toList.drop 48 = dktX6_puts_2 := dk_seg dksX6_puts_1 24 rfl rfl
theorem dksX6_puts_3 : cX6_puts.data.toList.drop 72 = dktX6_puts_3 := dk_seg dksX6_puts_2 24 rfl rfl
theorem dksX6_puts_4 : cX6_puts.data.toList.drop 95 = dktX6_puts_4 := dk_seg dksX6_puts_3 23 rfl rfl
theorem dksX6_puts_5 : cX6_puts.data.toList.drop 119 = dktX6_puts_5 := dk_seg dksX6_puts_4 24 rfl rfl
theorem dksX6_puts_6 : cX6_puts.data.toList.drop 141 = dktX6_puts_6 := dk_seg dksX6_puts_5 22 rfl rfl
theorem dksX6_puts_7 : cX6_puts.data.toList.drop 165 = dktX6_puts_7 := dk_seg dksX6_puts_6 24 rfl rfl
theorem dksX6_puts_8 : cX6_puts.data.toList.drop 188 = dktX6_puts_8 := dk_seg dksX6_puts_7 23 rfl rfl
theorem dX6_puts_0 : decode cX6_puts 0 = .ok (.iload_n 1, 1) := dk_27 (dk_at dksX6_puts_0 0 rfl rfl)
theorem dX6_puts_1 : decode cX6_puts 1 = .ok (.iconst 2, 1) := dk_5 (dk_at dksX6_puts_0 1 rfl rfl)
theorem dX6_puts_2 : decode cX6_puts 2 = .ok (.idiv, 1) := dk_108 (dk_at dksX6_puts_0 2 rfl rfl)
theorem dX6_puts_3 : decode cX6_puts 3 = .ok (.aload_n 0, 1) := dk_42 (dk_at dksX6_puts_0 3 rfl rfl)
theorem dX6_puts_4 : decode cX6_puts 4 = .ok (.getfield 231, 3) := dk_180 0 231 (dk_at dksX6_puts_0 4 rfl rfl)
theorem dX6_puts_7 : decode cX6_puts 7 = .ok (.isub, 1) := dk_100 (dk_at dksX6_puts_0 7 rfl rfl)
theorem dX6_puts_8 : decode cX6_puts 8 = .ok (.istore_n 2, 1) := dk_61 (dk_at dksX6_puts_0 8 rfl rfl)
theorem dX6_puts_9 : decode cX6_puts 9 = .ok (.iconst 1, 1) := dk_4 (dk_at dksX6_puts_0 9 rfl rfl)
theorem dX6_puts_10 : decode cX6_puts 10 = .ok (.istore_n 3, 1) := dk_62 (dk_at dksX6_puts_0 10 rfl rfl)
theorem dX6_puts_11 : decode cX6_puts 11 = .ok (.sipush 1000, 3) := dk_17 3 232 (dk_at dksX6_puts_0 11 rfl rfl)
theorem dX6_puts_14 : decode cX6_puts 14 = .ok (.istore 4, 2) := dk_54 4 (dk_at dksX6_puts_0 14 rfl rfl)
theorem dX6_puts_16 : decode cX6_puts 16 = .ok (.aload_n 0, 1) := dk_42 (dk_at dksX6_puts_0 16 rfl rfl)
theorem dX6_puts_17 : decode cX6_puts 17 = .ok (.getfield 20, 3) := dk_180 0 20 (dk_at dksX6_puts_0 17 rfl rfl)
theorem dX6_puts_20 : decode cX6_puts 20 = .ok (.aload_n 0, 1) := dk_42 (dk_at dksX6_puts_0 20 rfl rfl)
theorem dX6_puts_21 : decode cX6_puts 21 = .ok (.getfield 79, 3) := dk_180 0 79 (dk_at dksX6_puts_0 21 rfl rfl)
theorem dX6_puts_24 : decode cX6_puts 24 = .ok (.iload_n 2, 1) := dk_28 (dk_at dksX6_puts_1 0 rfl rfl)
theorem dX6_puts_25 : decode cX6_puts 25 = .ok (.iastore, 1) := dk_79 (dk_at dksX6_puts_1 1 rfl rfl)
theorem dX6_puts_26 : decode cX6_puts 26 = .ok (.aload_n 0, 1) := dk_42 (dk_at dksX6_puts_1 2 rfl rfl)
theorem dX6_puts_27 : decode cX6_puts 27 = .ok (.dup, 1) := dk_89 (dk_at dksX6_puts_1 3 rfl rfl)
theorem dX6_puts_28 : decode cX6_puts 28 = .ok (.getfield 79, 3) := dk_180 0 79 (dk_at dksX6_puts_1 4 rfl rfl)
theorem dX6_puts_31 : decode cX6_puts 31 = .ok (.iconst 1, 1) := dk_4 (dk_at dksX6_puts_1 7 rfl rfl)
theorem dX6_puts_32 : decode cX6_puts 32 = .ok (.iadd, 1) := dk_96 (dk_at dksX6_puts_1 8 rfl rfl)
theorem dX6_puts_33 : decode cX6_puts 33 = .ok (.putfield 79, 3) := dk_181 0 79 (dk_at dksX6_puts_1 9 rfl rfl)
theorem dX6_puts_36 : decode cX6_puts 36 = .ok (.iload_n 3, 1) := dk_29 (dk_at dksX6_puts_1 12 rfl rfl)
theorem dX6_puts_37 : decode cX6_puts 37 = .ok (.iload 4, 2) := dk_21 4 (dk_at dksX6_puts_1 13 rfl rfl)
theorem dX6_puts_39 : decode cX6_puts 39 = .ok (.if_icmp .ge 87, 3) := dk_162 0 87 (dk_at dksX6_puts_1 15 rfl rfl)
theorem dX6_puts_42 : decode cX6_puts 42 = .ok (.iload_n 3, 1) := dk_29 (dk_at dksX6_puts_1 18 rfl rfl)
theorem dX6_puts_43 : decode cX6_puts 43 = .ok (.iload 4, 2) := dk_21 4 (dk_at dksX6_puts_1 19 rfl rfl)
theorem dX6_puts_45 : decode cX6_puts 45 = .ok (.iadd, 1) := dk_96 (dk_at dksX6_puts_1 21 rfl rfl)
theorem dX6_puts_46 : decode cX6_puts 46 = .ok (.iconst 2, 1) := dk_5 (dk_at dksX6_puts_1 22 rfl rfl)
theorem dX6_puts_47 : decode cX6_puts 47 = .ok (.idiv, 1) := dk_108 (dk_at dksX6_puts_1 23 rfl rfl)
theorem dX6_puts_48 : decode cX6_puts 48 = .ok (.istore 5, 2) := dk_54 5 (dk_at dksX6_puts_2 0 rfl rfl)
theorem dX6_puts_50 : decode cX6_puts 50 = .ok (.aload_n 0, 1) := dk_42 (dk_at dksX6_puts_2 2 rfl rfl)
theorem dX6_puts_51 : decode cX6_puts 51 = .ok (.getfield 23, 3) := dk_180 0 23 (dk_at dksX6_puts_2 3 rfl rfl)
theorem dX6_puts_54 : decode cX6_puts 54 = .ok (.aload_n 0, 1) := dk_42 (dk_at dksX6_puts_2 6 rfl rfl)
theorem dX6_puts_55 : decode cX6_puts 55 = .ok (.getfield 79, 3) := dk_180 0 79 (dk_at dksX6_puts_2 7 rfl rfl)
theorem dX6_puts_58 : decode cX6_puts 58 = .ok (.iload 5, 2) := dk_21 5 (dk_at dksX6_puts_2 10 rfl rfl)
theorem dX6_puts_60 : decode cX6_puts 60 = .ok (.iastore, 1) := dk_79 (dk_at dksX6_puts_2 12 rfl rfl)
theorem dX6_puts_61 : decode cX6_puts 61 = .ok (.aload_n 0, 1) := dk_42 (dk_at dksX6_puts_2 13 rfl rfl)
theorem dX6_puts_62 : decode cX6_puts 62 = .ok (.invokevirtual 117, 3) := dk_182 0 117 (dk_at dksX6_puts_2 14 rfl rfl)
theorem dX6_puts_65 : decode cX6_puts 65 = .ok (.aload_n 0, 1) := dk_42 (dk_at dksX6_puts_2 17 rfl rfl)
theorem dX6_puts_66 : decode cX6_puts 66 = .ok (.getfield 38, 3) := dk_180 0 38 (dk_at dksX6_puts_2 18 rfl rfl)
theorem dX6_puts_69 : decode cX6_puts 69 = .ok (.iload_n 1, 1) := dk_27 (dk_at dksX6_puts_2 21 rfl rfl)
theorem dX6_puts_70 : decode cX6_puts 70 = .ok (.laload, 1) := dk_47 (dk_at dksX6_puts_2 22 rfl rfl)
theorem dX6_puts_71 : decode cX6_puts 71 = .ok (.aload_n 0, 1) := dk_42 (dk_at dksX6_puts_2 23 rfl rfl)
theorem dX6_puts_72 : decode cX6_puts 72 = .ok (.getfield 7, 3) := dk_180 0 7 (dk_at dksX6_puts_3 0 rfl rfl)
theorem dX6_puts_75 : decode cX6_puts 75 = .ok (.sipush 230, 3) := dk_17 0 230 (dk_at dksX6_puts_3 3 rfl rfl)
theorem dX6_puts_78 : decode cX6_puts 78 = .ok (.iload_n 1, 1) := dk_27 (dk_at dksX6_puts_3 6 rfl rfl)
theorem dX6_puts_79 : decode cX6_puts 79 = .ok (.iadd, 1) := dk_96 (dk_at dksX6_puts_3 7 rfl rfl)
theorem dX6_puts_80 : decode cX6_puts 80 = .ok (.laload, 1) := dk_47 (dk_at dksX6_puts_3 8 rfl rfl)
theorem dX6_puts_81 : decode cX6_puts 81 = .ok (.lcmp, 1) := dk_148 (dk_at dksX6_puts_3 9 rfl rfl)
theorem dX6_puts_82 : decode cX6_puts 82 = .ok (.ifCond .ge 10, 3) := dk_156 0 10 (dk_at dksX6_puts_3 10 rfl rfl)
theorem dX6_puts_85 : decode cX6_puts 85 = .ok (.iload 5, 2) := dk_21 5 (dk_at dksX6_puts_3 13 rfl rfl)
theorem dX6_puts_87 : decode cX6_puts 87 = .ok (.iconst 1, 1) := dk_4 (dk_at dksX6_puts_3 15 rfl rfl)
theorem dX6_puts_88 : decode cX6_puts 88 = .ok (.iadd, 1) := dk_96 (dk_at dksX6_puts_3 16 rfl rfl)
theorem dX6_puts_89 : decode cX6_puts 89 = .ok (.goto 4, 3) := dk_167 0 4 (dk_at dksX6_puts_3 17 rfl rfl)
theorem dX6_puts_92 : decode cX6_puts 92 = .ok (.iload_n 3, 1) := dk_29 (dk_at dksX6_puts_3 20 rfl rfl)
theorem dX6_puts_93 : decode cX6_puts 93 = .ok (.istore_n 3, 1) := dk_62 (dk_at dksX6_puts_3 21 rfl rfl)
theorem dX6_puts_94 : decode cX6_puts 94 = .ok (.aload_n 0, 1) := dk_42 (dk_at dksX6_puts_3 22 rfl rfl)
theorem dX6_puts_95 : decode cX6_puts 95 = .ok (.getfield 38, 3) := dk_180 0 38 (dk_at dksX6_puts_4 0 rfl rfl)
theorem dX6_puts_98 : decode cX6_puts 98 = .ok (.iload_n 1, 1) := dk_27 (dk_at dksX6_puts_4 3 rfl rfl)
theorem dX6_puts_99 : decode cX6_puts 99 = .ok (.laload, 1) := dk_47 (dk_at dksX6_puts_4 4 rfl rfl)
theorem dX6_puts_100 : decode cX6_puts 100 = .ok (.aload_n 0, 1) := dk_42 (dk_at dksX6_puts_4 5 rfl rfl)
theorem dX6_puts_101 : decode cX6_puts 101 = .ok (.getfield 7, 3) := dk_180 0 7 (dk_at dksX6_puts_4 6 rfl rfl)
theorem dX6_puts_104 : decode cX6_puts 104 = .ok (.sipush 230, 3) := dk_17 0 230 (dk_at dksX6_puts_4 9 rfl rfl)
theorem dX6_puts_107 : decode cX6_puts 107 = .ok (.iload_n 1, 1) := dk_27 (dk_at dksX6_puts_4 12 rfl rfl)
theorem dX6_puts_108 : decode cX6_puts 108 = .ok (.iadd, 1) := dk_96 (dk_at dksX6_puts_4 13 rfl rfl)
theorem dX6_puts_109 : decode cX6_puts 109 = .ok (.laload, 1) := dk_47 (dk_at dksX6_puts_4 14 rfl rfl)
theorem dX6_puts_110 : decode cX6_puts 110 = .ok (.lcmp, 1) := dk_148 (dk_at dksX6_puts_4 15 rfl rfl)
theorem dX6_puts_111 : decode cX6_puts 111 = .ok (.ifCond .ge 8, 3) := dk_156 0 8 (dk_at dksX6_puts_4 16 rfl rfl)
theorem dX6_puts_114 : decode cX6_puts 114 = .ok (.iload 4, 2) := dk_21 4 (dk_at dksX6_puts_4 19 rfl rfl)
theorem dX6_puts_116 : decode cX6_puts 116 = .ok (.goto 5, 3) := dk_167 0 5 (dk_at dksX6_puts_4 21 rfl rfl)
theorem dX6_puts_119 : decode cX6_puts 119 = .ok (.iload 5, 2) := dk_21 5 (dk_at dksX6_puts_5 0 rfl rfl)
theorem dX6_puts_121 : decode cX6_puts 121 = .ok (.istore 4, 2) := dk_54 4 (dk_at dksX6_puts_5 2 rfl rfl)
theorem dX6_puts_123 : decode cX6_puts 123 = .ok (.goto (-87), 3) := dk_167 255 169 (dk_at dksX6_puts_5 4 rfl rfl)
theorem dX6_puts_126 : decode cX6_puts 126 = .ok (.aload_n 0, 1) := dk_42 (dk_at dksX6_puts_5 7 rfl rfl)
theorem dX6_puts_127 : decode cX6_puts 127 = .ok (.getfield 23, 3) := dk_180 0 23 (dk_at dksX6_puts_5 8 rfl rfl)
theorem dX6_puts_130 : decode cX6_puts 130 = .ok (.aload_n 0, 1) := dk_42 (dk_at dksX6_puts_5 11 rfl rfl)
theorem dX6_puts_131 : decode cX6_puts 131 = .ok (.getfield 79, 3) := dk_180 0 79 (dk_at dksX6_puts_5 12 rfl rfl)
theorem dX6_puts_134 : decode cX6_puts 134 = .ok (.iload_n 3, 1) := dk_29 (dk_at dksX6_puts_5 15 rfl rfl)
theorem dX6_puts_135 : decode cX6_puts 135 = .ok (.iastore, 1) := dk_79 (dk_at dksX6_puts_5 16 rfl rfl)
theorem dX6_puts_136 : decode cX6_puts 136 = .ok (.aload_n 0, 1) := dk_42 (dk_at dksX6_puts_5 17 rfl rfl)
theorem dX6_puts_137 : decode cX6_puts 137 = .ok (.invokevirtual 117, 3) := dk_182 0 117 (dk_at dksX6_puts_5 18 rfl rfl)
theorem dX6_puts_140 : decode cX6_puts 140 = .ok (.aload_n 0, 1) := dk_42 (dk_at dksX6_puts_5 21 rfl rfl)
theorem dX6_puts_141 : decode cX6_puts 141 = .ok (.getfield 38, 3) := dk_180 0 38 (dk_at dksX6_puts_6 0 rfl rfl)
theorem dX6_puts_144 : decode cX6_puts 144 = .ok (.iload_n 1, 1) := dk_27 (dk_at dksX6_puts_6 3 rfl rfl)
theorem dX6_puts_145 : decode cX6_puts 145 = .ok (.laload, 1) := dk_47 (dk_at dksX6_puts_6 4 rfl rfl)
theorem dX6_puts_146 : decode cX6_puts 146 = .ok (.aload_n 0, 1) := dk_42 (dk_at dksX6_puts_6 5 rfl rfl)
theorem dX6_puts_147 : decode cX6_puts 147 = .ok (.getfield 7, 3) := dk_180 0 7 (dk_at dksX6_puts_6 6 rfl rfl)
theorem dX6_puts_150 : decode cX6_puts 150 = .ok (.sipush 230, 3) := dk_17 0 230 (dk_at dksX6_puts_6 9 rfl rfl)
theorem dX6_puts_153 : decode cX6_puts 153 = .ok (.iload_n 1, 1) := dk_27 (dk_at dksX6_puts_6 12 rfl rfl)
theorem dX6_puts_154 : decode cX6_puts 154 = .ok (.iadd, 1) := dk_96 (dk_at dksX6_puts_6 13 rfl rfl)
theorem dX6_puts_155 : decode cX6_puts 155 = .ok (.laload, 1) := dk_47 (dk_at dksX6_puts_6 14 rfl rfl)
theorem dX6_puts_156 : decode cX6_puts 156 = .ok (.lcmp, 1) := dk_148 (dk_at dksX6_puts_6 15 rfl rfl)
theorem dX6_puts_157 : decode cX6_puts 157 = .ok (.ifCond .ne 7, 3) := dk_154 0 7 (dk_at dksX6_puts_6 16 rfl rfl)
theorem dX6_puts_160 : decode cX6_puts 160 = .ok (.iconst 1, 1) := dk_4 (dk_at dksX6_puts_6 19 rfl rfl)
theorem dX6_puts_161 : decode cX6_puts 161 = .ok (.goto 4, 3) := dk_167 0 4 (dk_at dksX6_puts_6 20 rfl rfl)
theorem dX6_puts_164 : decode cX6_puts 164 = .ok (.iconst 0, 1) := dk_3 (dk_at dksX6_puts_6 23 rfl rfl)
theorem dX6_puts_165 : decode cX6_puts 165 = .ok (.istore 5, 2) := dk_54 5 (dk_at dksX6_puts_7 0 rfl rfl)
theorem dX6_puts_167 : decode cX6_puts 167 = .ok (.aload_n 0, 1) := dk_42 (dk_at dksX6_puts_7 2 rfl rfl)
theorem dX6_puts_168 : decode cX6_puts 168 = .ok (.dup, 1) := dk_89 (dk_at dksX6_puts_7 3 rfl rfl)
theorem dX6_puts_169 : decode cX6_puts 169 = .ok (.getfield 79, 3) := dk_180 0 79 (dk_at dksX6_puts_7 4 rfl rfl)
theorem dX6_puts_172 : decode cX6_puts 172 = .ok (.iload 5, 2) := dk_21 5 (dk_at dksX6_puts_7 7 rfl rfl)
theorem dX6_puts_174 : decode cX6_puts 174 = .ok (.ifCond .eq 7, 3) := dk_153 0 7 (dk_at dksX6_puts_7 9 rfl rfl)
theorem dX6_puts_177 : decode cX6_puts 177 = .ok (.iconst 0, 1) := dk_3 (dk_at dksX6_puts_7 12 rfl rfl)
theorem dX6_puts_178 : decode cX6_puts 178 = .ok (.goto 4, 3) := dk_167 0 4 (dk_at dksX6_puts_7 13 rfl rfl)
theorem dX6_puts_181 : decode cX6_puts 181 = .ok (.iconst 1, 1) := dk_4 (dk_at dksX6_puts_7 16 rfl rfl)
theorem dX6_puts_182 : decode cX6_puts 182 = .ok (.isub, 1) := dk_100 (dk_at dksX6_puts_7 17 rfl rfl)
theorem dX6_puts_183 : decode cX6_puts 183 = .ok (.putfield 79, 3) := dk_181 0 79 (dk_at dksX6_puts_7 18 rfl rfl)
theorem dX6_puts_186 : decode cX6_puts 186 = .ok (.aload_n 0, 1) := dk_42 (dk_at dksX6_puts_7 21 rfl rfl)
theorem dX6_puts_187 : decode cX6_puts 187 = .ok (.dup, 1) := dk_89 (dk_at dksX6_puts_7 22 rfl rfl)
theorem dX6_puts_188 : decode cX6_puts 188 = .ok (.getfield 231, 3) := dk_180 0 231 (dk_at dksX6_puts_8 0 rfl rfl)
theorem dX6_puts_191 : decode cX6_puts 191 = .ok (.iload 5, 2) := dk_21 5 (dk_at dksX6_puts_8 3 rfl rfl)
theorem dX6_puts_193 : decode cX6_puts 193 = .ok (.ifCond .eq 7, 3) := dk_153 0 7 (dk_at dksX6_puts_8 5 rfl rfl)
theorem dX6_puts_196 : decode cX6_puts 196 = .ok (.iload_n 2, 1) := dk_28 (dk_at dksX6_puts_8 8 rfl rfl)
theorem dX6_puts_197 : decode cX6_puts 197 = .ok (.goto 4, 3) := dk_167 0 4 (dk_at dksX6_puts_8 9 rfl rfl)
theorem dX6_puts_200 : decode cX6_puts 200 = .ok (.iconst 0, 1) := dk_3 (dk_at dksX6_puts_8 12 rfl rfl)
theorem dX6_puts_201 : decode cX6_puts 201 = .ok (.iadd, 1) := dk_96 (dk_at dksX6_puts_8 13 rfl rfl)
theorem dX6_puts_202 : decode cX6_puts 202 = .ok (.putfield 231, 3) := dk_181 0 231 (dk_at dksX6_puts_8 14 rfl rfl)
theorem dX6_puts_205 : decode cX6_puts 205 = .ok (.iload 5, 2) := dk_21 5 (dk_at dksX6_puts_8 17 rfl rfl)
theorem dX6_puts_207 : decode cX6_puts 207 = .ok (.ireturn, 1) := dk_172 (dk_at dksX6_puts_8 19 rfl rfl)
abbrev cX6_peelOf : ByteArray := prog_10_method_64_code
def yX6_peelOf : MethodName := ⟨RX6, "peelOf", "(I)I"⟩
def dkwX6_peelOf_1 : List UInt8 := [5, 160, 0, 10, 42, 180, 0, 79, 167, 0, 7, 42, 180, 0, 231, 172]
abbrev dktX6_peelOf_1 : List UInt8 := dkwX6_peelOf_1 ++ []
def dkwX6_peelOf_0 : List UInt8 := [27, 154, 0, 10, 42, 180, 0, 240, 167, 0, 31, 27, 4, 160, 0, 10, 42, 180, 0, 237, 167, 0, 19, 27]
abbrev dktX6_peelOf_0 : List UInt8 := dkwX6_peelOf_0 ++ dktX6_peelOf_1
theorem dksX6_peelOf_0 : cX6_peelOf.data.toList.drop 0 = dktX6_peelOf_0 := by decide +kernel
theorem dksX6_peelOf_1 : cX6_peelOf.data.toList.drop 24 = dktX6_peelOf_1 := dk_seg dksX6_peelOf_0 24 rfl rfl
theorem dX6_peelOf_0 : decode cX6_peelOf 0 = .ok (.iload_n 1, 1) := dk_27 (dk_at dksX6_peelOf_0 0 rfl rfl)
theorem dX6_peelOf_1 : decode cX6_peelOf 1 = .ok (.ifCond .ne 10, 3) := dk_154 0 10 (dk_at dksX6_peelOf_0 1 rfl rfl)
theorem dX6_peelOf_4 : decode cX6_peelOf 4 = .ok (.aload_n 0, 1) := dk_42 (dk_at dksX6_peelOf_0 4 rfl rfl)
theorem dX6_peelOf_5 : decode cX6_peelOf 5 = .ok (.getfield 240, 3) := dk_180 0 240 (dk_at dksX6_peelOf_0 5 rfl rfl)
theorem dX6_peelOf_8 : decode cX6_peelOf 8 = .ok (.goto 31, 3) := dk_167 0 31 (dk_at dksX6_peelOf_0 8 rfl rfl)
theorem dX6_peelOf_11 : decode cX6_peelOf 11 = .ok (.iload_n 1, 1) := dk_27 (dk_at dksX6_peelOf_0 11 rfl rfl)
theorem dX6_peelOf_12 : decode cX6_peelOf 12 = .ok (.iconst 1, 1) := dk_4 (dk_at dksX6_peelOf_0 12 rfl rfl)
theorem dX6_peelOf_13 : decode cX6_peelOf 13 = .ok (.if_icmp .ne 10, 3) := dk_160 0 10 (dk_at dksX6_peelOf_0 13 rfl rfl)
theorem dX6_peelOf_16 : decode cX6_peelOf 16 = .ok (.aload_n 0, 1) := dk_42 (dk_at dksX6_peelOf_0 16 rfl rfl)
theorem dX6_peelOf_17 : decode cX6_peelOf 17 = .ok (.getfield 237, 3) := dk_180 0 237 (dk_at dksX6_peelOf_0 17 rfl rfl)
theorem dX6_peelOf_20 : decode cX6_peelOf 20 = .ok (.goto 19, 3) := dk_167 0 19 (dk_at dksX6_peelOf_0 20 rfl rfl)
theorem dX6_peelOf_23 : decode cX6_peelOf 23 = .ok (.iload_n 1, 1) := dk_27 (dk_at dksX6_peelOf_0 23 rfl rfl)
theorem dX6_peelOf_24 : decode cX6_peelOf 24 = .ok (.iconst 2, 1) := dk_5 (dk_at dksX6_peelOf_1 0 rfl rfl)
theorem dX6_peelOf_25 : decode cX6_peelOf 25 = .ok (.if_icmp .ne 10, 3) := dk_160 0 10 (dk_at dksX6_peelOf_1 1 rfl rfl)
theorem dX6_peelOf_28 : decode cX6_peelOf 28 = .ok (.aload_n 0, 1) := dk_42 (dk_at dksX6_peelOf_1 4 rfl rfl)
theorem dX6_peelOf_29 : decode cX6_peelOf 29 = .ok (.getfield 79, 3) := dk_180 0 79 (dk_at dksX6_peelOf_1 5 rfl rfl)
theorem dX6_peelOf_32 : decode cX6_peelOf 32 = .ok (.goto 7, 3) := dk_167 0 7 (dk_at dksX6_peelOf_1 8 rfl rfl)
theorem dX6_peelOf_35 : decode cX6_peelOf 35 = .ok (.aload_n 0, 1) := dk_42 (dk_at dksX6_peelOf_1 11 rfl rfl)
theorem dX6_peelOf_36 : decode cX6_peelOf 36 = .ok (.getfield 231, 3) := dk_180 0 231 (dk_at dksX6_peelOf_1 12 rfl rfl)
theorem dX6_peelOf_39 : decode cX6_peelOf 39 = .ok (.ireturn, 1) := dk_172 (dk_at dksX6_peelOf_1 15 rfl rfl)
abbrev cX6_found : ByteArray := prog_10_method_66_code
def yX6_found : MethodName := ⟨RX6, "found", "(II)I"⟩
def dkwX6_found_2 : List UInt8 := [154, 0, 12, 42, 180, 0, 20, 27, 46, 167, 0, 11, 42, 180, 0, 23, 27, 4, 96, 46, 172]
abbrev dktX6_found_2 : List UInt8 := dkwX6_found_2 ++ []
def dkwX6_found_1 : List UInt8 := [180, 0, 48, 153, 0, 5, 3, 172, 42, 182, 0, 250, 27, 42, 180, 0, 79, 161, 0, 5, 2, 172, 28]
abbrev dktX6_found_1 : List UInt8 := dkwX6_found_1 ++ dktX6_found_2
def dkwX6_found_0 : List UInt8 := [42, 27, 155, 0, 17, 28, 133, 9, 10, 184, 0, 59, 153, 0, 7, 3, 167, 0, 4, 4, 181, 0, 48, 42]
abbrev dktX6_found_0 : List UInt8 := dkwX6_found_0 ++ dktX6_found_1
theorem dksX6_found_0 : cX6_found.data.toList.drop 0 = dktX6_found_0 := by decide +kernel
theorem dksX6_found_1 : cX6_found.data.toList.drop 24 = dktX6_found_1 := dk_seg dksX6_found_0 24 rfl rfl
theorem dksX6_found_2 : cX6_found.data.toList.drop 47 = dktX6_found_2 := dk_seg dksX6_found_1 23 rfl rfl
theorem dX6_found_0 : decode cX6_found 0 = .ok (.aload_n 0, 1) := dk_42 (dk_at dksX6_found_0 0 rfl rfl)
theorem dX6_found_1 : decode cX6_found 1 = .ok (.iload_n 1, 1) := dk_27 (dk_at dksX6_found_0 1 rfl rfl)
theorem dX6_found_2 : decode cX6_found 2 = .ok (.ifCond .lt 17, 3) := dk_155 0 17 (dk_at dksX6_found_0 2 rfl rfl)
theorem dX6_found_5 : decode cX6_found 5 = .ok (.iload_n 2, 1) := dk_28 (dk_at dksX6_found_0 5 rfl rfl)
theorem dX6_found_6 : decode cX6_found 6 = .ok (.i2l, 1) := dk_133 (dk_at dksX6_found_0 6 rfl rfl)
theorem dX6_found_7 : decode cX6_found 7 = .ok (.lconst 0, 1) := dk_9 (dk_at dksX6_found_0 7 rfl rfl)
theorem dX6_found_8 : decode cX6_found 8 = .ok (.lconst 1, 1) := dk_10 (dk_at dksX6_found_0 8 rfl rfl)
theorem dX6_found_9 : decode cX6_found 9 = .ok (.invokestatic 59, 3) := dk_184 0 59 (dk_at dksX6_found_0 9 rfl rfl)
theorem dX6_found_12 : decode cX6_found 12 = .ok (.ifCond .eq 7, 3) := dk_153 0 7 (dk_at dksX6_found_0 12 rfl rfl)
theorem dX6_found_15 : decode cX6_found 15 = .ok (.iconst 0, 1) := dk_3 (dk_at dksX6_found_0 15 rfl rfl)
theorem dX6_found_16 : decode cX6_found 16 = .ok (.goto 4, 3) := dk_167 0 4 (dk_at dksX6_found_0 16 rfl rfl)
theorem dX6_found_19 : decode cX6_found 19 = .ok (.iconst 1, 1) := dk_4 (dk_at dksX6_found_0 19 rfl rfl)
theorem dX6_found_20 : decode cX6_found 20 = .ok (.putfield 48, 3) := dk_181 0 48 (dk_at dksX6_found_0 20 rfl rfl)
theorem dX6_found_23 : decode cX6_found 23 = .ok (.aload_n 0, 1) := dk_42 (dk_at dksX6_found_0 23 rfl rfl)
theorem dX6_found_24 : decode cX6_found 24 = .ok (.getfield 48, 3) := dk_180 0 48 (dk_at dksX6_found_1 0 rfl rfl)
theorem dX6_found_27 : decode cX6_found 27 = .ok (.ifCond .eq 5, 3) := dk_153 0 5 (dk_at dksX6_found_1 3 rfl rfl)
theorem dX6_found_30 : decode cX6_found 30 = .ok (.iconst 0, 1) := dk_3 (dk_at dksX6_found_1 6 rfl rfl)
theorem dX6_found_31 : decode cX6_found 31 = .ok (.ireturn, 1) := dk_172 (dk_at dksX6_found_1 7 rfl rfl)
theorem dX6_found_32 : decode cX6_found 32 = .ok (.aload_n 0, 1) := dk_42 (dk_at dksX6_found_1 8 rfl rfl)
theorem dX6_found_33 : decode cX6_found 33 = .ok (.invokevirtual 250, 3) := dk_182 0 250 (dk_at dksX6_found_1 9 rfl rfl)
theorem dX6_found_36 : decode cX6_found 36 = .ok (.iload_n 1, 1) := dk_27 (dk_at dksX6_found_1 12 rfl rfl)
theorem dX6_found_37 : decode cX6_found 37 = .ok (.aload_n 0, 1) := dk_42 (dk_at dksX6_found_1 13 rfl rfl)
theorem dX6_found_38 : decode cX6_found 38 = .ok (.getfield 79, 3) := dk_180 0 79 (dk_at dksX6_found_1 14 rfl rfl)
theorem dX6_found_41 : decode cX6_found 41 = .ok (.if_icmp .lt 5, 3) := dk_161 0 5 (dk_at dksX6_found_1 17 rfl rfl)
theorem dX6_found_44 : decode cX6_found 44 = .ok (.iconst (-1), 1) := dk_2 (dk_at dksX6_found_1 20 rfl rfl)
theorem dX6_found_45 : decode cX6_found 45 = .ok (.ireturn, 1) := dk_172 (dk_at dksX6_found_1 21 rfl rfl)
theorem dX6_found_46 : decode cX6_found 46 = .ok (.iload_n 2, 1) := dk_28 (dk_at dksX6_found_1 22 rfl rfl)
theorem dX6_found_47 : decode cX6_found 47 = .ok (.ifCond .ne 12, 3) := dk_154 0 12 (dk_at dksX6_found_2 0 rfl rfl)
theorem dX6_found_50 : decode cX6_found 50 = .ok (.aload_n 0, 1) := dk_42 (dk_at dksX6_found_2 3 rfl rfl)
theorem dX6_found_51 : decode cX6_found 51 = .ok (.getfield 20, 3) := dk_180 0 20 (dk_at dksX6_found_2 4 rfl rfl)
theorem dX6_found_54 : decode cX6_found 54 = .ok (.iload_n 1, 1) := dk_27 (dk_at dksX6_found_2 7 rfl rfl)
theorem dX6_found_55 : decode cX6_found 55 = .ok (.iaload, 1) := dk_46 (dk_at dksX6_found_2 8 rfl rfl)
theorem dX6_found_56 : decode cX6_found 56 = .ok (.goto 11, 3) := dk_167 0 11 (dk_at dksX6_found_2 9 rfl rfl)
theorem dX6_found_59 : decode cX6_found 59 = .ok (.aload_n 0, 1) := dk_42 (dk_at dksX6_found_2 12 rfl rfl)
theorem dX6_found_60 : decode cX6_found 60 = .ok (.getfield 23, 3) := dk_180 0 23 (dk_at dksX6_found_2 13 rfl rfl)
theorem dX6_found_63 : decode cX6_found 63 = .ok (.iload_n 1, 1) := dk_27 (dk_at dksX6_found_2 16 rfl rfl)
theorem dX6_found_64 : decode cX6_found 64 = .ok (.iconst 1, 1) := dk_4 (dk_at dksX6_found_2 17 rfl rfl)
theorem dX6_found_65 : decode cX6_found 65 = .ok (.iadd, 1) := dk_96 (dk_at dksX6_found_2 18 rfl rfl)
theorem dX6_found_66 : decode cX6_found 66 = .ok (.iaload, 1) := dk_46 (dk_at dksX6_found_2 19 rfl rfl)
theorem dX6_found_67 : decode cX6_found 67 = .ok (.ireturn, 1) := dk_172 (dk_at dksX6_found_2 20 rfl rfl)
abbrev cX6_adopt : ByteArray := prog_10_method_68_code
def yX6_adopt : MethodName := ⟨RX6, "adopt", "()I"⟩
def dkwX6_adopt_0 : List UInt8 := [42, 3, 181, 0, 48, 42, 182, 0, 134, 42, 182, 1, 0, 172]
abbrev dktX6_adopt_0 : List UInt8 := dkwX6_adopt_0 ++ []
theorem dksX6_adopt_0 : cX6_adopt.data.toList.drop 0 = dktX6_adopt_0 := by decide +kernel
theorem dX6_adopt_0 : decode cX6_adopt 0 = .ok (.aload_n 0, 1) := dk_42 (dk_at dksX6_adopt_0 0 rfl rfl)
theorem dX6_adopt_1 : decode cX6_adopt 1 = .ok (.iconst 0, 1) := dk_3 (dk_at dksX6_adopt_0 1 rfl rfl)
theorem dX6_adopt_2 : decode cX6_adopt 2 = .ok (.putfield 48, 3) := dk_181 0 48 (dk_at dksX6_adopt_0 2 rfl rfl)
theorem dX6_adopt_5 : decode cX6_adopt 5 = .ok (.aload_n 0, 1) := dk_42 (dk_at dksX6_adopt_0 5 rfl rfl)
theorem dX6_adopt_6 : decode cX6_adopt 6 = .ok (.invokevirtual 134, 3) := dk_182 0 134 (dk_at dksX6_adopt_0 6 rfl rfl)
theorem dX6_adopt_9 : decode cX6_adopt 9 = .ok (.aload_n 0, 1) := dk_42 (dk_at dksX6_adopt_0 9 rfl rfl)
theorem dX6_adopt_10 : decode cX6_adopt 10 = .ok (.invokevirtual 256, 3) := dk_182 1 0 (dk_at dksX6_adopt_0 10 rfl rfl)
theorem dX6_adopt_13 : decode cX6_adopt 13 = .ok (.ireturn, 1) := dk_172 (dk_at dksX6_adopt_0 13 rfl rfl)
abbrev cX6_adopts : ByteArray := prog_10_method_67_code
def yX6_adopts : MethodName := ⟨RX6, "adopts", "()I"⟩
def dkwX6_adopts_2 : List UInt8 := [132, 1, 1, 167, 255, 226, 42, 180, 0, 79, 172]
abbrev dktX6_adopts_2 : List UInt8 := dkwX6_adopts_2 ++ []
def dkwX6_adopts_1 : List UInt8 := [162, 0, 28, 42, 27, 42, 180, 0, 20, 27, 46, 42, 180, 0, 23, 27, 4, 96, 46, 182, 0, 126]
abbrev dktX6_adopts_1 : List UInt8 := dkwX6_adopts_1 ++ dktX6_adopts_2
def dkwX6_adopts_0 : List UInt8 := [42, 182, 0, 250, 42, 180, 0, 7, 3, 42, 180, 0, 79, 133, 80, 3, 60, 27, 42, 180, 0, 79]
abbrev dktX6_adopts_0 : List UInt8 := dkwX6_adopts_0 ++ dktX6_adopts_1
theorem dksX6_adopts_0 : cX6_adopts.data.toList.drop 0 = dktX6_adopts_0 := by decide +kernel
theorem dksX6_adopts_1 : cX6_adopts.data.toList.drop 22 = dktX6_adopts_1 := dk_seg dksX6_adopts_0 22 rfl rfl
theorem dksX6_adopts_2 : cX6_adopts.data.toList.drop 44 = dktX6_adopts_2 := dk_seg dksX6_adopts_1 22 rfl rfl
theorem dX6_adopts_0 : decode cX6_adopts 0 = .ok (.aload_n 0, 1) := dk_42 (dk_at dksX6_adopts_0 0 rfl rfl)
theorem dX6_adopts_1 : decode cX6_adopts 1 = .ok (.invokevirtual 250, 3) := dk_182 0 250 (dk_at dksX6_adopts_0 1 rfl rfl)
theorem dX6_adopts_4 : decode cX6_adopts 4 = .ok (.aload_n 0, 1) := dk_42 (dk_at dksX6_adopts_0 4 rfl rfl)
theorem dX6_adopts_5 : decode cX6_adopts 5 = .ok (.getfield 7, 3) := dk_180 0 7 (dk_at dksX6_adopts_0 5 rfl rfl)
theorem dX6_adopts_8 : decode cX6_adopts 8 = .ok (.iconst 0, 1) := dk_3 (dk_at dksX6_adopts_0 8 rfl rfl)
theorem dX6_adopts_9 : decode cX6_adopts 9 = .ok (.aload_n 0, 1) := dk_42 (dk_at dksX6_adopts_0 9 rfl rfl)
theorem dX6_adopts_10 : decode cX6_adopts 10 = .ok (.getfield 79, 3) := dk_180 0 79 (dk_at dksX6_adopts_0 10 rfl rfl)
theorem dX6_adopts_13 : decode cX6_adopts 13 = .ok (.i2l, 1) := dk_133 (dk_at dksX6_adopts_0 13 rfl rfl)
theorem dX6_adopts_14 : decode cX6_adopts 14 = .ok (.lastore, 1) := dk_80 (dk_at dksX6_adopts_0 14 rfl rfl)
theorem dX6_adopts_15 : decode cX6_adopts 15 = .ok (.iconst 0, 1) := dk_3 (dk_at dksX6_adopts_0 15 rfl rfl)
theorem dX6_adopts_16 : decode cX6_adopts 16 = .ok (.istore_n 1, 1) := dk_60 (dk_at dksX6_adopts_0 16 rfl rfl)
theorem dX6_adopts_17 : decode cX6_adopts 17 = .ok (.iload_n 1, 1) := dk_27 (dk_at dksX6_adopts_0 17 rfl rfl)
theorem dX6_adopts_18 : decode cX6_adopts 18 = .ok (.aload_n 0, 1) := dk_42 (dk_at dksX6_adopts_0 18 rfl rfl)
theorem dX6_adopts_19 : decode cX6_adopts 19 = .ok (.getfield 79, 3) := dk_180 0 79 (dk_at dksX6_adopts_0 19 rfl rfl)
theorem dX6_adopts_22 : decode cX6_adopts 22 = .ok (.if_icmp .ge 28, 3) := dk_162 0 28 (dk_at dksX6_adopts_1 0 rfl rfl)
theorem dX6_adopts_25 : decode cX6_adopts 25 = .ok (.aload_n 0, 1) := dk_42 (dk_at dksX6_adopts_1 3 rfl rfl)
theorem dX6_adopts_26 : decode cX6_adopts 26 = .ok (.iload_n 1, 1) := dk_27 (dk_at dksX6_adopts_1 4 rfl rfl)
theorem dX6_adopts_27 : decode cX6_adopts 27 = .ok (.aload_n 0, 1) := dk_42 (dk_at dksX6_adopts_1 5 rfl rfl)
theorem dX6_adopts_28 : decode cX6_adopts 28 = .ok (.getfield 20, 3) := dk_180 0 20 (dk_at dksX6_adopts_1 6 rfl rfl)
theorem dX6_adopts_31 : decode cX6_adopts 31 = .ok (.iload_n 1, 1) := dk_27 (dk_at dksX6_adopts_1 9 rfl rfl)
theorem dX6_adopts_32 : decode cX6_adopts 32 = .ok (.iaload, 1) := dk_46 (dk_at dksX6_adopts_1 10 rfl rfl)
theorem dX6_adopts_33 : decode cX6_adopts 33 = .ok (.aload_n 0, 1) := dk_42 (dk_at dksX6_adopts_1 11 rfl rfl)
theorem dX6_adopts_34 : decode cX6_adopts 34 = .ok (.getfield 23, 3) := dk_180 0 23 (dk_at dksX6_adopts_1 12 rfl rfl)
theorem dX6_adopts_37 : decode cX6_adopts 37 = .ok (.iload_n 1, 1) := dk_27 (dk_at dksX6_adopts_1 15 rfl rfl)
theorem dX6_adopts_38 : decode cX6_adopts 38 = .ok (.iconst 1, 1) := dk_4 (dk_at dksX6_adopts_1 16 rfl rfl)
theorem dX6_adopts_39 : decode cX6_adopts 39 = .ok (.iadd, 1) := dk_96 (dk_at dksX6_adopts_1 17 rfl rfl)
theorem dX6_adopts_40 : decode cX6_adopts 40 = .ok (.iaload, 1) := dk_46 (dk_at dksX6_adopts_1 18 rfl rfl)
theorem dX6_adopts_41 : decode cX6_adopts 41 = .ok (.invokevirtual 126, 3) := dk_182 0 126 (dk_at dksX6_adopts_1 19 rfl rfl)
theorem dX6_adopts_44 : decode cX6_adopts 44 = .ok (.iinc 1 1, 3) := dk_132 1 1 (dk_at dksX6_adopts_2 0 rfl rfl)
theorem dX6_adopts_47 : decode cX6_adopts 47 = .ok (.goto (-30), 3) := dk_167 255 226 (dk_at dksX6_adopts_2 3 rfl rfl)
theorem dX6_adopts_50 : decode cX6_adopts 50 = .ok (.aload_n 0, 1) := dk_42 (dk_at dksX6_adopts_2 6 rfl rfl)
theorem dX6_adopts_51 : decode cX6_adopts 51 = .ok (.getfield 79, 3) := dk_180 0 79 (dk_at dksX6_adopts_2 7 rfl rfl)
theorem dX6_adopts_54 : decode cX6_adopts 54 = .ok (.ireturn, 1) := dk_172 (dk_at dksX6_adopts_2 10 rfl rfl)
abbrev cX6_type : ByteArray := prog_10_method_69_code
def yX6_type : MethodName := ⟨RX6, "type", "(I)I"⟩
def dkwX6_type_2 : List UInt8 := [42, 180, 1, 5, 27, 79, 42, 89, 180, 1, 5, 4, 96, 181, 1, 5, 42, 180, 1, 5, 172]
abbrev dktX6_type_2 : List UInt8 := dkwX6_type_2 ++ []
def dkwX6_type_1 : List UInt8 := [160, 0, 7, 5, 167, 0, 4, 3, 181, 0, 48, 42, 180, 0, 48, 153, 0, 5, 3, 172, 42, 180, 0, 16]
abbrev dktX6_type_1 : List UInt8 := dkwX6_type_1 ++ dktX6_type_2
def dkwX6_type_0 : List UInt8 := [42, 27, 133, 9, 20, 1, 3, 184, 0, 59, 154, 0, 7, 4, 167, 0, 17, 42, 180, 1, 5, 16, 120]
abbrev dktX6_type_0 : List UInt8 := dkwX6_type_0 ++ dktX6_type_1
theorem dksX6_type_0 : cX6_type.data.toList.drop 0 = dktX6_type_0 := by decide +kernel
theorem dksX6_type_1 : cX6_type.data.toList.drop 23 = dktX6_type_1 := dk_seg dksX6_type_0 23 rfl rfl
theorem dksX6_type_2 : cX6_type.data.toList.drop 47 = dktX6_type_2 := dk_seg dksX6_type_1 24 rfl rfl
theorem dX6_type_0 : decode cX6_type 0 = .ok (.aload_n 0, 1) := dk_42 (dk_at dksX6_type_0 0 rfl rfl)
theorem dX6_type_1 : decode cX6_type 1 = .ok (.iload_n 1, 1) := dk_27 (dk_at dksX6_type_0 1 rfl rfl)
theorem dX6_type_2 : decode cX6_type 2 = .ok (.i2l, 1) := dk_133 (dk_at dksX6_type_0 2 rfl rfl)
theorem dX6_type_3 : decode cX6_type 3 = .ok (.lconst 0, 1) := dk_9 (dk_at dksX6_type_0 3 rfl rfl)
theorem dX6_type_4 : decode cX6_type 4 = .ok (.ldc2_w 259, 3) := dk_20 1 3 (dk_at dksX6_type_0 4 rfl rfl)
theorem dX6_type_7 : decode cX6_type 7 = .ok (.invokestatic 59, 3) := dk_184 0 59 (dk_at dksX6_type_0 7 rfl rfl)
theorem dX6_type_10 : decode cX6_type 10 = .ok (.ifCond .ne 7, 3) := dk_154 0 7 (dk_at dksX6_type_0 10 rfl rfl)
theorem dX6_type_13 : decode cX6_type 13 = .ok (.iconst 1, 1) := dk_4 (dk_at dksX6_type_0 13 rfl rfl)
theorem dX6_type_14 : decode cX6_type 14 = .ok (.goto 17, 3) := dk_167 0 17 (dk_at dksX6_type_0 14 rfl rfl)
theorem dX6_type_17 : decode cX6_type 17 = .ok (.aload_n 0, 1) := dk_42 (dk_at dksX6_type_0 17 rfl rfl)
theorem dX6_type_18 : decode cX6_type 18 = .ok (.getfield 261, 3) := dk_180 1 5 (dk_at dksX6_type_0 18 rfl rfl)
theorem dX6_type_21 : decode cX6_type 21 = .ok (.bipush 120, 2) := dk_16 120 (dk_at dksX6_type_0 21 rfl rfl)
theorem dX6_type_23 : decode cX6_type 23 = .ok (.if_icmp .ne 7, 3) := dk_160 0 7 (dk_at dksX6_type_1 0 rfl rfl)
theorem dX6_type_26 : decode cX6_type 26 = .ok (.iconst 2, 1) := dk_5 (dk_at dksX6_type_1 3 rfl rfl)
theorem dX6_type_27 : decode cX6_type 27 = .ok (.goto 4, 3) := dk_167 0 4 (dk_at dksX6_type_1 4 rfl rfl)
theorem dX6_type_30 : decode cX6_type 30 = .ok (.iconst 0, 1) := dk_3 (dk_at dksX6_type_1 7 rfl rfl)
theorem dX6_type_31 : decode cX6_type 31 = .ok (.putfield 48, 3) := dk_181 0 48 (dk_at dksX6_type_1 8 rfl rfl)
theorem dX6_type_34 : decode cX6_type 34 = .ok (.aload_n 0, 1) := dk_42 (dk_at dksX6_type_1 11 rfl rfl)
theorem dX6_type_35 : decode cX6_type 35 = .ok (.getfield 48, 3) := dk_180 0 48 (dk_at dksX6_type_1 12 rfl rfl)
theorem dX6_type_38 : decode cX6_type 38 = .ok (.ifCond .eq 5, 3) := dk_153 0 5 (dk_at dksX6_type_1 15 rfl rfl)
theorem dX6_type_41 : decode cX6_type 41 = .ok (.iconst 0, 1) := dk_3 (dk_at dksX6_type_1 18 rfl rfl)
theorem dX6_type_42 : decode cX6_type 42 = .ok (.ireturn, 1) := dk_172 (dk_at dksX6_type_1 19 rfl rfl)
theorem dX6_type_43 : decode cX6_type 43 = .ok (.aload_n 0, 1) := dk_42 (dk_at dksX6_type_1 20 rfl rfl)
theorem dX6_type_44 : decode cX6_type 44 = .ok (.getfield 16, 3) := dk_180 0 16 (dk_at dksX6_type_1 21 rfl rfl)
theorem dX6_type_47 : decode cX6_type 47 = .ok (.aload_n 0, 1) := dk_42 (dk_at dksX6_type_2 0 rfl rfl)
theorem dX6_type_48 : decode cX6_type 48 = .ok (.getfield 261, 3) := dk_180 1 5 (dk_at dksX6_type_2 1 rfl rfl)
theorem dX6_type_51 : decode cX6_type 51 = .ok (.iload_n 1, 1) := dk_27 (dk_at dksX6_type_2 4 rfl rfl)
theorem dX6_type_52 : decode cX6_type 52 = .ok (.iastore, 1) := dk_79 (dk_at dksX6_type_2 5 rfl rfl)
theorem dX6_type_53 : decode cX6_type 53 = .ok (.aload_n 0, 1) := dk_42 (dk_at dksX6_type_2 6 rfl rfl)
theorem dX6_type_54 : decode cX6_type 54 = .ok (.dup, 1) := dk_89 (dk_at dksX6_type_2 7 rfl rfl)
theorem dX6_type_55 : decode cX6_type 55 = .ok (.getfield 261, 3) := dk_180 1 5 (dk_at dksX6_type_2 8 rfl rfl)
theorem dX6_type_58 : decode cX6_type 58 = .ok (.iconst 1, 1) := dk_4 (dk_at dksX6_type_2 11 rfl rfl)
theorem dX6_type_59 : decode cX6_type 59 = .ok (.iadd, 1) := dk_96 (dk_at dksX6_type_2 12 rfl rfl)
theorem dX6_type_60 : decode cX6_type 60 = .ok (.putfield 261, 3) := dk_181 1 5 (dk_at dksX6_type_2 13 rfl rfl)
theorem dX6_type_63 : decode cX6_type 63 = .ok (.aload_n 0, 1) := dk_42 (dk_at dksX6_type_2 16 rfl rfl)
theorem dX6_type_64 : decode cX6_type 64 = .ok (.getfield 261, 3) := dk_180 1 5 (dk_at dksX6_type_2 17 rfl rfl)
theorem dX6_type_67 : decode cX6_type 67 = .ok (.ireturn, 1) := dk_172 (dk_at dksX6_type_2 20 rfl rfl)
abbrev cX6_clearScript : ByteArray := prog_10_method_70_code
def yX6_clearScript : MethodName := ⟨RX6, "clearScript", "()I"⟩
def dkwX6_clearScript_0 : List UInt8 := [42, 3, 181, 0, 48, 42, 180, 1, 5, 60, 42, 3, 181, 1, 5, 27, 172]
abbrev dktX6_clearScript_0 : List UInt8 := dkwX6_clearScript_0 ++ []
theorem dksX6_clearScript_0 : cX6_clearScript.data.toList.drop 0 = dktX6_clearScript_0 := by decide +kernel
theorem dX6_clearScript_0 : decode cX6_clearScript 0 = .ok (.aload_n 0, 1) := dk_42 (dk_at dksX6_clearScript_0 0 rfl rfl)
theorem dX6_clearScript_1 : decode cX6_clearScript 1 = .ok (.iconst 0, 1) := dk_3 (dk_at dksX6_clearScript_0 1 rfl rfl)
theorem dX6_clearScript_2 : decode cX6_clearScript 2 = .ok (.putfield 48, 3) := dk_181 0 48 (dk_at dksX6_clearScript_0 2 rfl rfl)
theorem dX6_clearScript_5 : decode cX6_clearScript 5 = .ok (.aload_n 0, 1) := dk_42 (dk_at dksX6_clearScript_0 5 rfl rfl)
theorem dX6_clearScript_6 : decode cX6_clearScript 6 = .ok (.getfield 261, 3) := dk_180 1 5 (dk_at dksX6_clearScript_0 6 rfl rfl)
theorem dX6_clearScript_9 : decode cX6_clearScript 9 = .ok (.istore_n 1, 1) := dk_60 (dk_at dksX6_clearScript_0 9 rfl rfl)
theorem dX6_clearScript_10 : decode cX6_clearScript 10 = .ok (.aload_n 0, 1) := dk_42 (dk_at dksX6_clearScript_0 10 rfl rfl)
theorem dX6_clearScript_11 : decode cX6_clearScript 11 = .ok (.iconst 0, 1) := dk_3 (dk_at dksX6_clearScript_0 11 rfl rfl)
theorem dX6_clearScript_12 : decode cX6_clearScript 12 = .ok (.putfield 261, 3) := dk_181 1 5 (dk_at dksX6_clearScript_0 12 rfl rfl)
theorem dX6_clearScript_15 : decode cX6_clearScript 15 = .ok (.iload_n 1, 1) := dk_27 (dk_at dksX6_clearScript_0 15 rfl rfl)
theorem dX6_clearScript_16 : decode cX6_clearScript 16 = .ok (.ireturn, 1) := dk_172 (dk_at dksX6_clearScript_0 16 rfl rfl)
abbrev cX6_run : ByteArray := prog_10_method_79_code
def yX6_run : MethodName := ⟨RX6, "run", "()I"⟩
def dkwX6_run_2 : List UInt8 := [167, 255, 235, 42, 3, 181, 0, 48, 27, 172]
abbrev dktX6_run_2 : List UInt8 := dkwX6_run_2 ++ []
def dkwX6_run_1 : List UInt8 := [3, 60, 27, 42, 180, 1, 48, 162, 0, 19, 42, 7, 27, 104, 182, 1, 63, 153, 0, 9, 132, 1, 1]
abbrev dktX6_run_1 : List UInt8 := dkwX6_run_1 ++ dktX6_run_2
def dkwX6_run_0 : List UInt8 := [42, 3, 181, 0, 48, 42, 182, 1, 60, 154, 0, 11, 16, 246, 42, 180, 1, 8, 100, 172, 42, 182, 0, 134]
abbrev dktX6_run_0 : List UInt8 := dkwX6_run_0 ++ dktX6_run_1
theorem dksX6_run_0 : cX6_run.data.toList.drop 0 = dktX6_run_0 := by decide +kernel
theorem dksX6_run_1 : cX6_run.data.toList.drop 24 = dktX6_run_1 := dk_seg dksX6_run_0 24 rfl rfl
theorem dksX6_run_2 : cX6_run.data.toList.drop 47 = dktX6_run_2 := dk_seg dksX6_run_1 23 rfl rfl
theorem dX6_run_0 : decode cX6_run 0 = .ok (.aload_n 0, 1) := dk_42 (dk_at dksX6_run_0 0 rfl rfl)
theorem dX6_run_1 : decode cX6_run 1 = .ok (.iconst 0, 1) := dk_3 (dk_at dksX6_run_0 1 rfl rfl)
theorem dX6_run_2 : decode cX6_run 2 = .ok (.putfield 48, 3) := dk_181 0 48 (dk_at dksX6_run_0 2 rfl rfl)
theorem dX6_run_5 : decode cX6_run 5 = .ok (.aload_n 0, 1) := dk_42 (dk_at dksX6_run_0 5 rfl rfl)
theorem dX6_run_6 : decode cX6_run 6 = .ok (.invokevirtual 316, 3) := dk_182 1 60 (dk_at dksX6_run_0 6 rfl rfl)
theorem dX6_run_9 : decode cX6_run 9 = .ok (.ifCond .ne 11, 3) := dk_154 0 11 (dk_at dksX6_run_0 9 rfl rfl)
theorem dX6_run_12 : decode cX6_run 12 = .ok (.bipush (-10), 2) := dk_16 246 (dk_at dksX6_run_0 12 rfl rfl)
theorem dX6_run_14 : decode cX6_run 14 = .ok (.aload_n 0, 1) := dk_42 (dk_at dksX6_run_0 14 rfl rfl)
theorem dX6_run_15 : decode cX6_run 15 = .ok (.getfield 264, 3) := dk_180 1 8 (dk_at dksX6_run_0 15 rfl rfl)
theorem dX6_run_18 : decode cX6_run 18 = .ok (.isub, 1) := dk_100 (dk_at dksX6_run_0 18 rfl rfl)
theorem dX6_run_19 : decode cX6_run 19 = .ok (.ireturn, 1) := dk_172 (dk_at dksX6_run_0 19 rfl rfl)
theorem dX6_run_20 : decode cX6_run 20 = .ok (.aload_n 0, 1) := dk_42 (dk_at dksX6_run_0 20 rfl rfl)
theorem dX6_run_21 : decode cX6_run 21 = .ok (.invokevirtual 134, 3) := dk_182 0 134 (dk_at dksX6_run_0 21 rfl rfl)
theorem dX6_run_24 : decode cX6_run 24 = .ok (.iconst 0, 1) := dk_3 (dk_at dksX6_run_1 0 rfl rfl)
theorem dX6_run_25 : decode cX6_run 25 = .ok (.istore_n 1, 1) := dk_60 (dk_at dksX6_run_1 1 rfl rfl)
theorem dX6_run_26 : decode cX6_run 26 = .ok (.iload_n 1, 1) := dk_27 (dk_at dksX6_run_1 2 rfl rfl)
theorem dX6_run_27 : decode cX6_run 27 = .ok (.aload_n 0, 1) := dk_42 (dk_at dksX6_run_1 3 rfl rfl)
theorem dX6_run_28 : decode cX6_run 28 = .ok (.getfield 304, 3) := dk_180 1 48 (dk_at dksX6_run_1 4 rfl rfl)
theorem dX6_run_31 : decode cX6_run 31 = .ok (.if_icmp .ge 19, 3) := dk_162 0 19 (dk_at dksX6_run_1 7 rfl rfl)
theorem dX6_run_34 : decode cX6_run 34 = .ok (.aload_n 0, 1) := dk_42 (dk_at dksX6_run_1 10 rfl rfl)
theorem dX6_run_35 : decode cX6_run 35 = .ok (.iconst 4, 1) := dk_7 (dk_at dksX6_run_1 11 rfl rfl)
theorem dX6_run_36 : decode cX6_run 36 = .ok (.iload_n 1, 1) := dk_27 (dk_at dksX6_run_1 12 rfl rfl)
theorem dX6_run_37 : decode cX6_run 37 = .ok (.imul, 1) := dk_104 (dk_at dksX6_run_1 13 rfl rfl)
theorem dX6_run_38 : decode cX6_run 38 = .ok (.invokevirtual 319, 3) := dk_182 1 63 (dk_at dksX6_run_1 14 rfl rfl)
theorem dX6_run_41 : decode cX6_run 41 = .ok (.ifCond .eq 9, 3) := dk_153 0 9 (dk_at dksX6_run_1 17 rfl rfl)
theorem dX6_run_44 : decode cX6_run 44 = .ok (.iinc 1 1, 3) := dk_132 1 1 (dk_at dksX6_run_1 20 rfl rfl)
theorem dX6_run_47 : decode cX6_run 47 = .ok (.goto (-21), 3) := dk_167 255 235 (dk_at dksX6_run_2 0 rfl rfl)
theorem dX6_run_50 : decode cX6_run 50 = .ok (.aload_n 0, 1) := dk_42 (dk_at dksX6_run_2 3 rfl rfl)
theorem dX6_run_51 : decode cX6_run 51 = .ok (.iconst 0, 1) := dk_3 (dk_at dksX6_run_2 4 rfl rfl)
theorem dX6_run_52 : decode cX6_run 52 = .ok (.putfield 48, 3) := dk_181 0 48 (dk_at dksX6_run_2 5 rfl rfl)
theorem dX6_run_55 : decode cX6_run 55 = .ok (.iload_n 1, 1) := dk_27 (dk_at dksX6_run_2 8 rfl rfl)
theorem dX6_run_56 : decode cX6_run 56 = .ok (.ireturn, 1) := dk_172 (dk_at dksX6_run_2 9 rfl rfl)
abbrev cX6_readAll : ByteArray := prog_10_method_77_code
def yX6_readAll : MethodName := ⟨RX6, "readAll", "()Z"⟩
def dkwX6_readAll_1 : List UInt8 := [162, 0, 20, 42, 182, 1, 57, 154, 0, 5, 3, 172, 42, 182, 1, 41, 60, 167, 255, 231, 4, 172]
abbrev dktX6_readAll_1 : List UInt8 := dkwX6_readAll_1 ++ []
def dkwX6_readAll_0 : List UInt8 := [42, 3, 181, 1, 8, 42, 3, 181, 1, 48, 42, 182, 1, 41, 60, 42, 180, 1, 8, 42, 180, 1, 5]
abbrev dktX6_readAll_0 : List UInt8 := dkwX6_readAll_0 ++ dktX6_readAll_1
theorem dksX6_readAll_0 : cX6_readAll.data.toList.drop 0 = dktX6_readAll_0 := by decide +kernel
theorem dksX6_readAll_1 : cX6_readAll.data.toList.drop 23 = dktX6_readAll_1 := dk_seg dksX6_readAll_0 23 rfl rfl
theorem dX6_readAll_0 : decode cX6_readAll 0 = .ok (.aload_n 0, 1) := dk_42 (dk_at dksX6_readAll_0 0 rfl rfl)
theorem dX6_readAll_1 : decode cX6_readAll 1 = .ok (.iconst 0, 1) := dk_3 (dk_at dksX6_readAll_0 1 rfl rfl)
theorem dX6_readAll_2 : decode cX6_readAll 2 = .ok (.putfield 264, 3) := dk_181 1 8 (dk_at dksX6_readAll_0 2 rfl rfl)
theorem dX6_readAll_5 : decode cX6_readAll 5 = .ok (.aload_n 0, 1) := dk_42 (dk_at dksX6_readAll_0 5 rfl rfl)
theorem dX6_readAll_6 : decode cX6_readAll 6 = .ok (.iconst 0, 1) := dk_3 (dk_at dksX6_readAll_0 6 rfl rfl)
theorem dX6_readAll_7 : decode cX6_readAll 7 = .ok (.putfield 304, 3) := dk_181 1 48 (dk_at dksX6_readAll_0 7 rfl rfl)
theorem dX6_readAll_10 : decode cX6_readAll 10 = .ok (.aload_n 0, 1) := dk_42 (dk_at dksX6_readAll_0 10 rfl rfl)
theorem dX6_readAll_11 : decode cX6_readAll 11 = .ok (.invokevirtual 297, 3) := dk_182 1 41 (dk_at dksX6_readAll_0 11 rfl rfl)
theorem dX6_readAll_14 : decode cX6_readAll 14 = .ok (.istore_n 1, 1) := dk_60 (dk_at dksX6_readAll_0 14 rfl rfl)
theorem dX6_readAll_15 : decode cX6_readAll 15 = .ok (.aload_n 0, 1) := dk_42 (dk_at dksX6_readAll_0 15 rfl rfl)
theorem dX6_readAll_16 : decode cX6_readAll 16 = .ok (.getfield 264, 3) := dk_180 1 8 (dk_at dksX6_readAll_0 16 rfl rfl)
theorem dX6_readAll_19 : decode cX6_readAll 19 = .ok (.aload_n 0, 1) := dk_42 (dk_at dksX6_readAll_0 19 rfl rfl)
theorem dX6_readAll_20 : decode cX6_readAll 20 = .ok (.getfield 261, 3) := dk_180 1 5 (dk_at dksX6_readAll_0 20 rfl rfl)
theorem dX6_readAll_23 : decode cX6_readAll 23 = .ok (.if_icmp .ge 20, 3) := dk_162 0 20 (dk_at dksX6_readAll_1 0 rfl rfl)
theorem dX6_readAll_26 : decode cX6_readAll 26 = .ok (.aload_n 0, 1) := dk_42 (dk_at dksX6_readAll_1 3 rfl rfl)
theorem dX6_readAll_27 : decode cX6_readAll 27 = .ok (.invokevirtual 313, 3) := dk_182 1 57 (dk_at dksX6_readAll_1 4 rfl rfl)
theorem dX6_readAll_30 : decode cX6_readAll 30 = .ok (.ifCond .ne 5, 3) := dk_154 0 5 (dk_at dksX6_readAll_1 7 rfl rfl)
theorem dX6_readAll_33 : decode cX6_readAll 33 = .ok (.iconst 0, 1) := dk_3 (dk_at dksX6_readAll_1 10 rfl rfl)
theorem dX6_readAll_34 : decode cX6_readAll 34 = .ok (.ireturn, 1) := dk_172 (dk_at dksX6_readAll_1 11 rfl rfl)
theorem dX6_readAll_35 : decode cX6_readAll 35 = .ok (.aload_n 0, 1) := dk_42 (dk_at dksX6_readAll_1 12 rfl rfl)
theorem dX6_readAll_36 : decode cX6_readAll 36 = .ok (.invokevirtual 297, 3) := dk_182 1 41 (dk_at dksX6_readAll_1 13 rfl rfl)
theorem dX6_readAll_39 : decode cX6_readAll 39 = .ok (.istore_n 1, 1) := dk_60 (dk_at dksX6_readAll_1 16 rfl rfl)
theorem dX6_readAll_40 : decode cX6_readAll 40 = .ok (.goto (-25), 3) := dk_167 255 231 (dk_at dksX6_readAll_1 17 rfl rfl)
theorem dX6_readAll_43 : decode cX6_readAll 43 = .ok (.iconst 1, 1) := dk_4 (dk_at dksX6_readAll_1 20 rfl rfl)
theorem dX6_readAll_44 : decode cX6_readAll 44 = .ok (.ireturn, 1) := dk_172 (dk_at dksX6_readAll_1 21 rfl rfl)
abbrev cX6_spaces : ByteArray := prog_10_method_72_code
def yX6_spaces : MethodName := ⟨RX6, "spaces", "()Z"⟩
def dkwX6_spaces_1 : List UInt8 := [167, 255, 237, 42, 180, 1, 8, 27, 164, 0, 7, 4, 167, 0, 4, 3, 172]
abbrev dktX6_spaces_1 : List UInt8 := dkwX6_spaces_1 ++ []
def dkwX6_spaces_0 : List UInt8 := [42, 180, 1, 8, 60, 42, 182, 1, 11, 16, 32, 160, 0, 16, 42, 89, 180, 1, 8, 4, 96, 181, 1, 8]
abbrev dktX6_spaces_0 : List UInt8 := dkwX6_spaces_0 ++ dktX6_spaces_1
theorem dksX6_spaces_0 : cX6_spaces.data.toList.drop 0 = dktX6_spaces_0 := by decide +kernel
theorem dksX6_spaces_1 : cX6_spaces.data.toList.drop 24 = dktX6_spaces_1 := dk_seg dksX6_spaces_0 24 rfl rfl
theorem dX6_spaces_0 : decode cX6_spaces 0 = .ok (.aload_n 0, 1) := dk_42 (dk_at dksX6_spaces_0 0 rfl rfl)
theorem dX6_spaces_1 : decode cX6_spaces 1 = .ok (.getfield 264, 3) := dk_180 1 8 (dk_at dksX6_spaces_0 1 rfl rfl)
theorem dX6_spaces_4 : decode cX6_spaces 4 = .ok (.istore_n 1, 1) := dk_60 (dk_at dksX6_spaces_0 4 rfl rfl)
theorem dX6_spaces_5 : decode cX6_spaces 5 = .ok (.aload_n 0, 1) := dk_42 (dk_at dksX6_spaces_0 5 rfl rfl)
theorem dX6_spaces_6 : decode cX6_spaces 6 = .ok (.invokevirtual 267, 3) := dk_182 1 11 (dk_at dksX6_spaces_0 6 rfl rfl)
theorem dX6_spaces_9 : decode cX6_spaces 9 = .ok (.bipush 32, 2) := dk_16 32 (dk_at dksX6_spaces_0 9 rfl rfl)
theorem dX6_spaces_11 : decode cX6_spaces 11 = .ok (.if_icmp .ne 16, 3) := dk_160 0 16 (dk_at dksX6_spaces_0 11 rfl rfl)
theorem dX6_spaces_14 : decode cX6_spaces 14 = .ok (.aload_n 0, 1) := dk_42 (dk_at dksX6_spaces_0 14 rfl rfl)
theorem dX6_spaces_15 : decode cX6_spaces 15 = .ok (.dup, 1) := dk_89 (dk_at dksX6_spaces_0 15 rfl rfl)
theorem dX6_spaces_16 : decode cX6_spaces 16 = .ok (.getfield 264, 3) := dk_180 1 8 (dk_at dksX6_spaces_0 16 rfl rfl)
theorem dX6_spaces_19 : decode cX6_spaces 19 = .ok (.iconst 1, 1) := dk_4 (dk_at dksX6_spaces_0 19 rfl rfl)
theorem dX6_spaces_20 : decode cX6_spaces 20 = .ok (.iadd, 1) := dk_96 (dk_at dksX6_spaces_0 20 rfl rfl)
theorem dX6_spaces_21 : decode cX6_spaces 21 = .ok (.putfield 264, 3) := dk_181 1 8 (dk_at dksX6_spaces_0 21 rfl rfl)
theorem dX6_spaces_24 : decode cX6_spaces 24 = .ok (.goto (-19), 3) := dk_167 255 237 (dk_at dksX6_spaces_1 0 rfl rfl)
theorem dX6_spaces_27 : decode cX6_spaces 27 = .ok (.aload_n 0, 1) := dk_42 (dk_at dksX6_spaces_1 3 rfl rfl)
theorem dX6_spaces_28 : decode cX6_spaces 28 = .ok (.getfield 264, 3) := dk_180 1 8 (dk_at dksX6_spaces_1 4 rfl rfl)
theorem dX6_spaces_31 : decode cX6_spaces 31 = .ok (.iload_n 1, 1) := dk_27 (dk_at dksX6_spaces_1 7 rfl rfl)
theorem dX6_spaces_32 : decode cX6_spaces 32 = .ok (.if_icmp .le 7, 3) := dk_164 0 7 (dk_at dksX6_spaces_1 8 rfl rfl)
theorem dX6_spaces_35 : decode cX6_spaces 35 = .ok (.iconst 1, 1) := dk_4 (dk_at dksX6_spaces_1 11 rfl rfl)
theorem dX6_spaces_36 : decode cX6_spaces 36 = .ok (.goto 4, 3) := dk_167 0 4 (dk_at dksX6_spaces_1 12 rfl rfl)
theorem dX6_spaces_39 : decode cX6_spaces 39 = .ok (.iconst 0, 1) := dk_3 (dk_at dksX6_spaces_1 15 rfl rfl)
theorem dX6_spaces_40 : decode cX6_spaces 40 = .ok (.ireturn, 1) := dk_172 (dk_at dksX6_spaces_1 16 rfl rfl)
abbrev cX6_here : ByteArray := prog_10_method_71_code
def yX6_here : MethodName := ⟨RX6, "here", "()I"⟩
def dkwX6_here_1 : List UInt8 := [172]
abbrev dktX6_here_1 : List UInt8 := dkwX6_here_1 ++ []
def dkwX6_here_0 : List UInt8 := [42, 180, 1, 8, 42, 180, 1, 5, 162, 0, 15, 42, 180, 0, 16, 42, 180, 1, 8, 46, 167, 0, 4, 2]
abbrev dktX6_here_0 : List UInt8 := dkwX6_here_0 ++ dktX6_here_1
theorem dksX6_here_0 : cX6_here.data.toList.drop 0 = dktX6_here_0 := by decide +kernel
theorem dksX6_here_1 : cX6_here.data.toList.drop 24 = dktX6_here_1 := dk_seg dksX6_here_0 24 rfl rfl
theorem dX6_here_0 : decode cX6_here 0 = .ok (.aload_n 0, 1) := dk_42 (dk_at dksX6_here_0 0 rfl rfl)
theorem dX6_here_1 : decode cX6_here 1 = .ok (.getfield 264, 3) := dk_180 1 8 (dk_at dksX6_here_0 1 rfl rfl)
theorem dX6_here_4 : decode cX6_here 4 = .ok (.aload_n 0, 1) := dk_42 (dk_at dksX6_here_0 4 rfl rfl)
theorem dX6_here_5 : decode cX6_here 5 = .ok (.getfield 261, 3) := dk_180 1 5 (dk_at dksX6_here_0 5 rfl rfl)
theorem dX6_here_8 : decode cX6_here 8 = .ok (.if_icmp .ge 15, 3) := dk_162 0 15 (dk_at dksX6_here_0 8 rfl rfl)
theorem dX6_here_11 : decode cX6_here 11 = .ok (.aload_n 0, 1) := dk_42 (dk_at dksX6_here_0 11 rfl rfl)
theorem dX6_here_12 : decode cX6_here 12 = .ok (.getfield 16, 3) := dk_180 0 16 (dk_at dksX6_here_0 12 rfl rfl)
theorem dX6_here_15 : decode cX6_here 15 = .ok (.aload_n 0, 1) := dk_42 (dk_at dksX6_here_0 15 rfl rfl)
theorem dX6_here_16 : decode cX6_here 16 = .ok (.getfield 264, 3) := dk_180 1 8 (dk_at dksX6_here_0 16 rfl rfl)
theorem dX6_here_19 : decode cX6_here 19 = .ok (.iaload, 1) := dk_46 (dk_at dksX6_here_0 19 rfl rfl)
theorem dX6_here_20 : decode cX6_here 20 = .ok (.goto 4, 3) := dk_167 0 4 (dk_at dksX6_here_0 20 rfl rfl)
theorem dX6_here_23 : decode cX6_here 23 = .ok (.iconst (-1), 1) := dk_2 (dk_at dksX6_here_0 23 rfl rfl)
theorem dX6_here_24 : decode cX6_here 24 = .ok (.ireturn, 1) := dk_172 (dk_at dksX6_here_1 0 rfl rfl)
abbrev cX6_readCommand : ByteArray := prog_10_method_76_code
def yX6_readCommand : MethodName := ⟨RX6, "readCommand", "()Z"⟩
def dkwX6_readCommand_5 : List UInt8 := [181, 1, 48, 4, 172]
abbrev dktX6_readCommand_5 : List UInt8 := dkwX6_readCommand_5 ++ []
def dkwX6_readCommand_4 : List UInt8 := [159, 0, 5, 3, 172, 42, 89, 180, 1, 8, 4, 96, 181, 1, 8, 42, 89, 180, 1, 48, 4, 96]
abbrev dktX6_readCommand_4 : List UInt8 := dkwX6_readCommand_4 ++ dktX6_readCommand_5
def dkwX6_readCommand_3 : List UInt8 := [154, 0, 5, 3, 172, 132, 4, 1, 167, 255, 232, 42, 182, 1, 41, 54, 4, 42, 182, 1, 11, 16, 59]
abbrev dktX6_readCommand_3 : List UInt8 := dkwX6_readCommand_3 ++ dktX6_readCommand_4
def dkwX6_readCommand_2 : List UInt8 := [167, 0, 4, 3, 62, 3, 54, 4, 21, 4, 29, 162, 0, 24, 42, 27, 4, 96, 21, 4, 96, 182, 1, 54]
abbrev dktX6_readCommand_2 : List UInt8 := dkwX6_readCommand_2 ++ dktX6_readCommand_3
def dkwX6_readCommand_1 : List UInt8 := [28, 5, 162, 0, 7, 6, 167, 0, 22, 28, 7, 162, 0, 7, 5, 167, 0, 13, 28, 7, 160, 0, 7, 4]
abbrev dktX6_readCommand_1 : List UInt8 := dkwX6_readCommand_1 ++ dktX6_readCommand_2
def dkwX6_readCommand_0 : List UInt8 := [7, 42, 180, 1, 48, 104, 60, 42, 27, 182, 1, 51, 154, 0, 5, 3, 172, 42, 180, 0, 41, 27, 46, 61]
abbrev dktX6_readCommand_0 : List UInt8 := dkwX6_readCommand_0 ++ dktX6_readCommand_1
theorem dksX6_readCommand_0 : cX6_readCommand.data.toList.drop 0 = dktX6_readCommand_0 := by decide +kernel
theorem dksX6_readCommand_1 : cX6_readCommand.data.toList.drop 24 = dktX6_readCommand_1 := dk_seg dksX6_readCommand_0 24 rfl rfl
theorem dksX6_readCommand_2 : cX6_readCommand.data.toList.drop 48 = dktX6_readCommand_2 := dk_seg dksX6_readCommand_1 24 rfl rfl
theorem dksX6_readCommand_3 : cX6_readCommand.data.toList.drop 72 = dktX6_readCommand_3 := dk_seg dksX6_readCommand_2 24 rfl rfl
theorem dksX6_readCommand_4 : cX6_readCommand.data.toList.drop 95 = dktX6_readCommand_4 := dk_seg dksX6_readCommand_3 23 rfl rfl
theorem dksX6_readCommand_5 : cX6_readCommand.data.toList.drop 117 = dktX6_readCommand_5 := dk_seg dksX6_readCommand_4 22 rfl rfl
theorem dX6_readCommand_0 : decode cX6_readCommand 0 = .ok (.iconst 4, 1) := dk_7 (dk_at dksX6_readCommand_0 0 rfl rfl)
theorem dX6_readCommand_1 : decode cX6_readCommand 1 = .ok (.aload_n 0, 1) := dk_42 (dk_at dksX6_readCommand_0 1 rfl rfl)
theorem dX6_readCommand_2 : decode cX6_readCommand 2 = .ok (.getfield 304, 3) := dk_180 1 48 (dk_at dksX6_readCommand_0 2 rfl rfl)
theorem dX6_readCommand_5 : decode cX6_readCommand 5 = .ok (.imul, 1) := dk_104 (dk_at dksX6_readCommand_0 5 rfl rfl)
theorem dX6_readCommand_6 : decode cX6_readCommand 6 = .ok (.istore_n 1, 1) := dk_60 (dk_at dksX6_readCommand_0 6 rfl rfl)
theorem dX6_readCommand_7 : decode cX6_readCommand 7 = .ok (.aload_n 0, 1) := dk_42 (dk_at dksX6_readCommand_0 7 rfl rfl)
theorem dX6_readCommand_8 : decode cX6_readCommand 8 = .ok (.iload_n 1, 1) := dk_27 (dk_at dksX6_readCommand_0 8 rfl rfl)
theorem dX6_readCommand_9 : decode cX6_readCommand 9 = .ok (.invokevirtual 307, 3) := dk_182 1 51 (dk_at dksX6_readCommand_0 9 rfl rfl)
theorem dX6_readCommand_12 : decode cX6_readCommand 12 = .ok (.ifCond .ne 5, 3) := dk_154 0 5 (dk_at dksX6_readCommand_0 12 rfl rfl)
theorem dX6_readCommand_15 : decode cX6_readCommand 15 = .ok (.iconst 0, 1) := dk_3 (dk_at dksX6_readCommand_0 15 rfl rfl)
theorem dX6_readCommand_16 : decode cX6_readCommand 16 = .ok (.ireturn, 1) := dk_172 (dk_at dksX6_readCommand_0 16 rfl rfl)
theorem dX6_readCommand_17 : decode cX6_readCommand 17 = .ok (.aload_n 0, 1) := dk_42 (dk_at dksX6_readCommand_0 17 rfl rfl)
theorem dX6_readCommand_18 : decode cX6_readCommand 18 = .ok (.getfield 41, 3) := dk_180 0 41 (dk_at dksX6_readCommand_0 18 rfl rfl)
theorem dX6_readCommand_21 : decode cX6_readCommand 21 = .ok (.iload_n 1, 1) := dk_27 (dk_at dksX6_readCommand_0 21 rfl rfl)
theorem dX6_readCommand_22 : decode cX6_readCommand 22 = .ok (.iaload, 1) := dk_46 (dk_at dksX6_readCommand_0 22 rfl rfl)
theorem dX6_readCommand_23 : decode cX6_readCommand 23 = .ok (.istore_n 2, 1) := dk_61 (dk_at dksX6_readCommand_0 23 rfl rfl)
theorem dX6_readCommand_24 : decode cX6_readCommand 24 = .ok (.iload_n 2, 1) := dk_28 (dk_at dksX6_readCommand_1 0 rfl rfl)
theorem dX6_readCommand_25 : decode cX6_readCommand 25 = .ok (.iconst 2, 1) := dk_5 (dk_at dksX6_readCommand_1 1 rfl rfl)
theorem dX6_readCommand_26 : decode cX6_readCommand 26 = .ok (.if_icmp .ge 7, 3) := dk_162 0 7 (dk_at dksX6_readCommand_1 2 rfl rfl)
theorem dX6_readCommand_29 : decode cX6_readCommand 29 = .ok (.iconst 3, 1) := dk_6 (dk_at dksX6_readCommand_1 5 rfl rfl)
theorem dX6_readCommand_30 : decode cX6_readCommand 30 = .ok (.goto 22, 3) := dk_167 0 22 (dk_at dksX6_readCommand_1 6 rfl rfl)
theorem dX6_readCommand_33 : decode cX6_readCommand 33 = .ok (.iload_n 2, 1) := dk_28 (dk_at dksX6_readCommand_1 9 rfl rfl)
theorem dX6_readCommand_34 : decode cX6_readCommand 34 = .ok (.iconst 4, 1) := dk_7 (dk_at dksX6_readCommand_1 10 rfl rfl)
theorem dX6_readCommand_35 : decode cX6_readCommand 35 = .ok (.if_icmp .ge 7, 3) := dk_162 0 7 (dk_at dksX6_readCommand_1 11 rfl rfl)
theorem dX6_readCommand_38 : decode cX6_readCommand 38 = .ok (.iconst 2, 1) := dk_5 (dk_at dksX6_readCommand_1 14 rfl rfl)
theorem dX6_readCommand_39 : decode cX6_readCommand 39 = .ok (.goto 13, 3) := dk_167 0 13 (dk_at dksX6_readCommand_1 15 rfl rfl)
theorem dX6_readCommand_42 : decode cX6_readCommand 42 = .ok (.iload_n 2, 1) := dk_28 (dk_at dksX6_readCommand_1 18 rfl rfl)
theorem dX6_readCommand_43 : decode cX6_readCommand 43 = .ok (.iconst 4, 1) := dk_7 (dk_at dksX6_readCommand_1 19 rfl rfl)
theorem dX6_readCommand_44 : decode cX6_readCommand 44 = .ok (.if_icmp .ne 7, 3) := dk_160 0 7 (dk_at dksX6_readCommand_1 20 rfl rfl)
theorem dX6_readCommand_47 : decode cX6_readCommand 47 = .ok (.iconst 1, 1) := dk_4 (dk_at dksX6_readCommand_1 23 rfl rfl)
theorem dX6_readCommand_48 : decode cX6_readCommand 48 = .ok (.goto 4, 3) := dk_167 0 4 (dk_at dksX6_readCommand_2 0 rfl rfl)
theorem dX6_readCommand_51 : decode cX6_readCommand 51 = .ok (.iconst 0, 1) := dk_3 (dk_at dksX6_readCommand_2 3 rfl rfl)
theorem dX6_readCommand_52 : decode cX6_readCommand 52 = .ok (.istore_n 3, 1) := dk_62 (dk_at dksX6_readCommand_2 4 rfl rfl)
theorem dX6_readCommand_53 : decode cX6_readCommand 53 = .ok (.iconst 0, 1) := dk_3 (dk_at dksX6_readCommand_2 5 rfl rfl)
theorem dX6_readCommand_54 : decode cX6_readCommand 54 = .ok (.istore 4, 2) := dk_54 4 (dk_at dksX6_readCommand_2 6 rfl rfl)
theorem dX6_readCommand_56 : decode cX6_readCommand 56 = .ok (.iload 4, 2) := dk_21 4 (dk_at dksX6_readCommand_2 8 rfl rfl)
theorem dX6_readCommand_58 : decode cX6_readCommand 58 = .ok (.iload_n 3, 1) := dk_29 (dk_at dksX6_readCommand_2 10 rfl rfl)
theorem dX6_readCommand_59 : decode cX6_readCommand 59 = .ok (.if_icmp .ge 24, 3) := dk_162 0 24 (dk_at dksX6_readCommand_2 11 rfl rfl)
theorem dX6_readCommand_62 : decode cX6_readCommand 62 = .ok (.aload_n 0, 1) := dk_42 (dk_at dksX6_readCommand_2 14 rfl rfl)
theorem dX6_readCommand_63 : decode cX6_readCommand 63 = .ok (.iload_n 1, 1) := dk_27 (dk_at dksX6_readCommand_2 15 rfl rfl)
theorem dX6_readCommand_64 : decode cX6_readCommand 64 = .ok (.iconst 1, 1) := dk_4 (dk_at dksX6_readCommand_2 16 rfl rfl)
theorem dX6_readCommand_65 : decode cX6_readCommand 65 = .ok (.iadd, 1) := dk_96 (dk_at dksX6_readCommand_2 17 rfl rfl)
theorem dX6_readCommand_66 : decode cX6_readCommand 66 = .ok (.iload 4, 2) := dk_21 4 (dk_at dksX6_readCommand_2 18 rfl rfl)
theorem dX6_readCommand_68 : decode cX6_readCommand 68 = .ok (.iadd, 1) := dk_96 (dk_at dksX6_readCommand_2 20 rfl rfl)
theorem dX6_readCommand_69 : decode cX6_readCommand 69 = .ok (.invokevirtual 310, 3) := dk_182 1 54 (dk_at dksX6_readCommand_2 21 rfl rfl)
theorem dX6_readCommand_72 : decode cX6_readCommand 72 = .ok (.ifCond .ne 5, 3) := dk_154 0 5 (dk_at dksX6_readCommand_3 0 rfl rfl)
theorem dX6_readCommand_75 : decode cX6_readCommand 75 = .ok (.iconst 0, 1) := dk_3 (dk_at dksX6_readCommand_3 3 rfl rfl)
theorem dX6_readCommand_76 : decode cX6_readCommand 76 = .ok (.ireturn, 1) := dk_172 (dk_at dksX6_readCommand_3 4 rfl rfl)
theorem dX6_readCommand_77 : decode cX6_readCommand 77 = .ok (.iinc 4 1, 3) := dk_132 4 1 (dk_at dksX6_readCommand_3 5 rfl rfl)
theorem dX6_readCommand_80 : decode cX6_readCommand 80 = .ok (.goto (-24), 3) := dk_167 255 232 (dk_at dksX6_readCommand_3 8 rfl rfl)
theorem dX6_readCommand_83 : decode cX6_readCommand 83 = .ok (.aload_n 0, 1) := dk_42 (dk_at dksX6_readCommand_3 11 rfl rfl)
theorem dX6_readCommand_84 : decode cX6_readCommand 84 = .ok (.invokevirtual 297, 3) := dk_182 1 41 (dk_at dksX6_readCommand_3 12 rfl rfl)
theorem dX6_readCommand_87 : decode cX6_readCommand 87 = .ok (.istore 4, 2) := dk_54 4 (dk_at dksX6_readCommand_3 15 rfl rfl)
theorem dX6_readCommand_89 : decode cX6_readCommand 89 = .ok (.aload_n 0, 1) := dk_42 (dk_at dksX6_readCommand_3 17 rfl rfl)
theorem dX6_readCommand_90 : decode cX6_readCommand 90 = .ok (.invokevirtual 267, 3) := dk_182 1 11 (dk_at dksX6_readCommand_3 18 rfl rfl)
theorem dX6_readCommand_93 : decode cX6_readCommand 93 = .ok (.bipush 59, 2) := dk_16 59 (dk_at dksX6_readCommand_3 21 rfl rfl)
theorem dX6_readCommand_95 : decode cX6_readCommand 95 = .ok (.if_icmp .eq 5, 3) := dk_159 0 5 (dk_at dksX6_readCommand_4 0 rfl rfl)
theorem dX6_readCommand_98 : decode cX6_readCommand 98 = .ok (.iconst 0, 1) := dk_3 (dk_at dksX6_readCommand_4 3 rfl rfl)
theorem dX6_readCommand_99 : decode cX6_readCommand 99 = .ok (.ireturn, 1) := dk_172 (dk_at dksX6_readCommand_4 4 rfl rfl)
theorem dX6_readCommand_100 : decode cX6_readCommand 100 = .ok (.aload_n 0, 1) := dk_42 (dk_at dksX6_readCommand_4 5 rfl rfl)
theorem dX6_readCommand_101 : decode cX6_readCommand 101 = .ok (.dup, 1) := dk_89 (dk_at dksX6_readCommand_4 6 rfl rfl)
theorem dX6_readCommand_102 : decode cX6_readCommand 102 = .ok (.getfield 264, 3) := dk_180 1 8 (dk_at dksX6_readCommand_4 7 rfl rfl)
theorem dX6_readCommand_105 : decode cX6_readCommand 105 = .ok (.iconst 1, 1) := dk_4 (dk_at dksX6_readCommand_4 10 rfl rfl)
theorem dX6_readCommand_106 : decode cX6_readCommand 106 = .ok (.iadd, 1) := dk_96 (dk_at dksX6_readCommand_4 11 rfl rfl)
theorem dX6_readCommand_107 : decode cX6_readCommand 107 = .ok (.putfield 264, 3) := dk_181 1 8 (dk_at dksX6_readCommand_4 12 rfl rfl)
theorem dX6_readCommand_110 : decode cX6_readCommand 110 = .ok (.aload_n 0, 1) := dk_42 (dk_at dksX6_readCommand_4 15 rfl rfl)
theorem dX6_readCommand_111 : decode cX6_readCommand 111 = .ok (.dup, 1) := dk_89 (dk_at dksX6_readCommand_4 16 rfl rfl)
theorem dX6_readCommand_112 : decode cX6_readCommand 112 = .ok (.getfield 304, 3) := dk_180 1 48 (dk_at dksX6_readCommand_4 17 rfl rfl)
theorem dX6_readCommand_115 : decode cX6_readCommand 115 = .ok (.iconst 1, 1) := dk_4 (dk_at dksX6_readCommand_4 20 rfl rfl)
theorem dX6_readCommand_116 : decode cX6_readCommand 116 = .ok (.iadd, 1) := dk_96 (dk_at dksX6_readCommand_4 21 rfl rfl)
theorem dX6_readCommand_117 : decode cX6_readCommand 117 = .ok (.putfield 304, 3) := dk_181 1 48 (dk_at dksX6_readCommand_5 0 rfl rfl)
theorem dX6_readCommand_120 : decode cX6_readCommand 120 = .ok (.iconst 1, 1) := dk_4 (dk_at dksX6_readCommand_5 3 rfl rfl)
theorem dX6_readCommand_121 : decode cX6_readCommand 121 = .ok (.ireturn, 1) := dk_172 (dk_at dksX6_readCommand_5 4 rfl rfl)
abbrev cX6_readWord : ByteArray := prog_10_method_74_code
def yX6_readWord : MethodName := ⟨RX6, "readWord", "(I)Z"⟩
def dkwX6_readWord_5 : List UInt8 := [181, 1, 8, 42, 180, 0, 41, 27, 46, 2, 159, 0, 7, 4, 167, 0, 4, 3, 172]
abbrev dktX6_readWord_5 : List UInt8 := dkwX6_readWord_5 ++ []
def dkwX6_readWord_4 : List UInt8 := [33, 184, 1, 38, 79, 42, 42, 180, 0, 41, 27, 46, 2, 160, 0, 7, 28, 167, 0, 7, 42, 180, 1, 8]
abbrev dktX6_readWord_4 : List UInt8 := dkwX6_readWord_4 ++ dktX6_readWord_5
def dkwX6_readWord_3 : List UInt8 := [160, 0, 5, 3, 172, 42, 180, 0, 41, 27, 42, 180, 1, 8, 28, 100, 8, 164, 0, 7, 2, 167, 0, 7]
abbrev dktX6_readWord_3 : List UInt8 := dkwX6_readWord_3 ++ dktX6_readWord_4
def dkwX6_readWord_2 : List UInt8 := [20, 1, 36, 66, 42, 89, 180, 1, 8, 4, 96, 181, 1, 8, 167, 255, 201, 42, 180, 1, 8, 28]
abbrev dktX6_readWord_2 : List UInt8 := dkwX6_readWord_2 ++ dktX6_readWord_3
def dkwX6_readWord_1 : List UInt8 := [42, 180, 1, 8, 28, 100, 8, 162, 0, 17, 33, 20, 1, 34, 105, 42, 182, 1, 11, 133, 97, 167, 0, 6]
abbrev dktX6_readWord_1 : List UInt8 := dkwX6_readWord_1 ++ dktX6_readWord_2
def dkwX6_readWord_0 : List UInt8 := [42, 180, 1, 8, 61, 9, 66, 42, 182, 1, 11, 133, 20, 1, 30, 20, 1, 32, 184, 0, 59, 153, 0, 44]
abbrev dktX6_readWord_0 : List UInt8 := dkwX6_readWord_0 ++ dktX6_readWord_1
theorem dksX6_readWord_0 : cX6_readWord.data.toList.drop 0 = dktX6_readWord_0 := by decide +kernel
theorem dksX6_readWord_1 : cX6_readWord.data.toList.drop 24 = dktX6_readWord_1 := dk_seg dksX6_readWord_0 24 rfl rfl
theorem dksX6_readWord_2 : cX6_readWord.data.toList.drop 48 = dktX6_readWord_2 := dk_seg dksX6_readWord_1 24 rfl rfl
theorem dksX6_readWord_3 : cX6_readWord.data.toList.drop 70 = dktX6_readWord_3 := dk_seg dksX6_readWord_2 22 rfl rfl
theorem dksX6_readWord_4 : cX6_readWord.data.toList.drop 94 = dktX6_readWord_4 := dk_seg dksX6_readWord_3 24 rfl rfl
theorem dksX6_readWord_5 : cX6_readWord.data.toList.drop 118 = dktX6_readWord_5 := dk_seg dksX6_readWord_4 24 rfl rfl
theorem dX6_readWord_0 : decode cX6_readWord 0 = .ok (.aload_n 0, 1) := dk_42 (dk_at dksX6_readWord_0 0 rfl rfl)
theorem dX6_readWord_1 : decode cX6_readWord 1 = .ok (.getfield 264, 3) := dk_180 1 8 (dk_at dksX6_readWord_0 1 rfl rfl)
theorem dX6_readWord_4 : decode cX6_readWord 4 = .ok (.istore_n 2, 1) := dk_61 (dk_at dksX6_readWord_0 4 rfl rfl)
theorem dX6_readWord_5 : decode cX6_readWord 5 = .ok (.lconst 0, 1) := dk_9 (dk_at dksX6_readWord_0 5 rfl rfl)
theorem dX6_readWord_6 : decode cX6_readWord 6 = .ok (.lstore_n 3, 1) := dk_66 (dk_at dksX6_readWord_0 6 rfl rfl)
theorem dX6_readWord_7 : decode cX6_readWord 7 = .ok (.aload_n 0, 1) := dk_42 (dk_at dksX6_readWord_0 7 rfl rfl)
theorem dX6_readWord_8 : decode cX6_readWord 8 = .ok (.invokevirtual 267, 3) := dk_182 1 11 (dk_at dksX6_readWord_0 8 rfl rfl)
theorem dX6_readWord_11 : decode cX6_readWord 11 = .ok (.i2l, 1) := dk_133 (dk_at dksX6_readWord_0 11 rfl rfl)
theorem dX6_readWord_12 : decode cX6_readWord 12 = .ok (.ldc2_w 286, 3) := dk_20 1 30 (dk_at dksX6_readWord_0 12 rfl rfl)
theorem dX6_readWord_15 : decode cX6_readWord 15 = .ok (.ldc2_w 288, 3) := dk_20 1 32 (dk_at dksX6_readWord_0 15 rfl rfl)
theorem dX6_readWord_18 : decode cX6_readWord 18 = .ok (.invokestatic 59, 3) := dk_184 0 59 (dk_at dksX6_readWord_0 18 rfl rfl)
theorem dX6_readWord_21 : decode cX6_readWord 21 = .ok (.ifCond .eq 44, 3) := dk_153 0 44 (dk_at dksX6_readWord_0 21 rfl rfl)
theorem dX6_readWord_24 : decode cX6_readWord 24 = .ok (.aload_n 0, 1) := dk_42 (dk_at dksX6_readWord_1 0 rfl rfl)
theorem dX6_readWord_25 : decode cX6_readWord 25 = .ok (.getfield 264, 3) := dk_180 1 8 (dk_at dksX6_readWord_1 1 rfl rfl)
theorem dX6_readWord_28 : decode cX6_readWord 28 = .ok (.iload_n 2, 1) := dk_28 (dk_at dksX6_readWord_1 4 rfl rfl)
theorem dX6_readWord_29 : decode cX6_readWord 29 = .ok (.isub, 1) := dk_100 (dk_at dksX6_readWord_1 5 rfl rfl)
theorem dX6_readWord_30 : decode cX6_readWord 30 = .ok (.iconst 5, 1) := dk_8 (dk_at dksX6_readWord_1 6 rfl rfl)
theorem dX6_readWord_31 : decode cX6_readWord 31 = .ok (.if_icmp .ge 17, 3) := dk_162 0 17 (dk_at dksX6_readWord_1 7 rfl rfl)
theorem dX6_readWord_34 : decode cX6_readWord 34 = .ok (.lload_n 3, 1) := dk_33 (dk_at dksX6_readWord_1 10 rfl rfl)
theorem dX6_readWord_35 : decode cX6_readWord 35 = .ok (.ldc2_w 290, 3) := dk_20 1 34 (dk_at dksX6_readWord_1 11 rfl rfl)
theorem dX6_readWord_38 : decode cX6_readWord 38 = .ok (.lmul, 1) := dk_105 (dk_at dksX6_readWord_1 14 rfl rfl)
theorem dX6_readWord_39 : decode cX6_readWord 39 = .ok (.aload_n 0, 1) := dk_42 (dk_at dksX6_readWord_1 15 rfl rfl)
theorem dX6_readWord_40 : decode cX6_readWord 40 = .ok (.invokevirtual 267, 3) := dk_182 1 11 (dk_at dksX6_readWord_1 16 rfl rfl)
theorem dX6_readWord_43 : decode cX6_readWord 43 = .ok (.i2l, 1) := dk_133 (dk_at dksX6_readWord_1 19 rfl rfl)
theorem dX6_readWord_44 : decode cX6_readWord 44 = .ok (.ladd, 1) := dk_97 (dk_at dksX6_readWord_1 20 rfl rfl)
theorem dX6_readWord_45 : decode cX6_readWord 45 = .ok (.goto 6, 3) := dk_167 0 6 (dk_at dksX6_readWord_1 21 rfl rfl)
theorem dX6_readWord_48 : decode cX6_readWord 48 = .ok (.ldc2_w 292, 3) := dk_20 1 36 (dk_at dksX6_readWord_2 0 rfl rfl)
theorem dX6_readWord_51 : decode cX6_readWord 51 = .ok (.lstore_n 3, 1) := dk_66 (dk_at dksX6_readWord_2 3 rfl rfl)
theorem dX6_readWord_52 : decode cX6_readWord 52 = .ok (.aload_n 0, 1) := dk_42 (dk_at dksX6_readWord_2 4 rfl rfl)
theorem dX6_readWord_53 : decode cX6_readWord 53 = .ok (.dup, 1) := dk_89 (dk_at dksX6_readWord_2 5 rfl rfl)
theorem dX6_readWord_54 : decode cX6_readWord 54 = .ok (.getfield 264, 3) := dk_180 1 8 (dk_at dksX6_readWord_2 6 rfl rfl)
theorem dX6_readWord_57 : decode cX6_readWord 57 = .ok (.iconst 1, 1) := dk_4 (dk_at dksX6_readWord_2 9 rfl rfl)
theorem dX6_readWord_58 : decode cX6_readWord 58 = .ok (.iadd, 1) := dk_96 (dk_at dksX6_readWord_2 10 rfl rfl)
theorem dX6_readWord_59 : decode cX6_readWord 59 = .ok (.putfield 264, 3) := dk_181 1 8 (dk_at dksX6_readWord_2 11 rfl rfl)
theorem dX6_readWord_62 : decode cX6_readWord 62 = .ok (.goto (-55), 3) := dk_167 255 201 (dk_at dksX6_readWord_2 14 rfl rfl)
theorem dX6_readWord_65 : decode cX6_readWord 65 = .ok (.aload_n 0, 1) := dk_42 (dk_at dksX6_readWord_2 17 rfl rfl)
theorem dX6_readWord_66 : decode cX6_readWord 66 = .ok (.getfield 264, 3) := dk_180 1 8 (dk_at dksX6_readWord_2 18 rfl rfl)
theorem dX6_readWord_69 : decode cX6_readWord 69 = .ok (.iload_n 2, 1) := dk_28 (dk_at dksX6_readWord_2 21 rfl rfl)
theorem dX6_readWord_70 : decode cX6_readWord 70 = .ok (.if_icmp .ne 5, 3) := dk_160 0 5 (dk_at dksX6_readWord_3 0 rfl rfl)
theorem dX6_readWord_73 : decode cX6_readWord 73 = .ok (.iconst 0, 1) := dk_3 (dk_at dksX6_readWord_3 3 rfl rfl)
theorem dX6_readWord_74 : decode cX6_readWord 74 = .ok (.ireturn, 1) := dk_172 (dk_at dksX6_readWord_3 4 rfl rfl)
theorem dX6_readWord_75 : decode cX6_readWord 75 = .ok (.aload_n 0, 1) := dk_42 (dk_at dksX6_readWord_3 5 rfl rfl)
theorem dX6_readWord_76 : decode cX6_readWord 76 = .ok (.getfield 41, 3) := dk_180 0 41 (dk_at dksX6_readWord_3 6 rfl rfl)
theorem dX6_readWord_79 : decode cX6_readWord 79 = .ok (.iload_n 1, 1) := dk_27 (dk_at dksX6_readWord_3 9 rfl rfl)
theorem dX6_readWord_80 : decode cX6_readWord 80 = .ok (.aload_n 0, 1) := dk_42 (dk_at dksX6_readWord_3 10 rfl rfl)
theorem dX6_readWord_81 : decode cX6_readWord 81 = .ok (.getfield 264, 3) := dk_180 1 8 (dk_at dksX6_readWord_3 11 rfl rfl)
theorem dX6_readWord_84 : decode cX6_readWord 84 = .ok (.iload_n 2, 1) := dk_28 (dk_at dksX6_readWord_3 14 rfl rfl)
theorem dX6_readWord_85 : decode cX6_readWord 85 = .ok (.isub, 1) := dk_100 (dk_at dksX6_readWord_3 15 rfl rfl)
theorem dX6_readWord_86 : decode cX6_readWord 86 = .ok (.iconst 5, 1) := dk_8 (dk_at dksX6_readWord_3 16 rfl rfl)
theorem dX6_readWord_87 : decode cX6_readWord 87 = .ok (.if_icmp .le 7, 3) := dk_164 0 7 (dk_at dksX6_readWord_3 17 rfl rfl)
theorem dX6_readWord_90 : decode cX6_readWord 90 = .ok (.iconst (-1), 1) := dk_2 (dk_at dksX6_readWord_3 20 rfl rfl)
theorem dX6_readWord_91 : decode cX6_readWord 91 = .ok (.goto 7, 3) := dk_167 0 7 (dk_at dksX6_readWord_3 21 rfl rfl)
theorem dX6_readWord_94 : decode cX6_readWord 94 = .ok (.lload_n 3, 1) := dk_33 (dk_at dksX6_readWord_4 0 rfl rfl)
theorem dX6_readWord_95 : decode cX6_readWord 95 = .ok (.invokestatic 294, 3) := dk_184 1 38 (dk_at dksX6_readWord_4 1 rfl rfl)
theorem dX6_readWord_98 : decode cX6_readWord 98 = .ok (.iastore, 1) := dk_79 (dk_at dksX6_readWord_4 4 rfl rfl)
theorem dX6_readWord_99 : decode cX6_readWord 99 = .ok (.aload_n 0, 1) := dk_42 (dk_at dksX6_readWord_4 5 rfl rfl)
theorem dX6_readWord_100 : decode cX6_readWord 100 = .ok (.aload_n 0, 1) := dk_42 (dk_at dksX6_readWord_4 6 rfl rfl)
theorem dX6_readWord_101 : decode cX6_readWord 101 = .ok (.getfield 41, 3) := dk_180 0 41 (dk_at dksX6_readWord_4 7 rfl rfl)
theorem dX6_readWord_104 : decode cX6_readWord 104 = .ok (.iload_n 1, 1) := dk_27 (dk_at dksX6_readWord_4 10 rfl rfl)
theorem dX6_readWord_105 : decode cX6_readWord 105 = .ok (.iaload, 1) := dk_46 (dk_at dksX6_readWord_4 11 rfl rfl)
theorem dX6_readWord_106 : decode cX6_readWord 106 = .ok (.iconst (-1), 1) := dk_2 (dk_at dksX6_readWord_4 12 rfl rfl)
theorem dX6_readWord_107 : decode cX6_readWord 107 = .ok (.if_icmp .ne 7, 3) := dk_160 0 7 (dk_at dksX6_readWord_4 13 rfl rfl)
theorem dX6_readWord_110 : decode cX6_readWord 110 = .ok (.iload_n 2, 1) := dk_28 (dk_at dksX6_readWord_4 16 rfl rfl)
theorem dX6_readWord_111 : decode cX6_readWord 111 = .ok (.goto 7, 3) := dk_167 0 7 (dk_at dksX6_readWord_4 17 rfl rfl)
theorem dX6_readWord_114 : decode cX6_readWord 114 = .ok (.aload_n 0, 1) := dk_42 (dk_at dksX6_readWord_4 20 rfl rfl)
theorem dX6_readWord_115 : decode cX6_readWord 115 = .ok (.getfield 264, 3) := dk_180 1 8 (dk_at dksX6_readWord_4 21 rfl rfl)
theorem dX6_readWord_118 : decode cX6_readWord 118 = .ok (.putfield 264, 3) := dk_181 1 8 (dk_at dksX6_readWord_5 0 rfl rfl)
theorem dX6_readWord_121 : decode cX6_readWord 121 = .ok (.aload_n 0, 1) := dk_42 (dk_at dksX6_readWord_5 3 rfl rfl)
theorem dX6_readWord_122 : decode cX6_readWord 122 = .ok (.getfield 41, 3) := dk_180 0 41 (dk_at dksX6_readWord_5 4 rfl rfl)
theorem dX6_readWord_125 : decode cX6_readWord 125 = .ok (.iload_n 1, 1) := dk_27 (dk_at dksX6_readWord_5 7 rfl rfl)
theorem dX6_readWord_126 : decode cX6_readWord 126 = .ok (.iaload, 1) := dk_46 (dk_at dksX6_readWord_5 8 rfl rfl)
theorem dX6_readWord_127 : decode cX6_readWord 127 = .ok (.iconst (-1), 1) := dk_2 (dk_at dksX6_readWord_5 9 rfl rfl)
theorem dX6_readWord_128 : decode cX6_readWord 128 = .ok (.if_icmp .eq 7, 3) := dk_159 0 7 (dk_at dksX6_readWord_5 10 rfl rfl)
theorem dX6_readWord_131 : decode cX6_readWord 131 = .ok (.iconst 1, 1) := dk_4 (dk_at dksX6_readWord_5 13 rfl rfl)
theorem dX6_readWord_132 : decode cX6_readWord 132 = .ok (.goto 4, 3) := dk_167 0 4 (dk_at dksX6_readWord_5 14 rfl rfl)
theorem dX6_readWord_135 : decode cX6_readWord 135 = .ok (.iconst 0, 1) := dk_3 (dk_at dksX6_readWord_5 17 rfl rfl)
theorem dX6_readWord_136 : decode cX6_readWord 136 = .ok (.ireturn, 1) := dk_172 (dk_at dksX6_readWord_5 18 rfl rfl)
abbrev cX6_kindOf : ByteArray := prog_10_method_73_code
def yX6_kindOf : MethodName := ⟨RX6, "kindOf", "(J)I"⟩
def dkwX6_kindOf_5 : List UInt8 := [167, 0, 4, 2, 172]
abbrev dktX6_kindOf_5 : List UInt8 := dkwX6_kindOf_5 ++ []
def dkwX6_kindOf_4 : List UInt8 := [20, 1, 26, 148, 154, 0, 8, 16, 6, 167, 0, 17, 30, 20, 1, 28, 148, 154, 0, 8, 16, 7]
abbrev dktX6_kindOf_4 : List UInt8 := dkwX6_kindOf_4 ++ dktX6_kindOf_5
def dkwX6_kindOf_3 : List UInt8 := [20, 1, 24, 148, 154, 0, 17, 30, 20, 1, 22, 148, 154, 0, 7, 7, 167, 0, 4, 8, 172, 30]
abbrev dktX6_kindOf_3 : List UInt8 := dkwX6_kindOf_3 ++ dktX6_kindOf_4
def dkwX6_kindOf_2 : List UInt8 := [20, 1, 18, 148, 154, 0, 7, 5, 167, 0, 4, 6, 172, 30, 20, 1, 22, 148, 153, 0, 11, 30]
abbrev dktX6_kindOf_2 : List UInt8 := dkwX6_kindOf_2 ++ dktX6_kindOf_3
def dkwX6_kindOf_1 : List UInt8 := [3, 167, 0, 4, 4, 172, 30, 20, 1, 18, 148, 153, 0, 11, 30, 20, 1, 20, 148, 154, 0, 17, 30]
abbrev dktX6_kindOf_1 : List UInt8 := dkwX6_kindOf_1 ++ dktX6_kindOf_2
def dkwX6_kindOf_0 : List UInt8 := [30, 20, 1, 14, 148, 153, 0, 11, 30, 20, 1, 16, 148, 154, 0, 17, 30, 20, 1, 14, 148, 154, 0, 7]
abbrev dktX6_kindOf_0 : List UInt8 := dkwX6_kindOf_0 ++ dktX6_kindOf_1
theorem dksX6_kindOf_0 : cX6_kindOf.data.toList.drop 0 = dktX6_kindOf_0 := by decide +kernel
theorem dksX6_kindOf_1 : cX6_kindOf.data.toList.drop 24 = dktX6_kindOf_1 := dk_seg dksX6_kindOf_0 24 rfl rfl
theorem dksX6_kindOf_2 : cX6_kindOf.data.toList.drop 47 = dktX6_kindOf_2 := dk_seg dksX6_kindOf_1 23 rfl rfl
theorem dksX6_kindOf_3 : cX6_kindOf.data.toList.drop 69 = dktX6_kindOf_3 := dk_seg dksX6_kindOf_2 22 rfl rfl
theorem dksX6_kindOf_4 : cX6_kindOf.data.toList.drop 91 = dktX6_kindOf_4 := dk_seg dksX6_kindOf_3 22 rfl rfl
theorem dksX6_kindOf_5 : cX6_kindOf.data.toList.drop 113 = dktX6_kindOf_5 := dk_seg dksX6_kindOf_4 22 rfl rfl
theorem dX6_kindOf_0 : decode cX6_kindOf 0 = .ok (.lload_n 0, 1) := dk_30 (dk_at dksX6_kindOf_0 0 rfl rfl)
theorem dX6_kindOf_1 : decode cX6_kindOf 1 = .ok (.ldc2_w 270, 3) := dk_20 1 14 (dk_at dksX6_kindOf_0 1 rfl rfl)
theorem dX6_kindOf_4 : decode cX6_kindOf 4 = .ok (.lcmp, 1) := dk_148 (dk_at dksX6_kindOf_0 4 rfl rfl)
theorem dX6_kindOf_5 : decode cX6_kindOf 5 = .ok (.ifCond .eq 11, 3) := dk_153 0 11 (dk_at dksX6_kindOf_0 5 rfl rfl)
theorem dX6_kindOf_8 : decode cX6_kindOf 8 = .ok (.lload_n 0, 1) := dk_30 (dk_at dksX6_kindOf_0 8 rfl rfl)
theorem dX6_kindOf_9 : decode cX6_kindOf 9 = .ok (.ldc2_w 272, 3) := dk_20 1 16 (dk_at dksX6_kindOf_0 9 rfl rfl)
theorem dX6_kindOf_12 : decode cX6_kindOf 12 = .ok (.lcmp, 1) := dk_148 (dk_at dksX6_kindOf_0 12 rfl rfl)
theorem dX6_kindOf_13 : decode cX6_kindOf 13 = .ok (.ifCond .ne 17, 3) := dk_154 0 17 (dk_at dksX6_kindOf_0 13 rfl rfl)
theorem dX6_kindOf_16 : decode cX6_kindOf 16 = .ok (.lload_n 0, 1) := dk_30 (dk_at dksX6_kindOf_0 16 rfl rfl)
theorem dX6_kindOf_17 : decode cX6_kindOf 17 = .ok (.ldc2_w 270, 3) := dk_20 1 14 (dk_at dksX6_kindOf_0 17 rfl rfl)
theorem dX6_kindOf_20 : decode cX6_kindOf 20 = .ok (.lcmp, 1) := dk_148 (dk_at dksX6_kindOf_0 20 rfl rfl)
theorem dX6_kindOf_21 : decode cX6_kindOf 21 = .ok (.ifCond .ne 7, 3) := dk_154 0 7 (dk_at dksX6_kindOf_0 21 rfl rfl)
theorem dX6_kindOf_24 : decode cX6_kindOf 24 = .ok (.iconst 0, 1) := dk_3 (dk_at dksX6_kindOf_1 0 rfl rfl)
theorem dX6_kindOf_25 : decode cX6_kindOf 25 = .ok (.goto 4, 3) := dk_167 0 4 (dk_at dksX6_kindOf_1 1 rfl rfl)
theorem dX6_kindOf_28 : decode cX6_kindOf 28 = .ok (.iconst 1, 1) := dk_4 (dk_at dksX6_kindOf_1 4 rfl rfl)
theorem dX6_kindOf_29 : decode cX6_kindOf 29 = .ok (.ireturn, 1) := dk_172 (dk_at dksX6_kindOf_1 5 rfl rfl)
theorem dX6_kindOf_30 : decode cX6_kindOf 30 = .ok (.lload_n 0, 1) := dk_30 (dk_at dksX6_kindOf_1 6 rfl rfl)
theorem dX6_kindOf_31 : decode cX6_kindOf 31 = .ok (.ldc2_w 274, 3) := dk_20 1 18 (dk_at dksX6_kindOf_1 7 rfl rfl)
theorem dX6_kindOf_34 : decode cX6_kindOf 34 = .ok (.lcmp, 1) := dk_148 (dk_at dksX6_kindOf_1 10 rfl rfl)
theorem dX6_kindOf_35 : decode cX6_kindOf 35 = .ok (.ifCond .eq 11, 3) := dk_153 0 11 (dk_at dksX6_kindOf_1 11 rfl rfl)
theorem dX6_kindOf_38 : decode cX6_kindOf 38 = .ok (.lload_n 0, 1) := dk_30 (dk_at dksX6_kindOf_1 14 rfl rfl)
theorem dX6_kindOf_39 : decode cX6_kindOf 39 = .ok (.ldc2_w 276, 3) := dk_20 1 20 (dk_at dksX6_kindOf_1 15 rfl rfl)
theorem dX6_kindOf_42 : decode cX6_kindOf 42 = .ok (.lcmp, 1) := dk_148 (dk_at dksX6_kindOf_1 18 rfl rfl)
theorem dX6_kindOf_43 : decode cX6_kindOf 43 = .ok (.ifCond .ne 17, 3) := dk_154 0 17 (dk_at dksX6_kindOf_1 19 rfl rfl)
theorem dX6_kindOf_46 : decode cX6_kindOf 46 = .ok (.lload_n 0, 1) := dk_30 (dk_at dksX6_kindOf_1 22 rfl rfl)
theorem dX6_kindOf_47 : decode cX6_kindOf 47 = .ok (.ldc2_w 274, 3) := dk_20 1 18 (dk_at dksX6_kindOf_2 0 rfl rfl)
theorem dX6_kindOf_50 : decode cX6_kindOf 50 = .ok (.lcmp, 1) := dk_148 (dk_at dksX6_kindOf_2 3 rfl rfl)
theorem dX6_kindOf_51 : decode cX6_kindOf 51 = .ok (.ifCond .ne 7, 3) := dk_154 0 7 (dk_at dksX6_kindOf_2 4 rfl rfl)
theorem dX6_kindOf_54 : decode cX6_kindOf 54 = .ok (.iconst 2, 1) := dk_5 (dk_at dksX6_kindOf_2 7 rfl rfl)
theorem dX6_kindOf_55 : decode cX6_kindOf 55 = .ok (.goto 4, 3) := dk_167 0 4 (dk_at dksX6_kindOf_2 8 rfl rfl)
theorem dX6_kindOf_58 : decode cX6_kindOf 58 = .ok (.iconst 3, 1) := dk_6 (dk_at dksX6_kindOf_2 11 rfl rfl)
theorem dX6_kindOf_59 : decode cX6_kindOf 59 = .ok (.ireturn, 1) := dk_172 (dk_at dksX6_kindOf_2 12 rfl rfl)
theorem dX6_kindOf_60 : decode cX6_kindOf 60 = .ok (.lload_n 0, 1) := dk_30 (dk_at dksX6_kindOf_2 13 rfl rfl)
theorem dX6_kindOf_61 : decode cX6_kindOf 61 = .ok (.ldc2_w 278, 3) := dk_20 1 22 (dk_at dksX6_kindOf_2 14 rfl rfl)
theorem dX6_kindOf_64 : decode cX6_kindOf 64 = .ok (.lcmp, 1) := dk_148 (dk_at dksX6_kindOf_2 17 rfl rfl)
theorem dX6_kindOf_65 : decode cX6_kindOf 65 = .ok (.ifCond .eq 11, 3) := dk_153 0 11 (dk_at dksX6_kindOf_2 18 rfl rfl)
theorem dX6_kindOf_68 : decode cX6_kindOf 68 = .ok (.lload_n 0, 1) := dk_30 (dk_at dksX6_kindOf_2 21 rfl rfl)
theorem dX6_kindOf_69 : decode cX6_kindOf 69 = .ok (.ldc2_w 280, 3) := dk_20 1 24 (dk_at dksX6_kindOf_3 0 rfl rfl)
theorem dX6_kindOf_72 : decode cX6_kindOf 72 = .ok (.lcmp, 1) := dk_148 (dk_at dksX6_kindOf_3 3 rfl rfl)
theorem dX6_kindOf_73 : decode cX6_kindOf 73 = .ok (.ifCond .ne 17, 3) := dk_154 0 17 (dk_at dksX6_kindOf_3 4 rfl rfl)
theorem dX6_kindOf_76 : decode cX6_kindOf 76 = .ok (.lload_n 0, 1) := dk_30 (dk_at dksX6_kindOf_3 7 rfl rfl)
theorem dX6_kindOf_77 : decode cX6_kindOf 77 = .ok (.ldc2_w 278, 3) := dk_20 1 22 (dk_at dksX6_kindOf_3 8 rfl rfl)
theorem dX6_kindOf_80 : decode cX6_kindOf 80 = .ok (.lcmp, 1) := dk_148 (dk_at dksX6_kindOf_3 11 rfl rfl)
theorem dX6_kindOf_81 : decode cX6_kindOf 81 = .ok (.ifCond .ne 7, 3) := dk_154 0 7 (dk_at dksX6_kindOf_3 12 rfl rfl)
theorem dX6_kindOf_84 : decode cX6_kindOf 84 = .ok (.iconst 4, 1) := dk_7 (dk_at dksX6_kindOf_3 15 rfl rfl)
theorem dX6_kindOf_85 : decode cX6_kindOf 85 = .ok (.goto 4, 3) := dk_167 0 4 (dk_at dksX6_kindOf_3 16 rfl rfl)
theorem dX6_kindOf_88 : decode cX6_kindOf 88 = .ok (.iconst 5, 1) := dk_8 (dk_at dksX6_kindOf_3 19 rfl rfl)
theorem dX6_kindOf_89 : decode cX6_kindOf 89 = .ok (.ireturn, 1) := dk_172 (dk_at dksX6_kindOf_3 20 rfl rfl)
theorem dX6_kindOf_90 : decode cX6_kindOf 90 = .ok (.lload_n 0, 1) := dk_30 (dk_at dksX6_kindOf_3 21 rfl rfl)
theorem dX6_kindOf_91 : decode cX6_kindOf 91 = .ok (.ldc2_w 282, 3) := dk_20 1 26 (dk_at dksX6_kindOf_4 0 rfl rfl)
theorem dX6_kindOf_94 : decode cX6_kindOf 94 = .ok (.lcmp, 1) := dk_148 (dk_at dksX6_kindOf_4 3 rfl rfl)
theorem dX6_kindOf_95 : decode cX6_kindOf 95 = .ok (.ifCond .ne 8, 3) := dk_154 0 8 (dk_at dksX6_kindOf_4 4 rfl rfl)
theorem dX6_kindOf_98 : decode cX6_kindOf 98 = .ok (.bipush 6, 2) := dk_16 6 (dk_at dksX6_kindOf_4 7 rfl rfl)
theorem dX6_kindOf_100 : decode cX6_kindOf 100 = .ok (.goto 17, 3) := dk_167 0 17 (dk_at dksX6_kindOf_4 9 rfl rfl)
theorem dX6_kindOf_103 : decode cX6_kindOf 103 = .ok (.lload_n 0, 1) := dk_30 (dk_at dksX6_kindOf_4 12 rfl rfl)
theorem dX6_kindOf_104 : decode cX6_kindOf 104 = .ok (.ldc2_w 284, 3) := dk_20 1 28 (dk_at dksX6_kindOf_4 13 rfl rfl)
theorem dX6_kindOf_107 : decode cX6_kindOf 107 = .ok (.lcmp, 1) := dk_148 (dk_at dksX6_kindOf_4 16 rfl rfl)
theorem dX6_kindOf_108 : decode cX6_kindOf 108 = .ok (.ifCond .ne 8, 3) := dk_154 0 8 (dk_at dksX6_kindOf_4 17 rfl rfl)
theorem dX6_kindOf_111 : decode cX6_kindOf 111 = .ok (.bipush 7, 2) := dk_16 7 (dk_at dksX6_kindOf_4 20 rfl rfl)
theorem dX6_kindOf_113 : decode cX6_kindOf 113 = .ok (.goto 4, 3) := dk_167 0 4 (dk_at dksX6_kindOf_5 0 rfl rfl)
theorem dX6_kindOf_116 : decode cX6_kindOf 116 = .ok (.iconst (-1), 1) := dk_2 (dk_at dksX6_kindOf_5 3 rfl rfl)
theorem dX6_kindOf_117 : decode cX6_kindOf 117 = .ok (.ireturn, 1) := dk_172 (dk_at dksX6_kindOf_5 4 rfl rfl)
abbrev cX6_readNumber : ByteArray := prog_10_method_75_code
def yX6_readNumber : MethodName := ⟨RX6, "readNumber", "(I)Z"⟩
def dkwX6_readNumber_4 : List UInt8 := [20, 1, 46, 184, 0, 59, 154, 0, 7, 4, 167, 0, 4, 3, 172]
abbrev dktX6_readNumber_4 : List UInt8 := dkwX6_readNumber_4 ++ []
def dkwX6_readNumber_3 : List UInt8 := [180, 0, 41, 27, 29, 79, 42, 180, 1, 8, 28, 164, 0, 24, 42, 182, 1, 11, 133, 20, 1, 44]
abbrev dktX6_readNumber_3 : List UInt8 := dkwX6_readNumber_3 ++ dktX6_readNumber_4
def dkwX6_readNumber_2 : List UInt8 := [42, 182, 1, 11, 96, 16, 48, 100, 62, 42, 89, 180, 1, 8, 4, 96, 181, 1, 8, 167, 255, 205, 42]
abbrev dktX6_readNumber_2 : List UInt8 := dkwX6_readNumber_2 ++ dktX6_readNumber_3
def dkwX6_readNumber_1 : List UInt8 := [162, 0, 46, 42, 182, 1, 11, 133, 20, 1, 44, 20, 1, 46, 184, 0, 59, 153, 0, 29, 16, 10, 29, 104]
abbrev dktX6_readNumber_1 : List UInt8 := dkwX6_readNumber_1 ++ dktX6_readNumber_2
def dkwX6_readNumber_0 : List UInt8 := [42, 182, 1, 41, 154, 0, 5, 3, 172, 42, 180, 1, 8, 61, 3, 62, 42, 180, 1, 8, 28, 16, 6, 96]
abbrev dktX6_readNumber_0 : List UInt8 := dkwX6_readNumber_0 ++ dktX6_readNumber_1
theorem dksX6_readNumber_0 : cX6_readNumber.data.toList.drop 0 = dktX6_readNumber_0 := by decide +kernel
theorem dksX6_readNumber_1 : cX6_readNumber.data.toList.drop 24 = dktX6_readNumber_1 := dk_seg dksX6_readNumber_0 24 rfl rfl
theorem dksX6_readNumber_2 : cX6_readNumber.data.toList.drop 48 = dktX6_readNumber_2 := dk_seg dksX6_readNumber_1 24 rfl rfl
theorem dksX6_readNumber_3 : cX6_readNumber.data.toList.drop 71 = dktX6_readNumber_3 := dk_seg dksX6_readNumber_2 23 rfl rfl
theorem dksX6_readNumber_4 : cX6_readNumber.data.toList.drop 93 = dktX6_readNumber_4 := dk_seg dksX6_readNumber_3 22 rfl rfl
theorem dX6_readNumber_0 : decode cX6_readNumber 0 = .ok (.aload_n 0, 1) := dk_42 (dk_at dksX6_readNumber_0 0 rfl rfl)
theorem dX6_readNumber_1 : decode cX6_readNumber 1 = .ok (.invokevirtual 297, 3) := dk_182 1 41 (dk_at dksX6_readNumber_0 1 rfl rfl)
theorem dX6_readNumber_4 : decode cX6_readNumber 4 = .ok (.ifCond .ne 5, 3) := dk_154 0 5 (dk_at dksX6_readNumber_0 4 rfl rfl)
theorem dX6_readNumber_7 : decode cX6_readNumber 7 = .ok (.iconst 0, 1) := dk_3 (dk_at dksX6_readNumber_0 7 rfl rfl)
theorem dX6_readNumber_8 : decode cX6_readNumber 8 = .ok (.ireturn, 1) := dk_172 (dk_at dksX6_readNumber_0 8 rfl rfl)
theorem dX6_readNumber_9 : decode cX6_readNumber 9 = .ok (.aload_n 0, 1) := dk_42 (dk_at dksX6_readNumber_0 9 rfl rfl)
theorem dX6_readNumber_10 : decode cX6_readNumber 10 = .ok (.getfield 264, 3) := dk_180 1 8 (dk_at dksX6_readNumber_0 10 rfl rfl)
theorem dX6_readNumber_13 : decode cX6_readNumber 13 = .ok (.istore_n 2, 1) := dk_61 (dk_at dksX6_readNumber_0 13 rfl rfl)
theorem dX6_readNumber_14 : decode cX6_readNumber 14 = .ok (.iconst 0, 1) := dk_3 (dk_at dksX6_readNumber_0 14 rfl rfl)
theorem dX6_readNumber_15 : decode cX6_readNumber 15 = .ok (.istore_n 3, 1) := dk_62 (dk_at dksX6_readNumber_0 15 rfl rfl)
theorem dX6_readNumber_16 : decode cX6_readNumber 16 = .ok (.aload_n 0, 1) := dk_42 (dk_at dksX6_readNumber_0 16 rfl rfl)
theorem dX6_readNumber_17 : decode cX6_readNumber 17 = .ok (.getfield 264, 3) := dk_180 1 8 (dk_at dksX6_readNumber_0 17 rfl rfl)
theorem dX6_readNumber_20 : decode cX6_readNumber 20 = .ok (.iload_n 2, 1) := dk_28 (dk_at dksX6_readNumber_0 20 rfl rfl)
theorem dX6_readNumber_21 : decode cX6_readNumber 21 = .ok (.bipush 6, 2) := dk_16 6 (dk_at dksX6_readNumber_0 21 rfl rfl)
theorem dX6_readNumber_23 : decode cX6_readNumber 23 = .ok (.iadd, 1) := dk_96 (dk_at dksX6_readNumber_0 23 rfl rfl)
theorem dX6_readNumber_24 : decode cX6_readNumber 24 = .ok (.if_icmp .ge 46, 3) := dk_162 0 46 (dk_at dksX6_readNumber_1 0 rfl rfl)
theorem dX6_readNumber_27 : decode cX6_readNumber 27 = .ok (.aload_n 0, 1) := dk_42 (dk_at dksX6_readNumber_1 3 rfl rfl)
theorem dX6_readNumber_28 : decode cX6_readNumber 28 = .ok (.invokevirtual 267, 3) := dk_182 1 11 (dk_at dksX6_readNumber_1 4 rfl rfl)
theorem dX6_readNumber_31 : decode cX6_readNumber 31 = .ok (.i2l, 1) := dk_133 (dk_at dksX6_readNumber_1 7 rfl rfl)
theorem dX6_readNumber_32 : decode cX6_readNumber 32 = .ok (.ldc2_w 300, 3) := dk_20 1 44 (dk_at dksX6_readNumber_1 8 rfl rfl)
theorem dX6_readNumber_35 : decode cX6_readNumber 35 = .ok (.ldc2_w 302, 3) := dk_20 1 46 (dk_at dksX6_readNumber_1 11 rfl rfl)
theorem dX6_readNumber_38 : decode cX6_readNumber 38 = .ok (.invokestatic 59, 3) := dk_184 0 59 (dk_at dksX6_readNumber_1 14 rfl rfl)
theorem dX6_readNumber_41 : decode cX6_readNumber 41 = .ok (.ifCond .eq 29, 3) := dk_153 0 29 (dk_at dksX6_readNumber_1 17 rfl rfl)
theorem dX6_readNumber_44 : decode cX6_readNumber 44 = .ok (.bipush 10, 2) := dk_16 10 (dk_at dksX6_readNumber_1 20 rfl rfl)
theorem dX6_readNumber_46 : decode cX6_readNumber 46 = .ok (.iload_n 3, 1) := dk_29 (dk_at dksX6_readNumber_1 22 rfl rfl)
theorem dX6_readNumber_47 : decode cX6_readNumber 47 = .ok (.imul, 1) := dk_104 (dk_at dksX6_readNumber_1 23 rfl rfl)
theorem dX6_readNumber_48 : decode cX6_readNumber 48 = .ok (.aload_n 0, 1) := dk_42 (dk_at dksX6_readNumber_2 0 rfl rfl)
theorem dX6_readNumber_49 : decode cX6_readNumber 49 = .ok (.invokevirtual 267, 3) := dk_182 1 11 (dk_at dksX6_readNumber_2 1 rfl rfl)
theorem dX6_readNumber_52 : decode cX6_readNumber 52 = .ok (.iadd, 1) := dk_96 (dk_at dksX6_readNumber_2 4 rfl rfl)
theorem dX6_readNumber_53 : decode cX6_readNumber 53 = .ok (.bipush 48, 2) := dk_16 48 (dk_at dksX6_readNumber_2 5 rfl rfl)
theorem dX6_readNumber_55 : decode cX6_readNumber 55 = .ok (.isub, 1) := dk_100 (dk_at dksX6_readNumber_2 7 rfl rfl)
theorem dX6_readNumber_56 : decode cX6_readNumber 56 = .ok (.istore_n 3, 1) := dk_62 (dk_at dksX6_readNumber_2 8 rfl rfl)
theorem dX6_readNumber_57 : decode cX6_readNumber 57 = .ok (.aload_n 0, 1) := dk_42 (dk_at dksX6_readNumber_2 9 rfl rfl)
theorem dX6_readNumber_58 : decode cX6_readNumber 58 = .ok (.dup, 1) := dk_89 (dk_at dksX6_readNumber_2 10 rfl rfl)
theorem dX6_readNumber_59 : decode cX6_readNumber 59 = .ok (.getfield 264, 3) := dk_180 1 8 (dk_at dksX6_readNumber_2 11 rfl rfl)
theorem dX6_readNumber_62 : decode cX6_readNumber 62 = .ok (.iconst 1, 1) := dk_4 (dk_at dksX6_readNumber_2 14 rfl rfl)
theorem dX6_readNumber_63 : decode cX6_readNumber 63 = .ok (.iadd, 1) := dk_96 (dk_at dksX6_readNumber_2 15 rfl rfl)
theorem dX6_readNumber_64 : decode cX6_readNumber 64 = .ok (.putfield 264, 3) := dk_181 1 8 (dk_at dksX6_readNumber_2 16 rfl rfl)
theorem dX6_readNumber_67 : decode cX6_readNumber 67 = .ok (.goto (-51), 3) := dk_167 255 205 (dk_at dksX6_readNumber_2 19 rfl rfl)
theorem dX6_readNumber_70 : decode cX6_readNumber 70 = .ok (.aload_n 0, 1) := dk_42 (dk_at dksX6_readNumber_2 22 rfl rfl)
theorem dX6_readNumber_71 : decode cX6_readNumber 71 = .ok (.getfield 41, 3) := dk_180 0 41 (dk_at dksX6_readNumber_3 0 rfl rfl)
theorem dX6_readNumber_74 : decode cX6_readNumber 74 = .ok (.iload_n 1, 1) := dk_27 (dk_at dksX6_readNumber_3 3 rfl rfl)
theorem dX6_readNumber_75 : decode cX6_readNumber 75 = .ok (.iload_n 3, 1) := dk_29 (dk_at dksX6_readNumber_3 4 rfl rfl)
theorem dX6_readNumber_76 : decode cX6_readNumber 76 = .ok (.iastore, 1) := dk_79 (dk_at dksX6_readNumber_3 5 rfl rfl)
theorem dX6_readNumber_77 : decode cX6_readNumber 77 = .ok (.aload_n 0, 1) := dk_42 (dk_at dksX6_readNumber_3 6 rfl rfl)
theorem dX6_readNumber_78 : decode cX6_readNumber 78 = .ok (.getfield 264, 3) := dk_180 1 8 (dk_at dksX6_readNumber_3 7 rfl rfl)
theorem dX6_readNumber_81 : decode cX6_readNumber 81 = .ok (.iload_n 2, 1) := dk_28 (dk_at dksX6_readNumber_3 10 rfl rfl)
theorem dX6_readNumber_82 : decode cX6_readNumber 82 = .ok (.if_icmp .le 24, 3) := dk_164 0 24 (dk_at dksX6_readNumber_3 11 rfl rfl)
theorem dX6_readNumber_85 : decode cX6_readNumber 85 = .ok (.aload_n 0, 1) := dk_42 (dk_at dksX6_readNumber_3 14 rfl rfl)
theorem dX6_readNumber_86 : decode cX6_readNumber 86 = .ok (.invokevirtual 267, 3) := dk_182 1 11 (dk_at dksX6_readNumber_3 15 rfl rfl)
theorem dX6_readNumber_89 : decode cX6_readNumber 89 = .ok (.i2l, 1) := dk_133 (dk_at dksX6_readNumber_3 18 rfl rfl)
theorem dX6_readNumber_90 : decode cX6_readNumber 90 = .ok (.ldc2_w 300, 3) := dk_20 1 44 (dk_at dksX6_readNumber_3 19 rfl rfl)
theorem dX6_readNumber_93 : decode cX6_readNumber 93 = .ok (.ldc2_w 302, 3) := dk_20 1 46 (dk_at dksX6_readNumber_4 0 rfl rfl)
theorem dX6_readNumber_96 : decode cX6_readNumber 96 = .ok (.invokestatic 59, 3) := dk_184 0 59 (dk_at dksX6_readNumber_4 3 rfl rfl)
theorem dX6_readNumber_99 : decode cX6_readNumber 99 = .ok (.ifCond .ne 7, 3) := dk_154 0 7 (dk_at dksX6_readNumber_4 6 rfl rfl)
theorem dX6_readNumber_102 : decode cX6_readNumber 102 = .ok (.iconst 1, 1) := dk_4 (dk_at dksX6_readNumber_4 9 rfl rfl)
theorem dX6_readNumber_103 : decode cX6_readNumber 103 = .ok (.goto 4, 3) := dk_167 0 4 (dk_at dksX6_readNumber_4 10 rfl rfl)
theorem dX6_readNumber_106 : decode cX6_readNumber 106 = .ok (.iconst 0, 1) := dk_3 (dk_at dksX6_readNumber_4 13 rfl rfl)
theorem dX6_readNumber_107 : decode cX6_readNumber 107 = .ok (.ireturn, 1) := dk_172 (dk_at dksX6_readNumber_4 14 rfl rfl)
abbrev cX6_does : ByteArray := prog_10_method_78_code
def yX6_does : MethodName := ⟨RX6, "does", "(I)Z"⟩
def dkwX6_does_13 : List UInt8 := [167, 0, 4, 3, 172]
abbrev dktX6_does_13 : List UInt8 := dkwX6_does_13 ++ []
def dkwX6_does_12 : List UInt8 := [181, 0, 48, 42, 182, 1, 0, 54, 5, 42, 180, 0, 48, 154, 0, 12, 21, 5, 155, 0, 7, 4]
abbrev dktX6_does_12 : List UInt8 := dkwX6_does_12 ++ dktX6_does_13
def dkwX6_does_11 : List UInt8 := [167, 0, 31, 42, 3, 181, 0, 48, 42, 17, 0, 230, 182, 0, 215, 54, 5, 167, 0, 14, 42, 3]
abbrev dktX6_does_11 : List UInt8 := dkwX6_does_11 ++ dktX6_does_12
def dkwX6_does_10 : List UInt8 := [167, 0, 4, 3, 54, 5, 167, 0, 47, 42, 3, 181, 0, 48, 42, 16, 29, 182, 0, 215, 54, 5]
abbrev dktX6_does_10 : List UInt8 := dkwX6_does_10 ++ dktX6_does_11
def dkwX6_does_9 : List UInt8 := [153, 0, 7, 3, 167, 0, 4, 4, 181, 0, 48, 42, 180, 0, 48, 154, 0, 11, 42, 28, 182, 0, 151]
abbrev dktX6_does_9 : List UInt8 := dkwX6_does_9 ++ dktX6_does_10
def dkwX6_does_8 : List UInt8 := [154, 0, 12, 42, 28, 29, 182, 0, 178, 167, 0, 4, 3, 54, 5, 167, 0, 85, 42, 42, 28, 182, 0, 140]
abbrev dktX6_does_8 : List UInt8 := dkwX6_does_8 ++ dktX6_does_9
def dkwX6_does_7 : List UInt8 := [167, 0, 4, 3, 54, 5, 167, 0, 117, 42, 42, 28, 29, 182, 0, 175, 181, 0, 48, 42, 180, 0, 48]
abbrev dktX6_does_7 : List UInt8 := dkwX6_does_7 ++ dktX6_does_8
def dkwX6_does_6 : List UInt8 := [42, 42, 28, 29, 182, 0, 130, 181, 0, 48, 42, 180, 0, 48, 154, 0, 12, 42, 28, 29, 182, 0, 137]
abbrev dktX6_does_6 : List UInt8 := dkwX6_does_6 ++ dktX6_does_7
def dkwX6_does_5 : List UInt8 := [42, 180, 0, 48, 154, 0, 14, 42, 28, 29, 21, 4, 182, 0, 158, 167, 0, 4, 3, 54, 5, 167, 0, 149]
abbrev dktX6_does_5 : List UInt8 := dkwX6_does_5 ++ dktX6_does_6
def dkwX6_does_4 : List UInt8 := [182, 0, 148, 167, 0, 4, 3, 54, 5, 167, 0, 185, 42, 42, 28, 29, 21, 4, 182, 0, 155, 181, 0, 48]
abbrev dktX6_does_4 : List UInt8 := dkwX6_does_4 ++ dktX6_does_5
def dkwX6_does_3 : List UInt8 := [42, 42, 28, 29, 21, 4, 182, 0, 144, 181, 0, 48, 42, 180, 0, 48, 154, 0, 14, 42, 28, 29, 21, 4]
abbrev dktX6_does_3 : List UInt8 := dkwX6_does_3 ++ dktX6_does_4
def dkwX6_does_2 : List UInt8 := [170, 0, 0, 0, 0, 0, 250, 0, 0, 0, 0, 0, 0, 0, 6, 0, 0, 0, 43, 0, 0, 0, 79, 0, 0, 0, 115, 0, 0, 0, 147, 0, 0, 0, 179, 0, 0, 0, 217, 0, 0, 0, 233]
abbrev dktX6_does_2 : List UInt8 := dkwX6_does_2 ++ dktX6_does_3
def dkwX6_does_1 : List UInt8 := [96, 46, 54, 4, 3, 54, 5, 42, 180, 0, 41, 27, 46]
abbrev dktX6_does_1 : List UInt8 := dkwX6_does_1 ++ dktX6_does_2
def dkwX6_does_0 : List UInt8 := [42, 180, 0, 41, 27, 4, 96, 46, 61, 42, 180, 0, 41, 27, 5, 96, 46, 62, 42, 180, 0, 41, 27, 6]
abbrev dktX6_does_0 : List UInt8 := dkwX6_does_0 ++ dktX6_does_1
theorem dksX6_does_0 : cX6_does.data.toList.drop 0 = dktX6_does_0 := by decide +kernel
theorem dksX6_does_1 : cX6_does.data.toList.drop 24 = dktX6_does_1 := dk_seg dksX6_does_0 24 rfl rfl
theorem dksX6_does_2 : cX6_does.data.toList.drop 37 = dktX6_does_2 := dk_seg dksX6_does_1 13 rfl rfl
theorem dksX6_does_3 : cX6_does.data.toList.drop 80 = dktX6_does_3 := dk_seg dksX6_does_2 43 rfl rfl
theorem dksX6_does_4 : cX6_does.data.toList.drop 104 = dktX6_does_4 := dk_seg dksX6_does_3 24 rfl rfl
theorem dksX6_does_5 : cX6_does.data.toList.drop 128 = dktX6_does_5 := dk_seg dksX6_does_4 24 rfl rfl
theorem dksX6_does_6 : cX6_does.data.toList.drop 152 = dktX6_does_6 := dk_seg dksX6_does_5 24 rfl rfl
theorem dksX6_does_7 : cX6_does.data.toList.drop 175 = dktX6_does_7 := dk_seg dksX6_does_6 23 rfl rfl
theorem dksX6_does_8 : cX6_does.data.toList.drop 198 = dktX6_does_8 := dk_seg dksX6_does_7 23 rfl rfl
theorem dksX6_does_9 : cX6_does.data.toList.drop 222 = dktX6_does_9 := dk_seg dksX6_does_8 24 rfl rfl
theorem dksX6_does_10 : cX6_does.data.toList.drop 245 = dktX6_does_10 := dk_seg dksX6_does_9 23 rfl rfl
theorem dksX6_does_11 : cX6_does.data.toList.drop 267 = dktX6_does_11 := dk_seg dksX6_does_10 22 rfl rfl
theorem dksX6_does_12 : cX6_does.data.toList.drop 289 = dktX6_does_12 := dk_seg dksX6_does_11 22 rfl rfl
theorem dksX6_does_13 : cX6_does.data.toList.drop 311 = dktX6_does_13 := dk_seg dksX6_does_12 22 rfl rfl
theorem dX6_does_0 : decode cX6_does 0 = .ok (.aload_n 0, 1) := dk_42 (dk_at dksX6_does_0 0 rfl rfl)
theorem dX6_does_1 : decode cX6_does 1 = .ok (.getfield 41, 3) := dk_180 0 41 (dk_at dksX6_does_0 1 rfl rfl)
theorem dX6_does_4 : decode cX6_does 4 = .ok (.iload_n 1, 1) := dk_27 (dk_at dksX6_does_0 4 rfl rfl)
theorem dX6_does_5 : decode cX6_does 5 = .ok (.iconst 1, 1) := dk_4 (dk_at dksX6_does_0 5 rfl rfl)
theorem dX6_does_6 : decode cX6_does 6 = .ok (.iadd, 1) := dk_96 (dk_at dksX6_does_0 6 rfl rfl)
theorem dX6_does_7 : decode cX6_does 7 = .ok (.iaload, 1) := dk_46 (dk_at dksX6_does_0 7 rfl rfl)
theorem dX6_does_8 : decode cX6_does 8 = .ok (.istore_n 2, 1) := dk_61 (dk_at dksX6_does_0 8 rfl rfl)
theorem dX6_does_9 : decode cX6_does 9 = .ok (.aload_n 0, 1) := dk_42 (dk_at dksX6_does_0 9 rfl rfl)
theorem dX6_does_10 : decode cX6_does 10 = .ok (.getfield 41, 3) := dk_180 0 41 (dk_at dksX6_does_0 10 rfl rfl)
theorem dX6_does_13 : decode cX6_does 13 = .ok (.iload_n 1, 1) := dk_27 (dk_at dksX6_does_0 13 rfl rfl)
theorem dX6_does_14 : decode cX6_does 14 = .ok (.iconst 2, 1) := dk_5 (dk_at dksX6_does_0 14 rfl rfl)
theorem dX6_does_15 : decode cX6_does 15 = .ok (.iadd, 1) := dk_96 (dk_at dksX6_does_0 15 rfl rfl)
theorem dX6_does_16 : decode cX6_does 16 = .ok (.iaload, 1) := dk_46 (dk_at dksX6_does_0 16 rfl rfl)
theorem dX6_does_17 : decode cX6_does 17 = .ok (.istore_n 3, 1) := dk_62 (dk_at dksX6_does_0 17 rfl rfl)
theorem dX6_does_18 : decode cX6_does 18 = .ok (.aload_n 0, 1) := dk_42 (dk_at dksX6_does_0 18 rfl rfl)
theorem dX6_does_19 : decode cX6_does 19 = .ok (.getfield 41, 3) := dk_180 0 41 (dk_at dksX6_does_0 19 rfl rfl)
theorem dX6_does_22 : decode cX6_does 22 = .ok (.iload_n 1, 1) := dk_27 (dk_at dksX6_does_0 22 rfl rfl)
theorem dX6_does_23 : decode cX6_does 23 = .ok (.iconst 3, 1) := dk_6 (dk_at dksX6_does_0 23 rfl rfl)
theorem dX6_does_24 : decode cX6_does 24 = .ok (.iadd, 1) := dk_96 (dk_at dksX6_does_1 0 rfl rfl)
theorem dX6_does_25 : decode cX6_does 25 = .ok (.iaload, 1) := dk_46 (dk_at dksX6_does_1 1 rfl rfl)
theorem dX6_does_26 : decode cX6_does 26 = .ok (.istore 4, 2) := dk_54 4 (dk_at dksX6_does_1 2 rfl rfl)
theorem dX6_does_28 : decode cX6_does 28 = .ok (.iconst 0, 1) := dk_3 (dk_at dksX6_does_1 4 rfl rfl)
theorem dX6_does_29 : decode cX6_does 29 = .ok (.istore 5, 2) := dk_54 5 (dk_at dksX6_does_1 5 rfl rfl)
theorem dX6_does_31 : decode cX6_does 31 = .ok (.aload_n 0, 1) := dk_42 (dk_at dksX6_does_1 7 rfl rfl)
theorem dX6_does_32 : decode cX6_does 32 = .ok (.getfield 41, 3) := dk_180 0 41 (dk_at dksX6_does_1 8 rfl rfl)
theorem dX6_does_35 : decode cX6_does 35 = .ok (.iload_n 1, 1) := dk_27 (dk_at dksX6_does_1 11 rfl rfl)
theorem dX6_does_36 : decode cX6_does 36 = .ok (.iaload, 1) := dk_46 (dk_at dksX6_does_1 12 rfl rfl)
theorem dX6_does_37 : decode cX6_does 37 = .ok (.tableswitch 250 0 6 #[43, 79, 115, 147, 179, 217, 233], 43) := by decide +kernel
theorem dX6_does_80 : decode cX6_does 80 = .ok (.aload_n 0, 1) := dk_42 (dk_at dksX6_does_3 0 rfl rfl)
theorem dX6_does_81 : decode cX6_does 81 = .ok (.aload_n 0, 1) := dk_42 (dk_at dksX6_does_3 1 rfl rfl)
theorem dX6_does_82 : decode cX6_does 82 = .ok (.iload_n 2, 1) := dk_28 (dk_at dksX6_does_3 2 rfl rfl)
theorem dX6_does_83 : decode cX6_does 83 = .ok (.iload_n 3, 1) := dk_29 (dk_at dksX6_does_3 3 rfl rfl)
theorem dX6_does_84 : decode cX6_does 84 = .ok (.iload 4, 2) := dk_21 4 (dk_at dksX6_does_3 4 rfl rfl)
theorem dX6_does_86 : decode cX6_does 86 = .ok (.invokevirtual 144, 3) := dk_182 0 144 (dk_at dksX6_does_3 6 rfl rfl)
theorem dX6_does_89 : decode cX6_does 89 = .ok (.putfield 48, 3) := dk_181 0 48 (dk_at dksX6_does_3 9 rfl rfl)
theorem dX6_does_92 : decode cX6_does 92 = .ok (.aload_n 0, 1) := dk_42 (dk_at dksX6_does_3 12 rfl rfl)
theorem dX6_does_93 : decode cX6_does 93 = .ok (.getfield 48, 3) := dk_180 0 48 (dk_at dksX6_does_3 13 rfl rfl)
theorem dX6_does_96 : decode cX6_does 96 = .ok (.ifCond .ne 14, 3) := dk_154 0 14 (dk_at dksX6_does_3 16 rfl rfl)
theorem dX6_does_99 : decode cX6_does 99 = .ok (.aload_n 0, 1) := dk_42 (dk_at dksX6_does_3 19 rfl rfl)
theorem dX6_does_100 : decode cX6_does 100 = .ok (.iload_n 2, 1) := dk_28 (dk_at dksX6_does_3 20 rfl rfl)
theorem dX6_does_101 : decode cX6_does 101 = .ok (.iload_n 3, 1) := dk_29 (dk_at dksX6_does_3 21 rfl rfl)
theorem dX6_does_102 : decode cX6_does 102 = .ok (.iload 4, 2) := dk_21 4 (dk_at dksX6_does_3 22 rfl rfl)
theorem dX6_does_104 : decode cX6_does 104 = .ok (.invokevirtual 148, 3) := dk_182 0 148 (dk_at dksX6_does_4 0 rfl rfl)
theorem dX6_does_107 : decode cX6_does 107 = .ok (.goto 4, 3) := dk_167 0 4 (dk_at dksX6_does_4 3 rfl rfl)
theorem dX6_does_110 : decode cX6_does 110 = .ok (.iconst 0, 1) := dk_3 (dk_at dksX6_does_4 6 rfl rfl)
theorem dX6_does_111 : decode cX6_does 111 = .ok (.istore 5, 2) := dk_54 5 (dk_at dksX6_does_4 7 rfl rfl)
theorem dX6_does_113 : decode cX6_does 113 = .ok (.goto 185, 3) := dk_167 0 185 (dk_at dksX6_does_4 9 rfl rfl)
theorem dX6_does_116 : decode cX6_does 116 = .ok (.aload_n 0, 1) := dk_42 (dk_at dksX6_does_4 12 rfl rfl)
theorem dX6_does_117 : decode cX6_does 117 = .ok (.aload_n 0, 1) := dk_42 (dk_at dksX6_does_4 13 rfl rfl)
theorem dX6_does_118 : decode cX6_does 118 = .ok (.iload_n 2, 1) := dk_28 (dk_at dksX6_does_4 14 rfl rfl)
theorem dX6_does_119 : decode cX6_does 119 = .ok (.iload_n 3, 1) := dk_29 (dk_at dksX6_does_4 15 rfl rfl)
theorem dX6_does_120 : decode cX6_does 120 = .ok (.iload 4, 2) := dk_21 4 (dk_at dksX6_does_4 16 rfl rfl)
theorem dX6_does_122 : decode cX6_does 122 = .ok (.invokevirtual 155, 3) := dk_182 0 155 (dk_at dksX6_does_4 18 rfl rfl)
theorem dX6_does_125 : decode cX6_does 125 = .ok (.putfield 48, 3) := dk_181 0 48 (dk_at dksX6_does_4 21 rfl rfl)
theorem dX6_does_128 : decode cX6_does 128 = .ok (.aload_n 0, 1) := dk_42 (dk_at dksX6_does_5 0 rfl rfl)
theorem dX6_does_129 : decode cX6_does 129 = .ok (.getfield 48, 3) := dk_180 0 48 (dk_at dksX6_does_5 1 rfl rfl)
theorem dX6_does_132 : decode cX6_does 132 = .ok (.ifCond .ne 14, 3) := dk_154 0 14 (dk_at dksX6_does_5 4 rfl rfl)
theorem dX6_does_135 : decode cX6_does 135 = .ok (.aload_n 0, 1) := dk_42 (dk_at dksX6_does_5 7 rfl rfl)
theorem dX6_does_136 : decode cX6_does 136 = .ok (.iload_n 2, 1) := dk_28 (dk_at dksX6_does_5 8 rfl rfl)
theorem dX6_does_137 : decode cX6_does 137 = .ok (.iload_n 3, 1) := dk_29 (dk_at dksX6_does_5 9 rfl rfl)
theorem dX6_does_138 : decode cX6_does 138 = .ok (.iload 4, 2) := dk_21 4 (dk_at dksX6_does_5 10 rfl rfl)
theorem dX6_does_140 : decode cX6_does 140 = .ok (.invokevirtual 158, 3) := dk_182 0 158 (dk_at dksX6_does_5 12 rfl rfl)
theorem dX6_does_143 : decode cX6_does 143 = .ok (.goto 4, 3) := dk_167 0 4 (dk_at dksX6_does_5 15 rfl rfl)
theorem dX6_does_146 : decode cX6_does 146 = .ok (.iconst 0, 1) := dk_3 (dk_at dksX6_does_5 18 rfl rfl)
theorem dX6_does_147 : decode cX6_does 147 = .ok (.istore 5, 2) := dk_54 5 (dk_at dksX6_does_5 19 rfl rfl)
theorem dX6_does_149 : decode cX6_does 149 = .ok (.goto 149, 3) := dk_167 0 149 (dk_at dksX6_does_5 21 rfl rfl)
theorem dX6_does_152 : decode cX6_does 152 = .ok (.aload_n 0, 1) := dk_42 (dk_at dksX6_does_6 0 rfl rfl)
theorem dX6_does_153 : decode cX6_does 153 = .ok (.aload_n 0, 1) := dk_42 (dk_at dksX6_does_6 1 rfl rfl)
theorem dX6_does_154 : decode cX6_does 154 = .ok (.iload_n 2, 1) := dk_28 (dk_at dksX6_does_6 2 rfl rfl)
theorem dX6_does_155 : decode cX6_does 155 = .ok (.iload_n 3, 1) := dk_29 (dk_at dksX6_does_6 3 rfl rfl)
theorem dX6_does_156 : decode cX6_does 156 = .ok (.invokevirtual 130, 3) := dk_182 0 130 (dk_at dksX6_does_6 4 rfl rfl)
theorem dX6_does_159 : decode cX6_does 159 = .ok (.putfield 48, 3) := dk_181 0 48 (dk_at dksX6_does_6 7 rfl rfl)
theorem dX6_does_162 : decode cX6_does 162 = .ok (.aload_n 0, 1) := dk_42 (dk_at dksX6_does_6 10 rfl rfl)
theorem dX6_does_163 : decode cX6_does 163 = .ok (.getfield 48, 3) := dk_180 0 48 (dk_at dksX6_does_6 11 rfl rfl)
theorem dX6_does_166 : decode cX6_does 166 = .ok (.ifCond .ne 12, 3) := dk_154 0 12 (dk_at dksX6_does_6 14 rfl rfl)
theorem dX6_does_169 : decode cX6_does 169 = .ok (.aload_n 0, 1) := dk_42 (dk_at dksX6_does_6 17 rfl rfl)
theorem dX6_does_170 : decode cX6_does 170 = .ok (.iload_n 2, 1) := dk_28 (dk_at dksX6_does_6 18 rfl rfl)
theorem dX6_does_171 : decode cX6_does 171 = .ok (.iload_n 3, 1) := dk_29 (dk_at dksX6_does_6 19 rfl rfl)
theorem dX6_does_172 : decode cX6_does 172 = .ok (.invokevirtual 137, 3) := dk_182 0 137 (dk_at dksX6_does_6 20 rfl rfl)
theorem dX6_does_175 : decode cX6_does 175 = .ok (.goto 4, 3) := dk_167 0 4 (dk_at dksX6_does_7 0 rfl rfl)
theorem dX6_does_178 : decode cX6_does 178 = .ok (.iconst 0, 1) := dk_3 (dk_at dksX6_does_7 3 rfl rfl)
theorem dX6_does_179 : decode cX6_does 179 = .ok (.istore 5, 2) := dk_54 5 (dk_at dksX6_does_7 4 rfl rfl)
theorem dX6_does_181 : decode cX6_does 181 = .ok (.goto 117, 3) := dk_167 0 117 (dk_at dksX6_does_7 6 rfl rfl)
theorem dX6_does_184 : decode cX6_does 184 = .ok (.aload_n 0, 1) := dk_42 (dk_at dksX6_does_7 9 rfl rfl)
theorem dX6_does_185 : decode cX6_does 185 = .ok (.aload_n 0, 1) := dk_42 (dk_at dksX6_does_7 10 rfl rfl)
theorem dX6_does_186 : decode cX6_does 186 = .ok (.iload_n 2, 1) := dk_28 (dk_at dksX6_does_7 11 rfl rfl)
theorem dX6_does_187 : decode cX6_does 187 = .ok (.iload_n 3, 1) := dk_29 (dk_at dksX6_does_7 12 rfl rfl)
theorem dX6_does_188 : decode cX6_does 188 = .ok (.invokevirtual 175, 3) := dk_182 0 175 (dk_at dksX6_does_7 13 rfl rfl)
theorem dX6_does_191 : decode cX6_does 191 = .ok (.putfield 48, 3) := dk_181 0 48 (dk_at dksX6_does_7 16 rfl rfl)
theorem dX6_does_194 : decode cX6_does 194 = .ok (.aload_n 0, 1) := dk_42 (dk_at dksX6_does_7 19 rfl rfl)
theorem dX6_does_195 : decode cX6_does 195 = .ok (.getfield 48, 3) := dk_180 0 48 (dk_at dksX6_does_7 20 rfl rfl)
theorem dX6_does_198 : decode cX6_does 198 = .ok (.ifCond .ne 12, 3) := dk_154 0 12 (dk_at dksX6_does_8 0 rfl rfl)
theorem dX6_does_201 : decode cX6_does 201 = .ok (.aload_n 0, 1) := dk_42 (dk_at dksX6_does_8 3 rfl rfl)
theorem dX6_does_202 : decode cX6_does 202 = .ok (.iload_n 2, 1) := dk_28 (dk_at dksX6_does_8 4 rfl rfl)
theorem dX6_does_203 : decode cX6_does 203 = .ok (.iload_n 3, 1) := dk_29 (dk_at dksX6_does_8 5 rfl rfl)
theorem dX6_does_204 : decode cX6_does 204 = .ok (.invokevirtual 178, 3) := dk_182 0 178 (dk_at dksX6_does_8 6 rfl rfl)
theorem dX6_does_207 : decode cX6_does 207 = .ok (.goto 4, 3) := dk_167 0 4 (dk_at dksX6_does_8 9 rfl rfl)
theorem dX6_does_210 : decode cX6_does 210 = .ok (.iconst 0, 1) := dk_3 (dk_at dksX6_does_8 12 rfl rfl)
theorem dX6_does_211 : decode cX6_does 211 = .ok (.istore 5, 2) := dk_54 5 (dk_at dksX6_does_8 13 rfl rfl)
theorem dX6_does_213 : decode cX6_does 213 = .ok (.goto 85, 3) := dk_167 0 85 (dk_at dksX6_does_8 15 rfl rfl)
theorem dX6_does_216 : decode cX6_does 216 = .ok (.aload_n 0, 1) := dk_42 (dk_at dksX6_does_8 18 rfl rfl)
theorem dX6_does_217 : decode cX6_does 217 = .ok (.aload_n 0, 1) := dk_42 (dk_at dksX6_does_8 19 rfl rfl)
theorem dX6_does_218 : decode cX6_does 218 = .ok (.iload_n 2, 1) := dk_28 (dk_at dksX6_does_8 20 rfl rfl)
theorem dX6_does_219 : decode cX6_does 219 = .ok (.invokevirtual 140, 3) := dk_182 0 140 (dk_at dksX6_does_8 21 rfl rfl)
theorem dX6_does_222 : decode cX6_does 222 = .ok (.ifCond .eq 7, 3) := dk_153 0 7 (dk_at dksX6_does_9 0 rfl rfl)
theorem dX6_does_225 : decode cX6_does 225 = .ok (.iconst 0, 1) := dk_3 (dk_at dksX6_does_9 3 rfl rfl)
theorem dX6_does_226 : decode cX6_does 226 = .ok (.goto 4, 3) := dk_167 0 4 (dk_at dksX6_does_9 4 rfl rfl)
theorem dX6_does_229 : decode cX6_does 229 = .ok (.iconst 1, 1) := dk_4 (dk_at dksX6_does_9 7 rfl rfl)
theorem dX6_does_230 : decode cX6_does 230 = .ok (.putfield 48, 3) := dk_181 0 48 (dk_at dksX6_does_9 8 rfl rfl)
theorem dX6_does_233 : decode cX6_does 233 = .ok (.aload_n 0, 1) := dk_42 (dk_at dksX6_does_9 11 rfl rfl)
theorem dX6_does_234 : decode cX6_does 234 = .ok (.getfield 48, 3) := dk_180 0 48 (dk_at dksX6_does_9 12 rfl rfl)
theorem dX6_does_237 : decode cX6_does 237 = .ok (.ifCond .ne 11, 3) := dk_154 0 11 (dk_at dksX6_does_9 15 rfl rfl)
theorem dX6_does_240 : decode cX6_does 240 = .ok (.aload_n 0, 1) := dk_42 (dk_at dksX6_does_9 18 rfl rfl)
theorem dX6_does_241 : decode cX6_does 241 = .ok (.iload_n 2, 1) := dk_28 (dk_at dksX6_does_9 19 rfl rfl)
theorem dX6_does_242 : decode cX6_does 242 = .ok (.invokevirtual 151, 3) := dk_182 0 151 (dk_at dksX6_does_9 20 rfl rfl)
theorem dX6_does_245 : decode cX6_does 245 = .ok (.goto 4, 3) := dk_167 0 4 (dk_at dksX6_does_10 0 rfl rfl)
theorem dX6_does_248 : decode cX6_does 248 = .ok (.iconst 0, 1) := dk_3 (dk_at dksX6_does_10 3 rfl rfl)
theorem dX6_does_249 : decode cX6_does 249 = .ok (.istore 5, 2) := dk_54 5 (dk_at dksX6_does_10 4 rfl rfl)
theorem dX6_does_251 : decode cX6_does 251 = .ok (.goto 47, 3) := dk_167 0 47 (dk_at dksX6_does_10 6 rfl rfl)
theorem dX6_does_254 : decode cX6_does 254 = .ok (.aload_n 0, 1) := dk_42 (dk_at dksX6_does_10 9 rfl rfl)
theorem dX6_does_255 : decode cX6_does 255 = .ok (.iconst 0, 1) := dk_3 (dk_at dksX6_does_10 10 rfl rfl)
theorem dX6_does_256 : decode cX6_does 256 = .ok (.putfield 48, 3) := dk_181 0 48 (dk_at dksX6_does_10 11 rfl rfl)
theorem dX6_does_259 : decode cX6_does 259 = .ok (.aload_n 0, 1) := dk_42 (dk_at dksX6_does_10 14 rfl rfl)
theorem dX6_does_260 : decode cX6_does 260 = .ok (.bipush 29, 2) := dk_16 29 (dk_at dksX6_does_10 15 rfl rfl)
theorem dX6_does_262 : decode cX6_does 262 = .ok (.invokevirtual 215, 3) := dk_182 0 215 (dk_at dksX6_does_10 17 rfl rfl)
theorem dX6_does_265 : decode cX6_does 265 = .ok (.istore 5, 2) := dk_54 5 (dk_at dksX6_does_10 20 rfl rfl)
theorem dX6_does_267 : decode cX6_does 267 = .ok (.goto 31, 3) := dk_167 0 31 (dk_at dksX6_does_11 0 rfl rfl)
theorem dX6_does_270 : decode cX6_does 270 = .ok (.aload_n 0, 1) := dk_42 (dk_at dksX6_does_11 3 rfl rfl)
theorem dX6_does_271 : decode cX6_does 271 = .ok (.iconst 0, 1) := dk_3 (dk_at dksX6_does_11 4 rfl rfl)
theorem dX6_does_272 : decode cX6_does 272 = .ok (.putfield 48, 3) := dk_181 0 48 (dk_at dksX6_does_11 5 rfl rfl)
theorem dX6_does_275 : decode cX6_does 275 = .ok (.aload_n 0, 1) := dk_42 (dk_at dksX6_does_11 8 rfl rfl)
theorem dX6_does_276 : decode cX6_does 276 = .ok (.sipush 230, 3) := dk_17 0 230 (dk_at dksX6_does_11 9 rfl rfl)
theorem dX6_does_279 : decode cX6_does 279 = .ok (.invokevirtual 215, 3) := dk_182 0 215 (dk_at dksX6_does_11 12 rfl rfl)
theorem dX6_does_282 : decode cX6_does 282 = .ok (.istore 5, 2) := dk_54 5 (dk_at dksX6_does_11 15 rfl rfl)
theorem dX6_does_284 : decode cX6_does 284 = .ok (.goto 14, 3) := dk_167 0 14 (dk_at dksX6_does_11 17 rfl rfl)
theorem dX6_does_287 : decode cX6_does 287 = .ok (.aload_n 0, 1) := dk_42 (dk_at dksX6_does_11 20 rfl rfl)
theorem dX6_does_288 : decode cX6_does 288 = .ok (.iconst 0, 1) := dk_3 (dk_at dksX6_does_11 21 rfl rfl)
theorem dX6_does_289 : decode cX6_does 289 = .ok (.putfield 48, 3) := dk_181 0 48 (dk_at dksX6_does_12 0 rfl rfl)
theorem dX6_does_292 : decode cX6_does 292 = .ok (.aload_n 0, 1) := dk_42 (dk_at dksX6_does_12 3 rfl rfl)
theorem dX6_does_293 : decode cX6_does 293 = .ok (.invokevirtual 256, 3) := dk_182 1 0 (dk_at dksX6_does_12 4 rfl rfl)
theorem dX6_does_296 : decode cX6_does 296 = .ok (.istore 5, 2) := dk_54 5 (dk_at dksX6_does_12 7 rfl rfl)
theorem dX6_does_298 : decode cX6_does 298 = .ok (.aload_n 0, 1) := dk_42 (dk_at dksX6_does_12 9 rfl rfl)
theorem dX6_does_299 : decode cX6_does 299 = .ok (.getfield 48, 3) := dk_180 0 48 (dk_at dksX6_does_12 10 rfl rfl)
theorem dX6_does_302 : decode cX6_does 302 = .ok (.ifCond .ne 12, 3) := dk_154 0 12 (dk_at dksX6_does_12 13 rfl rfl)
theorem dX6_does_305 : decode cX6_does 305 = .ok (.iload 5, 2) := dk_21 5 (dk_at dksX6_does_12 16 rfl rfl)
theorem dX6_does_307 : decode cX6_does 307 = .ok (.ifCond .lt 7, 3) := dk_155 0 7 (dk_at dksX6_does_12 18 rfl rfl)
theorem dX6_does_310 : decode cX6_does 310 = .ok (.iconst 1, 1) := dk_4 (dk_at dksX6_does_12 21 rfl rfl)
theorem dX6_does_311 : decode cX6_does 311 = .ok (.goto 4, 3) := dk_167 0 4 (dk_at dksX6_does_13 0 rfl rfl)
theorem dX6_does_314 : decode cX6_does 314 = .ok (.iconst 0, 1) := dk_3 (dk_at dksX6_does_13 3 rfl rfl)
theorem dX6_does_315 : decode cX6_does 315 = .ok (.ireturn, 1) := dk_172 (dk_at dksX6_does_13 4 rfl rfl)
abbrev cX6_undo : ByteArray := prog_10_method_80_code
def yX6_undo : MethodName := ⟨RX6, "undo", "()I"⟩
def dkwX6_undo_3 : List UInt8 := [180, 0, 52, 172]
abbrev dktX6_undo_3 : List UInt8 := dkwX6_undo_3 ++ []
def dkwX6_undo_2 : List UInt8 := [27, 42, 180, 0, 13, 17, 1, 175, 42, 180, 0, 52, 104, 27, 96, 47, 80, 132, 1, 1, 167, 255, 225, 42]
abbrev dktX6_undo_2 : List UInt8 := dkwX6_undo_2 ++ dktX6_undo_3
def dkwX6_undo_1 : List UInt8 := [172, 42, 89, 180, 0, 52, 4, 100, 181, 0, 52, 3, 60, 27, 17, 1, 175, 162, 0, 30, 42, 180, 0, 7]
abbrev dktX6_undo_1 : List UInt8 := dkwX6_undo_1 ++ dktX6_undo_2
def dkwX6_undo_0 : List UInt8 := [42, 42, 180, 0, 52, 154, 0, 7, 4, 167, 0, 4, 3, 181, 0, 48, 42, 180, 0, 48, 153, 0, 5, 3]
abbrev dktX6_undo_0 : List UInt8 := dkwX6_undo_0 ++ dktX6_undo_1
theorem dksX6_undo_0 : cX6_undo.data.toList.drop 0 = dktX6_undo_0 := by decide +kernel
theorem dksX6_undo_1 : cX6_undo.data.toList.drop 24 = dktX6_undo_1 := dk_seg dksX6_undo_0 24 rfl rfl
theorem dksX6_undo_2 : cX6_undo.data.toList.drop 48 = dktX6_undo_2 := dk_seg dksX6_undo_1 24 rfl rfl
theorem dksX6_undo_3 : cX6_undo.data.toList.drop 72 = dktX6_undo_3 := dk_seg dksX6_undo_2 24 rfl rfl
theorem dX6_undo_0 : decode cX6_undo 0 = .ok (.aload_n 0, 1) := dk_42 (dk_at dksX6_undo_0 0 rfl rfl)
theorem dX6_undo_1 : decode cX6_undo 1 = .ok (.aload_n 0, 1) := dk_42 (dk_at dksX6_undo_0 1 rfl rfl)
theorem dX6_undo_2 : decode cX6_undo 2 = .ok (.getfield 52, 3) := dk_180 0 52 (dk_at dksX6_undo_0 2 rfl rfl)
theorem dX6_undo_5 : decode cX6_undo 5 = .ok (.ifCond .ne 7, 3) := dk_154 0 7 (dk_at dksX6_undo_0 5 rfl rfl)
theorem dX6_undo_8 : decode cX6_undo 8 = .ok (.iconst 1, 1) := dk_4 (dk_at dksX6_undo_0 8 rfl rfl)
theorem dX6_undo_9 : decode cX6_undo 9 = .ok (.goto 4, 3) := dk_167 0 4 (dk_at dksX6_undo_0 9 rfl rfl)
theorem dX6_undo_12 : decode cX6_undo 12 = .ok (.iconst 0, 1) := dk_3 (dk_at dksX6_undo_0 12 rfl rfl)
theorem dX6_undo_13 : decode cX6_undo 13 = .ok (.putfield 48, 3) := dk_181 0 48 (dk_at dksX6_undo_0 13 rfl rfl)
theorem dX6_undo_16 : decode cX6_undo 16 = .ok (.aload_n 0, 1) := dk_42 (dk_at dksX6_undo_0 16 rfl rfl)
theorem dX6_undo_17 : decode cX6_undo 17 = .ok (.getfield 48, 3) := dk_180 0 48 (dk_at dksX6_undo_0 17 rfl rfl)
theorem dX6_undo_20 : decode cX6_undo 20 = .ok (.ifCond .eq 5, 3) := dk_153 0 5 (dk_at dksX6_undo_0 20 rfl rfl)
theorem dX6_undo_23 : decode cX6_undo 23 = .ok (.iconst 0, 1) := dk_3 (dk_at dksX6_undo_0 23 rfl rfl)
theorem dX6_undo_24 : decode cX6_undo 24 = .ok (.ireturn, 1) := dk_172 (dk_at dksX6_undo_1 0 rfl rfl)
theorem dX6_undo_25 : decode cX6_undo 25 = .ok (.aload_n 0, 1) := dk_42 (dk_at dksX6_undo_1 1 rfl rfl)
theorem dX6_undo_26 : decode cX6_undo 26 = .ok (.dup, 1) := dk_89 (dk_at dksX6_undo_1 2 rfl rfl)
theorem dX6_undo_27 : decode cX6_undo 27 = .ok (.getfield 52, 3) := dk_180 0 52 (dk_at dksX6_undo_1 3 rfl rfl)
theorem dX6_undo_30 : decode cX6_undo 30 = .ok (.iconst 1, 1) := dk_4 (dk_at dksX6_undo_1 6 rfl rfl)
theorem dX6_undo_31 : decode cX6_undo 31 = .ok (.isub, 1) := dk_100 (dk_at dksX6_undo_1 7 rfl rfl)
theorem dX6_undo_32 : decode cX6_undo 32 = .ok (.putfield 52, 3) := dk_181 0 52 (dk_at dksX6_undo_1 8 rfl rfl)
theorem dX6_undo_35 : decode cX6_undo 35 = .ok (.iconst 0, 1) := dk_3 (dk_at dksX6_undo_1 11 rfl rfl)
theorem dX6_undo_36 : decode cX6_undo 36 = .ok (.istore_n 1, 1) := dk_60 (dk_at dksX6_undo_1 12 rfl rfl)
theorem dX6_undo_37 : decode cX6_undo 37 = .ok (.iload_n 1, 1) := dk_27 (dk_at dksX6_undo_1 13 rfl rfl)
theorem dX6_undo_38 : decode cX6_undo 38 = .ok (.sipush 431, 3) := dk_17 1 175 (dk_at dksX6_undo_1 14 rfl rfl)
theorem dX6_undo_41 : decode cX6_undo 41 = .ok (.if_icmp .ge 30, 3) := dk_162 0 30 (dk_at dksX6_undo_1 17 rfl rfl)
theorem dX6_undo_44 : decode cX6_undo 44 = .ok (.aload_n 0, 1) := dk_42 (dk_at dksX6_undo_1 20 rfl rfl)
theorem dX6_undo_45 : decode cX6_undo 45 = .ok (.getfield 7, 3) := dk_180 0 7 (dk_at dksX6_undo_1 21 rfl rfl)
theorem dX6_undo_48 : decode cX6_undo 48 = .ok (.iload_n 1, 1) := dk_27 (dk_at dksX6_undo_2 0 rfl rfl)
theorem dX6_undo_49 : decode cX6_undo 49 = .ok (.aload_n 0, 1) := dk_42 (dk_at dksX6_undo_2 1 rfl rfl)
theorem dX6_undo_50 : decode cX6_undo 50 = .ok (.getfield 13, 3) := dk_180 0 13 (dk_at dksX6_undo_2 2 rfl rfl)
theorem dX6_undo_53 : decode cX6_undo 53 = .ok (.sipush 431, 3) := dk_17 1 175 (dk_at dksX6_undo_2 5 rfl rfl)
theorem dX6_undo_56 : decode cX6_undo 56 = .ok (.aload_n 0, 1) := dk_42 (dk_at dksX6_undo_2 8 rfl rfl)
theorem dX6_undo_57 : decode cX6_undo 57 = .ok (.getfield 52, 3) := dk_180 0 52 (dk_at dksX6_undo_2 9 rfl rfl)
theorem dX6_undo_60 : decode cX6_undo 60 = .ok (.imul, 1) := dk_104 (dk_at dksX6_undo_2 12 rfl rfl)
theorem dX6_undo_61 : decode cX6_undo 61 = .ok (.iload_n 1, 1) := dk_27 (dk_at dksX6_undo_2 13 rfl rfl)
theorem dX6_undo_62 : decode cX6_undo 62 = .ok (.iadd, 1) := dk_96 (dk_at dksX6_undo_2 14 rfl rfl)
theorem dX6_undo_63 : decode cX6_undo 63 = .ok (.laload, 1) := dk_47 (dk_at dksX6_undo_2 15 rfl rfl)
theorem dX6_undo_64 : decode cX6_undo 64 = .ok (.lastore, 1) := dk_80 (dk_at dksX6_undo_2 16 rfl rfl)
theorem dX6_undo_65 : decode cX6_undo 65 = .ok (.iinc 1 1, 3) := dk_132 1 1 (dk_at dksX6_undo_2 17 rfl rfl)
theorem dX6_undo_68 : decode cX6_undo 68 = .ok (.goto (-31), 3) := dk_167 255 225 (dk_at dksX6_undo_2 20 rfl rfl)
theorem dX6_undo_71 : decode cX6_undo 71 = .ok (.aload_n 0, 1) := dk_42 (dk_at dksX6_undo_2 23 rfl rfl)
theorem dX6_undo_72 : decode cX6_undo 72 = .ok (.getfield 52, 3) := dk_180 0 52 (dk_at dksX6_undo_3 0 rfl rfl)
theorem dX6_undo_75 : decode cX6_undo 75 = .ok (.ireturn, 1) := dk_172 (dk_at dksX6_undo_3 3 rfl rfl)
abbrev cX6_digest : ByteArray := prog_10_method_83_code
def yX6_digest : MethodName := ⟨RX6, "digest", "()J"⟩
def dkwX6_digest_10 : List UInt8 := [180, 1, 68, 173]
abbrev dktX6_digest_10 : List UInt8 := dkwX6_digest_10 ++ []
def dkwX6_digest_9 : List UInt8 := [182, 1, 71, 42, 42, 180, 0, 23, 27, 4, 96, 46, 133, 182, 1, 71, 132, 1, 1, 167, 255, 221, 42]
abbrev dktX6_digest_9 : List UInt8 := dkwX6_digest_9 ++ dktX6_digest_10
def dkwX6_digest_8 : List UInt8 := [132, 1, 1, 167, 255, 238, 3, 60, 27, 42, 180, 0, 79, 162, 0, 33, 42, 42, 180, 0, 20, 27, 46, 133]
abbrev dktX6_digest_8 : List UInt8 := dkwX6_digest_8 ++ dktX6_digest_9
def dkwX6_digest_7 : List UInt8 := [167, 255, 232, 42, 182, 0, 250, 3, 60, 27, 7, 162, 0, 19, 42, 42, 27, 182, 0, 253, 133, 182, 1, 71]
abbrev dktX6_digest_7 : List UInt8 := dkwX6_digest_7 ++ dktX6_digest_8
def dkwX6_digest_6 : List UInt8 := [17, 0, 201, 162, 0, 23, 42, 42, 180, 0, 7, 17, 0, 230, 27, 96, 47, 182, 1, 71, 132, 1, 1]
abbrev dktX6_digest_6 : List UInt8 := dkwX6_digest_6 ++ dktX6_digest_7
def dkwX6_digest_5 : List UInt8 := [180, 0, 7, 16, 21, 27, 96, 47, 182, 1, 71, 132, 1, 1, 167, 255, 223, 42, 182, 1, 76, 3, 60, 27]
abbrev dktX6_digest_5 : List UInt8 := dkwX6_digest_5 ++ dktX6_digest_6
def dkwX6_digest_4 : List UInt8 := [167, 255, 220, 3, 60, 27, 133, 20, 0, 183, 42, 180, 0, 7, 16, 20, 47, 105, 148, 156, 0, 22, 42, 42]
abbrev dktX6_digest_4 : List UInt8 := dkwX6_digest_4 ++ dktX6_digest_5
def dkwX6_digest_3 : List UInt8 := [4, 27, 96, 47, 182, 1, 71, 42, 42, 180, 0, 7, 16, 9, 27, 96, 47, 182, 1, 71, 132, 1, 1]
abbrev dktX6_digest_3 : List UInt8 := dkwX6_digest_3 ++ dktX6_digest_4
def dkwX6_digest_2 : List UInt8 := [182, 1, 71, 132, 1, 1, 167, 255, 237, 3, 60, 27, 42, 182, 0, 55, 162, 0, 34, 42, 42, 180, 0, 7]
abbrev dktX6_digest_2 : List UInt8 := dkwX6_digest_2 ++ dktX6_digest_3
def dkwX6_digest_1 : List UInt8 := [180, 1, 5, 133, 182, 1, 71, 3, 60, 27, 16, 6, 162, 0, 19, 42, 42, 27, 182, 0, 190, 133]
abbrev dktX6_digest_1 : List UInt8 := dkwX6_digest_1 ++ dktX6_digest_2
def dkwX6_digest_0 : List UInt8 := [42, 3, 181, 0, 48, 42, 20, 1, 74, 181, 1, 68, 42, 42, 180, 0, 52, 133, 182, 1, 71, 42, 42]
abbrev dktX6_digest_0 : List UInt8 := dkwX6_digest_0 ++ dktX6_digest_1
theorem dksX6_digest_0 : cX6_digest.data.toList.drop 0 = dktX6_digest_0 := by decide +kernel
theorem dksX6_digest_1 : cX6_digest.data.toList.drop 23 = dktX6_digest_1 := dk_seg dksX6_digest_0 23 rfl rfl
theorem dksX6_digest_2 : cX6_digest.data.toList.drop 45 = dktX6_digest_2 := dk_seg dksX6_digest_1 22 rfl rfl
theorem dksX6_digest_3 : cX6_digest.data.toList.drop 69 = dktX6_digest_3 := dk_seg dksX6_digest_2 24 rfl rfl
theorem dksX6_digest_4 : cX6_digest.data.toList.drop 92 = dktX6_digest_4 := dk_seg dksX6_digest_3 23 rfl rfl
theorem dksX6_digest_5 : cX6_digest.data.toList.drop 116 = dktX6_digest_5 := dk_seg dksX6_digest_4 24 rfl rfl
theorem dksX6_digest_6 : cX6_digest.data.toList.drop 140 = dktX6_digest_6 := dk_seg dksX6_digest_5 24 rfl rfl
theorem dksX6_digest_7 : cX6_digest.data.toList.drop 163 = dktX6_digest_7 := dk_seg dksX6_digest_6 23 rfl rfl
theorem dksX6_digest_8 : cX6_digest.data.toList.drop 187 = dktX6_digest_8 := dk_seg dksX6_digest_7 24 rfl rfl
theorem dksX6_digest_9 : cX6_digest.data.toList.drop 211 = dktX6_digest_9 := dk_seg dksX6_digest_8 24 rfl rfl
theorem dksX6_digest_10 : cX6_digest.data.toList.drop 234 = dktX6_digest_10 := dk_seg dksX6_digest_9 23 rfl rfl
theorem dX6_digest_0 : decode cX6_digest 0 = .ok (.aload_n 0, 1) := dk_42 (dk_at dksX6_digest_0 0 rfl rfl)
theorem dX6_digest_1 : decode cX6_digest 1 = .ok (.iconst 0, 1) := dk_3 (dk_at dksX6_digest_0 1 rfl rfl)
theorem dX6_digest_2 : decode cX6_digest 2 = .ok (.putfield 48, 3) := dk_181 0 48 (dk_at dksX6_digest_0 2 rfl rfl)
theorem dX6_digest_5 : decode cX6_digest 5 = .ok (.aload_n 0, 1) := dk_42 (dk_at dksX6_digest_0 5 rfl rfl)
theorem dX6_digest_6 : decode cX6_digest 6 = .ok (.ldc2_w 330, 3) := dk_20 1 74 (dk_at dksX6_digest_0 6 rfl rfl)
theorem dX6_digest_9 : decode cX6_digest 9 = .ok (.putfield 324, 3) := dk_181 1 68 (dk_at dksX6_digest_0 9 rfl rfl)
theorem dX6_digest_12 : decode cX6_digest 12 = .ok (.aload_n 0, 1) := dk_42 (dk_at dksX6_digest_0 12 rfl rfl)
theorem dX6_digest_13 : decode cX6_digest 13 = .ok (.aload_n 0, 1) := dk_42 (dk_at dksX6_digest_0 13 rfl rfl)
theorem dX6_digest_14 : decode cX6_digest 14 = .ok (.getfield 52, 3) := dk_180 0 52 (dk_at dksX6_digest_0 14 rfl rfl)
theorem dX6_digest_17 : decode cX6_digest 17 = .ok (.i2l, 1) := dk_133 (dk_at dksX6_digest_0 17 rfl rfl)
theorem dX6_digest_18 : decode cX6_digest 18 = .ok (.invokevirtual 327, 3) := dk_182 1 71 (dk_at dksX6_digest_0 18 rfl rfl)
theorem dX6_digest_21 : decode cX6_digest 21 = .ok (.aload_n 0, 1) := dk_42 (dk_at dksX6_digest_0 21 rfl rfl)
theorem dX6_digest_22 : decode cX6_digest 22 = .ok (.aload_n 0, 1) := dk_42 (dk_at dksX6_digest_0 22 rfl rfl)
theorem dX6_digest_23 : decode cX6_digest 23 = .ok (.getfield 261, 3) := dk_180 1 5 (dk_at dksX6_digest_1 0 rfl rfl)
theorem dX6_digest_26 : decode cX6_digest 26 = .ok (.i2l, 1) := dk_133 (dk_at dksX6_digest_1 3 rfl rfl)
theorem dX6_digest_27 : decode cX6_digest 27 = .ok (.invokevirtual 327, 3) := dk_182 1 71 (dk_at dksX6_digest_1 4 rfl rfl)
theorem dX6_digest_30 : decode cX6_digest 30 = .ok (.iconst 0, 1) := dk_3 (dk_at dksX6_digest_1 7 rfl rfl)
theorem dX6_digest_31 : decode cX6_digest 31 = .ok (.istore_n 1, 1) := dk_60 (dk_at dksX6_digest_1 8 rfl rfl)
theorem dX6_digest_32 : decode cX6_digest 32 = .ok (.iload_n 1, 1) := dk_27 (dk_at dksX6_digest_1 9 rfl rfl)
theorem dX6_digest_33 : decode cX6_digest 33 = .ok (.bipush 6, 2) := dk_16 6 (dk_at dksX6_digest_1 10 rfl rfl)
theorem dX6_digest_35 : decode cX6_digest 35 = .ok (.if_icmp .ge 19, 3) := dk_162 0 19 (dk_at dksX6_digest_1 12 rfl rfl)
theorem dX6_digest_38 : decode cX6_digest 38 = .ok (.aload_n 0, 1) := dk_42 (dk_at dksX6_digest_1 15 rfl rfl)
theorem dX6_digest_39 : decode cX6_digest 39 = .ok (.aload_n 0, 1) := dk_42 (dk_at dksX6_digest_1 16 rfl rfl)
theorem dX6_digest_40 : decode cX6_digest 40 = .ok (.iload_n 1, 1) := dk_27 (dk_at dksX6_digest_1 17 rfl rfl)
theorem dX6_digest_41 : decode cX6_digest 41 = .ok (.invokevirtual 190, 3) := dk_182 0 190 (dk_at dksX6_digest_1 18 rfl rfl)
theorem dX6_digest_44 : decode cX6_digest 44 = .ok (.i2l, 1) := dk_133 (dk_at dksX6_digest_1 21 rfl rfl)
theorem dX6_digest_45 : decode cX6_digest 45 = .ok (.invokevirtual 327, 3) := dk_182 1 71 (dk_at dksX6_digest_2 0 rfl rfl)
theorem dX6_digest_48 : decode cX6_digest 48 = .ok (.iinc 1 1, 3) := dk_132 1 1 (dk_at dksX6_digest_2 3 rfl rfl)
theorem dX6_digest_51 : decode cX6_digest 51 = .ok (.goto (-19), 3) := dk_167 255 237 (dk_at dksX6_digest_2 6 rfl rfl)
theorem dX6_digest_54 : decode cX6_digest 54 = .ok (.iconst 0, 1) := dk_3 (dk_at dksX6_digest_2 9 rfl rfl)
theorem dX6_digest_55 : decode cX6_digest 55 = .ok (.istore_n 1, 1) := dk_60 (dk_at dksX6_digest_2 10 rfl rfl)
theorem dX6_digest_56 : decode cX6_digest 56 = .ok (.iload_n 1, 1) := dk_27 (dk_at dksX6_digest_2 11 rfl rfl)
theorem dX6_digest_57 : decode cX6_digest 57 = .ok (.aload_n 0, 1) := dk_42 (dk_at dksX6_digest_2 12 rfl rfl)
theorem dX6_digest_58 : decode cX6_digest 58 = .ok (.invokevirtual 55, 3) := dk_182 0 55 (dk_at dksX6_digest_2 13 rfl rfl)
theorem dX6_digest_61 : decode cX6_digest 61 = .ok (.if_icmp .ge 34, 3) := dk_162 0 34 (dk_at dksX6_digest_2 16 rfl rfl)
theorem dX6_digest_64 : decode cX6_digest 64 = .ok (.aload_n 0, 1) := dk_42 (dk_at dksX6_digest_2 19 rfl rfl)
theorem dX6_digest_65 : decode cX6_digest 65 = .ok (.aload_n 0, 1) := dk_42 (dk_at dksX6_digest_2 20 rfl rfl)
theorem dX6_digest_66 : decode cX6_digest 66 = .ok (.getfield 7, 3) := dk_180 0 7 (dk_at dksX6_digest_2 21 rfl rfl)
theorem dX6_digest_69 : decode cX6_digest 69 = .ok (.iconst 1, 1) := dk_4 (dk_at dksX6_digest_3 0 rfl rfl)
theorem dX6_digest_70 : decode cX6_digest 70 = .ok (.iload_n 1, 1) := dk_27 (dk_at dksX6_digest_3 1 rfl rfl)
theorem dX6_digest_71 : decode cX6_digest 71 = .ok (.iadd, 1) := dk_96 (dk_at dksX6_digest_3 2 rfl rfl)
theorem dX6_digest_72 : decode cX6_digest 72 = .ok (.laload, 1) := dk_47 (dk_at dksX6_digest_3 3 rfl rfl)
theorem dX6_digest_73 : decode cX6_digest 73 = .ok (.invokevirtual 327, 3) := dk_182 1 71 (dk_at dksX6_digest_3 4 rfl rfl)
theorem dX6_digest_76 : decode cX6_digest 76 = .ok (.aload_n 0, 1) := dk_42 (dk_at dksX6_digest_3 7 rfl rfl)
theorem dX6_digest_77 : decode cX6_digest 77 = .ok (.aload_n 0, 1) := dk_42 (dk_at dksX6_digest_3 8 rfl rfl)
theorem dX6_digest_78 : decode cX6_digest 78 = .ok (.getfield 7, 3) := dk_180 0 7 (dk_at dksX6_digest_3 9 rfl rfl)
theorem dX6_digest_81 : decode cX6_digest 81 = .ok (.bipush 9, 2) := dk_16 9 (dk_at dksX6_digest_3 12 rfl rfl)
theorem dX6_digest_83 : decode cX6_digest 83 = .ok (.iload_n 1, 1) := dk_27 (dk_at dksX6_digest_3 14 rfl rfl)
theorem dX6_digest_84 : decode cX6_digest 84 = .ok (.iadd, 1) := dk_96 (dk_at dksX6_digest_3 15 rfl rfl)
theorem dX6_digest_85 : decode cX6_digest 85 = .ok (.laload, 1) := dk_47 (dk_at dksX6_digest_3 16 rfl rfl)
theorem dX6_digest_86 : decode cX6_digest 86 = .ok (.invokevirtual 327, 3) := dk_182 1 71 (dk_at dksX6_digest_3 17 rfl rfl)
theorem dX6_digest_89 : decode cX6_digest 89 = .ok (.iinc 1 1, 3) := dk_132 1 1 (dk_at dksX6_digest_3 20 rfl rfl)
theorem dX6_digest_92 : decode cX6_digest 92 = .ok (.goto (-36), 3) := dk_167 255 220 (dk_at dksX6_digest_4 0 rfl rfl)
theorem dX6_digest_95 : decode cX6_digest 95 = .ok (.iconst 0, 1) := dk_3 (dk_at dksX6_digest_4 3 rfl rfl)
theorem dX6_digest_96 : decode cX6_digest 96 = .ok (.istore_n 1, 1) := dk_60 (dk_at dksX6_digest_4 4 rfl rfl)
theorem dX6_digest_97 : decode cX6_digest 97 = .ok (.iload_n 1, 1) := dk_27 (dk_at dksX6_digest_4 5 rfl rfl)
theorem dX6_digest_98 : decode cX6_digest 98 = .ok (.i2l, 1) := dk_133 (dk_at dksX6_digest_4 6 rfl rfl)
theorem dX6_digest_99 : decode cX6_digest 99 = .ok (.ldc2_w 183, 3) := dk_20 0 183 (dk_at dksX6_digest_4 7 rfl rfl)
theorem dX6_digest_102 : decode cX6_digest 102 = .ok (.aload_n 0, 1) := dk_42 (dk_at dksX6_digest_4 10 rfl rfl)
theorem dX6_digest_103 : decode cX6_digest 103 = .ok (.getfield 7, 3) := dk_180 0 7 (dk_at dksX6_digest_4 11 rfl rfl)
theorem dX6_digest_106 : decode cX6_digest 106 = .ok (.bipush 20, 2) := dk_16 20 (dk_at dksX6_digest_4 14 rfl rfl)
theorem dX6_digest_108 : decode cX6_digest 108 = .ok (.laload, 1) := dk_47 (dk_at dksX6_digest_4 16 rfl rfl)
theorem dX6_digest_109 : decode cX6_digest 109 = .ok (.lmul, 1) := dk_105 (dk_at dksX6_digest_4 17 rfl rfl)
theorem dX6_digest_110 : decode cX6_digest 110 = .ok (.lcmp, 1) := dk_148 (dk_at dksX6_digest_4 18 rfl rfl)
theorem dX6_digest_111 : decode cX6_digest 111 = .ok (.ifCond .ge 22, 3) := dk_156 0 22 (dk_at dksX6_digest_4 19 rfl rfl)
theorem dX6_digest_114 : decode cX6_digest 114 = .ok (.aload_n 0, 1) := dk_42 (dk_at dksX6_digest_4 22 rfl rfl)
theorem dX6_digest_115 : decode cX6_digest 115 = .ok (.aload_n 0, 1) := dk_42 (dk_at dksX6_digest_4 23 rfl rfl)
theorem dX6_digest_116 : decode cX6_digest 116 = .ok (.getfield 7, 3) := dk_180 0 7 (dk_at dksX6_digest_5 0 rfl rfl)
theorem dX6_digest_119 : decode cX6_digest 119 = .ok (.bipush 21, 2) := dk_16 21 (dk_at dksX6_digest_5 3 rfl rfl)
theorem dX6_digest_121 : decode cX6_digest 121 = .ok (.iload_n 1, 1) := dk_27 (dk_at dksX6_digest_5 5 rfl rfl)
theorem dX6_digest_122 : decode cX6_digest 122 = .ok (.iadd, 1) := dk_96 (dk_at dksX6_digest_5 6 rfl rfl)
theorem dX6_digest_123 : decode cX6_digest 123 = .ok (.laload, 1) := dk_47 (dk_at dksX6_digest_5 7 rfl rfl)
theorem dX6_digest_124 : decode cX6_digest 124 = .ok (.invokevirtual 327, 3) := dk_182 1 71 (dk_at dksX6_digest_5 8 rfl rfl)
theorem dX6_digest_127 : decode cX6_digest 127 = .ok (.iinc 1 1, 3) := dk_132 1 1 (dk_at dksX6_digest_5 11 rfl rfl)
theorem dX6_digest_130 : decode cX6_digest 130 = .ok (.goto (-33), 3) := dk_167 255 223 (dk_at dksX6_digest_5 14 rfl rfl)
theorem dX6_digest_133 : decode cX6_digest 133 = .ok (.aload_n 0, 1) := dk_42 (dk_at dksX6_digest_5 17 rfl rfl)
theorem dX6_digest_134 : decode cX6_digest 134 = .ok (.invokevirtual 332, 3) := dk_182 1 76 (dk_at dksX6_digest_5 18 rfl rfl)
theorem dX6_digest_137 : decode cX6_digest 137 = .ok (.iconst 0, 1) := dk_3 (dk_at dksX6_digest_5 21 rfl rfl)
theorem dX6_digest_138 : decode cX6_digest 138 = .ok (.istore_n 1, 1) := dk_60 (dk_at dksX6_digest_5 22 rfl rfl)
theorem dX6_digest_139 : decode cX6_digest 139 = .ok (.iload_n 1, 1) := dk_27 (dk_at dksX6_digest_5 23 rfl rfl)
theorem dX6_digest_140 : decode cX6_digest 140 = .ok (.sipush 201, 3) := dk_17 0 201 (dk_at dksX6_digest_6 0 rfl rfl)
theorem dX6_digest_143 : decode cX6_digest 143 = .ok (.if_icmp .ge 23, 3) := dk_162 0 23 (dk_at dksX6_digest_6 3 rfl rfl)
theorem dX6_digest_146 : decode cX6_digest 146 = .ok (.aload_n 0, 1) := dk_42 (dk_at dksX6_digest_6 6 rfl rfl)
theorem dX6_digest_147 : decode cX6_digest 147 = .ok (.aload_n 0, 1) := dk_42 (dk_at dksX6_digest_6 7 rfl rfl)
theorem dX6_digest_148 : decode cX6_digest 148 = .ok (.getfield 7, 3) := dk_180 0 7 (dk_at dksX6_digest_6 8 rfl rfl)
theorem dX6_digest_151 : decode cX6_digest 151 = .ok (.sipush 230, 3) := dk_17 0 230 (dk_at dksX6_digest_6 11 rfl rfl)
theorem dX6_digest_154 : decode cX6_digest 154 = .ok (.iload_n 1, 1) := dk_27 (dk_at dksX6_digest_6 14 rfl rfl)
theorem dX6_digest_155 : decode cX6_digest 155 = .ok (.iadd, 1) := dk_96 (dk_at dksX6_digest_6 15 rfl rfl)
theorem dX6_digest_156 : decode cX6_digest 156 = .ok (.laload, 1) := dk_47 (dk_at dksX6_digest_6 16 rfl rfl)
theorem dX6_digest_157 : decode cX6_digest 157 = .ok (.invokevirtual 327, 3) := dk_182 1 71 (dk_at dksX6_digest_6 17 rfl rfl)
theorem dX6_digest_160 : decode cX6_digest 160 = .ok (.iinc 1 1, 3) := dk_132 1 1 (dk_at dksX6_digest_6 20 rfl rfl)
theorem dX6_digest_163 : decode cX6_digest 163 = .ok (.goto (-24), 3) := dk_167 255 232 (dk_at dksX6_digest_7 0 rfl rfl)
theorem dX6_digest_166 : decode cX6_digest 166 = .ok (.aload_n 0, 1) := dk_42 (dk_at dksX6_digest_7 3 rfl rfl)
theorem dX6_digest_167 : decode cX6_digest 167 = .ok (.invokevirtual 250, 3) := dk_182 0 250 (dk_at dksX6_digest_7 4 rfl rfl)
theorem dX6_digest_170 : decode cX6_digest 170 = .ok (.iconst 0, 1) := dk_3 (dk_at dksX6_digest_7 7 rfl rfl)
theorem dX6_digest_171 : decode cX6_digest 171 = .ok (.istore_n 1, 1) := dk_60 (dk_at dksX6_digest_7 8 rfl rfl)
theorem dX6_digest_172 : decode cX6_digest 172 = .ok (.iload_n 1, 1) := dk_27 (dk_at dksX6_digest_7 9 rfl rfl)
theorem dX6_digest_173 : decode cX6_digest 173 = .ok (.iconst 4, 1) := dk_7 (dk_at dksX6_digest_7 10 rfl rfl)
theorem dX6_digest_174 : decode cX6_digest 174 = .ok (.if_icmp .ge 19, 3) := dk_162 0 19 (dk_at dksX6_digest_7 11 rfl rfl)
theorem dX6_digest_177 : decode cX6_digest 177 = .ok (.aload_n 0, 1) := dk_42 (dk_at dksX6_digest_7 14 rfl rfl)
theorem dX6_digest_178 : decode cX6_digest 178 = .ok (.aload_n 0, 1) := dk_42 (dk_at dksX6_digest_7 15 rfl rfl)
theorem dX6_digest_179 : decode cX6_digest 179 = .ok (.iload_n 1, 1) := dk_27 (dk_at dksX6_digest_7 16 rfl rfl)
theorem dX6_digest_180 : decode cX6_digest 180 = .ok (.invokevirtual 253, 3) := dk_182 0 253 (dk_at dksX6_digest_7 17 rfl rfl)
theorem dX6_digest_183 : decode cX6_digest 183 = .ok (.i2l, 1) := dk_133 (dk_at dksX6_digest_7 20 rfl rfl)
theorem dX6_digest_184 : decode cX6_digest 184 = .ok (.invokevirtual 327, 3) := dk_182 1 71 (dk_at dksX6_digest_7 21 rfl rfl)
theorem dX6_digest_187 : decode cX6_digest 187 = .ok (.iinc 1 1, 3) := dk_132 1 1 (dk_at dksX6_digest_8 0 rfl rfl)
theorem dX6_digest_190 : decode cX6_digest 190 = .ok (.goto (-18), 3) := dk_167 255 238 (dk_at dksX6_digest_8 3 rfl rfl)
theorem dX6_digest_193 : decode cX6_digest 193 = .ok (.iconst 0, 1) := dk_3 (dk_at dksX6_digest_8 6 rfl rfl)
theorem dX6_digest_194 : decode cX6_digest 194 = .ok (.istore_n 1, 1) := dk_60 (dk_at dksX6_digest_8 7 rfl rfl)
theorem dX6_digest_195 : decode cX6_digest 195 = .ok (.iload_n 1, 1) := dk_27 (dk_at dksX6_digest_8 8 rfl rfl)
theorem dX6_digest_196 : decode cX6_digest 196 = .ok (.aload_n 0, 1) := dk_42 (dk_at dksX6_digest_8 9 rfl rfl)
theorem dX6_digest_197 : decode cX6_digest 197 = .ok (.getfield 79, 3) := dk_180 0 79 (dk_at dksX6_digest_8 10 rfl rfl)
theorem dX6_digest_200 : decode cX6_digest 200 = .ok (.if_icmp .ge 33, 3) := dk_162 0 33 (dk_at dksX6_digest_8 13 rfl rfl)
theorem dX6_digest_203 : decode cX6_digest 203 = .ok (.aload_n 0, 1) := dk_42 (dk_at dksX6_digest_8 16 rfl rfl)
theorem dX6_digest_204 : decode cX6_digest 204 = .ok (.aload_n 0, 1) := dk_42 (dk_at dksX6_digest_8 17 rfl rfl)
theorem dX6_digest_205 : decode cX6_digest 205 = .ok (.getfield 20, 3) := dk_180 0 20 (dk_at dksX6_digest_8 18 rfl rfl)
theorem dX6_digest_208 : decode cX6_digest 208 = .ok (.iload_n 1, 1) := dk_27 (dk_at dksX6_digest_8 21 rfl rfl)
theorem dX6_digest_209 : decode cX6_digest 209 = .ok (.iaload, 1) := dk_46 (dk_at dksX6_digest_8 22 rfl rfl)
theorem dX6_digest_210 : decode cX6_digest 210 = .ok (.i2l, 1) := dk_133 (dk_at dksX6_digest_8 23 rfl rfl)
theorem dX6_digest_211 : decode cX6_digest 211 = .ok (.invokevirtual 327, 3) := dk_182 1 71 (dk_at dksX6_digest_9 0 rfl rfl)
theorem dX6_digest_214 : decode cX6_digest 214 = .ok (.aload_n 0, 1) := dk_42 (dk_at dksX6_digest_9 3 rfl rfl)
theorem dX6_digest_215 : decode cX6_digest 215 = .ok (.aload_n 0, 1) := dk_42 (dk_at dksX6_digest_9 4 rfl rfl)
theorem dX6_digest_216 : decode cX6_digest 216 = .ok (.getfield 23, 3) := dk_180 0 23 (dk_at dksX6_digest_9 5 rfl rfl)
theorem dX6_digest_219 : decode cX6_digest 219 = .ok (.iload_n 1, 1) := dk_27 (dk_at dksX6_digest_9 8 rfl rfl)
theorem dX6_digest_220 : decode cX6_digest 220 = .ok (.iconst 1, 1) := dk_4 (dk_at dksX6_digest_9 9 rfl rfl)
theorem dX6_digest_221 : decode cX6_digest 221 = .ok (.iadd, 1) := dk_96 (dk_at dksX6_digest_9 10 rfl rfl)
theorem dX6_digest_222 : decode cX6_digest 222 = .ok (.iaload, 1) := dk_46 (dk_at dksX6_digest_9 11 rfl rfl)
theorem dX6_digest_223 : decode cX6_digest 223 = .ok (.i2l, 1) := dk_133 (dk_at dksX6_digest_9 12 rfl rfl)
theorem dX6_digest_224 : decode cX6_digest 224 = .ok (.invokevirtual 327, 3) := dk_182 1 71 (dk_at dksX6_digest_9 13 rfl rfl)
theorem dX6_digest_227 : decode cX6_digest 227 = .ok (.iinc 1 1, 3) := dk_132 1 1 (dk_at dksX6_digest_9 16 rfl rfl)
theorem dX6_digest_230 : decode cX6_digest 230 = .ok (.goto (-35), 3) := dk_167 255 221 (dk_at dksX6_digest_9 19 rfl rfl)
theorem dX6_digest_233 : decode cX6_digest 233 = .ok (.aload_n 0, 1) := dk_42 (dk_at dksX6_digest_9 22 rfl rfl)
theorem dX6_digest_234 : decode cX6_digest 234 = .ok (.getfield 324, 3) := dk_180 1 68 (dk_at dksX6_digest_10 0 rfl rfl)
theorem dX6_digest_237 : decode cX6_digest 237 = .ok (.lreturn, 1) := dk_173 (dk_at dksX6_digest_10 3 rfl rfl)
abbrev cX6_mix : ByteArray := prog_10_method_81_code
def yX6_mix : MethodName := ⟨RX6, "mix", "(J)V"⟩
def dkwX6_mix_0 : List UInt8 := [42, 20, 1, 66, 42, 180, 1, 68, 105, 31, 97, 181, 1, 68, 177]
abbrev dktX6_mix_0 : List UInt8 := dkwX6_mix_0 ++ []
theorem dksX6_mix_0 : cX6_mix.data.toList.drop 0 = dktX6_mix_0 := by decide +kernel
theorem dX6_mix_0 : decode cX6_mix 0 = .ok (.aload_n 0, 1) := dk_42 (dk_at dksX6_mix_0 0 rfl rfl)
theorem dX6_mix_1 : decode cX6_mix 1 = .ok (.ldc2_w 322, 3) := dk_20 1 66 (dk_at dksX6_mix_0 1 rfl rfl)
theorem dX6_mix_4 : decode cX6_mix 4 = .ok (.aload_n 0, 1) := dk_42 (dk_at dksX6_mix_0 4 rfl rfl)
theorem dX6_mix_5 : decode cX6_mix 5 = .ok (.getfield 324, 3) := dk_180 1 68 (dk_at dksX6_mix_0 5 rfl rfl)
theorem dX6_mix_8 : decode cX6_mix 8 = .ok (.lmul, 1) := dk_105 (dk_at dksX6_mix_0 8 rfl rfl)
theorem dX6_mix_9 : decode cX6_mix 9 = .ok (.lload_n 1, 1) := dk_31 (dk_at dksX6_mix_0 9 rfl rfl)
theorem dX6_mix_10 : decode cX6_mix 10 = .ok (.ladd, 1) := dk_97 (dk_at dksX6_mix_0 10 rfl rfl)
theorem dX6_mix_11 : decode cX6_mix 11 = .ok (.putfield 324, 3) := dk_181 1 68 (dk_at dksX6_mix_0 11 rfl rfl)
theorem dX6_mix_14 : decode cX6_mix 14 = .ok (.return_, 1) := dk_177 (dk_at dksX6_mix_0 14 rfl rfl)
abbrev cX6_mixEchoes : ByteArray := prog_10_method_82_code
def yX6_mixEchoes : MethodName := ⟨RX6, "mixEchoes", "()V"⟩
def dkwX6_mixEchoes_3 : List UInt8 := [27, 182, 0, 226, 133, 182, 1, 71, 132, 1, 1, 167, 255, 238, 177]
abbrev dktX6_mixEchoes_3 : List UInt8 := dkwX6_mixEchoes_3 ++ []
def dkwX6_mixEchoes_2 : List UInt8 := [132, 1, 1, 167, 255, 235, 42, 42, 182, 0, 218, 133, 182, 1, 71, 3, 60, 27, 7, 162, 0, 19, 42, 42]
abbrev dktX6_mixEchoes_2 : List UInt8 := dkwX6_mixEchoes_2 ++ dktX6_mixEchoes_3
def dkwX6_mixEchoes_1 : List UInt8 := [167, 255, 238, 3, 60, 27, 42, 182, 0, 110, 163, 0, 19, 42, 42, 180, 0, 38, 27, 47, 182, 1, 71]
abbrev dktX6_mixEchoes_1 : List UInt8 := dkwX6_mixEchoes_1 ++ dktX6_mixEchoes_2
def dkwX6_mixEchoes_0 : List UInt8 := [42, 182, 0, 193, 3, 60, 27, 16, 9, 162, 0, 18, 42, 42, 27, 182, 0, 201, 182, 1, 71, 132, 1, 1]
abbrev dktX6_mixEchoes_0 : List UInt8 := dkwX6_mixEchoes_0 ++ dktX6_mixEchoes_1
theorem dksX6_mixEchoes_0 : cX6_mixEchoes.data.toList.drop 0 = dktX6_mixEchoes_0 := by decide +kernel
theorem dksX6_mixEchoes_1 : cX6_mixEchoes.data.toList.drop 24 = dktX6_mixEchoes_1 := dk_seg dksX6_mixEchoes_0 24 rfl rfl
theorem dksX6_mixEchoes_2 : cX6_mixEchoes.data.toList.drop 47 = dktX6_mixEchoes_2 := dk_seg dksX6_mixEchoes_1 23 rfl rfl
theorem dksX6_mixEchoes_3 : cX6_mixEchoes.data.toList.drop 71 = dktX6_mixEchoes_3 := dk_seg dksX6_mixEchoes_2 24 rfl rfl
theorem dX6_mixEchoes_0 : decode cX6_mixEchoes 0 = .ok (.aload_n 0, 1) := dk_42 (dk_at dksX6_mixEchoes_0 0 rfl rfl)
theorem dX6_mixEchoes_1 : decode cX6_mixEchoes 1 = .ok (.invokevirtual 193, 3) := dk_182 0 193 (dk_at dksX6_mixEchoes_0 1 rfl rfl)
theorem dX6_mixEchoes_4 : decode cX6_mixEchoes 4 = .ok (.iconst 0, 1) := dk_3 (dk_at dksX6_mixEchoes_0 4 rfl rfl)
theorem dX6_mixEchoes_5 : decode cX6_mixEchoes 5 = .ok (.istore_n 1, 1) := dk_60 (dk_at dksX6_mixEchoes_0 5 rfl rfl)
theorem dX6_mixEchoes_6 : decode cX6_mixEchoes 6 = .ok (.iload_n 1, 1) := dk_27 (dk_at dksX6_mixEchoes_0 6 rfl rfl)
theorem dX6_mixEchoes_7 : decode cX6_mixEchoes 7 = .ok (.bipush 9, 2) := dk_16 9 (dk_at dksX6_mixEchoes_0 7 rfl rfl)
theorem dX6_mixEchoes_9 : decode cX6_mixEchoes 9 = .ok (.if_icmp .ge 18, 3) := dk_162 0 18 (dk_at dksX6_mixEchoes_0 9 rfl rfl)
theorem dX6_mixEchoes_12 : decode cX6_mixEchoes 12 = .ok (.aload_n 0, 1) := dk_42 (dk_at dksX6_mixEchoes_0 12 rfl rfl)
theorem dX6_mixEchoes_13 : decode cX6_mixEchoes 13 = .ok (.aload_n 0, 1) := dk_42 (dk_at dksX6_mixEchoes_0 13 rfl rfl)
theorem dX6_mixEchoes_14 : decode cX6_mixEchoes 14 = .ok (.iload_n 1, 1) := dk_27 (dk_at dksX6_mixEchoes_0 14 rfl rfl)
theorem dX6_mixEchoes_15 : decode cX6_mixEchoes 15 = .ok (.invokevirtual 201, 3) := dk_182 0 201 (dk_at dksX6_mixEchoes_0 15 rfl rfl)
theorem dX6_mixEchoes_18 : decode cX6_mixEchoes 18 = .ok (.invokevirtual 327, 3) := dk_182 1 71 (dk_at dksX6_mixEchoes_0 18 rfl rfl)
theorem dX6_mixEchoes_21 : decode cX6_mixEchoes 21 = .ok (.iinc 1 1, 3) := dk_132 1 1 (dk_at dksX6_mixEchoes_0 21 rfl rfl)
theorem dX6_mixEchoes_24 : decode cX6_mixEchoes 24 = .ok (.goto (-18), 3) := dk_167 255 238 (dk_at dksX6_mixEchoes_1 0 rfl rfl)
theorem dX6_mixEchoes_27 : decode cX6_mixEchoes 27 = .ok (.iconst 0, 1) := dk_3 (dk_at dksX6_mixEchoes_1 3 rfl rfl)
theorem dX6_mixEchoes_28 : decode cX6_mixEchoes 28 = .ok (.istore_n 1, 1) := dk_60 (dk_at dksX6_mixEchoes_1 4 rfl rfl)
theorem dX6_mixEchoes_29 : decode cX6_mixEchoes 29 = .ok (.iload_n 1, 1) := dk_27 (dk_at dksX6_mixEchoes_1 5 rfl rfl)
theorem dX6_mixEchoes_30 : decode cX6_mixEchoes 30 = .ok (.aload_n 0, 1) := dk_42 (dk_at dksX6_mixEchoes_1 6 rfl rfl)
theorem dX6_mixEchoes_31 : decode cX6_mixEchoes 31 = .ok (.invokevirtual 110, 3) := dk_182 0 110 (dk_at dksX6_mixEchoes_1 7 rfl rfl)
theorem dX6_mixEchoes_34 : decode cX6_mixEchoes 34 = .ok (.if_icmp .gt 19, 3) := dk_163 0 19 (dk_at dksX6_mixEchoes_1 10 rfl rfl)
theorem dX6_mixEchoes_37 : decode cX6_mixEchoes 37 = .ok (.aload_n 0, 1) := dk_42 (dk_at dksX6_mixEchoes_1 13 rfl rfl)
theorem dX6_mixEchoes_38 : decode cX6_mixEchoes 38 = .ok (.aload_n 0, 1) := dk_42 (dk_at dksX6_mixEchoes_1 14 rfl rfl)
theorem dX6_mixEchoes_39 : decode cX6_mixEchoes 39 = .ok (.getfield 38, 3) := dk_180 0 38 (dk_at dksX6_mixEchoes_1 15 rfl rfl)
theorem dX6_mixEchoes_42 : decode cX6_mixEchoes 42 = .ok (.iload_n 1, 1) := dk_27 (dk_at dksX6_mixEchoes_1 18 rfl rfl)
theorem dX6_mixEchoes_43 : decode cX6_mixEchoes 43 = .ok (.laload, 1) := dk_47 (dk_at dksX6_mixEchoes_1 19 rfl rfl)
theorem dX6_mixEchoes_44 : decode cX6_mixEchoes 44 = .ok (.invokevirtual 327, 3) := dk_182 1 71 (dk_at dksX6_mixEchoes_1 20 rfl rfl)
theorem dX6_mixEchoes_47 : decode cX6_mixEchoes 47 = .ok (.iinc 1 1, 3) := dk_132 1 1 (dk_at dksX6_mixEchoes_2 0 rfl rfl)
theorem dX6_mixEchoes_50 : decode cX6_mixEchoes 50 = .ok (.goto (-21), 3) := dk_167 255 235 (dk_at dksX6_mixEchoes_2 3 rfl rfl)
theorem dX6_mixEchoes_53 : decode cX6_mixEchoes 53 = .ok (.aload_n 0, 1) := dk_42 (dk_at dksX6_mixEchoes_2 6 rfl rfl)
theorem dX6_mixEchoes_54 : decode cX6_mixEchoes 54 = .ok (.aload_n 0, 1) := dk_42 (dk_at dksX6_mixEchoes_2 7 rfl rfl)
theorem dX6_mixEchoes_55 : decode cX6_mixEchoes 55 = .ok (.invokevirtual 218, 3) := dk_182 0 218 (dk_at dksX6_mixEchoes_2 8 rfl rfl)
theorem dX6_mixEchoes_58 : decode cX6_mixEchoes 58 = .ok (.i2l, 1) := dk_133 (dk_at dksX6_mixEchoes_2 11 rfl rfl)
theorem dX6_mixEchoes_59 : decode cX6_mixEchoes 59 = .ok (.invokevirtual 327, 3) := dk_182 1 71 (dk_at dksX6_mixEchoes_2 12 rfl rfl)
theorem dX6_mixEchoes_62 : decode cX6_mixEchoes 62 = .ok (.iconst 0, 1) := dk_3 (dk_at dksX6_mixEchoes_2 15 rfl rfl)
theorem dX6_mixEchoes_63 : decode cX6_mixEchoes 63 = .ok (.istore_n 1, 1) := dk_60 (dk_at dksX6_mixEchoes_2 16 rfl rfl)
theorem dX6_mixEchoes_64 : decode cX6_mixEchoes 64 = .ok (.iload_n 1, 1) := dk_27 (dk_at dksX6_mixEchoes_2 17 rfl rfl)
theorem dX6_mixEchoes_65 : decode cX6_mixEchoes 65 = .ok (.iconst 4, 1) := dk_7 (dk_at dksX6_mixEchoes_2 18 rfl rfl)
theorem dX6_mixEchoes_66 : decode cX6_mixEchoes 66 = .ok (.if_icmp .ge 19, 3) := dk_162 0 19 (dk_at dksX6_mixEchoes_2 19 rfl rfl)
theorem dX6_mixEchoes_69 : decode cX6_mixEchoes 69 = .ok (.aload_n 0, 1) := dk_42 (dk_at dksX6_mixEchoes_2 22 rfl rfl)
theorem dX6_mixEchoes_70 : decode cX6_mixEchoes 70 = .ok (.aload_n 0, 1) := dk_42 (dk_at dksX6_mixEchoes_2 23 rfl rfl)
theorem dX6_mixEchoes_71 : decode cX6_mixEchoes 71 = .ok (.iload_n 1, 1) := dk_27 (dk_at dksX6_mixEchoes_3 0 rfl rfl)
theorem dX6_mixEchoes_72 : decode cX6_mixEchoes 72 = .ok (.invokevirtual 226, 3) := dk_182 0 226 (dk_at dksX6_mixEchoes_3 1 rfl rfl)
theorem dX6_mixEchoes_75 : decode cX6_mixEchoes 75 = .ok (.i2l, 1) := dk_133 (dk_at dksX6_mixEchoes_3 4 rfl rfl)
theorem dX6_mixEchoes_76 : decode cX6_mixEchoes 76 = .ok (.invokevirtual 327, 3) := dk_182 1 71 (dk_at dksX6_mixEchoes_3 5 rfl rfl)
theorem dX6_mixEchoes_79 : decode cX6_mixEchoes 79 = .ok (.iinc 1 1, 3) := dk_132 1 1 (dk_at dksX6_mixEchoes_3 8 rfl rfl)
theorem dX6_mixEchoes_82 : decode cX6_mixEchoes 82 = .ok (.goto (-18), 3) := dk_167 255 238 (dk_at dksX6_mixEchoes_3 11 rfl rfl)
theorem dX6_mixEchoes_85 : decode cX6_mixEchoes 85 = .ok (.return_, 1) := dk_177 (dk_at dksX6_mixEchoes_3 14 rfl rfl)
theorem q74 : (Jvm.Cond.initialized "LineEchoesModel") ∈ lw_all := lw_g (lw_at lw_m1 6 rfl) rfl
theorem q1335 : (Jvm.Cond.instantiable "LineEchoesModel" (28 : Nat)) ∈ lw_all := lw_g (lw_at lw_m6 67 rfl) rfl
theorem q1337 : (Jvm.Cond.instanceMethod ({ cls := "LineEchoesModel", name := "<init>", desc := "()V" } : Jvm.MethodName)) ∈ lw_all := lw_g (lw_at lw_m6 69 rfl) rfl
theorem q1338 : (Jvm.Cond.code ({ cls := "LineEchoesModel", name := "<init>", desc := "()V" } : Jvm.MethodName) prog_10_method_1_code (1 : Nat) (Option.none : Option Jvm.ClassFile.FieldType)) ∈ lw_all := lw_g (lw_at lw_m6 70 rfl) rfl
theorem q1339 : (Jvm.Cond.methodLink "LineEchoesModel" (1 : Nat) ({ cls := "java/lang/Object", name := "<init>", desc := "()V" } : Jvm.MethodName)) ∈ lw_all := lw_g (lw_at lw_m6 71 rfl) rfl
theorem q1340 : (Jvm.Cond.constantLong "LineEchoesModel" (44 : Nat) (100 : Int64)) ∈ lw_all := lw_g (lw_at lw_m6 72 rfl) rfl
theorem q1341 : (Jvm.Cond.constantLong "LineEchoesModel" (46 : Nat) (100000 : Int64)) ∈ lw_all := lw_g (lw_at lw_m6 73 rfl) rfl
theorem q1342 : (Jvm.Cond.fieldLink "LineEchoesModel" (7 : Nat) "LineEchoesModel" "m" "[J") ∈ lw_all := lw_g (lw_at lw_m6 74 rfl) rfl
theorem q1343 : (Jvm.Cond.fieldLink "LineEchoesModel" (13 : Nat) "LineEchoesModel" "saved" "[J") ∈ lw_all := lw_g (lw_at lw_m6 75 rfl) rfl
theorem q1344 : (Jvm.Cond.fieldLink "LineEchoesModel" (52 : Nat) "LineEchoesModel" "savedCount" "I") ∈ lw_all := lw_g (lw_at lw_m6 76 rfl) rfl
theorem q1345 : (Jvm.Cond.fieldLink "LineEchoesModel" (16 : Nat) "LineEchoesModel" "script" "[I") ∈ lw_all := lw_g (lw_at lw_m6 77 rfl) rfl
theorem q1346 : (Jvm.Cond.fieldLink "LineEchoesModel" (261 : Nat) "LineEchoesModel" "scriptLength" "I") ∈ lw_all := lw_g (lw_at lw_m6 78 rfl) rfl
theorem q1347 : (Jvm.Cond.fieldLink "LineEchoesModel" (48 : Nat) "LineEchoesModel" "code" "I") ∈ lw_all := lw_g (lw_at lw_m6 79 rfl) rfl
theorem q1348 : (Jvm.Cond.fieldLink "LineEchoesModel" (79 : Nat) "LineEchoesModel" "lineParts" "I") ∈ lw_all := lw_g (lw_at lw_m6 80 rfl) rfl
theorem q1349 : (Jvm.Cond.fieldLink "LineEchoesModel" (20 : Nat) "LineEchoesModel" "lengths" "[I") ∈ lw_all := lw_g (lw_at lw_m6 81 rfl) rfl
theorem q1350 : (Jvm.Cond.fieldLink "LineEchoesModel" (23 : Nat) "LineEchoesModel" "fractions" "[I") ∈ lw_all := lw_g (lw_at lw_m6 82 rfl) rfl
theorem q1351 : (Jvm.Cond.fieldLink "LineEchoesModel" (84 : Nat) "LineEchoesModel" "pulseMany" "I") ∈ lw_all := lw_g (lw_at lw_m6 83 rfl) rfl
theorem q1352 : (Jvm.Cond.fieldLink "LineEchoesModel" (26 : Nat) "LineEchoesModel" "times" "[I") ∈ lw_all := lw_g (lw_at lw_m6 84 rfl) rfl
theorem q1353 : (Jvm.Cond.fieldLink "LineEchoesModel" (29 : Nat) "LineEchoesModel" "energies" "[J") ∈ lw_all := lw_g (lw_at lw_m6 85 rfl) rfl
theorem q1354 : (Jvm.Cond.fieldLink "LineEchoesModel" (32 : Nat) "LineEchoesModel" "far" "[J") ∈ lw_all := lw_g (lw_at lw_m6 86 rfl) rfl
theorem q1355 : (Jvm.Cond.fieldLink "LineEchoesModel" (35 : Nat) "LineEchoesModel" "near" "[J") ∈ lw_all := lw_g (lw_at lw_m6 87 rfl) rfl
theorem q1356 : (Jvm.Cond.fieldLink "LineEchoesModel" (38 : Nat) "LineEchoesModel" "echoes" "[J") ∈ lw_all := lw_g (lw_at lw_m6 88 rfl) rfl
theorem q1357 : (Jvm.Cond.fieldLink "LineEchoesModel" (107 : Nat) "LineEchoesModel" "left" "J") ∈ lw_all := lw_g (lw_at lw_m6 89 rfl) rfl
theorem q1358 : (Jvm.Cond.fieldLink "LineEchoesModel" (76 : Nat) "LineEchoesModel" "dropped" "J") ∈ lw_all := lw_g (lw_at lw_m6 90 rfl) rfl
theorem q1359 : (Jvm.Cond.fieldLink "LineEchoesModel" (70 : Nat) "LineEchoesModel" "merged" "I") ∈ lw_all := lw_g (lw_at lw_m6 91 rfl) rfl
theorem q1360 : (Jvm.Cond.fieldLink "LineEchoesModel" (73 : Nat) "LineEchoesModel" "drops" "I") ∈ lw_all := lw_g (lw_at lw_m6 92 rfl) rfl
theorem q1361 : (Jvm.Cond.fieldLink "LineEchoesModel" (63 : Nat) "LineEchoesModel" "contributions" "I") ∈ lw_all := lw_g (lw_at lw_m6 93 rfl) rfl
theorem q1362 : (Jvm.Cond.fieldLink "LineEchoesModel" (66 : Nat) "LineEchoesModel" "packet" "J") ∈ lw_all := lw_g (lw_at lw_m6 94 rfl) rfl
theorem q1363 : (Jvm.Cond.fieldLink "LineEchoesModel" (240 : Nat) "LineEchoesModel" "peelResult" "I") ∈ lw_all := lw_g (lw_at lw_m6 95 rfl) rfl
theorem q1364 : (Jvm.Cond.fieldLink "LineEchoesModel" (237 : Nat) "LineEchoesModel" "peelTime" "I") ∈ lw_all := lw_g (lw_at lw_m6 96 rfl) rfl
theorem q1365 : (Jvm.Cond.fieldLink "LineEchoesModel" (231 : Nat) "LineEchoesModel" "peelSum" "I") ∈ lw_all := lw_g (lw_at lw_m6 97 rfl) rfl
theorem q1366 : (Jvm.Cond.fieldLink "LineEchoesModel" (264 : Nat) "LineEchoesModel" "at" "I") ∈ lw_all := lw_g (lw_at lw_m6 98 rfl) rfl
theorem q1367 : (Jvm.Cond.fieldLink "LineEchoesModel" (304 : Nat) "LineEchoesModel" "commands" "I") ∈ lw_all := lw_g (lw_at lw_m6 99 rfl) rfl
theorem q1368 : (Jvm.Cond.fieldLink "LineEchoesModel" (41 : Nat) "LineEchoesModel" "draft" "[I") ∈ lw_all := lw_g (lw_at lw_m6 100 rfl) rfl
theorem q1369 : (Jvm.Cond.fieldLink "LineEchoesModel" (324 : Nat) "LineEchoesModel" "hash" "J") ∈ lw_all := lw_g (lw_at lw_m6 101 rfl) rfl
theorem q1370 : (Jvm.Cond.laysFinal "LineEchoesModel" "LineEchoesModel" "m" "[J") ∈ lw_all := lw_g (lw_at lw_m6 102 rfl) rfl
theorem q1371 : (Jvm.Cond.soleField "LineEchoesModel" "m") ∈ lw_all := lw_g (lw_at lw_m6 103 rfl) rfl
theorem q1372 : (Jvm.Cond.laysFinal "LineEchoesModel" "LineEchoesModel" "saved" "[J") ∈ lw_all := lw_g (lw_at lw_m6 104 rfl) rfl
theorem q1373 : (Jvm.Cond.soleField "LineEchoesModel" "saved") ∈ lw_all := lw_g (lw_at lw_m6 105 rfl) rfl
theorem q1374 : (Jvm.Cond.lays "LineEchoesModel" "LineEchoesModel" "savedCount" "I") ∈ lw_all := lw_g (lw_at lw_m6 106 rfl) rfl
theorem q1375 : (Jvm.Cond.soleField "LineEchoesModel" "savedCount") ∈ lw_all := lw_g (lw_at lw_m6 107 rfl) rfl
theorem q1376 : (Jvm.Cond.laysFinal "LineEchoesModel" "LineEchoesModel" "script" "[I") ∈ lw_all := lw_g (lw_at lw_m6 108 rfl) rfl
theorem q1377 : (Jvm.Cond.soleField "LineEchoesModel" "script") ∈ lw_all := lw_g (lw_at lw_m6 109 rfl) rfl
theorem q1378 : (Jvm.Cond.lays "LineEchoesModel" "LineEchoesModel" "scriptLength" "I") ∈ lw_all := lw_g (lw_at lw_m6 110 rfl) rfl
theorem q1379 : (Jvm.Cond.soleField "LineEchoesModel" "scriptLength") ∈ lw_all := lw_g (lw_at lw_m6 111 rfl) rfl
theorem q1380 : (Jvm.Cond.lays "LineEchoesModel" "LineEchoesModel" "code" "I") ∈ lw_all := lw_g (lw_at lw_m6 112 rfl) rfl
theorem q1381 : (Jvm.Cond.soleField "LineEchoesModel" "code") ∈ lw_all := lw_g (lw_at lw_m6 113 rfl) rfl
theorem q1382 : (Jvm.Cond.lays "LineEchoesModel" "LineEchoesModel" "lineParts" "I") ∈ lw_all := lw_g (lw_at lw_m6 114 rfl) rfl
theorem q1383 : (Jvm.Cond.soleField "LineEchoesModel" "lineParts") ∈ lw_all := lw_g (lw_at lw_m6 115 rfl) rfl
theorem q1384 : (Jvm.Cond.laysFinal "LineEchoesModel" "LineEchoesModel" "lengths" "[I") ∈ lw_all := lw_g (lw_at lw_m6 116 rfl) rfl
theorem q1385 : (Jvm.Cond.soleField "LineEchoesModel" "lengths") ∈ lw_all := lw_g (lw_at lw_m6 117 rfl) rfl
theorem q1386 : (Jvm.Cond.laysFinal "LineEchoesModel" "LineEchoesModel" "fractions" "[I") ∈ lw_all := lw_g (lw_at lw_m6 118 rfl) rfl
theorem q1387 : (Jvm.Cond.soleField "LineEchoesModel" "fractions") ∈ lw_all := lw_g (lw_at lw_m6 119 rfl) rfl
theorem q1388 : (Jvm.Cond.lays "LineEchoesModel" "LineEchoesModel" "pulseMany" "I") ∈ lw_all := lw_g (lw_at lw_m6 120 rfl) rfl
theorem q1389 : (Jvm.Cond.soleField "LineEchoesModel" "pulseMany") ∈ lw_all := lw_g (lw_at lw_m6 121 rfl) rfl
theorem q1390 : (Jvm.Cond.laysFinal "LineEchoesModel" "LineEchoesModel" "times" "[I") ∈ lw_all := lw_g (lw_at lw_m6 122 rfl) rfl
theorem q1391 : (Jvm.Cond.soleField "LineEchoesModel" "times") ∈ lw_all := lw_g (lw_at lw_m6 123 rfl) rfl
theorem q1392 : (Jvm.Cond.laysFinal "LineEchoesModel" "LineEchoesModel" "energies" "[J") ∈ lw_all := lw_g (lw_at lw_m6 124 rfl) rfl
theorem q1393 : (Jvm.Cond.soleField "LineEchoesModel" "energies") ∈ lw_all := lw_g (lw_at lw_m6 125 rfl) rfl
theorem q1394 : (Jvm.Cond.laysFinal "LineEchoesModel" "LineEchoesModel" "far" "[J") ∈ lw_all := lw_g (lw_at lw_m6 126 rfl) rfl
theorem q1395 : (Jvm.Cond.soleField "LineEchoesModel" "far") ∈ lw_all := lw_g (lw_at lw_m6 127 rfl) rfl
theorem q1396 : (Jvm.Cond.laysFinal "LineEchoesModel" "LineEchoesModel" "near" "[J") ∈ lw_all := lw_g (lw_at lw_m6 128 rfl) rfl
theorem q1397 : (Jvm.Cond.soleField "LineEchoesModel" "near") ∈ lw_all := lw_g (lw_at lw_m6 129 rfl) rfl
theorem q1398 : (Jvm.Cond.laysFinal "LineEchoesModel" "LineEchoesModel" "echoes" "[J") ∈ lw_all := lw_g (lw_at lw_m6 130 rfl) rfl
theorem q1399 : (Jvm.Cond.soleField "LineEchoesModel" "echoes") ∈ lw_all := lw_g (lw_at lw_m6 131 rfl) rfl
theorem q1400 : (Jvm.Cond.lays "LineEchoesModel" "LineEchoesModel" "left" "J") ∈ lw_all := lw_g (lw_at lw_m6 132 rfl) rfl
theorem q1401 : (Jvm.Cond.soleField "LineEchoesModel" "left") ∈ lw_all := lw_g (lw_at lw_m6 133 rfl) rfl
theorem q1402 : (Jvm.Cond.lays "LineEchoesModel" "LineEchoesModel" "dropped" "J") ∈ lw_all := lw_g (lw_at lw_m6 134 rfl) rfl
theorem q1403 : (Jvm.Cond.soleField "LineEchoesModel" "dropped") ∈ lw_all := lw_g (lw_at lw_m6 135 rfl) rfl
theorem q1404 : (Jvm.Cond.lays "LineEchoesModel" "LineEchoesModel" "merged" "I") ∈ lw_all := lw_g (lw_at lw_m6 136 rfl) rfl
theorem q1405 : (Jvm.Cond.soleField "LineEchoesModel" "merged") ∈ lw_all := lw_g (lw_at lw_m6 137 rfl) rfl
theorem q1406 : (Jvm.Cond.lays "LineEchoesModel" "LineEchoesModel" "drops" "I") ∈ lw_all := lw_g (lw_at lw_m6 138 rfl) rfl
theorem q1407 : (Jvm.Cond.soleField "LineEchoesModel" "drops") ∈ lw_all := lw_g (lw_at lw_m6 139 rfl) rfl
theorem q1408 : (Jvm.Cond.lays "LineEchoesModel" "LineEchoesModel" "contributions" "I") ∈ lw_all := lw_g (lw_at lw_m6 140 rfl) rfl
theorem q1409 : (Jvm.Cond.soleField "LineEchoesModel" "contributions") ∈ lw_all := lw_g (lw_at lw_m6 141 rfl) rfl
theorem q1410 : (Jvm.Cond.lays "LineEchoesModel" "LineEchoesModel" "packet" "J") ∈ lw_all := lw_g (lw_at lw_m6 142 rfl) rfl
theorem q1411 : (Jvm.Cond.soleField "LineEchoesModel" "packet") ∈ lw_all := lw_g (lw_at lw_m6 143 rfl) rfl
theorem q1412 : (Jvm.Cond.lays "LineEchoesModel" "LineEchoesModel" "peelResult" "I") ∈ lw_all := lw_g (lw_at lw_m6 144 rfl) rfl
theorem q1413 : (Jvm.Cond.soleField "LineEchoesModel" "peelResult") ∈ lw_all := lw_g (lw_at lw_m6 145 rfl) rfl
theorem q1414 : (Jvm.Cond.lays "LineEchoesModel" "LineEchoesModel" "peelTime" "I") ∈ lw_all := lw_g (lw_at lw_m6 146 rfl) rfl
theorem q1415 : (Jvm.Cond.soleField "LineEchoesModel" "peelTime") ∈ lw_all := lw_g (lw_at lw_m6 147 rfl) rfl
theorem q1416 : (Jvm.Cond.lays "LineEchoesModel" "LineEchoesModel" "peelSum" "I") ∈ lw_all := lw_g (lw_at lw_m6 148 rfl) rfl
theorem q1417 : (Jvm.Cond.soleField "LineEchoesModel" "peelSum") ∈ lw_all := lw_g (lw_at lw_m6 149 rfl) rfl
theorem q1418 : (Jvm.Cond.lays "LineEchoesModel" "LineEchoesModel" "at" "I") ∈ lw_all := lw_g (lw_at lw_m6 150 rfl) rfl
theorem q1419 : (Jvm.Cond.soleField "LineEchoesModel" "at") ∈ lw_all := lw_g (lw_at lw_m6 151 rfl) rfl
theorem q1420 : (Jvm.Cond.lays "LineEchoesModel" "LineEchoesModel" "commands" "I") ∈ lw_all := lw_g (lw_at lw_m6 152 rfl) rfl
theorem q1421 : (Jvm.Cond.soleField "LineEchoesModel" "commands") ∈ lw_all := lw_g (lw_at lw_m6 153 rfl) rfl
theorem q1422 : (Jvm.Cond.laysFinal "LineEchoesModel" "LineEchoesModel" "draft" "[I") ∈ lw_all := lw_g (lw_at lw_m6 154 rfl) rfl
theorem q1423 : (Jvm.Cond.soleField "LineEchoesModel" "draft") ∈ lw_all := lw_g (lw_at lw_m6 155 rfl) rfl
theorem q1424 : (Jvm.Cond.lays "LineEchoesModel" "LineEchoesModel" "hash" "J") ∈ lw_all := lw_g (lw_at lw_m6 156 rfl) rfl
theorem q1425 : (Jvm.Cond.soleField "LineEchoesModel" "hash") ∈ lw_all := lw_g (lw_at lw_m6 157 rfl) rfl
theorem q1426 : (Jvm.Cond.superclass "LineEchoesModel" "java/lang/Object") ∈ lw_all := lw_g (lw_at lw_m6 158 rfl) rfl
theorem q1428 : (Jvm.Cond.instanceMethod ({ cls := "LineEchoesModel", name := "thrown", desc := "()I" } : Jvm.MethodName)) ∈ lw_all := lw_g (lw_at lw_m6 160 rfl) rfl
theorem q1429 : (Jvm.Cond.selects "LineEchoesModel" ({ cls := "LineEchoesModel", name := "thrown", desc := "()I" } : Jvm.MethodName) ({ cls := "LineEchoesModel", name := "thrown", desc := "()I" } : Jvm.MethodName)) ∈ lw_all := lw_g (lw_at lw_m6 161 rfl) rfl
theorem q1430 : (Jvm.Cond.code ({ cls := "LineEchoesModel", name := "thrown", desc := "()I" } : Jvm.MethodName) prog_10_method_2_code (1 : Nat) (Option.some Jvm.ClassFile.FieldType.int)) ∈ lw_all := lw_g (lw_at lw_m6 162 rfl) rfl
theorem q1432 : (Jvm.Cond.instanceMethod ({ cls := "LineEchoesModel", name := "addPart", desc := "(II)I" } : Jvm.MethodName)) ∈ lw_all := lw_g (lw_at lw_m6 164 rfl) rfl
theorem q1433 : (Jvm.Cond.selects "LineEchoesModel" ({ cls := "LineEchoesModel", name := "addPart", desc := "(II)I" } : Jvm.MethodName) ({ cls := "LineEchoesModel", name := "addPart", desc := "(II)I" } : Jvm.MethodName)) ∈ lw_all := lw_g (lw_at lw_m6 165 rfl) rfl
theorem q1434 : (Jvm.Cond.code ({ cls := "LineEchoesModel", name := "addPart", desc := "(II)I" } : Jvm.MethodName) prog_10_method_21_code (3 : Nat) (Option.some Jvm.ClassFile.FieldType.int)) ∈ lw_all := lw_g (lw_at lw_m6 166 rfl) rfl
theorem q1435 : (Jvm.Cond.methodLink "LineEchoesModel" (130 : Nat) ({ cls := "LineEchoesModel", name := "whyNoPart", desc := "(II)I" } : Jvm.MethodName)) ∈ lw_all := lw_g (lw_at lw_m6 167 rfl) rfl
theorem q1436 : (Jvm.Cond.privateMethod ({ cls := "LineEchoesModel", name := "whyNoPart", desc := "(II)I" } : Jvm.MethodName)) ∈ lw_tbl := lw_at lw_m6 168 rfl
theorem q1437 : (Jvm.Cond.instanceMethod ({ cls := "LineEchoesModel", name := "whyNoPart", desc := "(II)I" } : Jvm.MethodName)) ∈ lw_all := lw_g (lw_at lw_m6 169 rfl) rfl
theorem q1438 : (Jvm.Cond.code ({ cls := "LineEchoesModel", name := "whyNoPart", desc := "(II)I" } : Jvm.MethodName) prog_10_method_19_code (3 : Nat) (Option.some Jvm.ClassFile.FieldType.int)) ∈ lw_all := lw_g (lw_at lw_m6 170 rfl) rfl
theorem q1439 : (Jvm.Cond.methodLink "LineEchoesModel" (122 : Nat) ({ cls := "LineEchoesModel", name := "arePartNumbers", desc := "(II)Z" } : Jvm.MethodName)) ∈ lw_all := lw_g (lw_at lw_m6 171 rfl) rfl
theorem q1440 : (Jvm.Cond.static ({ cls := "LineEchoesModel", name := "arePartNumbers", desc := "(II)Z" } : Jvm.MethodName)) ∈ lw_all := lw_g (lw_at lw_m6 172 rfl) rfl
theorem q1441 : (Jvm.Cond.code ({ cls := "LineEchoesModel", name := "arePartNumbers", desc := "(II)Z" } : Jvm.MethodName) prog_10_method_17_code (2 : Nat) (Option.some Jvm.ClassFile.FieldType.boolean)) ∈ lw_all := lw_g (lw_at lw_m6 173 rfl) rfl
theorem q1442 : (Jvm.Cond.constantLong "LineEchoesModel" (120 : Nat) (20 : Int64)) ∈ lw_all := lw_g (lw_at lw_m6 174 rfl) rfl
theorem q1443 : (Jvm.Cond.methodLink "LineEchoesModel" (59 : Nat) ({ cls := "LineEchoesModel", name := "in", desc := "(JJJ)Z" } : Jvm.MethodName)) ∈ lw_all := lw_g (lw_at lw_m6 175 rfl) rfl
theorem q1444 : (Jvm.Cond.static ({ cls := "LineEchoesModel", name := "in", desc := "(JJJ)Z" } : Jvm.MethodName)) ∈ lw_all := lw_g (lw_at lw_m6 176 rfl) rfl
theorem q1445 : (Jvm.Cond.code ({ cls := "LineEchoesModel", name := "in", desc := "(JJJ)Z" } : Jvm.MethodName) prog_10_method_3_code (6 : Nat) (Option.some Jvm.ClassFile.FieldType.boolean)) ∈ lw_all := lw_g (lw_at lw_m6 177 rfl) rfl
theorem q1446 : (Jvm.Cond.constantLong "LineEchoesModel" (82 : Nat) (1000 : Int64)) ∈ lw_all := lw_g (lw_at lw_m6 178 rfl) rfl
theorem q1447 : (Jvm.Cond.methodLink "LineEchoesModel" (55 : Nat) ({ cls := "LineEchoesModel", name := "parts", desc := "()I" } : Jvm.MethodName)) ∈ lw_all := lw_g (lw_at lw_m6 179 rfl) rfl
theorem q1448 : (Jvm.Cond.privateMethod ({ cls := "LineEchoesModel", name := "parts", desc := "()I" } : Jvm.MethodName)) ∈ lw_tbl := lw_at lw_m6 180 rfl
theorem q1449 : (Jvm.Cond.instanceMethod ({ cls := "LineEchoesModel", name := "parts", desc := "()I" } : Jvm.MethodName)) ∈ lw_all := lw_g (lw_at lw_m6 181 rfl) rfl
theorem q1450 : (Jvm.Cond.code ({ cls := "LineEchoesModel", name := "parts", desc := "()I" } : Jvm.MethodName) prog_10_method_5_code (1 : Nat) (Option.some Jvm.ClassFile.FieldType.int)) ∈ lw_all := lw_g (lw_at lw_m6 182 rfl) rfl
theorem q1451 : (Jvm.Cond.methodLink "LineEchoesModel" (134 : Nat) ({ cls := "LineEchoesModel", name := "keep", desc := "()V" } : Jvm.MethodName)) ∈ lw_all := lw_g (lw_at lw_m6 183 rfl) rfl
theorem q1452 : (Jvm.Cond.privateMethod ({ cls := "LineEchoesModel", name := "keep", desc := "()V" } : Jvm.MethodName)) ∈ lw_tbl := lw_at lw_m6 184 rfl
theorem q1453 : (Jvm.Cond.instanceMethod ({ cls := "LineEchoesModel", name := "keep", desc := "()V" } : Jvm.MethodName)) ∈ lw_all := lw_g (lw_at lw_m6 185 rfl) rfl
theorem q1454 : (Jvm.Cond.code ({ cls := "LineEchoesModel", name := "keep", desc := "()V" } : Jvm.MethodName) prog_10_method_4_code (2 : Nat) (Option.none : Option Jvm.ClassFile.FieldType)) ∈ lw_all := lw_g (lw_at lw_m6 186 rfl) rfl
theorem q1455 : (Jvm.Cond.methodLink "LineEchoesModel" (137 : Nat) ({ cls := "LineEchoesModel", name := "addsPart", desc := "(II)I" } : Jvm.MethodName)) ∈ lw_all := lw_g (lw_at lw_m6 187 rfl) rfl
theorem q1456 : (Jvm.Cond.privateMethod ({ cls := "LineEchoesModel", name := "addsPart", desc := "(II)I" } : Jvm.MethodName)) ∈ lw_tbl := lw_at lw_m6 188 rfl
theorem q1457 : (Jvm.Cond.instanceMethod ({ cls := "LineEchoesModel", name := "addsPart", desc := "(II)I" } : Jvm.MethodName)) ∈ lw_all := lw_g (lw_at lw_m6 189 rfl) rfl
theorem q1458 : (Jvm.Cond.code ({ cls := "LineEchoesModel", name := "addsPart", desc := "(II)I" } : Jvm.MethodName) prog_10_method_20_code (3 : Nat) (Option.some Jvm.ClassFile.FieldType.int)) ∈ lw_all := lw_g (lw_at lw_m6 190 rfl) rfl
theorem q1459 : (Jvm.Cond.methodLink "LineEchoesModel" (126 : Nat) ({ cls := "LineEchoesModel", name := "laysPart", desc := "(III)V" } : Jvm.MethodName)) ∈ lw_all := lw_g (lw_at lw_m6 191 rfl) rfl
theorem q1460 : (Jvm.Cond.privateMethod ({ cls := "LineEchoesModel", name := "laysPart", desc := "(III)V" } : Jvm.MethodName)) ∈ lw_tbl := lw_at lw_m6 192 rfl
theorem q1461 : (Jvm.Cond.instanceMethod ({ cls := "LineEchoesModel", name := "laysPart", desc := "(III)V" } : Jvm.MethodName)) ∈ lw_all := lw_g (lw_at lw_m6 193 rfl) rfl
theorem q1462 : (Jvm.Cond.code ({ cls := "LineEchoesModel", name := "laysPart", desc := "(III)V" } : Jvm.MethodName) prog_10_method_18_code (4 : Nat) (Option.none : Option Jvm.ClassFile.FieldType)) ∈ lw_all := lw_g (lw_at lw_m6 194 rfl) rfl
theorem q1464 : (Jvm.Cond.instanceMethod ({ cls := "LineEchoesModel", name := "setPart", desc := "(III)I" } : Jvm.MethodName)) ∈ lw_all := lw_g (lw_at lw_m6 196 rfl) rfl
theorem q1465 : (Jvm.Cond.selects "LineEchoesModel" ({ cls := "LineEchoesModel", name := "setPart", desc := "(III)I" } : Jvm.MethodName) ({ cls := "LineEchoesModel", name := "setPart", desc := "(III)I" } : Jvm.MethodName)) ∈ lw_all := lw_g (lw_at lw_m6 197 rfl) rfl
theorem q1466 : (Jvm.Cond.code ({ cls := "LineEchoesModel", name := "setPart", desc := "(III)I" } : Jvm.MethodName) prog_10_method_24_code (4 : Nat) (Option.some Jvm.ClassFile.FieldType.int)) ∈ lw_all := lw_g (lw_at lw_m6 198 rfl) rfl
theorem q1467 : (Jvm.Cond.methodLink "LineEchoesModel" (144 : Nat) ({ cls := "LineEchoesModel", name := "whyNotSet", desc := "(III)I" } : Jvm.MethodName)) ∈ lw_all := lw_g (lw_at lw_m6 199 rfl) rfl
theorem q1468 : (Jvm.Cond.privateMethod ({ cls := "LineEchoesModel", name := "whyNotSet", desc := "(III)I" } : Jvm.MethodName)) ∈ lw_tbl := lw_at lw_m6 200 rfl
theorem q1469 : (Jvm.Cond.instanceMethod ({ cls := "LineEchoesModel", name := "whyNotSet", desc := "(III)I" } : Jvm.MethodName)) ∈ lw_all := lw_g (lw_at lw_m6 201 rfl) rfl
theorem q1470 : (Jvm.Cond.code ({ cls := "LineEchoesModel", name := "whyNotSet", desc := "(III)I" } : Jvm.MethodName) prog_10_method_22_code (4 : Nat) (Option.some Jvm.ClassFile.FieldType.int)) ∈ lw_all := lw_g (lw_at lw_m6 202 rfl) rfl
theorem q1471 : (Jvm.Cond.methodLink "LineEchoesModel" (140 : Nat) ({ cls := "LineEchoesModel", name := "isPart", desc := "(I)Z" } : Jvm.MethodName)) ∈ lw_all := lw_g (lw_at lw_m6 203 rfl) rfl
theorem q1472 : (Jvm.Cond.privateMethod ({ cls := "LineEchoesModel", name := "isPart", desc := "(I)Z" } : Jvm.MethodName)) ∈ lw_tbl := lw_at lw_m6 204 rfl
theorem q1473 : (Jvm.Cond.instanceMethod ({ cls := "LineEchoesModel", name := "isPart", desc := "(I)Z" } : Jvm.MethodName)) ∈ lw_all := lw_g (lw_at lw_m6 205 rfl) rfl
theorem q1474 : (Jvm.Cond.code ({ cls := "LineEchoesModel", name := "isPart", desc := "(I)Z" } : Jvm.MethodName) prog_10_method_6_code (2 : Nat) (Option.some Jvm.ClassFile.FieldType.boolean)) ∈ lw_all := lw_g (lw_at lw_m6 206 rfl) rfl
theorem q1475 : (Jvm.Cond.methodLink "LineEchoesModel" (148 : Nat) ({ cls := "LineEchoesModel", name := "setsPart", desc := "(III)I" } : Jvm.MethodName)) ∈ lw_all := lw_g (lw_at lw_m6 207 rfl) rfl
theorem q1476 : (Jvm.Cond.privateMethod ({ cls := "LineEchoesModel", name := "setsPart", desc := "(III)I" } : Jvm.MethodName)) ∈ lw_tbl := lw_at lw_m6 208 rfl
theorem q1477 : (Jvm.Cond.instanceMethod ({ cls := "LineEchoesModel", name := "setsPart", desc := "(III)I" } : Jvm.MethodName)) ∈ lw_all := lw_g (lw_at lw_m6 209 rfl) rfl
theorem q1478 : (Jvm.Cond.code ({ cls := "LineEchoesModel", name := "setsPart", desc := "(III)I" } : Jvm.MethodName) prog_10_method_23_code (5 : Nat) (Option.some Jvm.ClassFile.FieldType.int)) ∈ lw_all := lw_g (lw_at lw_m6 210 rfl) rfl
theorem q1480 : (Jvm.Cond.instanceMethod ({ cls := "LineEchoesModel", name := "removePart", desc := "(I)I" } : Jvm.MethodName)) ∈ lw_all := lw_g (lw_at lw_m6 212 rfl) rfl
theorem q1481 : (Jvm.Cond.selects "LineEchoesModel" ({ cls := "LineEchoesModel", name := "removePart", desc := "(I)I" } : Jvm.MethodName) ({ cls := "LineEchoesModel", name := "removePart", desc := "(I)I" } : Jvm.MethodName)) ∈ lw_all := lw_g (lw_at lw_m6 213 rfl) rfl
theorem q1482 : (Jvm.Cond.code ({ cls := "LineEchoesModel", name := "removePart", desc := "(I)I" } : Jvm.MethodName) prog_10_method_26_code (2 : Nat) (Option.some Jvm.ClassFile.FieldType.int)) ∈ lw_all := lw_g (lw_at lw_m6 214 rfl) rfl
theorem q1483 : (Jvm.Cond.methodLink "LineEchoesModel" (151 : Nat) ({ cls := "LineEchoesModel", name := "removesPart", desc := "(I)I" } : Jvm.MethodName)) ∈ lw_all := lw_g (lw_at lw_m6 215 rfl) rfl
theorem q1484 : (Jvm.Cond.privateMethod ({ cls := "LineEchoesModel", name := "removesPart", desc := "(I)I" } : Jvm.MethodName)) ∈ lw_tbl := lw_at lw_m6 216 rfl
theorem q1485 : (Jvm.Cond.instanceMethod ({ cls := "LineEchoesModel", name := "removesPart", desc := "(I)I" } : Jvm.MethodName)) ∈ lw_all := lw_g (lw_at lw_m6 217 rfl) rfl
theorem q1486 : (Jvm.Cond.code ({ cls := "LineEchoesModel", name := "removesPart", desc := "(I)I" } : Jvm.MethodName) prog_10_method_25_code (3 : Nat) (Option.some Jvm.ClassFile.FieldType.int)) ∈ lw_all := lw_g (lw_at lw_m6 218 rfl) rfl
theorem q1488 : (Jvm.Cond.instanceMethod ({ cls := "LineEchoesModel", name := "splitPart", desc := "(III)I" } : Jvm.MethodName)) ∈ lw_all := lw_g (lw_at lw_m6 220 rfl) rfl
theorem q1489 : (Jvm.Cond.selects "LineEchoesModel" ({ cls := "LineEchoesModel", name := "splitPart", desc := "(III)I" } : Jvm.MethodName) ({ cls := "LineEchoesModel", name := "splitPart", desc := "(III)I" } : Jvm.MethodName)) ∈ lw_all := lw_g (lw_at lw_m6 221 rfl) rfl
theorem q1490 : (Jvm.Cond.code ({ cls := "LineEchoesModel", name := "splitPart", desc := "(III)I" } : Jvm.MethodName) prog_10_method_29_code (4 : Nat) (Option.some Jvm.ClassFile.FieldType.int)) ∈ lw_all := lw_g (lw_at lw_m6 222 rfl) rfl
theorem q1491 : (Jvm.Cond.methodLink "LineEchoesModel" (155 : Nat) ({ cls := "LineEchoesModel", name := "whyNotSplit", desc := "(III)I" } : Jvm.MethodName)) ∈ lw_all := lw_g (lw_at lw_m6 223 rfl) rfl
theorem q1492 : (Jvm.Cond.privateMethod ({ cls := "LineEchoesModel", name := "whyNotSplit", desc := "(III)I" } : Jvm.MethodName)) ∈ lw_tbl := lw_at lw_m6 224 rfl
theorem q1493 : (Jvm.Cond.instanceMethod ({ cls := "LineEchoesModel", name := "whyNotSplit", desc := "(III)I" } : Jvm.MethodName)) ∈ lw_all := lw_g (lw_at lw_m6 225 rfl) rfl
theorem q1494 : (Jvm.Cond.code ({ cls := "LineEchoesModel", name := "whyNotSplit", desc := "(III)I" } : Jvm.MethodName) prog_10_method_27_code (4 : Nat) (Option.some Jvm.ClassFile.FieldType.int)) ∈ lw_all := lw_g (lw_at lw_m6 226 rfl) rfl
theorem q1495 : (Jvm.Cond.methodLink "LineEchoesModel" (158 : Nat) ({ cls := "LineEchoesModel", name := "splitsPart", desc := "(III)I" } : Jvm.MethodName)) ∈ lw_all := lw_g (lw_at lw_m6 227 rfl) rfl
theorem q1496 : (Jvm.Cond.privateMethod ({ cls := "LineEchoesModel", name := "splitsPart", desc := "(III)I" } : Jvm.MethodName)) ∈ lw_tbl := lw_at lw_m6 228 rfl
theorem q1497 : (Jvm.Cond.instanceMethod ({ cls := "LineEchoesModel", name := "splitsPart", desc := "(III)I" } : Jvm.MethodName)) ∈ lw_all := lw_g (lw_at lw_m6 229 rfl) rfl
theorem q1498 : (Jvm.Cond.code ({ cls := "LineEchoesModel", name := "splitsPart", desc := "(III)I" } : Jvm.MethodName) prog_10_method_28_code (5 : Nat) (Option.some Jvm.ClassFile.FieldType.int)) ∈ lw_all := lw_g (lw_at lw_m6 230 rfl) rfl
theorem q1500 : (Jvm.Cond.instanceMethod ({ cls := "LineEchoesModel", name := "reverse", desc := "()I" } : Jvm.MethodName)) ∈ lw_all := lw_g (lw_at lw_m6 232 rfl) rfl
theorem q1501 : (Jvm.Cond.selects "LineEchoesModel" ({ cls := "LineEchoesModel", name := "reverse", desc := "()I" } : Jvm.MethodName) ({ cls := "LineEchoesModel", name := "reverse", desc := "()I" } : Jvm.MethodName)) ∈ lw_all := lw_g (lw_at lw_m6 233 rfl) rfl
theorem q1502 : (Jvm.Cond.code ({ cls := "LineEchoesModel", name := "reverse", desc := "()I" } : Jvm.MethodName) prog_10_method_32_code (3 : Nat) (Option.some Jvm.ClassFile.FieldType.int)) ∈ lw_all := lw_g (lw_at lw_m6 234 rfl) rfl
theorem q1503 : (Jvm.Cond.methodLink "LineEchoesModel" (161 : Nat) ({ cls := "LineEchoesModel", name := "exchange", desc := "(II)V" } : Jvm.MethodName)) ∈ lw_all := lw_g (lw_at lw_m6 235 rfl) rfl
theorem q1504 : (Jvm.Cond.privateMethod ({ cls := "LineEchoesModel", name := "exchange", desc := "(II)V" } : Jvm.MethodName)) ∈ lw_tbl := lw_at lw_m6 236 rfl
theorem q1505 : (Jvm.Cond.instanceMethod ({ cls := "LineEchoesModel", name := "exchange", desc := "(II)V" } : Jvm.MethodName)) ∈ lw_all := lw_g (lw_at lw_m6 237 rfl) rfl
theorem q1506 : (Jvm.Cond.code ({ cls := "LineEchoesModel", name := "exchange", desc := "(II)V" } : Jvm.MethodName) prog_10_method_31_code (5 : Nat) (Option.none : Option Jvm.ClassFile.FieldType)) ∈ lw_all := lw_g (lw_at lw_m6 238 rfl) rfl
theorem q1507 : (Jvm.Cond.methodLink "LineEchoesModel" (164 : Nat) ({ cls := "LineEchoesModel", name := "sumOfLengths", desc := "()I" } : Jvm.MethodName)) ∈ lw_all := lw_g (lw_at lw_m6 239 rfl) rfl
theorem q1508 : (Jvm.Cond.privateMethod ({ cls := "LineEchoesModel", name := "sumOfLengths", desc := "()I" } : Jvm.MethodName)) ∈ lw_tbl := lw_at lw_m7 0 rfl
theorem q1509 : (Jvm.Cond.instanceMethod ({ cls := "LineEchoesModel", name := "sumOfLengths", desc := "()I" } : Jvm.MethodName)) ∈ lw_all := lw_g (lw_at lw_m7 1 rfl) rfl
theorem q1510 : (Jvm.Cond.code ({ cls := "LineEchoesModel", name := "sumOfLengths", desc := "()I" } : Jvm.MethodName) prog_10_method_30_code (3 : Nat) (Option.some Jvm.ClassFile.FieldType.int)) ∈ lw_all := lw_g (lw_at lw_m7 2 rfl) rfl
theorem q1512 : (Jvm.Cond.instanceMethod ({ cls := "LineEchoesModel", name := "setBench", desc := "(III)I" } : Jvm.MethodName)) ∈ lw_all := lw_g (lw_at lw_m7 4 rfl) rfl
theorem q1513 : (Jvm.Cond.selects "LineEchoesModel" ({ cls := "LineEchoesModel", name := "setBench", desc := "(III)I" } : Jvm.MethodName) ({ cls := "LineEchoesModel", name := "setBench", desc := "(III)I" } : Jvm.MethodName)) ∈ lw_all := lw_g (lw_at lw_m7 5 rfl) rfl
theorem q1514 : (Jvm.Cond.code ({ cls := "LineEchoesModel", name := "setBench", desc := "(III)I" } : Jvm.MethodName) prog_10_method_33_code (5 : Nat) (Option.some Jvm.ClassFile.FieldType.int)) ∈ lw_all := lw_g (lw_at lw_m7 6 rfl) rfl
theorem q1515 : (Jvm.Cond.constantLong "LineEchoesModel" (167 : Nat) (999 : Int64)) ∈ lw_all := lw_g (lw_at lw_m7 7 rfl) rfl
theorem q1516 : (Jvm.Cond.constantLong "LineEchoesModel" (169 : Nat) (200 : Int64)) ∈ lw_all := lw_g (lw_at lw_m7 8 rfl) rfl
theorem q1517 : (Jvm.Cond.methodLink "LineEchoesModel" (110 : Nat) ({ cls := "LineEchoesModel", name := "window", desc := "()I" } : Jvm.MethodName)) ∈ lw_all := lw_g (lw_at lw_m7 9 rfl) rfl
theorem q1518 : (Jvm.Cond.privateMethod ({ cls := "LineEchoesModel", name := "window", desc := "()I" } : Jvm.MethodName)) ∈ lw_tbl := lw_at lw_m7 10 rfl
theorem q1519 : (Jvm.Cond.instanceMethod ({ cls := "LineEchoesModel", name := "window", desc := "()I" } : Jvm.MethodName)) ∈ lw_all := lw_g (lw_at lw_m7 11 rfl) rfl
theorem q1520 : (Jvm.Cond.code ({ cls := "LineEchoesModel", name := "window", desc := "()I" } : Jvm.MethodName) prog_10_method_7_code (1 : Nat) (Option.some Jvm.ClassFile.FieldType.int)) ∈ lw_all := lw_g (lw_at lw_m7 12 rfl) rfl
theorem q1522 : (Jvm.Cond.instanceMethod ({ cls := "LineEchoesModel", name := "addPulse", desc := "(II)I" } : Jvm.MethodName)) ∈ lw_all := lw_g (lw_at lw_m7 14 rfl) rfl
theorem q1523 : (Jvm.Cond.selects "LineEchoesModel" ({ cls := "LineEchoesModel", name := "addPulse", desc := "(II)I" } : Jvm.MethodName) ({ cls := "LineEchoesModel", name := "addPulse", desc := "(II)I" } : Jvm.MethodName)) ∈ lw_all := lw_g (lw_at lw_m7 15 rfl) rfl
theorem q1524 : (Jvm.Cond.code ({ cls := "LineEchoesModel", name := "addPulse", desc := "(II)I" } : Jvm.MethodName) prog_10_method_36_code (3 : Nat) (Option.some Jvm.ClassFile.FieldType.int)) ∈ lw_all := lw_g (lw_at lw_m7 16 rfl) rfl
theorem q1525 : (Jvm.Cond.methodLink "LineEchoesModel" (175 : Nat) ({ cls := "LineEchoesModel", name := "whyNoPulse", desc := "(II)I" } : Jvm.MethodName)) ∈ lw_all := lw_g (lw_at lw_m7 17 rfl) rfl
theorem q1526 : (Jvm.Cond.privateMethod ({ cls := "LineEchoesModel", name := "whyNoPulse", desc := "(II)I" } : Jvm.MethodName)) ∈ lw_tbl := lw_at lw_m7 18 rfl
theorem q1527 : (Jvm.Cond.instanceMethod ({ cls := "LineEchoesModel", name := "whyNoPulse", desc := "(II)I" } : Jvm.MethodName)) ∈ lw_all := lw_g (lw_at lw_m7 19 rfl) rfl
theorem q1528 : (Jvm.Cond.code ({ cls := "LineEchoesModel", name := "whyNoPulse", desc := "(II)I" } : Jvm.MethodName) prog_10_method_34_code (3 : Nat) (Option.some Jvm.ClassFile.FieldType.int)) ∈ lw_all := lw_g (lw_at lw_m7 20 rfl) rfl
theorem q1529 : (Jvm.Cond.constantLong "LineEchoesModel" (171 : Nat) (1000000 : Int64)) ∈ lw_all := lw_g (lw_at lw_m7 21 rfl) rfl
theorem q1530 : (Jvm.Cond.constantLong "LineEchoesModel" (173 : Nat) (4 : Int64)) ∈ lw_all := lw_g (lw_at lw_m7 22 rfl) rfl
theorem q1531 : (Jvm.Cond.methodLink "LineEchoesModel" (178 : Nat) ({ cls := "LineEchoesModel", name := "addsPulse", desc := "(II)I" } : Jvm.MethodName)) ∈ lw_all := lw_g (lw_at lw_m7 23 rfl) rfl
theorem q1532 : (Jvm.Cond.privateMethod ({ cls := "LineEchoesModel", name := "addsPulse", desc := "(II)I" } : Jvm.MethodName)) ∈ lw_tbl := lw_at lw_m7 24 rfl
theorem q1533 : (Jvm.Cond.instanceMethod ({ cls := "LineEchoesModel", name := "addsPulse", desc := "(II)I" } : Jvm.MethodName)) ∈ lw_all := lw_g (lw_at lw_m7 25 rfl) rfl
theorem q1534 : (Jvm.Cond.code ({ cls := "LineEchoesModel", name := "addsPulse", desc := "(II)I" } : Jvm.MethodName) prog_10_method_35_code (4 : Nat) (Option.some Jvm.ClassFile.FieldType.int)) ∈ lw_all := lw_g (lw_at lw_m7 26 rfl) rfl
theorem q1536 : (Jvm.Cond.instanceMethod ({ cls := "LineEchoesModel", name := "removePulse", desc := "(I)I" } : Jvm.MethodName)) ∈ lw_all := lw_g (lw_at lw_m7 28 rfl) rfl
theorem q1537 : (Jvm.Cond.selects "LineEchoesModel" ({ cls := "LineEchoesModel", name := "removePulse", desc := "(I)I" } : Jvm.MethodName) ({ cls := "LineEchoesModel", name := "removePulse", desc := "(I)I" } : Jvm.MethodName)) ∈ lw_all := lw_g (lw_at lw_m7 29 rfl) rfl
theorem q1538 : (Jvm.Cond.code ({ cls := "LineEchoesModel", name := "removePulse", desc := "(I)I" } : Jvm.MethodName) prog_10_method_37_code (3 : Nat) (Option.some Jvm.ClassFile.FieldType.int)) ∈ lw_all := lw_g (lw_at lw_m7 30 rfl) rfl
theorem q1539 : (Jvm.Cond.constantLong "LineEchoesModel" (181 : Nat) (21 : Int64)) ∈ lw_all := lw_g (lw_at lw_m7 31 rfl) rfl
theorem q1540 : (Jvm.Cond.constantLong "LineEchoesModel" (183 : Nat) (2 : Int64)) ∈ lw_all := lw_g (lw_at lw_m7 32 rfl) rfl
theorem q1542 : (Jvm.Cond.instanceMethod ({ cls := "LineEchoesModel", name := "part", desc := "(II)I" } : Jvm.MethodName)) ∈ lw_all := lw_g (lw_at lw_m7 34 rfl) rfl
theorem q1543 : (Jvm.Cond.selects "LineEchoesModel" ({ cls := "LineEchoesModel", name := "part", desc := "(II)I" } : Jvm.MethodName) ({ cls := "LineEchoesModel", name := "part", desc := "(II)I" } : Jvm.MethodName)) ∈ lw_all := lw_g (lw_at lw_m7 35 rfl) rfl
theorem q1544 : (Jvm.Cond.code ({ cls := "LineEchoesModel", name := "part", desc := "(II)I" } : Jvm.MethodName) prog_10_method_39_code (3 : Nat) (Option.some Jvm.ClassFile.FieldType.int)) ∈ lw_all := lw_g (lw_at lw_m7 36 rfl) rfl
theorem q1545 : (Jvm.Cond.methodLink "LineEchoesModel" (185 : Nat) ({ cls := "LineEchoesModel", name := "upTo", desc := "(I)I" } : Jvm.MethodName)) ∈ lw_all := lw_g (lw_at lw_m7 37 rfl) rfl
theorem q1546 : (Jvm.Cond.privateMethod ({ cls := "LineEchoesModel", name := "upTo", desc := "(I)I" } : Jvm.MethodName)) ∈ lw_tbl := lw_at lw_m7 38 rfl
theorem q1547 : (Jvm.Cond.instanceMethod ({ cls := "LineEchoesModel", name := "upTo", desc := "(I)I" } : Jvm.MethodName)) ∈ lw_all := lw_g (lw_at lw_m7 39 rfl) rfl
theorem q1548 : (Jvm.Cond.code ({ cls := "LineEchoesModel", name := "upTo", desc := "(I)I" } : Jvm.MethodName) prog_10_method_38_code (4 : Nat) (Option.some Jvm.ClassFile.FieldType.int)) ∈ lw_all := lw_g (lw_at lw_m7 40 rfl) rfl
theorem q1550 : (Jvm.Cond.instanceMethod ({ cls := "LineEchoesModel", name := "bench", desc := "(I)I" } : Jvm.MethodName)) ∈ lw_all := lw_g (lw_at lw_m7 42 rfl) rfl
theorem q1551 : (Jvm.Cond.selects "LineEchoesModel" ({ cls := "LineEchoesModel", name := "bench", desc := "(I)I" } : Jvm.MethodName) ({ cls := "LineEchoesModel", name := "bench", desc := "(I)I" } : Jvm.MethodName)) ∈ lw_all := lw_g (lw_at lw_m7 43 rfl) rfl
theorem q1552 : (Jvm.Cond.code ({ cls := "LineEchoesModel", name := "bench", desc := "(I)I" } : Jvm.MethodName) prog_10_method_41_code (2 : Nat) (Option.some Jvm.ClassFile.FieldType.int)) ∈ lw_all := lw_g (lw_at lw_m7 44 rfl) rfl
theorem q1553 : (Jvm.Cond.constantLong "LineEchoesModel" (188 : Nat) (5 : Int64)) ∈ lw_all := lw_g (lw_at lw_m7 45 rfl) rfl
theorem q1554 : (Jvm.Cond.methodLink "LineEchoesModel" (190 : Nat) ({ cls := "LineEchoesModel", name := "benchOf", desc := "(I)I" } : Jvm.MethodName)) ∈ lw_all := lw_g (lw_at lw_m7 46 rfl) rfl
theorem q1555 : (Jvm.Cond.privateMethod ({ cls := "LineEchoesModel", name := "benchOf", desc := "(I)I" } : Jvm.MethodName)) ∈ lw_tbl := lw_at lw_m7 47 rfl
theorem q1556 : (Jvm.Cond.instanceMethod ({ cls := "LineEchoesModel", name := "benchOf", desc := "(I)I" } : Jvm.MethodName)) ∈ lw_all := lw_g (lw_at lw_m7 48 rfl) rfl
theorem q1557 : (Jvm.Cond.code ({ cls := "LineEchoesModel", name := "benchOf", desc := "(I)I" } : Jvm.MethodName) prog_10_method_40_code (2 : Nat) (Option.some Jvm.ClassFile.FieldType.int)) ∈ lw_all := lw_g (lw_at lw_m7 49 rfl) rfl
theorem q1559 : (Jvm.Cond.instanceMethod ({ cls := "LineEchoesModel", name := "echo", desc := "(I)J" } : Jvm.MethodName)) ∈ lw_all := lw_g (lw_at lw_m7 51 rfl) rfl
theorem q1560 : (Jvm.Cond.selects "LineEchoesModel" ({ cls := "LineEchoesModel", name := "echo", desc := "(I)J" } : Jvm.MethodName) ({ cls := "LineEchoesModel", name := "echo", desc := "(I)J" } : Jvm.MethodName)) ∈ lw_all := lw_g (lw_at lw_m7 52 rfl) rfl
theorem q1561 : (Jvm.Cond.code ({ cls := "LineEchoesModel", name := "echo", desc := "(I)J" } : Jvm.MethodName) prog_10_method_42_code (2 : Nat) (Option.some Jvm.ClassFile.FieldType.long)) ∈ lw_all := lw_g (lw_at lw_m7 53 rfl) rfl
theorem q1562 : (Jvm.Cond.methodLink "LineEchoesModel" (193 : Nat) ({ cls := "LineEchoesModel", name := "runPresent", desc := "()V" } : Jvm.MethodName)) ∈ lw_all := lw_g (lw_at lw_m7 54 rfl) rfl
theorem q1563 : (Jvm.Cond.privateMethod ({ cls := "LineEchoesModel", name := "runPresent", desc := "()V" } : Jvm.MethodName)) ∈ lw_tbl := lw_at lw_m7 55 rfl
theorem q1564 : (Jvm.Cond.instanceMethod ({ cls := "LineEchoesModel", name := "runPresent", desc := "()V" } : Jvm.MethodName)) ∈ lw_all := lw_g (lw_at lw_m7 56 rfl) rfl
theorem q1565 : (Jvm.Cond.code ({ cls := "LineEchoesModel", name := "runPresent", desc := "()V" } : Jvm.MethodName) prog_10_method_15_code (2 : Nat) (Option.none : Option Jvm.ClassFile.FieldType)) ∈ lw_all := lw_g (lw_at lw_m7 57 rfl) rfl
theorem q1566 : (Jvm.Cond.methodLink "LineEchoesModel" (117 : Nat) ({ cls := "LineEchoesModel", name := "runLine", desc := "()V" } : Jvm.MethodName)) ∈ lw_all := lw_g (lw_at lw_m7 58 rfl) rfl
theorem q1567 : (Jvm.Cond.privateMethod ({ cls := "LineEchoesModel", name := "runLine", desc := "()V" } : Jvm.MethodName)) ∈ lw_tbl := lw_at lw_m7 59 rfl
theorem q1568 : (Jvm.Cond.instanceMethod ({ cls := "LineEchoesModel", name := "runLine", desc := "()V" } : Jvm.MethodName)) ∈ lw_all := lw_g (lw_at lw_m7 60 rfl) rfl
theorem q1569 : (Jvm.Cond.code ({ cls := "LineEchoesModel", name := "runLine", desc := "()V" } : Jvm.MethodName) prog_10_method_14_code (3 : Nat) (Option.none : Option Jvm.ClassFile.FieldType)) ∈ lw_all := lw_g (lw_at lw_m7 61 rfl) rfl
theorem q1570 : (Jvm.Cond.methodLink "LineEchoesModel" (99 : Nat) ({ cls := "LineEchoesModel", name := "passPulses", desc := "(I)V" } : Jvm.MethodName)) ∈ lw_all := lw_g (lw_at lw_m7 62 rfl) rfl
theorem q1571 : (Jvm.Cond.privateMethod ({ cls := "LineEchoesModel", name := "passPulses", desc := "(I)V" } : Jvm.MethodName)) ∈ lw_tbl := lw_at lw_m7 63 rfl
theorem q1572 : (Jvm.Cond.instanceMethod ({ cls := "LineEchoesModel", name := "passPulses", desc := "(I)V" } : Jvm.MethodName)) ∈ lw_all := lw_g (lw_at lw_m7 64 rfl) rfl
theorem q1573 : (Jvm.Cond.code ({ cls := "LineEchoesModel", name := "passPulses", desc := "(I)V" } : Jvm.MethodName) prog_10_method_12_code (3 : Nat) (Option.none : Option Jvm.ClassFile.FieldType)) ∈ lw_all := lw_g (lw_at lw_m7 65 rfl) rfl
theorem q1574 : (Jvm.Cond.methodLink "LineEchoesModel" (87 : Nat) ({ cls := "LineEchoesModel", name := "contribute", desc := "(J)V" } : Jvm.MethodName)) ∈ lw_all := lw_g (lw_at lw_m7 66 rfl) rfl
theorem q1575 : (Jvm.Cond.privateMethod ({ cls := "LineEchoesModel", name := "contribute", desc := "(J)V" } : Jvm.MethodName)) ∈ lw_tbl := lw_at lw_m7 67 rfl
theorem q1576 : (Jvm.Cond.instanceMethod ({ cls := "LineEchoesModel", name := "contribute", desc := "(J)V" } : Jvm.MethodName)) ∈ lw_all := lw_g (lw_at lw_m7 68 rfl) rfl
theorem q1577 : (Jvm.Cond.code ({ cls := "LineEchoesModel", name := "contribute", desc := "(J)V" } : Jvm.MethodName) prog_10_method_8_code (3 : Nat) (Option.none : Option Jvm.ClassFile.FieldType)) ∈ lw_all := lw_g (lw_at lw_m7 69 rfl) rfl
theorem q1578 : (Jvm.Cond.methodLink "LineEchoesModel" (113 : Nat) ({ cls := "LineEchoesModel", name := "runAt", desc := "(II)V" } : Jvm.MethodName)) ∈ lw_all := lw_g (lw_at lw_m7 70 rfl) rfl
theorem q1579 : (Jvm.Cond.privateMethod ({ cls := "LineEchoesModel", name := "runAt", desc := "(II)V" } : Jvm.MethodName)) ∈ lw_tbl := lw_at lw_m7 71 rfl
theorem q1580 : (Jvm.Cond.instanceMethod ({ cls := "LineEchoesModel", name := "runAt", desc := "(II)V" } : Jvm.MethodName)) ∈ lw_all := lw_g (lw_at lw_m7 72 rfl) rfl
theorem q1581 : (Jvm.Cond.code ({ cls := "LineEchoesModel", name := "runAt", desc := "(II)V" } : Jvm.MethodName) prog_10_method_13_code (11 : Nat) (Option.none : Option Jvm.ClassFile.FieldType)) ∈ lw_all := lw_g (lw_at lw_m7 73 rfl) rfl
theorem q1582 : (Jvm.Cond.methodLink "LineEchoesModel" (91 : Nat) ({ cls := "LineEchoesModel", name := "arrives", desc := "(IIZ)J" } : Jvm.MethodName)) ∈ lw_all := lw_g (lw_at lw_m7 74 rfl) rfl
theorem q1583 : (Jvm.Cond.privateMethod ({ cls := "LineEchoesModel", name := "arrives", desc := "(IIZ)J" } : Jvm.MethodName)) ∈ lw_tbl := lw_at lw_m7 75 rfl
theorem q1584 : (Jvm.Cond.instanceMethod ({ cls := "LineEchoesModel", name := "arrives", desc := "(IIZ)J" } : Jvm.MethodName)) ∈ lw_all := lw_g (lw_at lw_m7 76 rfl) rfl
theorem q1585 : (Jvm.Cond.code ({ cls := "LineEchoesModel", name := "arrives", desc := "(IIZ)J" } : Jvm.MethodName) prog_10_method_10_code (6 : Nat) (Option.some Jvm.ClassFile.FieldType.long)) ∈ lw_all := lw_g (lw_at lw_m7 77 rfl) rfl
theorem q1586 : (Jvm.Cond.methodLink "LineEchoesModel" (95 : Nat) ({ cls := "LineEchoesModel", name := "back", desc := "(JI)J" } : Jvm.MethodName)) ∈ lw_all := lw_g (lw_at lw_m7 78 rfl) rfl
theorem q1587 : (Jvm.Cond.privateMethod ({ cls := "LineEchoesModel", name := "back", desc := "(JI)J" } : Jvm.MethodName)) ∈ lw_tbl := lw_at lw_m7 79 rfl
theorem q1588 : (Jvm.Cond.instanceMethod ({ cls := "LineEchoesModel", name := "back", desc := "(JI)J" } : Jvm.MethodName)) ∈ lw_all := lw_g (lw_at lw_m7 80 rfl) rfl
theorem q1589 : (Jvm.Cond.code ({ cls := "LineEchoesModel", name := "back", desc := "(JI)J" } : Jvm.MethodName) prog_10_method_11_code (4 : Nat) (Option.some Jvm.ClassFile.FieldType.long)) ∈ lw_all := lw_g (lw_at lw_m7 81 rfl) rfl
theorem q1590 : (Jvm.Cond.methodLink "LineEchoesModel" (103 : Nat) ({ cls := "LineEchoesModel", name := "setsOut", desc := "()J" } : Jvm.MethodName)) ∈ lw_all := lw_g (lw_at lw_m7 82 rfl) rfl
theorem q1591 : (Jvm.Cond.privateMethod ({ cls := "LineEchoesModel", name := "setsOut", desc := "()J" } : Jvm.MethodName)) ∈ lw_tbl := lw_at lw_m7 83 rfl
theorem q1592 : (Jvm.Cond.instanceMethod ({ cls := "LineEchoesModel", name := "setsOut", desc := "()J" } : Jvm.MethodName)) ∈ lw_all := lw_g (lw_at lw_m7 84 rfl) rfl
theorem q1593 : (Jvm.Cond.code ({ cls := "LineEchoesModel", name := "setsOut", desc := "()J" } : Jvm.MethodName) prog_10_method_9_code (3 : Nat) (Option.some Jvm.ClassFile.FieldType.long)) ∈ lw_all := lw_g (lw_at lw_m7 85 rfl) rfl
theorem q1595 : (Jvm.Cond.instanceMethod ({ cls := "LineEchoesModel", name := "echoTime", desc := "(I)I" } : Jvm.MethodName)) ∈ lw_all := lw_g (lw_at lw_m7 87 rfl) rfl
theorem q1596 : (Jvm.Cond.selects "LineEchoesModel" ({ cls := "LineEchoesModel", name := "echoTime", desc := "(I)I" } : Jvm.MethodName) ({ cls := "LineEchoesModel", name := "echoTime", desc := "(I)I" } : Jvm.MethodName)) ∈ lw_all := lw_g (lw_at lw_m7 88 rfl) rfl
theorem q1597 : (Jvm.Cond.code ({ cls := "LineEchoesModel", name := "echoTime", desc := "(I)I" } : Jvm.MethodName) prog_10_method_43_code (4 : Nat) (Option.some Jvm.ClassFile.FieldType.int)) ∈ lw_all := lw_g (lw_at lw_m7 89 rfl) rfl
theorem q1599 : (Jvm.Cond.instanceMethod ({ cls := "LineEchoesModel", name := "total", desc := "(I)J" } : Jvm.MethodName)) ∈ lw_all := lw_g (lw_at lw_m7 91 rfl) rfl
theorem q1600 : (Jvm.Cond.selects "LineEchoesModel" ({ cls := "LineEchoesModel", name := "total", desc := "(I)J" } : Jvm.MethodName) ({ cls := "LineEchoesModel", name := "total", desc := "(I)J" } : Jvm.MethodName)) ∈ lw_all := lw_g (lw_at lw_m7 92 rfl) rfl
theorem q1601 : (Jvm.Cond.code ({ cls := "LineEchoesModel", name := "total", desc := "(I)J" } : Jvm.MethodName) prog_10_method_45_code (2 : Nat) (Option.some Jvm.ClassFile.FieldType.long)) ∈ lw_all := lw_g (lw_at lw_m7 93 rfl) rfl
theorem q1602 : (Jvm.Cond.constantLong "LineEchoesModel" (199 : Nat) (8 : Int64)) ∈ lw_all := lw_g (lw_at lw_m7 94 rfl) rfl
theorem q1603 : (Jvm.Cond.methodLink "LineEchoesModel" (201 : Nat) ({ cls := "LineEchoesModel", name := "totalOf", desc := "(I)J" } : Jvm.MethodName)) ∈ lw_all := lw_g (lw_at lw_m7 95 rfl) rfl
theorem q1604 : (Jvm.Cond.privateMethod ({ cls := "LineEchoesModel", name := "totalOf", desc := "(I)J" } : Jvm.MethodName)) ∈ lw_tbl := lw_at lw_m7 96 rfl
theorem q1605 : (Jvm.Cond.instanceMethod ({ cls := "LineEchoesModel", name := "totalOf", desc := "(I)J" } : Jvm.MethodName)) ∈ lw_all := lw_g (lw_at lw_m7 97 rfl) rfl
theorem q1606 : (Jvm.Cond.code ({ cls := "LineEchoesModel", name := "totalOf", desc := "(I)J" } : Jvm.MethodName) prog_10_method_44_code (10 : Nat) (Option.some Jvm.ClassFile.FieldType.long)) ∈ lw_all := lw_g (lw_at lw_m7 98 rfl) rfl
theorem q1607 : (Jvm.Cond.methodLink "LineEchoesModel" (196 : Nat) ({ cls := "LineEchoesModel", name := "underWay", desc := "()J" } : Jvm.MethodName)) ∈ lw_all := lw_g (lw_at lw_m7 99 rfl) rfl
theorem q1608 : (Jvm.Cond.privateMethod ({ cls := "LineEchoesModel", name := "underWay", desc := "()J" } : Jvm.MethodName)) ∈ lw_tbl := lw_at lw_m7 100 rfl
theorem q1609 : (Jvm.Cond.instanceMethod ({ cls := "LineEchoesModel", name := "underWay", desc := "()J" } : Jvm.MethodName)) ∈ lw_all := lw_g (lw_at lw_m7 101 rfl) rfl
theorem q1610 : (Jvm.Cond.code ({ cls := "LineEchoesModel", name := "underWay", desc := "()J" } : Jvm.MethodName) prog_10_method_16_code (6 : Nat) (Option.some Jvm.ClassFile.FieldType.long)) ∈ lw_all := lw_g (lw_at lw_m7 102 rfl) rfl
theorem q1612 : (Jvm.Cond.instanceMethod ({ cls := "LineEchoesModel", name := "arrival", desc := "(IIZ)J" } : Jvm.MethodName)) ∈ lw_all := lw_g (lw_at lw_m7 104 rfl) rfl
theorem q1613 : (Jvm.Cond.selects "LineEchoesModel" ({ cls := "LineEchoesModel", name := "arrival", desc := "(IIZ)J" } : Jvm.MethodName) ({ cls := "LineEchoesModel", name := "arrival", desc := "(IIZ)J" } : Jvm.MethodName)) ∈ lw_all := lw_g (lw_at lw_m7 105 rfl) rfl
theorem q1614 : (Jvm.Cond.code ({ cls := "LineEchoesModel", name := "arrival", desc := "(IIZ)J" } : Jvm.MethodName) prog_10_method_46_code (4 : Nat) (Option.some Jvm.ClassFile.FieldType.long)) ∈ lw_all := lw_g (lw_at lw_m7 106 rfl) rfl
theorem q1616 : (Jvm.Cond.instanceMethod ({ cls := "LineEchoesModel", name := "echoByte", desc := "(I)I" } : Jvm.MethodName)) ∈ lw_all := lw_g (lw_at lw_m7 108 rfl) rfl
theorem q1617 : (Jvm.Cond.selects "LineEchoesModel" ({ cls := "LineEchoesModel", name := "echoByte", desc := "(I)I" } : Jvm.MethodName) ({ cls := "LineEchoesModel", name := "echoByte", desc := "(I)I" } : Jvm.MethodName)) ∈ lw_all := lw_g (lw_at lw_m7 109 rfl) rfl
theorem q1618 : (Jvm.Cond.code ({ cls := "LineEchoesModel", name := "echoByte", desc := "(I)I" } : Jvm.MethodName) prog_10_method_49_code (6 : Nat) (Option.some Jvm.ClassFile.FieldType.int)) ∈ lw_all := lw_g (lw_at lw_m7 110 rfl) rfl
theorem q1619 : (Jvm.Cond.methodLink "LineEchoesModel" (207 : Nat) ({ cls := "LineEchoesModel", name := "digits", desc := "(J)I" } : Jvm.MethodName)) ∈ lw_all := lw_g (lw_at lw_m7 111 rfl) rfl
theorem q1620 : (Jvm.Cond.static ({ cls := "LineEchoesModel", name := "digits", desc := "(J)I" } : Jvm.MethodName)) ∈ lw_all := lw_g (lw_at lw_m7 112 rfl) rfl
theorem q1621 : (Jvm.Cond.code ({ cls := "LineEchoesModel", name := "digits", desc := "(J)I" } : Jvm.MethodName) prog_10_method_47_code (5 : Nat) (Option.some Jvm.ClassFile.FieldType.int)) ∈ lw_all := lw_g (lw_at lw_m7 113 rfl) rfl
theorem q1622 : (Jvm.Cond.constantLong "LineEchoesModel" (205 : Nat) (10 : Int64)) ∈ lw_all := lw_g (lw_at lw_m7 114 rfl) rfl
theorem q1623 : (Jvm.Cond.methodLink "LineEchoesModel" (211 : Nat) ({ cls := "LineEchoesModel", name := "digitOf", desc := "(JI)I" } : Jvm.MethodName)) ∈ lw_all := lw_g (lw_at lw_m7 115 rfl) rfl
theorem q1624 : (Jvm.Cond.static ({ cls := "LineEchoesModel", name := "digitOf", desc := "(JI)I" } : Jvm.MethodName)) ∈ lw_all := lw_g (lw_at lw_m7 116 rfl) rfl
theorem q1625 : (Jvm.Cond.code ({ cls := "LineEchoesModel", name := "digitOf", desc := "(JI)I" } : Jvm.MethodName) prog_10_method_48_code (6 : Nat) (Option.some Jvm.ClassFile.FieldType.int)) ∈ lw_all := lw_g (lw_at lw_m7 117 rfl) rfl
theorem q1627 : (Jvm.Cond.instanceMethod ({ cls := "LineEchoesModel", name := "keepSound", desc := "()I" } : Jvm.MethodName)) ∈ lw_all := lw_g (lw_at lw_m7 119 rfl) rfl
theorem q1628 : (Jvm.Cond.selects "LineEchoesModel" ({ cls := "LineEchoesModel", name := "keepSound", desc := "()I" } : Jvm.MethodName) ({ cls := "LineEchoesModel", name := "keepSound", desc := "()I" } : Jvm.MethodName)) ∈ lw_all := lw_g (lw_at lw_m7 120 rfl) rfl
theorem q1629 : (Jvm.Cond.code ({ cls := "LineEchoesModel", name := "keepSound", desc := "()I" } : Jvm.MethodName) prog_10_method_51_code (1 : Nat) (Option.some Jvm.ClassFile.FieldType.int)) ∈ lw_all := lw_g (lw_at lw_m7 121 rfl) rfl
theorem q1630 : (Jvm.Cond.methodLink "LineEchoesModel" (215 : Nat) ({ cls := "LineEchoesModel", name := "copies", desc := "(I)I" } : Jvm.MethodName)) ∈ lw_all := lw_g (lw_at lw_m7 122 rfl) rfl
theorem q1631 : (Jvm.Cond.privateMethod ({ cls := "LineEchoesModel", name := "copies", desc := "(I)I" } : Jvm.MethodName)) ∈ lw_tbl := lw_at lw_m7 123 rfl
theorem q1632 : (Jvm.Cond.instanceMethod ({ cls := "LineEchoesModel", name := "copies", desc := "(I)I" } : Jvm.MethodName)) ∈ lw_all := lw_g (lw_at lw_m7 124 rfl) rfl
theorem q1633 : (Jvm.Cond.code ({ cls := "LineEchoesModel", name := "copies", desc := "(I)I" } : Jvm.MethodName) prog_10_method_50_code (4 : Nat) (Option.some Jvm.ClassFile.FieldType.int)) ∈ lw_all := lw_g (lw_at lw_m7 125 rfl) rfl
theorem q1635 : (Jvm.Cond.instanceMethod ({ cls := "LineEchoesModel", name := "differences", desc := "()I" } : Jvm.MethodName)) ∈ lw_all := lw_g (lw_at lw_m7 127 rfl) rfl
theorem q1636 : (Jvm.Cond.selects "LineEchoesModel" ({ cls := "LineEchoesModel", name := "differences", desc := "()I" } : Jvm.MethodName) ({ cls := "LineEchoesModel", name := "differences", desc := "()I" } : Jvm.MethodName)) ∈ lw_all := lw_g (lw_at lw_m7 128 rfl) rfl
theorem q1637 : (Jvm.Cond.code ({ cls := "LineEchoesModel", name := "differences", desc := "()I" } : Jvm.MethodName) prog_10_method_53_code (1 : Nat) (Option.some Jvm.ClassFile.FieldType.int)) ∈ lw_all := lw_g (lw_at lw_m7 129 rfl) rfl
theorem q1638 : (Jvm.Cond.methodLink "LineEchoesModel" (218 : Nat) ({ cls := "LineEchoesModel", name := "differencesNow", desc := "()I" } : Jvm.MethodName)) ∈ lw_all := lw_g (lw_at lw_m7 130 rfl) rfl
theorem q1639 : (Jvm.Cond.privateMethod ({ cls := "LineEchoesModel", name := "differencesNow", desc := "()I" } : Jvm.MethodName)) ∈ lw_tbl := lw_at lw_m7 131 rfl
theorem q1640 : (Jvm.Cond.instanceMethod ({ cls := "LineEchoesModel", name := "differencesNow", desc := "()I" } : Jvm.MethodName)) ∈ lw_all := lw_g (lw_at lw_m7 132 rfl) rfl
theorem q1641 : (Jvm.Cond.code ({ cls := "LineEchoesModel", name := "differencesNow", desc := "()I" } : Jvm.MethodName) prog_10_method_52_code (3 : Nat) (Option.some Jvm.ClassFile.FieldType.int)) ∈ lw_all := lw_g (lw_at lw_m7 133 rfl) rfl
theorem q1643 : (Jvm.Cond.instanceMethod ({ cls := "LineEchoesModel", name := "fault", desc := "(I)I" } : Jvm.MethodName)) ∈ lw_all := lw_g (lw_at lw_m7 135 rfl) rfl
theorem q1644 : (Jvm.Cond.selects "LineEchoesModel" ({ cls := "LineEchoesModel", name := "fault", desc := "(I)I" } : Jvm.MethodName) ({ cls := "LineEchoesModel", name := "fault", desc := "(I)I" } : Jvm.MethodName)) ∈ lw_all := lw_g (lw_at lw_m7 136 rfl) rfl
theorem q1645 : (Jvm.Cond.code ({ cls := "LineEchoesModel", name := "fault", desc := "(I)I" } : Jvm.MethodName) prog_10_method_56_code (2 : Nat) (Option.some Jvm.ClassFile.FieldType.int)) ∈ lw_all := lw_g (lw_at lw_m7 137 rfl) rfl
theorem q1646 : (Jvm.Cond.constantLong "LineEchoesModel" (224 : Nat) (3 : Int64)) ∈ lw_all := lw_g (lw_at lw_m7 138 rfl) rfl
theorem q1647 : (Jvm.Cond.methodLink "LineEchoesModel" (226 : Nat) ({ cls := "LineEchoesModel", name := "faultOf", desc := "(I)I" } : Jvm.MethodName)) ∈ lw_all := lw_g (lw_at lw_m7 139 rfl) rfl
theorem q1648 : (Jvm.Cond.privateMethod ({ cls := "LineEchoesModel", name := "faultOf", desc := "(I)I" } : Jvm.MethodName)) ∈ lw_tbl := lw_at lw_m7 140 rfl
theorem q1649 : (Jvm.Cond.instanceMethod ({ cls := "LineEchoesModel", name := "faultOf", desc := "(I)I" } : Jvm.MethodName)) ∈ lw_all := lw_g (lw_at lw_m7 141 rfl) rfl
theorem q1650 : (Jvm.Cond.code ({ cls := "LineEchoesModel", name := "faultOf", desc := "(I)I" } : Jvm.MethodName) prog_10_method_55_code (5 : Nat) (Option.some Jvm.ClassFile.FieldType.int)) ∈ lw_all := lw_g (lw_at lw_m7 142 rfl) rfl
theorem q1651 : (Jvm.Cond.methodLink "LineEchoesModel" (221 : Nat) ({ cls := "LineEchoesModel", name := "earliest", desc := "()I" } : Jvm.MethodName)) ∈ lw_all := lw_g (lw_at lw_m7 143 rfl) rfl
theorem q1652 : (Jvm.Cond.privateMethod ({ cls := "LineEchoesModel", name := "earliest", desc := "()I" } : Jvm.MethodName)) ∈ lw_tbl := lw_at lw_m7 144 rfl
theorem q1653 : (Jvm.Cond.instanceMethod ({ cls := "LineEchoesModel", name := "earliest", desc := "()I" } : Jvm.MethodName)) ∈ lw_all := lw_g (lw_at lw_m7 145 rfl) rfl
theorem q1654 : (Jvm.Cond.code ({ cls := "LineEchoesModel", name := "earliest", desc := "()I" } : Jvm.MethodName) prog_10_method_54_code (3 : Nat) (Option.some Jvm.ClassFile.FieldType.int)) ∈ lw_all := lw_g (lw_at lw_m7 146 rfl) rfl
theorem q1656 : (Jvm.Cond.instanceMethod ({ cls := "LineEchoesModel", name := "observe", desc := "()I" } : Jvm.MethodName)) ∈ lw_all := lw_g (lw_at lw_m7 148 rfl) rfl
theorem q1657 : (Jvm.Cond.selects "LineEchoesModel" ({ cls := "LineEchoesModel", name := "observe", desc := "()I" } : Jvm.MethodName) ({ cls := "LineEchoesModel", name := "observe", desc := "()I" } : Jvm.MethodName)) ∈ lw_all := lw_g (lw_at lw_m7 149 rfl) rfl
theorem q1658 : (Jvm.Cond.code ({ cls := "LineEchoesModel", name := "observe", desc := "()I" } : Jvm.MethodName) prog_10_method_57_code (1 : Nat) (Option.some Jvm.ClassFile.FieldType.int)) ∈ lw_all := lw_g (lw_at lw_m7 150 rfl) rfl
theorem q1660 : (Jvm.Cond.instanceMethod ({ cls := "LineEchoesModel", name := "setObserved", desc := "(IJ)J" } : Jvm.MethodName)) ∈ lw_all := lw_g (lw_at lw_m7 152 rfl) rfl
theorem q1661 : (Jvm.Cond.selects "LineEchoesModel" ({ cls := "LineEchoesModel", name := "setObserved", desc := "(IJ)J" } : Jvm.MethodName) ({ cls := "LineEchoesModel", name := "setObserved", desc := "(IJ)J" } : Jvm.MethodName)) ∈ lw_all := lw_g (lw_at lw_m7 153 rfl) rfl
theorem q1662 : (Jvm.Cond.code ({ cls := "LineEchoesModel", name := "setObserved", desc := "(IJ)J" } : Jvm.MethodName) prog_10_method_58_code (6 : Nat) (Option.some Jvm.ClassFile.FieldType.long)) ∈ lw_all := lw_g (lw_at lw_m7 154 rfl) rfl
theorem q1663 : (Jvm.Cond.constantLong "LineEchoesModel" (229 : Nat) (4000000 : Int64)) ∈ lw_all := lw_g (lw_at lw_m7 155 rfl) rfl
theorem q1665 : (Jvm.Cond.instanceMethod ({ cls := "LineEchoesModel", name := "observed", desc := "(I)J" } : Jvm.MethodName)) ∈ lw_all := lw_g (lw_at lw_m7 157 rfl) rfl
theorem q1666 : (Jvm.Cond.selects "LineEchoesModel" ({ cls := "LineEchoesModel", name := "observed", desc := "(I)J" } : Jvm.MethodName) ({ cls := "LineEchoesModel", name := "observed", desc := "(I)J" } : Jvm.MethodName)) ∈ lw_all := lw_g (lw_at lw_m7 158 rfl) rfl
theorem q1667 : (Jvm.Cond.code ({ cls := "LineEchoesModel", name := "observed", desc := "(I)J" } : Jvm.MethodName) prog_10_method_59_code (2 : Nat) (Option.some Jvm.ClassFile.FieldType.long)) ∈ lw_all := lw_g (lw_at lw_m7 159 rfl) rfl
theorem q1669 : (Jvm.Cond.instanceMethod ({ cls := "LineEchoesModel", name := "peel", desc := "(I)I" } : Jvm.MethodName)) ∈ lw_all := lw_g (lw_at lw_m7 161 rfl) rfl
theorem q1670 : (Jvm.Cond.selects "LineEchoesModel" ({ cls := "LineEchoesModel", name := "peel", desc := "(I)I" } : Jvm.MethodName) ({ cls := "LineEchoesModel", name := "peel", desc := "(I)I" } : Jvm.MethodName)) ∈ lw_all := lw_g (lw_at lw_m7 162 rfl) rfl
theorem q1671 : (Jvm.Cond.code ({ cls := "LineEchoesModel", name := "peel", desc := "(I)I" } : Jvm.MethodName) prog_10_method_65_code (2 : Nat) (Option.some Jvm.ClassFile.FieldType.int)) ∈ lw_all := lw_g (lw_at lw_m7 163 rfl) rfl
theorem q1672 : (Jvm.Cond.methodLink "LineEchoesModel" (250 : Nat) ({ cls := "LineEchoesModel", name := "peelAll", desc := "()V" } : Jvm.MethodName)) ∈ lw_all := lw_g (lw_at lw_m7 164 rfl) rfl
theorem q1673 : (Jvm.Cond.privateMethod ({ cls := "LineEchoesModel", name := "peelAll", desc := "()V" } : Jvm.MethodName)) ∈ lw_tbl := lw_at lw_m7 165 rfl
theorem q1674 : (Jvm.Cond.instanceMethod ({ cls := "LineEchoesModel", name := "peelAll", desc := "()V" } : Jvm.MethodName)) ∈ lw_all := lw_g (lw_at lw_m7 166 rfl) rfl
theorem q1675 : (Jvm.Cond.code ({ cls := "LineEchoesModel", name := "peelAll", desc := "()V" } : Jvm.MethodName) prog_10_method_63_code (2 : Nat) (Option.none : Option Jvm.ClassFile.FieldType)) ∈ lw_all := lw_g (lw_at lw_m7 167 rfl) rfl
theorem q1676 : (Jvm.Cond.methodLink "LineEchoesModel" (246 : Nat) ({ cls := "LineEchoesModel", name := "peels", desc := "()Z" } : Jvm.MethodName)) ∈ lw_all := lw_g (lw_at lw_m7 168 rfl) rfl
theorem q1677 : (Jvm.Cond.privateMethod ({ cls := "LineEchoesModel", name := "peels", desc := "()Z" } : Jvm.MethodName)) ∈ lw_tbl := lw_at lw_m7 169 rfl
theorem q1678 : (Jvm.Cond.instanceMethod ({ cls := "LineEchoesModel", name := "peels", desc := "()Z" } : Jvm.MethodName)) ∈ lw_all := lw_g (lw_at lw_m7 170 rfl) rfl
theorem q1679 : (Jvm.Cond.code ({ cls := "LineEchoesModel", name := "peels", desc := "()Z" } : Jvm.MethodName) prog_10_method_62_code (2 : Nat) (Option.some Jvm.ClassFile.FieldType.boolean)) ∈ lw_all := lw_g (lw_at lw_m7 171 rfl) rfl
theorem q1680 : (Jvm.Cond.methodLink "LineEchoesModel" (234 : Nat) ({ cls := "LineEchoesModel", name := "firstUnlike", desc := "()I" } : Jvm.MethodName)) ∈ lw_all := lw_g (lw_at lw_m7 172 rfl) rfl
theorem q1681 : (Jvm.Cond.privateMethod ({ cls := "LineEchoesModel", name := "firstUnlike", desc := "()I" } : Jvm.MethodName)) ∈ lw_tbl := lw_at lw_m7 173 rfl
theorem q1682 : (Jvm.Cond.instanceMethod ({ cls := "LineEchoesModel", name := "firstUnlike", desc := "()I" } : Jvm.MethodName)) ∈ lw_all := lw_g (lw_at lw_m7 174 rfl) rfl
theorem q1683 : (Jvm.Cond.code ({ cls := "LineEchoesModel", name := "firstUnlike", desc := "()I" } : Jvm.MethodName) prog_10_method_60_code (2 : Nat) (Option.some Jvm.ClassFile.FieldType.int)) ∈ lw_all := lw_g (lw_at lw_m7 175 rfl) rfl
theorem q1684 : (Jvm.Cond.methodLink "LineEchoesModel" (243 : Nat) ({ cls := "LineEchoesModel", name := "puts", desc := "(I)Z" } : Jvm.MethodName)) ∈ lw_all := lw_g (lw_at lw_m7 176 rfl) rfl
theorem q1685 : (Jvm.Cond.privateMethod ({ cls := "LineEchoesModel", name := "puts", desc := "(I)Z" } : Jvm.MethodName)) ∈ lw_tbl := lw_at lw_m7 177 rfl
theorem q1686 : (Jvm.Cond.instanceMethod ({ cls := "LineEchoesModel", name := "puts", desc := "(I)Z" } : Jvm.MethodName)) ∈ lw_all := lw_g (lw_at lw_m7 178 rfl) rfl
theorem q1687 : (Jvm.Cond.code ({ cls := "LineEchoesModel", name := "puts", desc := "(I)Z" } : Jvm.MethodName) prog_10_method_61_code (6 : Nat) (Option.some Jvm.ClassFile.FieldType.boolean)) ∈ lw_all := lw_g (lw_at lw_m7 179 rfl) rfl
theorem q1688 : (Jvm.Cond.methodLink "LineEchoesModel" (253 : Nat) ({ cls := "LineEchoesModel", name := "peelOf", desc := "(I)I" } : Jvm.MethodName)) ∈ lw_all := lw_g (lw_at lw_m7 180 rfl) rfl
theorem q1689 : (Jvm.Cond.privateMethod ({ cls := "LineEchoesModel", name := "peelOf", desc := "(I)I" } : Jvm.MethodName)) ∈ lw_tbl := lw_at lw_m7 181 rfl
theorem q1690 : (Jvm.Cond.instanceMethod ({ cls := "LineEchoesModel", name := "peelOf", desc := "(I)I" } : Jvm.MethodName)) ∈ lw_all := lw_g (lw_at lw_m7 182 rfl) rfl
theorem q1691 : (Jvm.Cond.code ({ cls := "LineEchoesModel", name := "peelOf", desc := "(I)I" } : Jvm.MethodName) prog_10_method_64_code (2 : Nat) (Option.some Jvm.ClassFile.FieldType.int)) ∈ lw_all := lw_g (lw_at lw_m7 183 rfl) rfl
theorem q1693 : (Jvm.Cond.instanceMethod ({ cls := "LineEchoesModel", name := "found", desc := "(II)I" } : Jvm.MethodName)) ∈ lw_all := lw_g (lw_at lw_m7 185 rfl) rfl
theorem q1694 : (Jvm.Cond.selects "LineEchoesModel" ({ cls := "LineEchoesModel", name := "found", desc := "(II)I" } : Jvm.MethodName) ({ cls := "LineEchoesModel", name := "found", desc := "(II)I" } : Jvm.MethodName)) ∈ lw_all := lw_g (lw_at lw_m7 186 rfl) rfl
theorem q1695 : (Jvm.Cond.code ({ cls := "LineEchoesModel", name := "found", desc := "(II)I" } : Jvm.MethodName) prog_10_method_66_code (3 : Nat) (Option.some Jvm.ClassFile.FieldType.int)) ∈ lw_all := lw_g (lw_at lw_m7 187 rfl) rfl
theorem q1697 : (Jvm.Cond.instanceMethod ({ cls := "LineEchoesModel", name := "adopt", desc := "()I" } : Jvm.MethodName)) ∈ lw_all := lw_g (lw_at lw_m7 189 rfl) rfl
theorem q1698 : (Jvm.Cond.selects "LineEchoesModel" ({ cls := "LineEchoesModel", name := "adopt", desc := "()I" } : Jvm.MethodName) ({ cls := "LineEchoesModel", name := "adopt", desc := "()I" } : Jvm.MethodName)) ∈ lw_all := lw_g (lw_at lw_m7 190 rfl) rfl
theorem q1699 : (Jvm.Cond.code ({ cls := "LineEchoesModel", name := "adopt", desc := "()I" } : Jvm.MethodName) prog_10_method_68_code (1 : Nat) (Option.some Jvm.ClassFile.FieldType.int)) ∈ lw_all := lw_g (lw_at lw_m7 191 rfl) rfl
theorem q1700 : (Jvm.Cond.methodLink "LineEchoesModel" (256 : Nat) ({ cls := "LineEchoesModel", name := "adopts", desc := "()I" } : Jvm.MethodName)) ∈ lw_all := lw_g (lw_at lw_m7 192 rfl) rfl
theorem q1701 : (Jvm.Cond.privateMethod ({ cls := "LineEchoesModel", name := "adopts", desc := "()I" } : Jvm.MethodName)) ∈ lw_tbl := lw_at lw_m7 193 rfl
theorem q1702 : (Jvm.Cond.instanceMethod ({ cls := "LineEchoesModel", name := "adopts", desc := "()I" } : Jvm.MethodName)) ∈ lw_all := lw_g (lw_at lw_m7 194 rfl) rfl
theorem q1703 : (Jvm.Cond.code ({ cls := "LineEchoesModel", name := "adopts", desc := "()I" } : Jvm.MethodName) prog_10_method_67_code (2 : Nat) (Option.some Jvm.ClassFile.FieldType.int)) ∈ lw_all := lw_g (lw_at lw_m7 195 rfl) rfl
theorem q1705 : (Jvm.Cond.instanceMethod ({ cls := "LineEchoesModel", name := "type", desc := "(I)I" } : Jvm.MethodName)) ∈ lw_all := lw_g (lw_at lw_m7 197 rfl) rfl
theorem q1706 : (Jvm.Cond.selects "LineEchoesModel" ({ cls := "LineEchoesModel", name := "type", desc := "(I)I" } : Jvm.MethodName) ({ cls := "LineEchoesModel", name := "type", desc := "(I)I" } : Jvm.MethodName)) ∈ lw_all := lw_g (lw_at lw_m7 198 rfl) rfl
theorem q1707 : (Jvm.Cond.code ({ cls := "LineEchoesModel", name := "type", desc := "(I)I" } : Jvm.MethodName) prog_10_method_69_code (2 : Nat) (Option.some Jvm.ClassFile.FieldType.int)) ∈ lw_all := lw_g (lw_at lw_m7 199 rfl) rfl
theorem q1708 : (Jvm.Cond.constantLong "LineEchoesModel" (259 : Nat) (127 : Int64)) ∈ lw_all := lw_g (lw_at lw_m7 200 rfl) rfl
theorem q1710 : (Jvm.Cond.instanceMethod ({ cls := "LineEchoesModel", name := "clearScript", desc := "()I" } : Jvm.MethodName)) ∈ lw_all := lw_g (lw_at lw_m7 202 rfl) rfl
theorem q1711 : (Jvm.Cond.selects "LineEchoesModel" ({ cls := "LineEchoesModel", name := "clearScript", desc := "()I" } : Jvm.MethodName) ({ cls := "LineEchoesModel", name := "clearScript", desc := "()I" } : Jvm.MethodName)) ∈ lw_all := lw_g (lw_at lw_m7 203 rfl) rfl
theorem q1712 : (Jvm.Cond.code ({ cls := "LineEchoesModel", name := "clearScript", desc := "()I" } : Jvm.MethodName) prog_10_method_70_code (2 : Nat) (Option.some Jvm.ClassFile.FieldType.int)) ∈ lw_all := lw_g (lw_at lw_m7 204 rfl) rfl
theorem q1714 : (Jvm.Cond.instanceMethod ({ cls := "LineEchoesModel", name := "run", desc := "()I" } : Jvm.MethodName)) ∈ lw_all := lw_g (lw_at lw_m7 206 rfl) rfl
theorem q1715 : (Jvm.Cond.selects "LineEchoesModel" ({ cls := "LineEchoesModel", name := "run", desc := "()I" } : Jvm.MethodName) ({ cls := "LineEchoesModel", name := "run", desc := "()I" } : Jvm.MethodName)) ∈ lw_all := lw_g (lw_at lw_m7 207 rfl) rfl
theorem q1716 : (Jvm.Cond.code ({ cls := "LineEchoesModel", name := "run", desc := "()I" } : Jvm.MethodName) prog_10_method_79_code (2 : Nat) (Option.some Jvm.ClassFile.FieldType.int)) ∈ lw_all := lw_g (lw_at lw_m7 208 rfl) rfl
theorem q1717 : (Jvm.Cond.methodLink "LineEchoesModel" (316 : Nat) ({ cls := "LineEchoesModel", name := "readAll", desc := "()Z" } : Jvm.MethodName)) ∈ lw_all := lw_g (lw_at lw_m7 209 rfl) rfl
theorem q1718 : (Jvm.Cond.privateMethod ({ cls := "LineEchoesModel", name := "readAll", desc := "()Z" } : Jvm.MethodName)) ∈ lw_tbl := lw_at lw_m7 210 rfl
theorem q1719 : (Jvm.Cond.instanceMethod ({ cls := "LineEchoesModel", name := "readAll", desc := "()Z" } : Jvm.MethodName)) ∈ lw_all := lw_g (lw_at lw_m7 211 rfl) rfl
theorem q1720 : (Jvm.Cond.code ({ cls := "LineEchoesModel", name := "readAll", desc := "()Z" } : Jvm.MethodName) prog_10_method_77_code (2 : Nat) (Option.some Jvm.ClassFile.FieldType.boolean)) ∈ lw_all := lw_g (lw_at lw_m7 212 rfl) rfl
theorem q1721 : (Jvm.Cond.methodLink "LineEchoesModel" (297 : Nat) ({ cls := "LineEchoesModel", name := "spaces", desc := "()Z" } : Jvm.MethodName)) ∈ lw_all := lw_g (lw_at lw_m7 213 rfl) rfl
theorem q1722 : (Jvm.Cond.privateMethod ({ cls := "LineEchoesModel", name := "spaces", desc := "()Z" } : Jvm.MethodName)) ∈ lw_tbl := lw_at lw_m7 214 rfl
theorem q1723 : (Jvm.Cond.instanceMethod ({ cls := "LineEchoesModel", name := "spaces", desc := "()Z" } : Jvm.MethodName)) ∈ lw_all := lw_g (lw_at lw_m7 215 rfl) rfl
theorem q1724 : (Jvm.Cond.code ({ cls := "LineEchoesModel", name := "spaces", desc := "()Z" } : Jvm.MethodName) prog_10_method_72_code (2 : Nat) (Option.some Jvm.ClassFile.FieldType.boolean)) ∈ lw_all := lw_g (lw_at lw_m7 216 rfl) rfl
theorem q1725 : (Jvm.Cond.methodLink "LineEchoesModel" (267 : Nat) ({ cls := "LineEchoesModel", name := "here", desc := "()I" } : Jvm.MethodName)) ∈ lw_all := lw_g (lw_at lw_m7 217 rfl) rfl
theorem q1726 : (Jvm.Cond.privateMethod ({ cls := "LineEchoesModel", name := "here", desc := "()I" } : Jvm.MethodName)) ∈ lw_tbl := lw_at lw_m7 218 rfl
theorem q1727 : (Jvm.Cond.instanceMethod ({ cls := "LineEchoesModel", name := "here", desc := "()I" } : Jvm.MethodName)) ∈ lw_all := lw_g (lw_at lw_m7 219 rfl) rfl
theorem q1728 : (Jvm.Cond.code ({ cls := "LineEchoesModel", name := "here", desc := "()I" } : Jvm.MethodName) prog_10_method_71_code (1 : Nat) (Option.some Jvm.ClassFile.FieldType.int)) ∈ lw_all := lw_g (lw_at lw_m7 220 rfl) rfl
theorem q1729 : (Jvm.Cond.methodLink "LineEchoesModel" (313 : Nat) ({ cls := "LineEchoesModel", name := "readCommand", desc := "()Z" } : Jvm.MethodName)) ∈ lw_all := lw_g (lw_at lw_m7 221 rfl) rfl
theorem q1730 : (Jvm.Cond.privateMethod ({ cls := "LineEchoesModel", name := "readCommand", desc := "()Z" } : Jvm.MethodName)) ∈ lw_tbl := lw_at lw_m7 222 rfl
theorem q1731 : (Jvm.Cond.instanceMethod ({ cls := "LineEchoesModel", name := "readCommand", desc := "()Z" } : Jvm.MethodName)) ∈ lw_all := lw_g (lw_at lw_m7 223 rfl) rfl
theorem q1732 : (Jvm.Cond.code ({ cls := "LineEchoesModel", name := "readCommand", desc := "()Z" } : Jvm.MethodName) prog_10_method_76_code (5 : Nat) (Option.some Jvm.ClassFile.FieldType.boolean)) ∈ lw_all := lw_g (lw_at lw_m7 224 rfl) rfl
theorem q1733 : (Jvm.Cond.methodLink "LineEchoesModel" (307 : Nat) ({ cls := "LineEchoesModel", name := "readWord", desc := "(I)Z" } : Jvm.MethodName)) ∈ lw_all := lw_g (lw_at lw_m7 225 rfl) rfl
theorem q1734 : (Jvm.Cond.privateMethod ({ cls := "LineEchoesModel", name := "readWord", desc := "(I)Z" } : Jvm.MethodName)) ∈ lw_tbl := lw_at lw_m7 226 rfl
theorem q1735 : (Jvm.Cond.instanceMethod ({ cls := "LineEchoesModel", name := "readWord", desc := "(I)Z" } : Jvm.MethodName)) ∈ lw_all := lw_g (lw_at lw_m7 227 rfl) rfl
theorem q1736 : (Jvm.Cond.code ({ cls := "LineEchoesModel", name := "readWord", desc := "(I)Z" } : Jvm.MethodName) prog_10_method_74_code (5 : Nat) (Option.some Jvm.ClassFile.FieldType.boolean)) ∈ lw_all := lw_g (lw_at lw_m7 228 rfl) rfl
theorem q1737 : (Jvm.Cond.constantLong "LineEchoesModel" (286 : Nat) (97 : Int64)) ∈ lw_all := lw_g (lw_at lw_m7 229 rfl) rfl
theorem q1738 : (Jvm.Cond.constantLong "LineEchoesModel" (288 : Nat) (122 : Int64)) ∈ lw_all := lw_g (lw_at lw_m7 230 rfl) rfl
theorem q1739 : (Jvm.Cond.constantLong "LineEchoesModel" (290 : Nat) (128 : Int64)) ∈ lw_all := lw_g (lw_at lw_m7 231 rfl) rfl
theorem q1740 : (Jvm.Cond.constantLong "LineEchoesModel" (292 : Nat) (-1 : Int64)) ∈ lw_all := lw_g (lw_at lw_m7 232 rfl) rfl
theorem q1741 : (Jvm.Cond.methodLink "LineEchoesModel" (294 : Nat) ({ cls := "LineEchoesModel", name := "kindOf", desc := "(J)I" } : Jvm.MethodName)) ∈ lw_all := lw_g (lw_at lw_m7 233 rfl) rfl
theorem q1742 : (Jvm.Cond.static ({ cls := "LineEchoesModel", name := "kindOf", desc := "(J)I" } : Jvm.MethodName)) ∈ lw_all := lw_g (lw_at lw_m7 234 rfl) rfl
theorem q1743 : (Jvm.Cond.code ({ cls := "LineEchoesModel", name := "kindOf", desc := "(J)I" } : Jvm.MethodName) prog_10_method_73_code (2 : Nat) (Option.some Jvm.ClassFile.FieldType.int)) ∈ lw_all := lw_g (lw_at lw_m7 235 rfl) rfl
theorem q1744 : (Jvm.Cond.constantLong "LineEchoesModel" (270 : Nat) (1897204 : Int64)) ∈ lw_all := lw_g (lw_at lw_m7 236 rfl) rfl
theorem q1745 : (Jvm.Cond.constantLong "LineEchoesModel" (272 : Nat) (31106741492 : Int64)) ∈ lw_all := lw_g (lw_at lw_m7 237 rfl) rfl
theorem q1746 : (Jvm.Cond.constantLong "LineEchoesModel" (274 : Nat) (236484980 : Int64)) ∈ lw_all := lw_g (lw_at lw_m7 238 rfl) rfl
theorem q1747 : (Jvm.Cond.constantLong "LineEchoesModel" (276 : Nat) (30311922149 : Int64)) ∈ lw_all := lw_g (lw_at lw_m7 239 rfl) rfl
theorem q1748 : (Jvm.Cond.constantLong "LineEchoesModel" (278 : Nat) (1637108 : Int64)) ∈ lw_all := lw_g (lw_at lw_m8 0 rfl) rfl
theorem q1749 : (Jvm.Cond.constantLong "LineEchoesModel" (280 : Nat) (31104792420 : Int64)) ∈ lw_all := lw_g (lw_at lw_m8 1 rfl) rfl
theorem q1750 : (Jvm.Cond.constantLong "LineEchoesModel" (282 : Nat) (228325355 : Int64)) ∈ lw_all := lw_g (lw_at lw_m8 2 rfl) rfl
theorem q1751 : (Jvm.Cond.constantLong "LineEchoesModel" (284 : Nat) (26249787508 : Int64)) ∈ lw_all := lw_g (lw_at lw_m8 3 rfl) rfl
theorem q1752 : (Jvm.Cond.methodLink "LineEchoesModel" (310 : Nat) ({ cls := "LineEchoesModel", name := "readNumber", desc := "(I)Z" } : Jvm.MethodName)) ∈ lw_all := lw_g (lw_at lw_m8 4 rfl) rfl
theorem q1753 : (Jvm.Cond.privateMethod ({ cls := "LineEchoesModel", name := "readNumber", desc := "(I)Z" } : Jvm.MethodName)) ∈ lw_tbl := lw_at lw_m8 5 rfl
theorem q1754 : (Jvm.Cond.instanceMethod ({ cls := "LineEchoesModel", name := "readNumber", desc := "(I)Z" } : Jvm.MethodName)) ∈ lw_all := lw_g (lw_at lw_m8 6 rfl) rfl
theorem q1755 : (Jvm.Cond.code ({ cls := "LineEchoesModel", name := "readNumber", desc := "(I)Z" } : Jvm.MethodName) prog_10_method_75_code (4 : Nat) (Option.some Jvm.ClassFile.FieldType.boolean)) ∈ lw_all := lw_g (lw_at lw_m8 7 rfl) rfl
theorem q1756 : (Jvm.Cond.constantLong "LineEchoesModel" (300 : Nat) (48 : Int64)) ∈ lw_all := lw_g (lw_at lw_m8 8 rfl) rfl
theorem q1757 : (Jvm.Cond.constantLong "LineEchoesModel" (302 : Nat) (57 : Int64)) ∈ lw_all := lw_g (lw_at lw_m8 9 rfl) rfl
theorem q1758 : (Jvm.Cond.methodLink "LineEchoesModel" (319 : Nat) ({ cls := "LineEchoesModel", name := "does", desc := "(I)Z" } : Jvm.MethodName)) ∈ lw_all := lw_g (lw_at lw_m8 10 rfl) rfl
theorem q1759 : (Jvm.Cond.privateMethod ({ cls := "LineEchoesModel", name := "does", desc := "(I)Z" } : Jvm.MethodName)) ∈ lw_tbl := lw_at lw_m8 11 rfl
theorem q1760 : (Jvm.Cond.instanceMethod ({ cls := "LineEchoesModel", name := "does", desc := "(I)Z" } : Jvm.MethodName)) ∈ lw_all := lw_g (lw_at lw_m8 12 rfl) rfl
theorem q1761 : (Jvm.Cond.code ({ cls := "LineEchoesModel", name := "does", desc := "(I)Z" } : Jvm.MethodName) prog_10_method_78_code (6 : Nat) (Option.some Jvm.ClassFile.FieldType.boolean)) ∈ lw_all := lw_g (lw_at lw_m8 13 rfl) rfl
theorem q1763 : (Jvm.Cond.instanceMethod ({ cls := "LineEchoesModel", name := "undo", desc := "()I" } : Jvm.MethodName)) ∈ lw_all := lw_g (lw_at lw_m8 15 rfl) rfl
theorem q1764 : (Jvm.Cond.selects "LineEchoesModel" ({ cls := "LineEchoesModel", name := "undo", desc := "()I" } : Jvm.MethodName) ({ cls := "LineEchoesModel", name := "undo", desc := "()I" } : Jvm.MethodName)) ∈ lw_all := lw_g (lw_at lw_m8 16 rfl) rfl
theorem q1765 : (Jvm.Cond.code ({ cls := "LineEchoesModel", name := "undo", desc := "()I" } : Jvm.MethodName) prog_10_method_80_code (2 : Nat) (Option.some Jvm.ClassFile.FieldType.int)) ∈ lw_all := lw_g (lw_at lw_m8 17 rfl) rfl
theorem q1767 : (Jvm.Cond.instanceMethod ({ cls := "LineEchoesModel", name := "digest", desc := "()J" } : Jvm.MethodName)) ∈ lw_all := lw_g (lw_at lw_m8 19 rfl) rfl
theorem q1768 : (Jvm.Cond.selects "LineEchoesModel" ({ cls := "LineEchoesModel", name := "digest", desc := "()J" } : Jvm.MethodName) ({ cls := "LineEchoesModel", name := "digest", desc := "()J" } : Jvm.MethodName)) ∈ lw_all := lw_g (lw_at lw_m8 20 rfl) rfl
theorem q1769 : (Jvm.Cond.code ({ cls := "LineEchoesModel", name := "digest", desc := "()J" } : Jvm.MethodName) prog_10_method_83_code (2 : Nat) (Option.some Jvm.ClassFile.FieldType.long)) ∈ lw_all := lw_g (lw_at lw_m8 21 rfl) rfl
theorem q1770 : (Jvm.Cond.constantLong "LineEchoesModel" (330 : Nat) (11908 : Int64)) ∈ lw_all := lw_g (lw_at lw_m8 22 rfl) rfl
theorem q1771 : (Jvm.Cond.methodLink "LineEchoesModel" (327 : Nat) ({ cls := "LineEchoesModel", name := "mix", desc := "(J)V" } : Jvm.MethodName)) ∈ lw_all := lw_g (lw_at lw_m8 23 rfl) rfl
theorem q1772 : (Jvm.Cond.privateMethod ({ cls := "LineEchoesModel", name := "mix", desc := "(J)V" } : Jvm.MethodName)) ∈ lw_tbl := lw_at lw_m8 24 rfl
theorem q1773 : (Jvm.Cond.instanceMethod ({ cls := "LineEchoesModel", name := "mix", desc := "(J)V" } : Jvm.MethodName)) ∈ lw_all := lw_g (lw_at lw_m8 25 rfl) rfl
theorem q1774 : (Jvm.Cond.code ({ cls := "LineEchoesModel", name := "mix", desc := "(J)V" } : Jvm.MethodName) prog_10_method_81_code (3 : Nat) (Option.none : Option Jvm.ClassFile.FieldType)) ∈ lw_all := lw_g (lw_at lw_m8 26 rfl) rfl
theorem q1775 : (Jvm.Cond.constantLong "LineEchoesModel" (322 : Nat) (31 : Int64)) ∈ lw_all := lw_g (lw_at lw_m8 27 rfl) rfl
theorem q1776 : (Jvm.Cond.methodLink "LineEchoesModel" (332 : Nat) ({ cls := "LineEchoesModel", name := "mixEchoes", desc := "()V" } : Jvm.MethodName)) ∈ lw_all := lw_g (lw_at lw_m8 28 rfl) rfl
theorem q1777 : (Jvm.Cond.privateMethod ({ cls := "LineEchoesModel", name := "mixEchoes", desc := "()V" } : Jvm.MethodName)) ∈ lw_tbl := lw_at lw_m8 29 rfl
theorem q1778 : (Jvm.Cond.instanceMethod ({ cls := "LineEchoesModel", name := "mixEchoes", desc := "()V" } : Jvm.MethodName)) ∈ lw_all := lw_g (lw_at lw_m8 30 rfl) rfl
theorem q1779 : (Jvm.Cond.code ({ cls := "LineEchoesModel", name := "mixEchoes", desc := "()V" } : Jvm.MethodName) prog_10_method_82_code (2 : Nat) (Option.none : Option Jvm.ClassFile.FieldType)) ∈ lw_all := lw_g (lw_at lw_m8 31 rfl) rfl
theorem in_X6 : ∀ w ∈ wsX60, w ∈ lw_all := lw_in wsX60 [1370, 1372, 1374, 1376, 1378, 1380, 1382, 1384, 1386, 1388, 1390, 1392, 1394, 1396, 1398, 1400, 1402, 1404, 1406, 1408, 1410, 1412, 1414, 1416, 1418, 1420, 1422, 1424] (by decide +kernel) (by decide +kernel)

