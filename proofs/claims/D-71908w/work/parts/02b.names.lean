/-! LineEchoes -/
set_option maxRecDepth 100000
def RX1 : String := "LineEchoes"
def TX1 : u_T := fun k => match k with
  | 0 => ("LineEchoes", "current", "LLineEchoes$Bench;", false)
  | 1 => ("LineEchoes", "saved", "[LLineEchoes$Bench;", true)
  | 2 => ("LineEchoes", "depth", "I", false)
  | 3 => ("LineEchoes", "script", "[B", true)
  | 4 => ("LineEchoes", "scriptLength", "I", false)
  | _ => ("LineEchoes", "runner", "LLineEchoes$Runner;", true)
def tyX1 : Nat → FieldType := fun k => match k with
  | 0 => .object "LineEchoes$Bench"
  | 1 => .array (.object "LineEchoes$Bench")
  | 2 => .int
  | 3 => .array .byte
  | 4 => .int
  | _ => .object "LineEchoes$Runner"
abbrev wsX10 : List Cond := u_ws RX1 TX1 6
theorem nmX1 : ∀ a, a < 6 → ∀ b, b < 6 → a ≠ b → (TX1 a).2.1 ≠ (TX1 b).2.1 := by decide +kernel
theorem tyX1_ok : ∀ k, k < 6 → parseFieldDescriptor (TX1 k).2.2.1 = some (tyX1 k) := by decide +kernel
abbrev cX1_init : ByteArray := prog_1_method_7_code
def yX1_init : MethodName := ⟨RX1, "<init>", "()V"⟩
def dkwX1_init_1 : List UInt8 := [16, 120, 188, 8, 181, 0, 88, 42, 187, 0, 92, 89, 183, 0, 94, 181, 0, 61, 177]
abbrev dktX1_init_1 : List UInt8 := dkwX1_init_1 ++ []
def dkwX1_init_0 : List UInt8 := [42, 183, 0, 74, 42, 187, 0, 42, 89, 183, 0, 79, 181, 0, 80, 42, 6, 189, 0, 42, 181, 0, 84, 42]
abbrev dktX1_init_0 : List UInt8 := dkwX1_init_0 ++ dktX1_init_1
theorem dksX1_init_0 : cX1_init.data.toList.drop 0 = dktX1_init_0 := by decide +kernel
theorem dksX1_init_1 : cX1_init.data.toList.drop 24 = dktX1_init_1 := dk_seg dksX1_init_0 24 rfl rfl
theorem dX1_init_0 : decode cX1_init 0 = .ok (.aload_n 0, 1) := dk_42 (dk_at dksX1_init_0 0 rfl rfl)
theorem dX1_init_1 : decode cX1_init 1 = .ok (.invokespecial 74, 3) := dk_183 0 74 (dk_at dksX1_init_0 1 rfl rfl)
theorem dX1_init_4 : decode cX1_init 4 = .ok (.aload_n 0, 1) := dk_42 (dk_at dksX1_init_0 4 rfl rfl)
theorem dX1_init_5 : decode cX1_init 5 = .ok (.new 42, 3) := dk_187 0 42 (dk_at dksX1_init_0 5 rfl rfl)
theorem dX1_init_8 : decode cX1_init 8 = .ok (.dup, 1) := dk_89 (dk_at dksX1_init_0 8 rfl rfl)
theorem dX1_init_9 : decode cX1_init 9 = .ok (.invokespecial 79, 3) := dk_183 0 79 (dk_at dksX1_init_0 9 rfl rfl)
theorem dX1_init_12 : decode cX1_init 12 = .ok (.putfield 80, 3) := dk_181 0 80 (dk_at dksX1_init_0 12 rfl rfl)
theorem dX1_init_15 : decode cX1_init 15 = .ok (.aload_n 0, 1) := dk_42 (dk_at dksX1_init_0 15 rfl rfl)
theorem dX1_init_16 : decode cX1_init 16 = .ok (.iconst 3, 1) := dk_6 (dk_at dksX1_init_0 16 rfl rfl)
theorem dX1_init_17 : decode cX1_init 17 = .ok (.anewarray 42, 3) := dk_189 0 42 (dk_at dksX1_init_0 17 rfl rfl)
theorem dX1_init_20 : decode cX1_init 20 = .ok (.putfield 84, 3) := dk_181 0 84 (dk_at dksX1_init_0 20 rfl rfl)
theorem dX1_init_23 : decode cX1_init 23 = .ok (.aload_n 0, 1) := dk_42 (dk_at dksX1_init_0 23 rfl rfl)
theorem dX1_init_24 : decode cX1_init 24 = .ok (.bipush 120, 2) := dk_16 120 (dk_at dksX1_init_1 0 rfl rfl)
theorem dX1_init_26 : decode cX1_init 26 = .ok (.newarray .byte, 2) := dk_188_8 (dk_at dksX1_init_1 2 rfl rfl)
theorem dX1_init_28 : decode cX1_init 28 = .ok (.putfield 88, 3) := dk_181 0 88 (dk_at dksX1_init_1 4 rfl rfl)
theorem dX1_init_31 : decode cX1_init 31 = .ok (.aload_n 0, 1) := dk_42 (dk_at dksX1_init_1 7 rfl rfl)
theorem dX1_init_32 : decode cX1_init 32 = .ok (.new 92, 3) := dk_187 0 92 (dk_at dksX1_init_1 8 rfl rfl)
theorem dX1_init_35 : decode cX1_init 35 = .ok (.dup, 1) := dk_89 (dk_at dksX1_init_1 11 rfl rfl)
theorem dX1_init_36 : decode cX1_init 36 = .ok (.invokespecial 94, 3) := dk_183 0 94 (dk_at dksX1_init_1 12 rfl rfl)
theorem dX1_init_39 : decode cX1_init 39 = .ok (.putfield 61, 3) := dk_181 0 61 (dk_at dksX1_init_1 15 rfl rfl)
theorem dX1_init_42 : decode cX1_init 42 = .ok (.return_, 1) := dk_177 (dk_at dksX1_init_1 18 rfl rfl)
abbrev cX1_reverse : ByteArray := prog_1_method_13_code
def yX1_reverse : MethodName := ⟨RX1, "reverse", "()I"⟩
def dkwX1_reverse_1 : List UInt8 := [180, 0, 113, 180, 0, 122, 182, 0, 125, 182, 0, 109, 172]
abbrev dktX1_reverse_1 : List UInt8 := dkwX1_reverse_1 ++ []
def dkwX1_reverse_0 : List UInt8 := [42, 180, 0, 80, 182, 0, 105, 76, 43, 180, 0, 113, 182, 0, 117, 42, 43, 43, 180, 0, 113, 43]
abbrev dktX1_reverse_0 : List UInt8 := dkwX1_reverse_0 ++ dktX1_reverse_1
theorem dksX1_reverse_0 : cX1_reverse.data.toList.drop 0 = dktX1_reverse_0 := by decide +kernel
theorem dksX1_reverse_1 : cX1_reverse.data.toList.drop 22 = dktX1_reverse_1 := dk_seg dksX1_reverse_0 22 rfl rfl
theorem dX1_reverse_0 : decode cX1_reverse 0 = .ok (.aload_n 0, 1) := dk_42 (dk_at dksX1_reverse_0 0 rfl rfl)
theorem dX1_reverse_1 : decode cX1_reverse 1 = .ok (.getfield 80, 3) := dk_180 0 80 (dk_at dksX1_reverse_0 1 rfl rfl)
theorem dX1_reverse_4 : decode cX1_reverse 4 = .ok (.invokevirtual 105, 3) := dk_182 0 105 (dk_at dksX1_reverse_0 4 rfl rfl)
theorem dX1_reverse_7 : decode cX1_reverse 7 = .ok (.astore_n 1, 1) := dk_76 (dk_at dksX1_reverse_0 7 rfl rfl)
theorem dX1_reverse_8 : decode cX1_reverse 8 = .ok (.aload_n 1, 1) := dk_43 (dk_at dksX1_reverse_0 8 rfl rfl)
theorem dX1_reverse_9 : decode cX1_reverse 9 = .ok (.getfield 113, 3) := dk_180 0 113 (dk_at dksX1_reverse_0 9 rfl rfl)
theorem dX1_reverse_12 : decode cX1_reverse 12 = .ok (.invokevirtual 117, 3) := dk_182 0 117 (dk_at dksX1_reverse_0 12 rfl rfl)
theorem dX1_reverse_15 : decode cX1_reverse 15 = .ok (.aload_n 0, 1) := dk_42 (dk_at dksX1_reverse_0 15 rfl rfl)
theorem dX1_reverse_16 : decode cX1_reverse 16 = .ok (.aload_n 1, 1) := dk_43 (dk_at dksX1_reverse_0 16 rfl rfl)
theorem dX1_reverse_17 : decode cX1_reverse 17 = .ok (.aload_n 1, 1) := dk_43 (dk_at dksX1_reverse_0 17 rfl rfl)
theorem dX1_reverse_18 : decode cX1_reverse 18 = .ok (.getfield 113, 3) := dk_180 0 113 (dk_at dksX1_reverse_0 18 rfl rfl)
theorem dX1_reverse_21 : decode cX1_reverse 21 = .ok (.aload_n 1, 1) := dk_43 (dk_at dksX1_reverse_0 21 rfl rfl)
theorem dX1_reverse_22 : decode cX1_reverse 22 = .ok (.getfield 113, 3) := dk_180 0 113 (dk_at dksX1_reverse_1 0 rfl rfl)
theorem dX1_reverse_25 : decode cX1_reverse 25 = .ok (.getfield 122, 3) := dk_180 0 122 (dk_at dksX1_reverse_1 3 rfl rfl)
theorem dX1_reverse_28 : decode cX1_reverse 28 = .ok (.invokevirtual 125, 3) := dk_182 0 125 (dk_at dksX1_reverse_1 6 rfl rfl)
theorem dX1_reverse_31 : decode cX1_reverse 31 = .ok (.invokevirtual 109, 3) := dk_182 0 109 (dk_at dksX1_reverse_1 9 rfl rfl)
theorem dX1_reverse_34 : decode cX1_reverse 34 = .ok (.ireturn, 1) := dk_172 (dk_at dksX1_reverse_1 12 rfl rfl)
abbrev cX1_become : ByteArray := prog_1_method_8_code
def yX1_become : MethodName := ⟨RX1, "become", "(LLineEchoes$Bench;I)I"⟩
def dkwX1_become_2 : List UInt8 := [180, 0, 95, 4, 96, 181, 0, 95, 42, 43, 181, 0, 80, 28, 172]
abbrev dktX1_become_2 : List UInt8 := dkwX1_become_2 ++ []
def dkwX1_become_1 : List UInt8 := [180, 0, 95, 4, 100, 181, 0, 95, 42, 180, 0, 84, 42, 180, 0, 95, 42, 180, 0, 80, 83, 42, 89]
abbrev dktX1_become_1 : List UInt8 := dkwX1_become_1 ++ dktX1_become_2
def dkwX1_become_0 : List UInt8 := [42, 180, 0, 95, 6, 160, 0, 27, 42, 180, 0, 84, 4, 42, 180, 0, 84, 3, 5, 184, 0, 99, 42, 89]
abbrev dktX1_become_0 : List UInt8 := dkwX1_become_0 ++ dktX1_become_1
theorem dksX1_become_0 : cX1_become.data.toList.drop 0 = dktX1_become_0 := by decide +kernel
theorem dksX1_become_1 : cX1_become.data.toList.drop 24 = dktX1_become_1 := dk_seg dksX1_become_0 24 rfl rfl
theorem dksX1_become_2 : cX1_become.data.toList.drop 47 = dktX1_become_2 := dk_seg dksX1_become_1 23 rfl rfl
theorem dX1_become_0 : decode cX1_become 0 = .ok (.aload_n 0, 1) := dk_42 (dk_at dksX1_become_0 0 rfl rfl)
theorem dX1_become_1 : decode cX1_become 1 = .ok (.getfield 95, 3) := dk_180 0 95 (dk_at dksX1_become_0 1 rfl rfl)
theorem dX1_become_4 : decode cX1_become 4 = .ok (.iconst 3, 1) := dk_6 (dk_at dksX1_become_0 4 rfl rfl)
theorem dX1_become_5 : decode cX1_become 5 = .ok (.if_icmp .ne 27, 3) := dk_160 0 27 (dk_at dksX1_become_0 5 rfl rfl)
theorem dX1_become_8 : decode cX1_become 8 = .ok (.aload_n 0, 1) := dk_42 (dk_at dksX1_become_0 8 rfl rfl)
theorem dX1_become_9 : decode cX1_become 9 = .ok (.getfield 84, 3) := dk_180 0 84 (dk_at dksX1_become_0 9 rfl rfl)
theorem dX1_become_12 : decode cX1_become 12 = .ok (.iconst 1, 1) := dk_4 (dk_at dksX1_become_0 12 rfl rfl)
theorem dX1_become_13 : decode cX1_become 13 = .ok (.aload_n 0, 1) := dk_42 (dk_at dksX1_become_0 13 rfl rfl)
theorem dX1_become_14 : decode cX1_become 14 = .ok (.getfield 84, 3) := dk_180 0 84 (dk_at dksX1_become_0 14 rfl rfl)
theorem dX1_become_17 : decode cX1_become 17 = .ok (.iconst 0, 1) := dk_3 (dk_at dksX1_become_0 17 rfl rfl)
theorem dX1_become_18 : decode cX1_become 18 = .ok (.iconst 2, 1) := dk_5 (dk_at dksX1_become_0 18 rfl rfl)
theorem dX1_become_19 : decode cX1_become 19 = .ok (.invokestatic 99, 3) := dk_184 0 99 (dk_at dksX1_become_0 19 rfl rfl)
theorem dX1_become_22 : decode cX1_become 22 = .ok (.aload_n 0, 1) := dk_42 (dk_at dksX1_become_0 22 rfl rfl)
theorem dX1_become_23 : decode cX1_become 23 = .ok (.dup, 1) := dk_89 (dk_at dksX1_become_0 23 rfl rfl)
theorem dX1_become_24 : decode cX1_become 24 = .ok (.getfield 95, 3) := dk_180 0 95 (dk_at dksX1_become_1 0 rfl rfl)
theorem dX1_become_27 : decode cX1_become 27 = .ok (.iconst 1, 1) := dk_4 (dk_at dksX1_become_1 3 rfl rfl)
theorem dX1_become_28 : decode cX1_become 28 = .ok (.isub, 1) := dk_100 (dk_at dksX1_become_1 4 rfl rfl)
theorem dX1_become_29 : decode cX1_become 29 = .ok (.putfield 95, 3) := dk_181 0 95 (dk_at dksX1_become_1 5 rfl rfl)
theorem dX1_become_32 : decode cX1_become 32 = .ok (.aload_n 0, 1) := dk_42 (dk_at dksX1_become_1 8 rfl rfl)
theorem dX1_become_33 : decode cX1_become 33 = .ok (.getfield 84, 3) := dk_180 0 84 (dk_at dksX1_become_1 9 rfl rfl)
theorem dX1_become_36 : decode cX1_become 36 = .ok (.aload_n 0, 1) := dk_42 (dk_at dksX1_become_1 12 rfl rfl)
theorem dX1_become_37 : decode cX1_become 37 = .ok (.getfield 95, 3) := dk_180 0 95 (dk_at dksX1_become_1 13 rfl rfl)
theorem dX1_become_40 : decode cX1_become 40 = .ok (.aload_n 0, 1) := dk_42 (dk_at dksX1_become_1 16 rfl rfl)
theorem dX1_become_41 : decode cX1_become 41 = .ok (.getfield 80, 3) := dk_180 0 80 (dk_at dksX1_become_1 17 rfl rfl)
theorem dX1_become_44 : decode cX1_become 44 = .ok (.aastore, 1) := dk_83 (dk_at dksX1_become_1 20 rfl rfl)
theorem dX1_become_45 : decode cX1_become 45 = .ok (.aload_n 0, 1) := dk_42 (dk_at dksX1_become_1 21 rfl rfl)
theorem dX1_become_46 : decode cX1_become 46 = .ok (.dup, 1) := dk_89 (dk_at dksX1_become_1 22 rfl rfl)
theorem dX1_become_47 : decode cX1_become 47 = .ok (.getfield 95, 3) := dk_180 0 95 (dk_at dksX1_become_2 0 rfl rfl)
theorem dX1_become_50 : decode cX1_become 50 = .ok (.iconst 1, 1) := dk_4 (dk_at dksX1_become_2 3 rfl rfl)
theorem dX1_become_51 : decode cX1_become 51 = .ok (.iadd, 1) := dk_96 (dk_at dksX1_become_2 4 rfl rfl)
theorem dX1_become_52 : decode cX1_become 52 = .ok (.putfield 95, 3) := dk_181 0 95 (dk_at dksX1_become_2 5 rfl rfl)
theorem dX1_become_55 : decode cX1_become 55 = .ok (.aload_n 0, 1) := dk_42 (dk_at dksX1_become_2 8 rfl rfl)
theorem dX1_become_56 : decode cX1_become 56 = .ok (.aload_n 1, 1) := dk_43 (dk_at dksX1_become_2 9 rfl rfl)
theorem dX1_become_57 : decode cX1_become 57 = .ok (.putfield 80, 3) := dk_181 0 80 (dk_at dksX1_become_2 10 rfl rfl)
theorem dX1_become_60 : decode cX1_become 60 = .ok (.iload_n 2, 1) := dk_28 (dk_at dksX1_become_2 13 rfl rfl)
theorem dX1_become_61 : decode cX1_become 61 = .ok (.ireturn, 1) := dk_172 (dk_at dksX1_become_2 14 rfl rfl)
abbrev cX1_keepSound : ByteArray := prog_1_method_27_code
def yX1_keepSound : MethodName := ⟨RX1, "keepSound", "()I"⟩
def dkwX1_keepSound_0 : List UInt8 := [42, 180, 0, 80, 182, 0, 105, 76, 42, 43, 43, 42, 180, 0, 61, 182, 0, 65, 182, 0, 109, 172]
abbrev dktX1_keepSound_0 : List UInt8 := dkwX1_keepSound_0 ++ []
theorem dksX1_keepSound_0 : cX1_keepSound.data.toList.drop 0 = dktX1_keepSound_0 := by decide +kernel
theorem dX1_keepSound_0 : decode cX1_keepSound 0 = .ok (.aload_n 0, 1) := dk_42 (dk_at dksX1_keepSound_0 0 rfl rfl)
theorem dX1_keepSound_1 : decode cX1_keepSound 1 = .ok (.getfield 80, 3) := dk_180 0 80 (dk_at dksX1_keepSound_0 1 rfl rfl)
theorem dX1_keepSound_4 : decode cX1_keepSound 4 = .ok (.invokevirtual 105, 3) := dk_182 0 105 (dk_at dksX1_keepSound_0 4 rfl rfl)
theorem dX1_keepSound_7 : decode cX1_keepSound 7 = .ok (.astore_n 1, 1) := dk_76 (dk_at dksX1_keepSound_0 7 rfl rfl)
theorem dX1_keepSound_8 : decode cX1_keepSound 8 = .ok (.aload_n 0, 1) := dk_42 (dk_at dksX1_keepSound_0 8 rfl rfl)
theorem dX1_keepSound_9 : decode cX1_keepSound 9 = .ok (.aload_n 1, 1) := dk_43 (dk_at dksX1_keepSound_0 9 rfl rfl)
theorem dX1_keepSound_10 : decode cX1_keepSound 10 = .ok (.aload_n 1, 1) := dk_43 (dk_at dksX1_keepSound_0 10 rfl rfl)
theorem dX1_keepSound_11 : decode cX1_keepSound 11 = .ok (.aload_n 0, 1) := dk_42 (dk_at dksX1_keepSound_0 11 rfl rfl)
theorem dX1_keepSound_12 : decode cX1_keepSound 12 = .ok (.getfield 61, 3) := dk_180 0 61 (dk_at dksX1_keepSound_0 12 rfl rfl)
theorem dX1_keepSound_15 : decode cX1_keepSound 15 = .ok (.invokevirtual 65, 3) := dk_182 0 65 (dk_at dksX1_keepSound_0 15 rfl rfl)
theorem dX1_keepSound_18 : decode cX1_keepSound 18 = .ok (.invokevirtual 109, 3) := dk_182 0 109 (dk_at dksX1_keepSound_0 18 rfl rfl)
theorem dX1_keepSound_21 : decode cX1_keepSound 21 = .ok (.ireturn, 1) := dk_172 (dk_at dksX1_keepSound_0 21 rfl rfl)
abbrev cX1_differences : ByteArray := prog_1_method_28_code
def yX1_differences : MethodName := ⟨RX1, "differences", "()I"⟩
def dkwX1_differences_0 : List UInt8 := [42, 180, 0, 80, 42, 180, 0, 61, 182, 0, 228, 172]
abbrev dktX1_differences_0 : List UInt8 := dkwX1_differences_0 ++ []
theorem dksX1_differences_0 : cX1_differences.data.toList.drop 0 = dktX1_differences_0 := by decide +kernel
theorem dX1_differences_0 : decode cX1_differences 0 = .ok (.aload_n 0, 1) := dk_42 (dk_at dksX1_differences_0 0 rfl rfl)
theorem dX1_differences_1 : decode cX1_differences 1 = .ok (.getfield 80, 3) := dk_180 0 80 (dk_at dksX1_differences_0 1 rfl rfl)
theorem dX1_differences_4 : decode cX1_differences 4 = .ok (.aload_n 0, 1) := dk_42 (dk_at dksX1_differences_0 4 rfl rfl)
theorem dX1_differences_5 : decode cX1_differences 5 = .ok (.getfield 61, 3) := dk_180 0 61 (dk_at dksX1_differences_0 5 rfl rfl)
theorem dX1_differences_8 : decode cX1_differences 8 = .ok (.invokevirtual 228, 3) := dk_182 0 228 (dk_at dksX1_differences_0 8 rfl rfl)
theorem dX1_differences_11 : decode cX1_differences 11 = .ok (.ireturn, 1) := dk_172 (dk_at dksX1_differences_0 11 rfl rfl)
abbrev cX1_observe : ByteArray := prog_1_method_30_code
def yX1_observe : MethodName := ⟨RX1, "observe", "()I"⟩
def dkwX1_observe_0 : List UInt8 := [42, 180, 0, 80, 182, 0, 105, 76, 42, 43, 43, 42, 180, 0, 61, 182, 0, 69, 182, 0, 109, 172]
abbrev dktX1_observe_0 : List UInt8 := dkwX1_observe_0 ++ []
theorem dksX1_observe_0 : cX1_observe.data.toList.drop 0 = dktX1_observe_0 := by decide +kernel
theorem dX1_observe_0 : decode cX1_observe 0 = .ok (.aload_n 0, 1) := dk_42 (dk_at dksX1_observe_0 0 rfl rfl)
theorem dX1_observe_1 : decode cX1_observe 1 = .ok (.getfield 80, 3) := dk_180 0 80 (dk_at dksX1_observe_0 1 rfl rfl)
theorem dX1_observe_4 : decode cX1_observe 4 = .ok (.invokevirtual 105, 3) := dk_182 0 105 (dk_at dksX1_observe_0 4 rfl rfl)
theorem dX1_observe_7 : decode cX1_observe 7 = .ok (.astore_n 1, 1) := dk_76 (dk_at dksX1_observe_0 7 rfl rfl)
theorem dX1_observe_8 : decode cX1_observe 8 = .ok (.aload_n 0, 1) := dk_42 (dk_at dksX1_observe_0 8 rfl rfl)
theorem dX1_observe_9 : decode cX1_observe 9 = .ok (.aload_n 1, 1) := dk_43 (dk_at dksX1_observe_0 9 rfl rfl)
theorem dX1_observe_10 : decode cX1_observe 10 = .ok (.aload_n 1, 1) := dk_43 (dk_at dksX1_observe_0 10 rfl rfl)
theorem dX1_observe_11 : decode cX1_observe 11 = .ok (.aload_n 0, 1) := dk_42 (dk_at dksX1_observe_0 11 rfl rfl)
theorem dX1_observe_12 : decode cX1_observe 12 = .ok (.getfield 61, 3) := dk_180 0 61 (dk_at dksX1_observe_0 12 rfl rfl)
theorem dX1_observe_15 : decode cX1_observe 15 = .ok (.invokevirtual 69, 3) := dk_182 0 69 (dk_at dksX1_observe_0 15 rfl rfl)
theorem dX1_observe_18 : decode cX1_observe 18 = .ok (.invokevirtual 109, 3) := dk_182 0 109 (dk_at dksX1_observe_0 18 rfl rfl)
theorem dX1_observe_21 : decode cX1_observe 21 = .ok (.ireturn, 1) := dk_172 (dk_at dksX1_observe_0 21 rfl rfl)
abbrev cX1_adopt : ByteArray := prog_1_method_38_code
def yX1_adopt : MethodName := ⟨RX1, "adopt", "()I"⟩
def dkwX1_adopt_0 : List UInt8 := [42, 180, 0, 80, 182, 0, 105, 76, 42, 43, 43, 42, 180, 0, 61, 182, 0, 72, 182, 0, 109, 172]
abbrev dktX1_adopt_0 : List UInt8 := dkwX1_adopt_0 ++ []
theorem dksX1_adopt_0 : cX1_adopt.data.toList.drop 0 = dktX1_adopt_0 := by decide +kernel
theorem dX1_adopt_0 : decode cX1_adopt 0 = .ok (.aload_n 0, 1) := dk_42 (dk_at dksX1_adopt_0 0 rfl rfl)
theorem dX1_adopt_1 : decode cX1_adopt 1 = .ok (.getfield 80, 3) := dk_180 0 80 (dk_at dksX1_adopt_0 1 rfl rfl)
theorem dX1_adopt_4 : decode cX1_adopt 4 = .ok (.invokevirtual 105, 3) := dk_182 0 105 (dk_at dksX1_adopt_0 4 rfl rfl)
theorem dX1_adopt_7 : decode cX1_adopt 7 = .ok (.astore_n 1, 1) := dk_76 (dk_at dksX1_adopt_0 7 rfl rfl)
theorem dX1_adopt_8 : decode cX1_adopt 8 = .ok (.aload_n 0, 1) := dk_42 (dk_at dksX1_adopt_0 8 rfl rfl)
theorem dX1_adopt_9 : decode cX1_adopt 9 = .ok (.aload_n 1, 1) := dk_43 (dk_at dksX1_adopt_0 9 rfl rfl)
theorem dX1_adopt_10 : decode cX1_adopt 10 = .ok (.aload_n 1, 1) := dk_43 (dk_at dksX1_adopt_0 10 rfl rfl)
theorem dX1_adopt_11 : decode cX1_adopt 11 = .ok (.aload_n 0, 1) := dk_42 (dk_at dksX1_adopt_0 11 rfl rfl)
theorem dX1_adopt_12 : decode cX1_adopt 12 = .ok (.getfield 61, 3) := dk_180 0 61 (dk_at dksX1_adopt_0 12 rfl rfl)
theorem dX1_adopt_15 : decode cX1_adopt 15 = .ok (.invokevirtual 72, 3) := dk_182 0 72 (dk_at dksX1_adopt_0 15 rfl rfl)
theorem dX1_adopt_18 : decode cX1_adopt 18 = .ok (.invokevirtual 109, 3) := dk_182 0 109 (dk_at dksX1_adopt_0 18 rfl rfl)
theorem dX1_adopt_21 : decode cX1_adopt 21 = .ok (.ireturn, 1) := dk_172 (dk_at dksX1_adopt_0 21 rfl rfl)
abbrev cX1_clearScript : ByteArray := prog_1_method_40_code
def yX1_clearScript : MethodName := ⟨RX1, "clearScript", "()I"⟩
def dkwX1_clearScript_0 : List UInt8 := [42, 180, 1, 21, 60, 42, 3, 181, 1, 21, 27, 172]
abbrev dktX1_clearScript_0 : List UInt8 := dkwX1_clearScript_0 ++ []
theorem dksX1_clearScript_0 : cX1_clearScript.data.toList.drop 0 = dktX1_clearScript_0 := by decide +kernel
theorem dX1_clearScript_0 : decode cX1_clearScript 0 = .ok (.aload_n 0, 1) := dk_42 (dk_at dksX1_clearScript_0 0 rfl rfl)
theorem dX1_clearScript_1 : decode cX1_clearScript 1 = .ok (.getfield 277, 3) := dk_180 1 21 (dk_at dksX1_clearScript_0 1 rfl rfl)
theorem dX1_clearScript_4 : decode cX1_clearScript 4 = .ok (.istore_n 1, 1) := dk_60 (dk_at dksX1_clearScript_0 4 rfl rfl)
theorem dX1_clearScript_5 : decode cX1_clearScript 5 = .ok (.aload_n 0, 1) := dk_42 (dk_at dksX1_clearScript_0 5 rfl rfl)
theorem dX1_clearScript_6 : decode cX1_clearScript 6 = .ok (.iconst 0, 1) := dk_3 (dk_at dksX1_clearScript_0 6 rfl rfl)
theorem dX1_clearScript_7 : decode cX1_clearScript 7 = .ok (.putfield 277, 3) := dk_181 1 21 (dk_at dksX1_clearScript_0 7 rfl rfl)
theorem dX1_clearScript_10 : decode cX1_clearScript 10 = .ok (.iload_n 1, 1) := dk_27 (dk_at dksX1_clearScript_0 10 rfl rfl)
theorem dX1_clearScript_11 : decode cX1_clearScript 11 = .ok (.ireturn, 1) := dk_172 (dk_at dksX1_clearScript_0 11 rfl rfl)
abbrev cX1_run : ByteArray := prog_1_method_42_code
def yX1_run : MethodName := ⟨RX1, "run", "()I"⟩
def dkwX1_run_2 : List UInt8 := [45, 42, 45, 182, 1, 40, 182, 0, 109, 172]
abbrev dktX1_run_2 : List UInt8 := dkwX1_run_2 ++ []
def dkwX1_run_1 : List UInt8 := [180, 1, 38, 2, 159, 0, 11, 16, 246, 43, 180, 1, 38, 100, 172, 42, 180, 0, 80, 182, 0, 105, 78, 42]
abbrev dktX1_run_1 : List UInt8 := dkwX1_run_1 ++ dktX1_run_2
def dkwX1_run_0 : List UInt8 := [187, 1, 25, 89, 42, 183, 1, 27, 76, 4, 61, 28, 153, 0, 11, 43, 182, 1, 30, 61, 167, 255, 247, 43]
abbrev dktX1_run_0 : List UInt8 := dkwX1_run_0 ++ dktX1_run_1
theorem dksX1_run_0 : cX1_run.data.toList.drop 0 = dktX1_run_0 := by decide +kernel
theorem dksX1_run_1 : cX1_run.data.toList.drop 24 = dktX1_run_1 := dk_seg dksX1_run_0 24 rfl rfl
theorem dksX1_run_2 : cX1_run.data.toList.drop 48 = dktX1_run_2 := dk_seg dksX1_run_1 24 rfl rfl
theorem dX1_run_0 : decode cX1_run 0 = .ok (.new 281, 3) := dk_187 1 25 (dk_at dksX1_run_0 0 rfl rfl)
theorem dX1_run_3 : decode cX1_run 3 = .ok (.dup, 1) := dk_89 (dk_at dksX1_run_0 3 rfl rfl)
theorem dX1_run_4 : decode cX1_run 4 = .ok (.aload_n 0, 1) := dk_42 (dk_at dksX1_run_0 4 rfl rfl)
theorem dX1_run_5 : decode cX1_run 5 = .ok (.invokespecial 283, 3) := dk_183 1 27 (dk_at dksX1_run_0 5 rfl rfl)
theorem dX1_run_8 : decode cX1_run 8 = .ok (.astore_n 1, 1) := dk_76 (dk_at dksX1_run_0 8 rfl rfl)
theorem dX1_run_9 : decode cX1_run 9 = .ok (.iconst 1, 1) := dk_4 (dk_at dksX1_run_0 9 rfl rfl)
theorem dX1_run_10 : decode cX1_run 10 = .ok (.istore_n 2, 1) := dk_61 (dk_at dksX1_run_0 10 rfl rfl)
theorem dX1_run_11 : decode cX1_run 11 = .ok (.iload_n 2, 1) := dk_28 (dk_at dksX1_run_0 11 rfl rfl)
theorem dX1_run_12 : decode cX1_run 12 = .ok (.ifCond .eq 11, 3) := dk_153 0 11 (dk_at dksX1_run_0 12 rfl rfl)
theorem dX1_run_15 : decode cX1_run 15 = .ok (.aload_n 1, 1) := dk_43 (dk_at dksX1_run_0 15 rfl rfl)
theorem dX1_run_16 : decode cX1_run 16 = .ok (.invokevirtual 286, 3) := dk_182 1 30 (dk_at dksX1_run_0 16 rfl rfl)
theorem dX1_run_19 : decode cX1_run 19 = .ok (.istore_n 2, 1) := dk_61 (dk_at dksX1_run_0 19 rfl rfl)
theorem dX1_run_20 : decode cX1_run 20 = .ok (.goto (-9), 3) := dk_167 255 247 (dk_at dksX1_run_0 20 rfl rfl)
theorem dX1_run_23 : decode cX1_run 23 = .ok (.aload_n 1, 1) := dk_43 (dk_at dksX1_run_0 23 rfl rfl)
theorem dX1_run_24 : decode cX1_run 24 = .ok (.getfield 294, 3) := dk_180 1 38 (dk_at dksX1_run_1 0 rfl rfl)
theorem dX1_run_27 : decode cX1_run 27 = .ok (.iconst (-1), 1) := dk_2 (dk_at dksX1_run_1 3 rfl rfl)
theorem dX1_run_28 : decode cX1_run 28 = .ok (.if_icmp .eq 11, 3) := dk_159 0 11 (dk_at dksX1_run_1 4 rfl rfl)
theorem dX1_run_31 : decode cX1_run 31 = .ok (.bipush (-10), 2) := dk_16 246 (dk_at dksX1_run_1 7 rfl rfl)
theorem dX1_run_33 : decode cX1_run 33 = .ok (.aload_n 1, 1) := dk_43 (dk_at dksX1_run_1 9 rfl rfl)
theorem dX1_run_34 : decode cX1_run 34 = .ok (.getfield 294, 3) := dk_180 1 38 (dk_at dksX1_run_1 10 rfl rfl)
theorem dX1_run_37 : decode cX1_run 37 = .ok (.isub, 1) := dk_100 (dk_at dksX1_run_1 13 rfl rfl)
theorem dX1_run_38 : decode cX1_run 38 = .ok (.ireturn, 1) := dk_172 (dk_at dksX1_run_1 14 rfl rfl)
theorem dX1_run_39 : decode cX1_run 39 = .ok (.aload_n 0, 1) := dk_42 (dk_at dksX1_run_1 15 rfl rfl)
theorem dX1_run_40 : decode cX1_run 40 = .ok (.getfield 80, 3) := dk_180 0 80 (dk_at dksX1_run_1 16 rfl rfl)
theorem dX1_run_43 : decode cX1_run 43 = .ok (.invokevirtual 105, 3) := dk_182 0 105 (dk_at dksX1_run_1 19 rfl rfl)
theorem dX1_run_46 : decode cX1_run 46 = .ok (.astore_n 3, 1) := dk_78 (dk_at dksX1_run_1 22 rfl rfl)
theorem dX1_run_47 : decode cX1_run 47 = .ok (.aload_n 0, 1) := dk_42 (dk_at dksX1_run_1 23 rfl rfl)
theorem dX1_run_48 : decode cX1_run 48 = .ok (.aload_n 3, 1) := dk_45 (dk_at dksX1_run_2 0 rfl rfl)
theorem dX1_run_49 : decode cX1_run 49 = .ok (.aload_n 0, 1) := dk_42 (dk_at dksX1_run_2 1 rfl rfl)
theorem dX1_run_50 : decode cX1_run 50 = .ok (.aload_n 3, 1) := dk_45 (dk_at dksX1_run_2 2 rfl rfl)
theorem dX1_run_51 : decode cX1_run 51 = .ok (.invokevirtual 296, 3) := dk_182 1 40 (dk_at dksX1_run_2 3 rfl rfl)
theorem dX1_run_54 : decode cX1_run 54 = .ok (.invokevirtual 109, 3) := dk_182 0 109 (dk_at dksX1_run_2 6 rfl rfl)
theorem dX1_run_57 : decode cX1_run 57 = .ok (.ireturn, 1) := dk_172 (dk_at dksX1_run_2 9 rfl rfl)
abbrev cX1_inRange : ByteArray := prog_1_method_1_code
def yX1_inRange : MethodName := ⟨RX1, "inRange", "(JJJ)Z"⟩
def dkwX1_inRange_0 : List UInt8 := [30, 32, 148, 155, 0, 14, 30, 22, 4, 148, 157, 0, 7, 4, 167, 0, 4, 3, 172]
abbrev dktX1_inRange_0 : List UInt8 := dkwX1_inRange_0 ++ []
theorem dksX1_inRange_0 : cX1_inRange.data.toList.drop 0 = dktX1_inRange_0 := by decide +kernel
theorem dX1_inRange_0 : decode cX1_inRange 0 = .ok (.lload_n 0, 1) := dk_30 (dk_at dksX1_inRange_0 0 rfl rfl)
theorem dX1_inRange_1 : decode cX1_inRange 1 = .ok (.lload_n 2, 1) := dk_32 (dk_at dksX1_inRange_0 1 rfl rfl)
theorem dX1_inRange_2 : decode cX1_inRange 2 = .ok (.lcmp, 1) := dk_148 (dk_at dksX1_inRange_0 2 rfl rfl)
theorem dX1_inRange_3 : decode cX1_inRange 3 = .ok (.ifCond .lt 14, 3) := dk_155 0 14 (dk_at dksX1_inRange_0 3 rfl rfl)
theorem dX1_inRange_6 : decode cX1_inRange 6 = .ok (.lload_n 0, 1) := dk_30 (dk_at dksX1_inRange_0 6 rfl rfl)
theorem dX1_inRange_7 : decode cX1_inRange 7 = .ok (.lload 4, 2) := dk_22 4 (dk_at dksX1_inRange_0 7 rfl rfl)
theorem dX1_inRange_9 : decode cX1_inRange 9 = .ok (.lcmp, 1) := dk_148 (dk_at dksX1_inRange_0 9 rfl rfl)
theorem dX1_inRange_10 : decode cX1_inRange 10 = .ok (.ifCond .gt 7, 3) := dk_157 0 7 (dk_at dksX1_inRange_0 10 rfl rfl)
theorem dX1_inRange_13 : decode cX1_inRange 13 = .ok (.iconst 1, 1) := dk_4 (dk_at dksX1_inRange_0 13 rfl rfl)
theorem dX1_inRange_14 : decode cX1_inRange 14 = .ok (.goto 4, 3) := dk_167 0 4 (dk_at dksX1_inRange_0 14 rfl rfl)
theorem dX1_inRange_17 : decode cX1_inRange 17 = .ok (.iconst 0, 1) := dk_3 (dk_at dksX1_inRange_0 17 rfl rfl)
theorem dX1_inRange_18 : decode cX1_inRange 18 = .ok (.ireturn, 1) := dk_172 (dk_at dksX1_inRange_0 18 rfl rfl)
abbrev cX1_numbersOf : ByteArray := prog_1_method_5_code
def yX1_numbersOf : MethodName := ⟨RX1, "numbersOf", "(Ljava/lang/String;)I"⟩
def dkwX1_numbersOf_8 : List UInt8 := [6, 172, 5, 172, 4, 172, 3, 172, 2, 172]
abbrev dktX1_numbersOf_8 : List UInt8 := dkwX1_numbersOf_8 ++ []
def dkwX1_numbersOf_7 : List UInt8 := [170, 0, 0, 0, 0, 0, 0, 56, 0, 0, 0, 0, 0, 0, 0, 7, 0, 0, 0, 48, 0, 0, 0, 48, 0, 0, 0, 50, 0, 0, 0, 50, 0, 0, 0, 52, 0, 0, 0, 54, 0, 0, 0, 54, 0, 0, 0, 54]
abbrev dktX1_numbersOf_7 : List UInt8 := dkwX1_numbersOf_7 ++ dktX1_numbersOf_8
def dkwX1_numbersOf_6 : List UInt8 := [61, 167, 0, 15, 43, 18, 37, 182, 0, 21, 153, 0, 6, 16, 7, 61, 28]
abbrev dktX1_numbersOf_6 : List UInt8 := dkwX1_numbersOf_6 ++ dktX1_numbersOf_7
def dkwX1_numbersOf_5 : List UInt8 := [18, 33, 182, 0, 21, 153, 0, 35, 8, 61, 167, 0, 30, 43, 18, 35, 182, 0, 21, 153, 0, 21, 16, 6]
abbrev dktX1_numbersOf_5 : List UInt8 := dkwX1_numbersOf_5 ++ dktX1_numbersOf_6
def dkwX1_numbersOf_4 : List UInt8 := [153, 0, 63, 6, 61, 167, 0, 58, 43, 18, 31, 182, 0, 21, 153, 0, 49, 7, 61, 167, 0, 44, 43]
abbrev dktX1_numbersOf_4 : List UInt8 := dkwX1_numbersOf_4 ++ dktX1_numbersOf_5
def dkwX1_numbersOf_3 : List UInt8 := [61, 167, 0, 86, 43, 18, 27, 182, 0, 21, 153, 0, 77, 5, 61, 167, 0, 72, 43, 18, 29, 182, 0, 21]
abbrev dktX1_numbersOf_3 : List UInt8 := dkwX1_numbersOf_3 ++ dktX1_numbersOf_4
def dkwX1_numbersOf_2 : List UInt8 := [43, 18, 19, 182, 0, 21, 153, 0, 105, 3, 61, 167, 0, 100, 43, 18, 25, 182, 0, 21, 153, 0, 91, 4]
abbrev dktX1_numbersOf_2 : List UInt8 := dkwX1_numbersOf_2 ++ dktX1_numbersOf_3
def dkwX1_numbersOf_1 : List UInt8 := [171, 0, 0, 0, 0, 0, 0, 187, 0, 0, 0, 8, 0, 1, 130, 66, 0, 0, 0, 132, 0, 1, 188, 98, 0, 0, 0, 76, 0, 50, 198, 159, 0, 0, 0, 160, 0, 52, 99, 243, 0, 0, 0, 104, 5, 134, 11, 176, 0, 0, 0, 175, 6, 97, 27, 153, 0, 0, 0, 118, 6, 136, 201, 15, 0, 0, 0, 146, 6, 137, 27, 26, 0, 0, 0, 90]
abbrev dktX1_numbersOf_1 : List UInt8 := dkwX1_numbersOf_1 ++ dktX1_numbersOf_2
def dkwX1_numbersOf_0 : List UInt8 := [42, 76, 2, 61, 43, 182, 0, 13]
abbrev dktX1_numbersOf_0 : List UInt8 := dkwX1_numbersOf_0 ++ dktX1_numbersOf_1
theorem dksX1_numbersOf_0 : cX1_numbersOf.data.toList.drop 0 = dktX1_numbersOf_0 := by decide +kernel
theorem dksX1_numbersOf_1 : cX1_numbersOf.data.toList.drop 8 = dktX1_numbersOf_1 := dk_seg dksX1_numbersOf_0 8 rfl rfl
theorem dksX1_numbersOf_2 : cX1_numbersOf.data.toList.drop 84 = dktX1_numbersOf_2 := dk_seg dksX1_numbersOf_1 76 rfl rfl
theorem dksX1_numbersOf_3 : cX1_numbersOf.data.toList.drop 108 = dktX1_numbersOf_3 := dk_seg dksX1_numbersOf_2 24 rfl rfl
theorem dksX1_numbersOf_4 : cX1_numbersOf.data.toList.drop 132 = dktX1_numbersOf_4 := dk_seg dksX1_numbersOf_3 24 rfl rfl
theorem dksX1_numbersOf_5 : cX1_numbersOf.data.toList.drop 155 = dktX1_numbersOf_5 := dk_seg dksX1_numbersOf_4 23 rfl rfl
theorem dksX1_numbersOf_6 : cX1_numbersOf.data.toList.drop 179 = dktX1_numbersOf_6 := dk_seg dksX1_numbersOf_5 24 rfl rfl
theorem dksX1_numbersOf_7 : cX1_numbersOf.data.toList.drop 196 = dktX1_numbersOf_7 := dk_seg dksX1_numbersOf_6 17 rfl rfl
theorem dksX1_numbersOf_8 : cX1_numbersOf.data.toList.drop 244 = dktX1_numbersOf_8 := dk_seg dksX1_numbersOf_7 48 rfl rfl
theorem dX1_numbersOf_0 : decode cX1_numbersOf 0 = .ok (.aload_n 0, 1) := dk_42 (dk_at dksX1_numbersOf_0 0 rfl rfl)
theorem dX1_numbersOf_1 : decode cX1_numbersOf 1 = .ok (.astore_n 1, 1) := dk_76 (dk_at dksX1_numbersOf_0 1 rfl rfl)
theorem dX1_numbersOf_2 : decode cX1_numbersOf 2 = .ok (.iconst (-1), 1) := dk_2 (dk_at dksX1_numbersOf_0 2 rfl rfl)
theorem dX1_numbersOf_3 : decode cX1_numbersOf 3 = .ok (.istore_n 2, 1) := dk_61 (dk_at dksX1_numbersOf_0 3 rfl rfl)
theorem dX1_numbersOf_4 : decode cX1_numbersOf 4 = .ok (.aload_n 1, 1) := dk_43 (dk_at dksX1_numbersOf_0 4 rfl rfl)
theorem dX1_numbersOf_5 : decode cX1_numbersOf 5 = .ok (.invokevirtual 13, 3) := dk_182 0 13 (dk_at dksX1_numbersOf_0 5 rfl rfl)
theorem dX1_numbersOf_8 : decode cX1_numbersOf 8 = .ok (.lookupswitch 187 #[(98882, 132), (113762, 76), (3327647, 160), (3433459, 104), (92670896, 175), (107027353, 118), (109627663, 146), (109648666, 90)], 76) := by decide +kernel
theorem dX1_numbersOf_84 : decode cX1_numbersOf 84 = .ok (.aload_n 1, 1) := dk_43 (dk_at dksX1_numbersOf_2 0 rfl rfl)
theorem dX1_numbersOf_85 : decode cX1_numbersOf 85 = .ok (.ldc 19, 2) := dk_18 19 (dk_at dksX1_numbersOf_2 1 rfl rfl)
theorem dX1_numbersOf_87 : decode cX1_numbersOf 87 = .ok (.invokevirtual 21, 3) := dk_182 0 21 (dk_at dksX1_numbersOf_2 3 rfl rfl)
theorem dX1_numbersOf_90 : decode cX1_numbersOf 90 = .ok (.ifCond .eq 105, 3) := dk_153 0 105 (dk_at dksX1_numbersOf_2 6 rfl rfl)
theorem dX1_numbersOf_93 : decode cX1_numbersOf 93 = .ok (.iconst 0, 1) := dk_3 (dk_at dksX1_numbersOf_2 9 rfl rfl)
theorem dX1_numbersOf_94 : decode cX1_numbersOf 94 = .ok (.istore_n 2, 1) := dk_61 (dk_at dksX1_numbersOf_2 10 rfl rfl)
theorem dX1_numbersOf_95 : decode cX1_numbersOf 95 = .ok (.goto 100, 3) := dk_167 0 100 (dk_at dksX1_numbersOf_2 11 rfl rfl)
theorem dX1_numbersOf_98 : decode cX1_numbersOf 98 = .ok (.aload_n 1, 1) := dk_43 (dk_at dksX1_numbersOf_2 14 rfl rfl)
theorem dX1_numbersOf_99 : decode cX1_numbersOf 99 = .ok (.ldc 25, 2) := dk_18 25 (dk_at dksX1_numbersOf_2 15 rfl rfl)
theorem dX1_numbersOf_101 : decode cX1_numbersOf 101 = .ok (.invokevirtual 21, 3) := dk_182 0 21 (dk_at dksX1_numbersOf_2 17 rfl rfl)
theorem dX1_numbersOf_104 : decode cX1_numbersOf 104 = .ok (.ifCond .eq 91, 3) := dk_153 0 91 (dk_at dksX1_numbersOf_2 20 rfl rfl)
theorem dX1_numbersOf_107 : decode cX1_numbersOf 107 = .ok (.iconst 1, 1) := dk_4 (dk_at dksX1_numbersOf_2 23 rfl rfl)
theorem dX1_numbersOf_108 : decode cX1_numbersOf 108 = .ok (.istore_n 2, 1) := dk_61 (dk_at dksX1_numbersOf_3 0 rfl rfl)
theorem dX1_numbersOf_109 : decode cX1_numbersOf 109 = .ok (.goto 86, 3) := dk_167 0 86 (dk_at dksX1_numbersOf_3 1 rfl rfl)
theorem dX1_numbersOf_112 : decode cX1_numbersOf 112 = .ok (.aload_n 1, 1) := dk_43 (dk_at dksX1_numbersOf_3 4 rfl rfl)
theorem dX1_numbersOf_113 : decode cX1_numbersOf 113 = .ok (.ldc 27, 2) := dk_18 27 (dk_at dksX1_numbersOf_3 5 rfl rfl)
theorem dX1_numbersOf_115 : decode cX1_numbersOf 115 = .ok (.invokevirtual 21, 3) := dk_182 0 21 (dk_at dksX1_numbersOf_3 7 rfl rfl)
theorem dX1_numbersOf_118 : decode cX1_numbersOf 118 = .ok (.ifCond .eq 77, 3) := dk_153 0 77 (dk_at dksX1_numbersOf_3 10 rfl rfl)
theorem dX1_numbersOf_121 : decode cX1_numbersOf 121 = .ok (.iconst 2, 1) := dk_5 (dk_at dksX1_numbersOf_3 13 rfl rfl)
theorem dX1_numbersOf_122 : decode cX1_numbersOf 122 = .ok (.istore_n 2, 1) := dk_61 (dk_at dksX1_numbersOf_3 14 rfl rfl)
theorem dX1_numbersOf_123 : decode cX1_numbersOf 123 = .ok (.goto 72, 3) := dk_167 0 72 (dk_at dksX1_numbersOf_3 15 rfl rfl)
theorem dX1_numbersOf_126 : decode cX1_numbersOf 126 = .ok (.aload_n 1, 1) := dk_43 (dk_at dksX1_numbersOf_3 18 rfl rfl)
theorem dX1_numbersOf_127 : decode cX1_numbersOf 127 = .ok (.ldc 29, 2) := dk_18 29 (dk_at dksX1_numbersOf_3 19 rfl rfl)
theorem dX1_numbersOf_129 : decode cX1_numbersOf 129 = .ok (.invokevirtual 21, 3) := dk_182 0 21 (dk_at dksX1_numbersOf_3 21 rfl rfl)
theorem dX1_numbersOf_132 : decode cX1_numbersOf 132 = .ok (.ifCond .eq 63, 3) := dk_153 0 63 (dk_at dksX1_numbersOf_4 0 rfl rfl)
theorem dX1_numbersOf_135 : decode cX1_numbersOf 135 = .ok (.iconst 3, 1) := dk_6 (dk_at dksX1_numbersOf_4 3 rfl rfl)
theorem dX1_numbersOf_136 : decode cX1_numbersOf 136 = .ok (.istore_n 2, 1) := dk_61 (dk_at dksX1_numbersOf_4 4 rfl rfl)
theorem dX1_numbersOf_137 : decode cX1_numbersOf 137 = .ok (.goto 58, 3) := dk_167 0 58 (dk_at dksX1_numbersOf_4 5 rfl rfl)
theorem dX1_numbersOf_140 : decode cX1_numbersOf 140 = .ok (.aload_n 1, 1) := dk_43 (dk_at dksX1_numbersOf_4 8 rfl rfl)
theorem dX1_numbersOf_141 : decode cX1_numbersOf 141 = .ok (.ldc 31, 2) := dk_18 31 (dk_at dksX1_numbersOf_4 9 rfl rfl)
theorem dX1_numbersOf_143 : decode cX1_numbersOf 143 = .ok (.invokevirtual 21, 3) := dk_182 0 21 (dk_at dksX1_numbersOf_4 11 rfl rfl)
theorem dX1_numbersOf_146 : decode cX1_numbersOf 146 = .ok (.ifCond .eq 49, 3) := dk_153 0 49 (dk_at dksX1_numbersOf_4 14 rfl rfl)
theorem dX1_numbersOf_149 : decode cX1_numbersOf 149 = .ok (.iconst 4, 1) := dk_7 (dk_at dksX1_numbersOf_4 17 rfl rfl)
theorem dX1_numbersOf_150 : decode cX1_numbersOf 150 = .ok (.istore_n 2, 1) := dk_61 (dk_at dksX1_numbersOf_4 18 rfl rfl)
theorem dX1_numbersOf_151 : decode cX1_numbersOf 151 = .ok (.goto 44, 3) := dk_167 0 44 (dk_at dksX1_numbersOf_4 19 rfl rfl)
theorem dX1_numbersOf_154 : decode cX1_numbersOf 154 = .ok (.aload_n 1, 1) := dk_43 (dk_at dksX1_numbersOf_4 22 rfl rfl)
theorem dX1_numbersOf_155 : decode cX1_numbersOf 155 = .ok (.ldc 33, 2) := dk_18 33 (dk_at dksX1_numbersOf_5 0 rfl rfl)
theorem dX1_numbersOf_157 : decode cX1_numbersOf 157 = .ok (.invokevirtual 21, 3) := dk_182 0 21 (dk_at dksX1_numbersOf_5 2 rfl rfl)
theorem dX1_numbersOf_160 : decode cX1_numbersOf 160 = .ok (.ifCond .eq 35, 3) := dk_153 0 35 (dk_at dksX1_numbersOf_5 5 rfl rfl)
theorem dX1_numbersOf_163 : decode cX1_numbersOf 163 = .ok (.iconst 5, 1) := dk_8 (dk_at dksX1_numbersOf_5 8 rfl rfl)
theorem dX1_numbersOf_164 : decode cX1_numbersOf 164 = .ok (.istore_n 2, 1) := dk_61 (dk_at dksX1_numbersOf_5 9 rfl rfl)
theorem dX1_numbersOf_165 : decode cX1_numbersOf 165 = .ok (.goto 30, 3) := dk_167 0 30 (dk_at dksX1_numbersOf_5 10 rfl rfl)
theorem dX1_numbersOf_168 : decode cX1_numbersOf 168 = .ok (.aload_n 1, 1) := dk_43 (dk_at dksX1_numbersOf_5 13 rfl rfl)
theorem dX1_numbersOf_169 : decode cX1_numbersOf 169 = .ok (.ldc 35, 2) := dk_18 35 (dk_at dksX1_numbersOf_5 14 rfl rfl)
theorem dX1_numbersOf_171 : decode cX1_numbersOf 171 = .ok (.invokevirtual 21, 3) := dk_182 0 21 (dk_at dksX1_numbersOf_5 16 rfl rfl)
theorem dX1_numbersOf_174 : decode cX1_numbersOf 174 = .ok (.ifCond .eq 21, 3) := dk_153 0 21 (dk_at dksX1_numbersOf_5 19 rfl rfl)
theorem dX1_numbersOf_177 : decode cX1_numbersOf 177 = .ok (.bipush 6, 2) := dk_16 6 (dk_at dksX1_numbersOf_5 22 rfl rfl)
theorem dX1_numbersOf_179 : decode cX1_numbersOf 179 = .ok (.istore_n 2, 1) := dk_61 (dk_at dksX1_numbersOf_6 0 rfl rfl)
theorem dX1_numbersOf_180 : decode cX1_numbersOf 180 = .ok (.goto 15, 3) := dk_167 0 15 (dk_at dksX1_numbersOf_6 1 rfl rfl)
theorem dX1_numbersOf_183 : decode cX1_numbersOf 183 = .ok (.aload_n 1, 1) := dk_43 (dk_at dksX1_numbersOf_6 4 rfl rfl)
theorem dX1_numbersOf_184 : decode cX1_numbersOf 184 = .ok (.ldc 37, 2) := dk_18 37 (dk_at dksX1_numbersOf_6 5 rfl rfl)
theorem dX1_numbersOf_186 : decode cX1_numbersOf 186 = .ok (.invokevirtual 21, 3) := dk_182 0 21 (dk_at dksX1_numbersOf_6 7 rfl rfl)
theorem dX1_numbersOf_189 : decode cX1_numbersOf 189 = .ok (.ifCond .eq 6, 3) := dk_153 0 6 (dk_at dksX1_numbersOf_6 10 rfl rfl)
theorem dX1_numbersOf_192 : decode cX1_numbersOf 192 = .ok (.bipush 7, 2) := dk_16 7 (dk_at dksX1_numbersOf_6 13 rfl rfl)
theorem dX1_numbersOf_194 : decode cX1_numbersOf 194 = .ok (.istore_n 2, 1) := dk_61 (dk_at dksX1_numbersOf_6 15 rfl rfl)
theorem dX1_numbersOf_195 : decode cX1_numbersOf 195 = .ok (.iload_n 2, 1) := dk_28 (dk_at dksX1_numbersOf_6 16 rfl rfl)
theorem dX1_numbersOf_196 : decode cX1_numbersOf 196 = .ok (.tableswitch 56 0 7 #[48, 48, 50, 50, 52, 54, 54, 54], 48) := by decide +kernel
theorem dX1_numbersOf_244 : decode cX1_numbersOf 244 = .ok (.iconst 3, 1) := dk_6 (dk_at dksX1_numbersOf_8 0 rfl rfl)
theorem dX1_numbersOf_245 : decode cX1_numbersOf 245 = .ok (.ireturn, 1) := dk_172 (dk_at dksX1_numbersOf_8 1 rfl rfl)
theorem dX1_numbersOf_246 : decode cX1_numbersOf 246 = .ok (.iconst 2, 1) := dk_5 (dk_at dksX1_numbersOf_8 2 rfl rfl)
theorem dX1_numbersOf_247 : decode cX1_numbersOf 247 = .ok (.ireturn, 1) := dk_172 (dk_at dksX1_numbersOf_8 3 rfl rfl)
theorem dX1_numbersOf_248 : decode cX1_numbersOf 248 = .ok (.iconst 1, 1) := dk_4 (dk_at dksX1_numbersOf_8 4 rfl rfl)
theorem dX1_numbersOf_249 : decode cX1_numbersOf 249 = .ok (.ireturn, 1) := dk_172 (dk_at dksX1_numbersOf_8 5 rfl rfl)
theorem dX1_numbersOf_250 : decode cX1_numbersOf 250 = .ok (.iconst 0, 1) := dk_3 (dk_at dksX1_numbersOf_8 6 rfl rfl)
theorem dX1_numbersOf_251 : decode cX1_numbersOf 251 = .ok (.ireturn, 1) := dk_172 (dk_at dksX1_numbersOf_8 7 rfl rfl)
theorem dX1_numbersOf_252 : decode cX1_numbersOf 252 = .ok (.iconst (-1), 1) := dk_2 (dk_at dksX1_numbersOf_8 8 rfl rfl)
theorem dX1_numbersOf_253 : decode cX1_numbersOf 253 = .ok (.ireturn, 1) := dk_172 (dk_at dksX1_numbersOf_8 9 rfl rfl)
abbrev cX1_carryOutAll : ByteArray := prog_1_method_41_code
def yX1_carryOutAll : MethodName := ⟨RX1, "carryOutAll", "(LLineEchoes$Bench;)I"⟩
def dkwX1_carryOutAll_1 : List UInt8 := [54, 4, 132, 3, 1, 167, 255, 239, 167, 0, 7, 58, 4, 29, 172, 29, 172]
abbrev dktX1_carryOutAll_1 : List UInt8 := dkwX1_carryOutAll_1 ++ []
def dkwX1_carryOutAll_0 : List UInt8 := [187, 1, 25, 89, 42, 183, 1, 27, 77, 3, 62, 44, 182, 1, 30, 153, 0, 16, 44, 43, 182, 1, 34]
abbrev dktX1_carryOutAll_0 : List UInt8 := dkwX1_carryOutAll_0 ++ dktX1_carryOutAll_1
theorem dksX1_carryOutAll_0 : cX1_carryOutAll.data.toList.drop 0 = dktX1_carryOutAll_0 := by decide +kernel
theorem dksX1_carryOutAll_1 : cX1_carryOutAll.data.toList.drop 23 = dktX1_carryOutAll_1 := dk_seg dksX1_carryOutAll_0 23 rfl rfl
theorem dX1_carryOutAll_0 : decode cX1_carryOutAll 0 = .ok (.new 281, 3) := dk_187 1 25 (dk_at dksX1_carryOutAll_0 0 rfl rfl)
theorem dX1_carryOutAll_3 : decode cX1_carryOutAll 3 = .ok (.dup, 1) := dk_89 (dk_at dksX1_carryOutAll_0 3 rfl rfl)
theorem dX1_carryOutAll_4 : decode cX1_carryOutAll 4 = .ok (.aload_n 0, 1) := dk_42 (dk_at dksX1_carryOutAll_0 4 rfl rfl)
theorem dX1_carryOutAll_5 : decode cX1_carryOutAll 5 = .ok (.invokespecial 283, 3) := dk_183 1 27 (dk_at dksX1_carryOutAll_0 5 rfl rfl)
theorem dX1_carryOutAll_8 : decode cX1_carryOutAll 8 = .ok (.astore_n 2, 1) := dk_77 (dk_at dksX1_carryOutAll_0 8 rfl rfl)
theorem dX1_carryOutAll_9 : decode cX1_carryOutAll 9 = .ok (.iconst 0, 1) := dk_3 (dk_at dksX1_carryOutAll_0 9 rfl rfl)
theorem dX1_carryOutAll_10 : decode cX1_carryOutAll 10 = .ok (.istore_n 3, 1) := dk_62 (dk_at dksX1_carryOutAll_0 10 rfl rfl)
theorem dX1_carryOutAll_11 : decode cX1_carryOutAll 11 = .ok (.aload_n 2, 1) := dk_44 (dk_at dksX1_carryOutAll_0 11 rfl rfl)
theorem dX1_carryOutAll_12 : decode cX1_carryOutAll 12 = .ok (.invokevirtual 286, 3) := dk_182 1 30 (dk_at dksX1_carryOutAll_0 12 rfl rfl)
theorem dX1_carryOutAll_15 : decode cX1_carryOutAll 15 = .ok (.ifCond .eq 16, 3) := dk_153 0 16 (dk_at dksX1_carryOutAll_0 15 rfl rfl)
theorem dX1_carryOutAll_18 : decode cX1_carryOutAll 18 = .ok (.aload_n 2, 1) := dk_44 (dk_at dksX1_carryOutAll_0 18 rfl rfl)
theorem dX1_carryOutAll_19 : decode cX1_carryOutAll 19 = .ok (.aload_n 1, 1) := dk_43 (dk_at dksX1_carryOutAll_0 19 rfl rfl)
theorem dX1_carryOutAll_20 : decode cX1_carryOutAll 20 = .ok (.invokevirtual 290, 3) := dk_182 1 34 (dk_at dksX1_carryOutAll_0 20 rfl rfl)
theorem dX1_carryOutAll_23 : decode cX1_carryOutAll 23 = .ok (.istore 4, 2) := dk_54 4 (dk_at dksX1_carryOutAll_1 0 rfl rfl)
theorem dX1_carryOutAll_25 : decode cX1_carryOutAll 25 = .ok (.iinc 3 1, 3) := dk_132 3 1 (dk_at dksX1_carryOutAll_1 2 rfl rfl)
theorem dX1_carryOutAll_28 : decode cX1_carryOutAll 28 = .ok (.goto (-17), 3) := dk_167 255 239 (dk_at dksX1_carryOutAll_1 5 rfl rfl)
theorem dX1_carryOutAll_31 : decode cX1_carryOutAll 31 = .ok (.goto 7, 3) := dk_167 0 7 (dk_at dksX1_carryOutAll_1 8 rfl rfl)
theorem dX1_carryOutAll_34 : decode cX1_carryOutAll 34 = .ok (.astore 4, 2) := dk_58 4 (dk_at dksX1_carryOutAll_1 11 rfl rfl)
theorem dX1_carryOutAll_36 : decode cX1_carryOutAll 36 = .ok (.iload_n 3, 1) := dk_29 (dk_at dksX1_carryOutAll_1 13 rfl rfl)
theorem dX1_carryOutAll_37 : decode cX1_carryOutAll 37 = .ok (.ireturn, 1) := dk_172 (dk_at dksX1_carryOutAll_1 14 rfl rfl)
theorem dX1_carryOutAll_38 : decode cX1_carryOutAll 38 = .ok (.iload_n 3, 1) := dk_29 (dk_at dksX1_carryOutAll_1 15 rfl rfl)
theorem dX1_carryOutAll_39 : decode cX1_carryOutAll 39 = .ok (.ireturn, 1) := dk_172 (dk_at dksX1_carryOutAll_1 16 rfl rfl)
abbrev cX1_carryOut : ByteArray := prog_1_method_6_code
def yX1_carryOut : MethodName := ⟨RX1, "carryOut", "(LLineEchoes$Bench;Ljava/lang/String;III)I"⟩
def dkwX1_carryOut_10 : List UInt8 := [182, 0, 65, 172, 43, 42, 180, 0, 61, 182, 0, 69, 172, 43, 42, 180, 0, 61, 182, 0, 72, 172]
abbrev dktX1_carryOut_10 : List UInt8 := dkwX1_carryOut_10 ++ []
def dkwX1_carryOut_9 : List UInt8 := [43, 29, 21, 4, 21, 5, 182, 0, 55, 172, 43, 29, 21, 4, 182, 0, 58, 172, 43, 42, 180, 0, 61]
abbrev dktX1_carryOut_9 : List UInt8 := dkwX1_carryOut_9 ++ dktX1_carryOut_10
def dkwX1_carryOut_8 : List UInt8 := [43, 29, 21, 4, 182, 0, 41, 172, 43, 29, 21, 4, 21, 5, 182, 0, 47, 172, 43, 29, 182, 0, 51, 172]
abbrev dktX1_carryOut_8 : List UInt8 := dkwX1_carryOut_8 ++ dktX1_carryOut_9
def dkwX1_carryOut_7 : List UInt8 := [170, 0, 0, 0, 0, 0, 0, 104, 0, 0, 0, 0, 0, 0, 0, 6, 0, 0, 0, 44, 0, 0, 0, 52, 0, 0, 0, 62, 0, 0, 0, 68, 0, 0, 0, 78, 0, 0, 0, 86, 0, 0, 0, 95]
abbrev dktX1_carryOut_7 : List UInt8 := dkwX1_carryOut_7 ++ dktX1_carryOut_8
def dkwX1_carryOut_6 : List UInt8 := [54, 7, 167, 0, 17, 25, 6, 18, 35, 182, 0, 21, 153, 0, 7, 16, 6, 54, 7, 21, 7]
abbrev dktX1_carryOut_6 : List UInt8 := dkwX1_carryOut_6 ++ dktX1_carryOut_7
def dkwX1_carryOut_5 : List UInt8 := [182, 0, 21, 153, 0, 39, 7, 54, 7, 167, 0, 33, 25, 6, 18, 33, 182, 0, 21, 153, 0, 23, 8]
abbrev dktX1_carryOut_5 : List UInt8 := dkwX1_carryOut_5 ++ dktX1_carryOut_6
def dkwX1_carryOut_4 : List UInt8 := [167, 0, 65, 25, 6, 18, 25, 182, 0, 21, 153, 0, 55, 6, 54, 7, 167, 0, 49, 25, 6, 18, 29]
abbrev dktX1_carryOut_4 : List UInt8 := dkwX1_carryOut_4 ++ dktX1_carryOut_5
def dkwX1_carryOut_3 : List UInt8 := [153, 0, 87, 4, 54, 7, 167, 0, 81, 25, 6, 18, 31, 182, 0, 21, 153, 0, 71, 5, 54, 7]
abbrev dktX1_carryOut_3 : List UInt8 := dkwX1_carryOut_3 ++ dktX1_carryOut_4
def dkwX1_carryOut_2 : List UInt8 := [25, 6, 18, 27, 182, 0, 21, 153, 0, 103, 3, 54, 7, 167, 0, 97, 25, 6, 18, 19, 182, 0, 21]
abbrev dktX1_carryOut_2 : List UInt8 := dkwX1_carryOut_2 ++ dktX1_carryOut_3
def dkwX1_carryOut_1 : List UInt8 := [171, 0, 0, 0, 175, 0, 0, 0, 7, 0, 1, 130, 66, 0, 0, 0, 97, 0, 1, 188, 98, 0, 0, 0, 81, 0, 50, 198, 159, 0, 0, 0, 161, 0, 52, 99, 243, 0, 0, 0, 65, 6, 97, 27, 153, 0, 0, 0, 129, 6, 136, 201, 15, 0, 0, 0, 145, 6, 137, 27, 26, 0, 0, 0, 113]
abbrev dktX1_carryOut_1 : List UInt8 := dkwX1_carryOut_1 ++ dktX1_carryOut_2
def dkwX1_carryOut_0 : List UInt8 := [44, 58, 6, 2, 54, 7, 25, 6, 182, 0, 13]
abbrev dktX1_carryOut_0 : List UInt8 := dkwX1_carryOut_0 ++ dktX1_carryOut_1
theorem dksX1_carryOut_0 : cX1_carryOut.data.toList.drop 0 = dktX1_carryOut_0 := by decide +kernel
theorem dksX1_carryOut_1 : cX1_carryOut.data.toList.drop 11 = dktX1_carryOut_1 := dk_seg dksX1_carryOut_0 11 rfl rfl
theorem dksX1_carryOut_2 : cX1_carryOut.data.toList.drop 76 = dktX1_carryOut_2 := dk_seg dksX1_carryOut_1 65 rfl rfl
theorem dksX1_carryOut_3 : cX1_carryOut.data.toList.drop 99 = dktX1_carryOut_3 := dk_seg dksX1_carryOut_2 23 rfl rfl
theorem dksX1_carryOut_4 : cX1_carryOut.data.toList.drop 121 = dktX1_carryOut_4 := dk_seg dksX1_carryOut_3 22 rfl rfl
theorem dksX1_carryOut_5 : cX1_carryOut.data.toList.drop 144 = dktX1_carryOut_5 := dk_seg dksX1_carryOut_4 23 rfl rfl
theorem dksX1_carryOut_6 : cX1_carryOut.data.toList.drop 167 = dktX1_carryOut_6 := dk_seg dksX1_carryOut_5 23 rfl rfl
theorem dksX1_carryOut_7 : cX1_carryOut.data.toList.drop 188 = dktX1_carryOut_7 := dk_seg dksX1_carryOut_6 21 rfl rfl
theorem dksX1_carryOut_8 : cX1_carryOut.data.toList.drop 232 = dktX1_carryOut_8 := dk_seg dksX1_carryOut_7 44 rfl rfl
theorem dksX1_carryOut_9 : cX1_carryOut.data.toList.drop 256 = dktX1_carryOut_9 := dk_seg dksX1_carryOut_8 24 rfl rfl
theorem dksX1_carryOut_10 : cX1_carryOut.data.toList.drop 279 = dktX1_carryOut_10 := dk_seg dksX1_carryOut_9 23 rfl rfl
theorem dX1_carryOut_0 : decode cX1_carryOut 0 = .ok (.aload_n 2, 1) := dk_44 (dk_at dksX1_carryOut_0 0 rfl rfl)
theorem dX1_carryOut_1 : decode cX1_carryOut 1 = .ok (.astore 6, 2) := dk_58 6 (dk_at dksX1_carryOut_0 1 rfl rfl)
theorem dX1_carryOut_3 : decode cX1_carryOut 3 = .ok (.iconst (-1), 1) := dk_2 (dk_at dksX1_carryOut_0 3 rfl rfl)
theorem dX1_carryOut_4 : decode cX1_carryOut 4 = .ok (.istore 7, 2) := dk_54 7 (dk_at dksX1_carryOut_0 4 rfl rfl)
theorem dX1_carryOut_6 : decode cX1_carryOut 6 = .ok (.aload 6, 2) := dk_25 6 (dk_at dksX1_carryOut_0 6 rfl rfl)
theorem dX1_carryOut_8 : decode cX1_carryOut 8 = .ok (.invokevirtual 13, 3) := dk_182 0 13 (dk_at dksX1_carryOut_0 8 rfl rfl)
theorem dX1_carryOut_11 : decode cX1_carryOut 11 = .ok (.lookupswitch 175 #[(98882, 97), (113762, 81), (3327647, 161), (3433459, 65), (107027353, 129), (109627663, 145), (109648666, 113)], 65) := by decide +kernel
theorem dX1_carryOut_76 : decode cX1_carryOut 76 = .ok (.aload 6, 2) := dk_25 6 (dk_at dksX1_carryOut_2 0 rfl rfl)
theorem dX1_carryOut_78 : decode cX1_carryOut 78 = .ok (.ldc 27, 2) := dk_18 27 (dk_at dksX1_carryOut_2 2 rfl rfl)
theorem dX1_carryOut_80 : decode cX1_carryOut 80 = .ok (.invokevirtual 21, 3) := dk_182 0 21 (dk_at dksX1_carryOut_2 4 rfl rfl)
theorem dX1_carryOut_83 : decode cX1_carryOut 83 = .ok (.ifCond .eq 103, 3) := dk_153 0 103 (dk_at dksX1_carryOut_2 7 rfl rfl)
theorem dX1_carryOut_86 : decode cX1_carryOut 86 = .ok (.iconst 0, 1) := dk_3 (dk_at dksX1_carryOut_2 10 rfl rfl)
theorem dX1_carryOut_87 : decode cX1_carryOut 87 = .ok (.istore 7, 2) := dk_54 7 (dk_at dksX1_carryOut_2 11 rfl rfl)
theorem dX1_carryOut_89 : decode cX1_carryOut 89 = .ok (.goto 97, 3) := dk_167 0 97 (dk_at dksX1_carryOut_2 13 rfl rfl)
theorem dX1_carryOut_92 : decode cX1_carryOut 92 = .ok (.aload 6, 2) := dk_25 6 (dk_at dksX1_carryOut_2 16 rfl rfl)
theorem dX1_carryOut_94 : decode cX1_carryOut 94 = .ok (.ldc 19, 2) := dk_18 19 (dk_at dksX1_carryOut_2 18 rfl rfl)
theorem dX1_carryOut_96 : decode cX1_carryOut 96 = .ok (.invokevirtual 21, 3) := dk_182 0 21 (dk_at dksX1_carryOut_2 20 rfl rfl)
theorem dX1_carryOut_99 : decode cX1_carryOut 99 = .ok (.ifCond .eq 87, 3) := dk_153 0 87 (dk_at dksX1_carryOut_3 0 rfl rfl)
theorem dX1_carryOut_102 : decode cX1_carryOut 102 = .ok (.iconst 1, 1) := dk_4 (dk_at dksX1_carryOut_3 3 rfl rfl)
theorem dX1_carryOut_103 : decode cX1_carryOut 103 = .ok (.istore 7, 2) := dk_54 7 (dk_at dksX1_carryOut_3 4 rfl rfl)
theorem dX1_carryOut_105 : decode cX1_carryOut 105 = .ok (.goto 81, 3) := dk_167 0 81 (dk_at dksX1_carryOut_3 6 rfl rfl)
theorem dX1_carryOut_108 : decode cX1_carryOut 108 = .ok (.aload 6, 2) := dk_25 6 (dk_at dksX1_carryOut_3 9 rfl rfl)
theorem dX1_carryOut_110 : decode cX1_carryOut 110 = .ok (.ldc 31, 2) := dk_18 31 (dk_at dksX1_carryOut_3 11 rfl rfl)
theorem dX1_carryOut_112 : decode cX1_carryOut 112 = .ok (.invokevirtual 21, 3) := dk_182 0 21 (dk_at dksX1_carryOut_3 13 rfl rfl)
theorem dX1_carryOut_115 : decode cX1_carryOut 115 = .ok (.ifCond .eq 71, 3) := dk_153 0 71 (dk_at dksX1_carryOut_3 16 rfl rfl)
theorem dX1_carryOut_118 : decode cX1_carryOut 118 = .ok (.iconst 2, 1) := dk_5 (dk_at dksX1_carryOut_3 19 rfl rfl)
theorem dX1_carryOut_119 : decode cX1_carryOut 119 = .ok (.istore 7, 2) := dk_54 7 (dk_at dksX1_carryOut_3 20 rfl rfl)
theorem dX1_carryOut_121 : decode cX1_carryOut 121 = .ok (.goto 65, 3) := dk_167 0 65 (dk_at dksX1_carryOut_4 0 rfl rfl)
theorem dX1_carryOut_124 : decode cX1_carryOut 124 = .ok (.aload 6, 2) := dk_25 6 (dk_at dksX1_carryOut_4 3 rfl rfl)
theorem dX1_carryOut_126 : decode cX1_carryOut 126 = .ok (.ldc 25, 2) := dk_18 25 (dk_at dksX1_carryOut_4 5 rfl rfl)
theorem dX1_carryOut_128 : decode cX1_carryOut 128 = .ok (.invokevirtual 21, 3) := dk_182 0 21 (dk_at dksX1_carryOut_4 7 rfl rfl)
theorem dX1_carryOut_131 : decode cX1_carryOut 131 = .ok (.ifCond .eq 55, 3) := dk_153 0 55 (dk_at dksX1_carryOut_4 10 rfl rfl)
theorem dX1_carryOut_134 : decode cX1_carryOut 134 = .ok (.iconst 3, 1) := dk_6 (dk_at dksX1_carryOut_4 13 rfl rfl)
theorem dX1_carryOut_135 : decode cX1_carryOut 135 = .ok (.istore 7, 2) := dk_54 7 (dk_at dksX1_carryOut_4 14 rfl rfl)
theorem dX1_carryOut_137 : decode cX1_carryOut 137 = .ok (.goto 49, 3) := dk_167 0 49 (dk_at dksX1_carryOut_4 16 rfl rfl)
theorem dX1_carryOut_140 : decode cX1_carryOut 140 = .ok (.aload 6, 2) := dk_25 6 (dk_at dksX1_carryOut_4 19 rfl rfl)
theorem dX1_carryOut_142 : decode cX1_carryOut 142 = .ok (.ldc 29, 2) := dk_18 29 (dk_at dksX1_carryOut_4 21 rfl rfl)
theorem dX1_carryOut_144 : decode cX1_carryOut 144 = .ok (.invokevirtual 21, 3) := dk_182 0 21 (dk_at dksX1_carryOut_5 0 rfl rfl)
theorem dX1_carryOut_147 : decode cX1_carryOut 147 = .ok (.ifCond .eq 39, 3) := dk_153 0 39 (dk_at dksX1_carryOut_5 3 rfl rfl)
theorem dX1_carryOut_150 : decode cX1_carryOut 150 = .ok (.iconst 4, 1) := dk_7 (dk_at dksX1_carryOut_5 6 rfl rfl)
theorem dX1_carryOut_151 : decode cX1_carryOut 151 = .ok (.istore 7, 2) := dk_54 7 (dk_at dksX1_carryOut_5 7 rfl rfl)
theorem dX1_carryOut_153 : decode cX1_carryOut 153 = .ok (.goto 33, 3) := dk_167 0 33 (dk_at dksX1_carryOut_5 9 rfl rfl)
theorem dX1_carryOut_156 : decode cX1_carryOut 156 = .ok (.aload 6, 2) := dk_25 6 (dk_at dksX1_carryOut_5 12 rfl rfl)
theorem dX1_carryOut_158 : decode cX1_carryOut 158 = .ok (.ldc 33, 2) := dk_18 33 (dk_at dksX1_carryOut_5 14 rfl rfl)
theorem dX1_carryOut_160 : decode cX1_carryOut 160 = .ok (.invokevirtual 21, 3) := dk_182 0 21 (dk_at dksX1_carryOut_5 16 rfl rfl)
theorem dX1_carryOut_163 : decode cX1_carryOut 163 = .ok (.ifCond .eq 23, 3) := dk_153 0 23 (dk_at dksX1_carryOut_5 19 rfl rfl)
theorem dX1_carryOut_166 : decode cX1_carryOut 166 = .ok (.iconst 5, 1) := dk_8 (dk_at dksX1_carryOut_5 22 rfl rfl)
theorem dX1_carryOut_167 : decode cX1_carryOut 167 = .ok (.istore 7, 2) := dk_54 7 (dk_at dksX1_carryOut_6 0 rfl rfl)
theorem dX1_carryOut_169 : decode cX1_carryOut 169 = .ok (.goto 17, 3) := dk_167 0 17 (dk_at dksX1_carryOut_6 2 rfl rfl)
theorem dX1_carryOut_172 : decode cX1_carryOut 172 = .ok (.aload 6, 2) := dk_25 6 (dk_at dksX1_carryOut_6 5 rfl rfl)
theorem dX1_carryOut_174 : decode cX1_carryOut 174 = .ok (.ldc 35, 2) := dk_18 35 (dk_at dksX1_carryOut_6 7 rfl rfl)
theorem dX1_carryOut_176 : decode cX1_carryOut 176 = .ok (.invokevirtual 21, 3) := dk_182 0 21 (dk_at dksX1_carryOut_6 9 rfl rfl)
theorem dX1_carryOut_179 : decode cX1_carryOut 179 = .ok (.ifCond .eq 7, 3) := dk_153 0 7 (dk_at dksX1_carryOut_6 12 rfl rfl)
theorem dX1_carryOut_182 : decode cX1_carryOut 182 = .ok (.bipush 6, 2) := dk_16 6 (dk_at dksX1_carryOut_6 15 rfl rfl)
theorem dX1_carryOut_184 : decode cX1_carryOut 184 = .ok (.istore 7, 2) := dk_54 7 (dk_at dksX1_carryOut_6 17 rfl rfl)
theorem dX1_carryOut_186 : decode cX1_carryOut 186 = .ok (.iload 7, 2) := dk_21 7 (dk_at dksX1_carryOut_6 19 rfl rfl)
theorem dX1_carryOut_188 : decode cX1_carryOut 188 = .ok (.tableswitch 104 0 6 #[44, 52, 62, 68, 78, 86, 95], 44) := by decide +kernel
theorem dX1_carryOut_232 : decode cX1_carryOut 232 = .ok (.aload_n 1, 1) := dk_43 (dk_at dksX1_carryOut_8 0 rfl rfl)
theorem dX1_carryOut_233 : decode cX1_carryOut 233 = .ok (.iload_n 3, 1) := dk_29 (dk_at dksX1_carryOut_8 1 rfl rfl)
theorem dX1_carryOut_234 : decode cX1_carryOut 234 = .ok (.iload 4, 2) := dk_21 4 (dk_at dksX1_carryOut_8 2 rfl rfl)
theorem dX1_carryOut_236 : decode cX1_carryOut 236 = .ok (.invokevirtual 41, 3) := dk_182 0 41 (dk_at dksX1_carryOut_8 4 rfl rfl)
theorem dX1_carryOut_239 : decode cX1_carryOut 239 = .ok (.ireturn, 1) := dk_172 (dk_at dksX1_carryOut_8 7 rfl rfl)
theorem dX1_carryOut_240 : decode cX1_carryOut 240 = .ok (.aload_n 1, 1) := dk_43 (dk_at dksX1_carryOut_8 8 rfl rfl)
theorem dX1_carryOut_241 : decode cX1_carryOut 241 = .ok (.iload_n 3, 1) := dk_29 (dk_at dksX1_carryOut_8 9 rfl rfl)
theorem dX1_carryOut_242 : decode cX1_carryOut 242 = .ok (.iload 4, 2) := dk_21 4 (dk_at dksX1_carryOut_8 10 rfl rfl)
theorem dX1_carryOut_244 : decode cX1_carryOut 244 = .ok (.iload 5, 2) := dk_21 5 (dk_at dksX1_carryOut_8 12 rfl rfl)
theorem dX1_carryOut_246 : decode cX1_carryOut 246 = .ok (.invokevirtual 47, 3) := dk_182 0 47 (dk_at dksX1_carryOut_8 14 rfl rfl)
theorem dX1_carryOut_249 : decode cX1_carryOut 249 = .ok (.ireturn, 1) := dk_172 (dk_at dksX1_carryOut_8 17 rfl rfl)
theorem dX1_carryOut_250 : decode cX1_carryOut 250 = .ok (.aload_n 1, 1) := dk_43 (dk_at dksX1_carryOut_8 18 rfl rfl)
theorem dX1_carryOut_251 : decode cX1_carryOut 251 = .ok (.iload_n 3, 1) := dk_29 (dk_at dksX1_carryOut_8 19 rfl rfl)
theorem dX1_carryOut_252 : decode cX1_carryOut 252 = .ok (.invokevirtual 51, 3) := dk_182 0 51 (dk_at dksX1_carryOut_8 20 rfl rfl)
theorem dX1_carryOut_255 : decode cX1_carryOut 255 = .ok (.ireturn, 1) := dk_172 (dk_at dksX1_carryOut_8 23 rfl rfl)
theorem dX1_carryOut_256 : decode cX1_carryOut 256 = .ok (.aload_n 1, 1) := dk_43 (dk_at dksX1_carryOut_9 0 rfl rfl)
theorem dX1_carryOut_257 : decode cX1_carryOut 257 = .ok (.iload_n 3, 1) := dk_29 (dk_at dksX1_carryOut_9 1 rfl rfl)
theorem dX1_carryOut_258 : decode cX1_carryOut 258 = .ok (.iload 4, 2) := dk_21 4 (dk_at dksX1_carryOut_9 2 rfl rfl)
theorem dX1_carryOut_260 : decode cX1_carryOut 260 = .ok (.iload 5, 2) := dk_21 5 (dk_at dksX1_carryOut_9 4 rfl rfl)
theorem dX1_carryOut_262 : decode cX1_carryOut 262 = .ok (.invokevirtual 55, 3) := dk_182 0 55 (dk_at dksX1_carryOut_9 6 rfl rfl)
theorem dX1_carryOut_265 : decode cX1_carryOut 265 = .ok (.ireturn, 1) := dk_172 (dk_at dksX1_carryOut_9 9 rfl rfl)
theorem dX1_carryOut_266 : decode cX1_carryOut 266 = .ok (.aload_n 1, 1) := dk_43 (dk_at dksX1_carryOut_9 10 rfl rfl)
theorem dX1_carryOut_267 : decode cX1_carryOut 267 = .ok (.iload_n 3, 1) := dk_29 (dk_at dksX1_carryOut_9 11 rfl rfl)
theorem dX1_carryOut_268 : decode cX1_carryOut 268 = .ok (.iload 4, 2) := dk_21 4 (dk_at dksX1_carryOut_9 12 rfl rfl)
theorem dX1_carryOut_270 : decode cX1_carryOut 270 = .ok (.invokevirtual 58, 3) := dk_182 0 58 (dk_at dksX1_carryOut_9 14 rfl rfl)
theorem dX1_carryOut_273 : decode cX1_carryOut 273 = .ok (.ireturn, 1) := dk_172 (dk_at dksX1_carryOut_9 17 rfl rfl)
theorem dX1_carryOut_274 : decode cX1_carryOut 274 = .ok (.aload_n 1, 1) := dk_43 (dk_at dksX1_carryOut_9 18 rfl rfl)
theorem dX1_carryOut_275 : decode cX1_carryOut 275 = .ok (.aload_n 0, 1) := dk_42 (dk_at dksX1_carryOut_9 19 rfl rfl)
theorem dX1_carryOut_276 : decode cX1_carryOut 276 = .ok (.getfield 61, 3) := dk_180 0 61 (dk_at dksX1_carryOut_9 20 rfl rfl)
theorem dX1_carryOut_279 : decode cX1_carryOut 279 = .ok (.invokevirtual 65, 3) := dk_182 0 65 (dk_at dksX1_carryOut_10 0 rfl rfl)
theorem dX1_carryOut_282 : decode cX1_carryOut 282 = .ok (.ireturn, 1) := dk_172 (dk_at dksX1_carryOut_10 3 rfl rfl)
theorem dX1_carryOut_283 : decode cX1_carryOut 283 = .ok (.aload_n 1, 1) := dk_43 (dk_at dksX1_carryOut_10 4 rfl rfl)
theorem dX1_carryOut_284 : decode cX1_carryOut 284 = .ok (.aload_n 0, 1) := dk_42 (dk_at dksX1_carryOut_10 5 rfl rfl)
theorem dX1_carryOut_285 : decode cX1_carryOut 285 = .ok (.getfield 61, 3) := dk_180 0 61 (dk_at dksX1_carryOut_10 6 rfl rfl)
theorem dX1_carryOut_288 : decode cX1_carryOut 288 = .ok (.invokevirtual 69, 3) := dk_182 0 69 (dk_at dksX1_carryOut_10 9 rfl rfl)
theorem dX1_carryOut_291 : decode cX1_carryOut 291 = .ok (.ireturn, 1) := dk_172 (dk_at dksX1_carryOut_10 12 rfl rfl)
theorem dX1_carryOut_292 : decode cX1_carryOut 292 = .ok (.aload_n 1, 1) := dk_43 (dk_at dksX1_carryOut_10 13 rfl rfl)
theorem dX1_carryOut_293 : decode cX1_carryOut 293 = .ok (.aload_n 0, 1) := dk_42 (dk_at dksX1_carryOut_10 14 rfl rfl)
theorem dX1_carryOut_294 : decode cX1_carryOut 294 = .ok (.getfield 61, 3) := dk_180 0 61 (dk_at dksX1_carryOut_10 15 rfl rfl)
theorem dX1_carryOut_297 : decode cX1_carryOut 297 = .ok (.invokevirtual 72, 3) := dk_182 0 72 (dk_at dksX1_carryOut_10 18 rfl rfl)
theorem dX1_carryOut_300 : decode cX1_carryOut 300 = .ok (.ireturn, 1) := dk_172 (dk_at dksX1_carryOut_10 21 rfl rfl)
abbrev cX1_requireArgument : ByteArray := prog_1_method_3_code
def yX1_requireArgument : MethodName := ⟨RX1, "requireArgument", "(ZLjava/lang/String;)V"⟩
def dkwX1_requireArgument_0 : List UInt8 := [26, 154, 0, 12, 187, 0, 7, 89, 43, 183, 0, 9, 191, 177]
abbrev dktX1_requireArgument_0 : List UInt8 := dkwX1_requireArgument_0 ++ []
theorem dksX1_requireArgument_0 : cX1_requireArgument.data.toList.drop 0 = dktX1_requireArgument_0 := by decide +kernel
theorem dX1_requireArgument_0 : decode cX1_requireArgument 0 = .ok (.iload_n 0, 1) := dk_26 (dk_at dksX1_requireArgument_0 0 rfl rfl)
theorem dX1_requireArgument_1 : decode cX1_requireArgument 1 = .ok (.ifCond .ne 12, 3) := dk_154 0 12 (dk_at dksX1_requireArgument_0 1 rfl rfl)
theorem dX1_requireArgument_4 : decode cX1_requireArgument 4 = .ok (.new 7, 3) := dk_187 0 7 (dk_at dksX1_requireArgument_0 4 rfl rfl)
theorem dX1_requireArgument_7 : decode cX1_requireArgument 7 = .ok (.dup, 1) := dk_89 (dk_at dksX1_requireArgument_0 7 rfl rfl)
theorem dX1_requireArgument_8 : decode cX1_requireArgument 8 = .ok (.aload_n 1, 1) := dk_43 (dk_at dksX1_requireArgument_0 8 rfl rfl)
theorem dX1_requireArgument_9 : decode cX1_requireArgument 9 = .ok (.invokespecial 9, 3) := dk_183 0 9 (dk_at dksX1_requireArgument_0 9 rfl rfl)
theorem dX1_requireArgument_12 : decode cX1_requireArgument 12 = .ok (.athrow, 1) := dk_191 (dk_at dksX1_requireArgument_0 12 rfl rfl)
theorem dX1_requireArgument_13 : decode cX1_requireArgument 13 = .ok (.return_, 1) := dk_177 (dk_at dksX1_requireArgument_0 13 rfl rfl)
abbrev cX1_requireState : ByteArray := prog_1_method_4_code
def yX1_requireState : MethodName := ⟨RX1, "requireState", "(ZLjava/lang/String;)V"⟩
def dkwX1_requireState_0 : List UInt8 := [26, 154, 0, 12, 187, 0, 10, 89, 43, 183, 0, 12, 191, 177]
abbrev dktX1_requireState_0 : List UInt8 := dkwX1_requireState_0 ++ []
theorem dksX1_requireState_0 : cX1_requireState.data.toList.drop 0 = dktX1_requireState_0 := by decide +kernel
theorem dX1_requireState_0 : decode cX1_requireState 0 = .ok (.iload_n 0, 1) := dk_26 (dk_at dksX1_requireState_0 0 rfl rfl)
theorem dX1_requireState_1 : decode cX1_requireState 1 = .ok (.ifCond .ne 12, 3) := dk_154 0 12 (dk_at dksX1_requireState_0 1 rfl rfl)
theorem dX1_requireState_4 : decode cX1_requireState 4 = .ok (.new 10, 3) := dk_187 0 10 (dk_at dksX1_requireState_0 4 rfl rfl)
theorem dX1_requireState_7 : decode cX1_requireState 7 = .ok (.dup, 1) := dk_89 (dk_at dksX1_requireState_0 7 rfl rfl)
theorem dX1_requireState_8 : decode cX1_requireState 8 = .ok (.aload_n 1, 1) := dk_43 (dk_at dksX1_requireState_0 8 rfl rfl)
theorem dX1_requireState_9 : decode cX1_requireState 9 = .ok (.invokespecial 12, 3) := dk_183 0 12 (dk_at dksX1_requireState_0 9 rfl rfl)
theorem dX1_requireState_12 : decode cX1_requireState 12 = .ok (.athrow, 1) := dk_191 (dk_at dksX1_requireState_0 12 rfl rfl)
theorem dX1_requireState_13 : decode cX1_requireState 13 = .ok (.return_, 1) := dk_177 (dk_at dksX1_requireState_0 13 rfl rfl)
abbrev cX1_requireIndex : ByteArray := prog_1_method_2_code
def yX1_requireIndex : MethodName := ⟨RX1, "requireIndex", "(ZLjava/lang/String;)V"⟩
def dkwX1_requireIndex_0 : List UInt8 := [26, 154, 0, 12, 187, 0, 1, 89, 43, 183, 0, 3, 191, 177]
abbrev dktX1_requireIndex_0 : List UInt8 := dkwX1_requireIndex_0 ++ []
theorem dksX1_requireIndex_0 : cX1_requireIndex.data.toList.drop 0 = dktX1_requireIndex_0 := by decide +kernel
theorem dX1_requireIndex_0 : decode cX1_requireIndex 0 = .ok (.iload_n 0, 1) := dk_26 (dk_at dksX1_requireIndex_0 0 rfl rfl)
theorem dX1_requireIndex_1 : decode cX1_requireIndex 1 = .ok (.ifCond .ne 12, 3) := dk_154 0 12 (dk_at dksX1_requireIndex_0 1 rfl rfl)
theorem dX1_requireIndex_4 : decode cX1_requireIndex 4 = .ok (.new 1, 3) := dk_187 0 1 (dk_at dksX1_requireIndex_0 4 rfl rfl)
theorem dX1_requireIndex_7 : decode cX1_requireIndex 7 = .ok (.dup, 1) := dk_89 (dk_at dksX1_requireIndex_0 7 rfl rfl)
theorem dX1_requireIndex_8 : decode cX1_requireIndex 8 = .ok (.aload_n 1, 1) := dk_43 (dk_at dksX1_requireIndex_0 8 rfl rfl)
theorem dX1_requireIndex_9 : decode cX1_requireIndex 9 = .ok (.invokespecial 3, 3) := dk_183 0 3 (dk_at dksX1_requireIndex_0 9 rfl rfl)
theorem dX1_requireIndex_12 : decode cX1_requireIndex 12 = .ok (.athrow, 1) := dk_191 (dk_at dksX1_requireIndex_0 12 rfl rfl)
theorem dX1_requireIndex_13 : decode cX1_requireIndex 13 = .ok (.return_, 1) := dk_177 (dk_at dksX1_requireIndex_0 13 rfl rfl)
abbrev cX1_digest : ByteArray := prog_1_method_46_code
def yX1_digest : MethodName := ⟨RX1, "digest", "()J"⟩
def dkwX1_digest_7 : List UInt8 := [45, 180, 1, 12, 21, 4, 4, 184, 1, 13, 133, 184, 1, 47, 64, 132, 4, 1, 167, 255, 211, 31, 173]
abbrev dktX1_digest_7 : List UInt8 := dkwX1_digest_7 ++ []
def dkwX1_digest_6 : List UInt8 := [180, 1, 12, 180, 0, 122, 162, 0, 39, 31, 45, 180, 1, 12, 21, 4, 3, 184, 1, 13, 133, 184, 1, 47]
abbrev dktX1_digest_6 : List UInt8 := dkwX1_digest_6 ++ dktX1_digest_7
def dkwX1_digest_5 : List UInt8 := [31, 45, 21, 4, 182, 1, 9, 133, 184, 1, 47, 64, 132, 4, 1, 167, 255, 235, 3, 54, 4, 21, 4, 45]
abbrev dktX1_digest_5 : List UInt8 := dkwX1_digest_5 ++ dktX1_digest_6
def dkwX1_digest_4 : List UInt8 := [184, 1, 47, 64, 132, 3, 1, 167, 255, 230, 42, 182, 1, 5, 78, 3, 54, 4, 21, 4, 7, 162, 0, 21]
abbrev dktX1_digest_4 : List UInt8 := dkwX1_digest_4 ++ dktX1_digest_5
def dkwX1_digest_3 : List UInt8 := [167, 255, 230, 3, 62, 29, 17, 0, 200, 163, 0, 25, 31, 42, 180, 0, 80, 180, 0, 244, 29, 182, 0, 248]
abbrev dktX1_digest_3 : List UInt8 := dkwX1_digest_3 ++ dktX1_digest_4
def dkwX1_digest_2 : List UInt8 := [162, 0, 27, 31, 42, 180, 0, 80, 42, 180, 0, 61, 29, 182, 0, 233, 133, 184, 1, 47, 64, 132, 3, 1]
abbrev dktX1_digest_2 : List UInt8 := dkwX1_digest_2 ++ dktX1_digest_3
def dkwX1_digest_1 : List UInt8 := [182, 1, 59, 42, 180, 0, 80, 42, 180, 0, 61, 182, 0, 228, 133, 184, 1, 47, 64, 3, 62, 29, 7]
abbrev dktX1_digest_1 : List UInt8 := dkwX1_digest_1 ++ dktX1_digest_2
def dkwX1_digest_0 : List UInt8 := [20, 1, 57, 42, 180, 0, 95, 133, 184, 1, 47, 42, 180, 1, 21, 133, 184, 1, 47, 64, 42, 31]
abbrev dktX1_digest_0 : List UInt8 := dkwX1_digest_0 ++ dktX1_digest_1
theorem dksX1_digest_0 : cX1_digest.data.toList.drop 0 = dktX1_digest_0 := by decide +kernel
theorem dksX1_digest_1 : cX1_digest.data.toList.drop 22 = dktX1_digest_1 := dk_seg dksX1_digest_0 22 rfl rfl
theorem dksX1_digest_2 : cX1_digest.data.toList.drop 45 = dktX1_digest_2 := dk_seg dksX1_digest_1 23 rfl rfl
theorem dksX1_digest_3 : cX1_digest.data.toList.drop 69 = dktX1_digest_3 := dk_seg dksX1_digest_2 24 rfl rfl
theorem dksX1_digest_4 : cX1_digest.data.toList.drop 93 = dktX1_digest_4 := dk_seg dksX1_digest_3 24 rfl rfl
theorem dksX1_digest_5 : cX1_digest.data.toList.drop 117 = dktX1_digest_5 := dk_seg dksX1_digest_4 24 rfl rfl
theorem dksX1_digest_6 : cX1_digest.data.toList.drop 141 = dktX1_digest_6 := dk_seg dksX1_digest_5 24 rfl rfl
theorem dksX1_digest_7 : cX1_digest.data.toList.drop 165 = dktX1_digest_7 := dk_seg dksX1_digest_6 24 rfl rfl
theorem dX1_digest_0 : decode cX1_digest 0 = .ok (.ldc2_w 313, 3) := dk_20 1 57 (dk_at dksX1_digest_0 0 rfl rfl)
theorem dX1_digest_3 : decode cX1_digest 3 = .ok (.aload_n 0, 1) := dk_42 (dk_at dksX1_digest_0 3 rfl rfl)
theorem dX1_digest_4 : decode cX1_digest 4 = .ok (.getfield 95, 3) := dk_180 0 95 (dk_at dksX1_digest_0 4 rfl rfl)
theorem dX1_digest_7 : decode cX1_digest 7 = .ok (.i2l, 1) := dk_133 (dk_at dksX1_digest_0 7 rfl rfl)
theorem dX1_digest_8 : decode cX1_digest 8 = .ok (.invokestatic 303, 3) := dk_184 1 47 (dk_at dksX1_digest_0 8 rfl rfl)
theorem dX1_digest_11 : decode cX1_digest 11 = .ok (.aload_n 0, 1) := dk_42 (dk_at dksX1_digest_0 11 rfl rfl)
theorem dX1_digest_12 : decode cX1_digest 12 = .ok (.getfield 277, 3) := dk_180 1 21 (dk_at dksX1_digest_0 12 rfl rfl)
theorem dX1_digest_15 : decode cX1_digest 15 = .ok (.i2l, 1) := dk_133 (dk_at dksX1_digest_0 15 rfl rfl)
theorem dX1_digest_16 : decode cX1_digest 16 = .ok (.invokestatic 303, 3) := dk_184 1 47 (dk_at dksX1_digest_0 16 rfl rfl)
theorem dX1_digest_19 : decode cX1_digest 19 = .ok (.lstore_n 1, 1) := dk_64 (dk_at dksX1_digest_0 19 rfl rfl)
theorem dX1_digest_20 : decode cX1_digest 20 = .ok (.aload_n 0, 1) := dk_42 (dk_at dksX1_digest_0 20 rfl rfl)
theorem dX1_digest_21 : decode cX1_digest 21 = .ok (.lload_n 1, 1) := dk_31 (dk_at dksX1_digest_0 21 rfl rfl)
theorem dX1_digest_22 : decode cX1_digest 22 = .ok (.invokevirtual 315, 3) := dk_182 1 59 (dk_at dksX1_digest_1 0 rfl rfl)
theorem dX1_digest_25 : decode cX1_digest 25 = .ok (.aload_n 0, 1) := dk_42 (dk_at dksX1_digest_1 3 rfl rfl)
theorem dX1_digest_26 : decode cX1_digest 26 = .ok (.getfield 80, 3) := dk_180 0 80 (dk_at dksX1_digest_1 4 rfl rfl)
theorem dX1_digest_29 : decode cX1_digest 29 = .ok (.aload_n 0, 1) := dk_42 (dk_at dksX1_digest_1 7 rfl rfl)
theorem dX1_digest_30 : decode cX1_digest 30 = .ok (.getfield 61, 3) := dk_180 0 61 (dk_at dksX1_digest_1 8 rfl rfl)
theorem dX1_digest_33 : decode cX1_digest 33 = .ok (.invokevirtual 228, 3) := dk_182 0 228 (dk_at dksX1_digest_1 11 rfl rfl)
theorem dX1_digest_36 : decode cX1_digest 36 = .ok (.i2l, 1) := dk_133 (dk_at dksX1_digest_1 14 rfl rfl)
theorem dX1_digest_37 : decode cX1_digest 37 = .ok (.invokestatic 303, 3) := dk_184 1 47 (dk_at dksX1_digest_1 15 rfl rfl)
theorem dX1_digest_40 : decode cX1_digest 40 = .ok (.lstore_n 1, 1) := dk_64 (dk_at dksX1_digest_1 18 rfl rfl)
theorem dX1_digest_41 : decode cX1_digest 41 = .ok (.iconst 0, 1) := dk_3 (dk_at dksX1_digest_1 19 rfl rfl)
theorem dX1_digest_42 : decode cX1_digest 42 = .ok (.istore_n 3, 1) := dk_62 (dk_at dksX1_digest_1 20 rfl rfl)
theorem dX1_digest_43 : decode cX1_digest 43 = .ok (.iload_n 3, 1) := dk_29 (dk_at dksX1_digest_1 21 rfl rfl)
theorem dX1_digest_44 : decode cX1_digest 44 = .ok (.iconst 4, 1) := dk_7 (dk_at dksX1_digest_1 22 rfl rfl)
theorem dX1_digest_45 : decode cX1_digest 45 = .ok (.if_icmp .ge 27, 3) := dk_162 0 27 (dk_at dksX1_digest_2 0 rfl rfl)
theorem dX1_digest_48 : decode cX1_digest 48 = .ok (.lload_n 1, 1) := dk_31 (dk_at dksX1_digest_2 3 rfl rfl)
theorem dX1_digest_49 : decode cX1_digest 49 = .ok (.aload_n 0, 1) := dk_42 (dk_at dksX1_digest_2 4 rfl rfl)
theorem dX1_digest_50 : decode cX1_digest 50 = .ok (.getfield 80, 3) := dk_180 0 80 (dk_at dksX1_digest_2 5 rfl rfl)
theorem dX1_digest_53 : decode cX1_digest 53 = .ok (.aload_n 0, 1) := dk_42 (dk_at dksX1_digest_2 8 rfl rfl)
theorem dX1_digest_54 : decode cX1_digest 54 = .ok (.getfield 61, 3) := dk_180 0 61 (dk_at dksX1_digest_2 9 rfl rfl)
theorem dX1_digest_57 : decode cX1_digest 57 = .ok (.iload_n 3, 1) := dk_29 (dk_at dksX1_digest_2 12 rfl rfl)
theorem dX1_digest_58 : decode cX1_digest 58 = .ok (.invokevirtual 233, 3) := dk_182 0 233 (dk_at dksX1_digest_2 13 rfl rfl)
theorem dX1_digest_61 : decode cX1_digest 61 = .ok (.i2l, 1) := dk_133 (dk_at dksX1_digest_2 16 rfl rfl)
theorem dX1_digest_62 : decode cX1_digest 62 = .ok (.invokestatic 303, 3) := dk_184 1 47 (dk_at dksX1_digest_2 17 rfl rfl)
theorem dX1_digest_65 : decode cX1_digest 65 = .ok (.lstore_n 1, 1) := dk_64 (dk_at dksX1_digest_2 20 rfl rfl)
theorem dX1_digest_66 : decode cX1_digest 66 = .ok (.iinc 3 1, 3) := dk_132 3 1 (dk_at dksX1_digest_2 21 rfl rfl)
theorem dX1_digest_69 : decode cX1_digest 69 = .ok (.goto (-26), 3) := dk_167 255 230 (dk_at dksX1_digest_3 0 rfl rfl)
theorem dX1_digest_72 : decode cX1_digest 72 = .ok (.iconst 0, 1) := dk_3 (dk_at dksX1_digest_3 3 rfl rfl)
theorem dX1_digest_73 : decode cX1_digest 73 = .ok (.istore_n 3, 1) := dk_62 (dk_at dksX1_digest_3 4 rfl rfl)
theorem dX1_digest_74 : decode cX1_digest 74 = .ok (.iload_n 3, 1) := dk_29 (dk_at dksX1_digest_3 5 rfl rfl)
theorem dX1_digest_75 : decode cX1_digest 75 = .ok (.sipush 200, 3) := dk_17 0 200 (dk_at dksX1_digest_3 6 rfl rfl)
theorem dX1_digest_78 : decode cX1_digest 78 = .ok (.if_icmp .gt 25, 3) := dk_163 0 25 (dk_at dksX1_digest_3 9 rfl rfl)
theorem dX1_digest_81 : decode cX1_digest 81 = .ok (.lload_n 1, 1) := dk_31 (dk_at dksX1_digest_3 12 rfl rfl)
theorem dX1_digest_82 : decode cX1_digest 82 = .ok (.aload_n 0, 1) := dk_42 (dk_at dksX1_digest_3 13 rfl rfl)
theorem dX1_digest_83 : decode cX1_digest 83 = .ok (.getfield 80, 3) := dk_180 0 80 (dk_at dksX1_digest_3 14 rfl rfl)
theorem dX1_digest_86 : decode cX1_digest 86 = .ok (.getfield 244, 3) := dk_180 0 244 (dk_at dksX1_digest_3 17 rfl rfl)
theorem dX1_digest_89 : decode cX1_digest 89 = .ok (.iload_n 3, 1) := dk_29 (dk_at dksX1_digest_3 20 rfl rfl)
theorem dX1_digest_90 : decode cX1_digest 90 = .ok (.invokevirtual 248, 3) := dk_182 0 248 (dk_at dksX1_digest_3 21 rfl rfl)
theorem dX1_digest_93 : decode cX1_digest 93 = .ok (.invokestatic 303, 3) := dk_184 1 47 (dk_at dksX1_digest_4 0 rfl rfl)
theorem dX1_digest_96 : decode cX1_digest 96 = .ok (.lstore_n 1, 1) := dk_64 (dk_at dksX1_digest_4 3 rfl rfl)
theorem dX1_digest_97 : decode cX1_digest 97 = .ok (.iinc 3 1, 3) := dk_132 3 1 (dk_at dksX1_digest_4 4 rfl rfl)
theorem dX1_digest_100 : decode cX1_digest 100 = .ok (.goto (-26), 3) := dk_167 255 230 (dk_at dksX1_digest_4 7 rfl rfl)
theorem dX1_digest_103 : decode cX1_digest 103 = .ok (.aload_n 0, 1) := dk_42 (dk_at dksX1_digest_4 10 rfl rfl)
theorem dX1_digest_104 : decode cX1_digest 104 = .ok (.invokevirtual 261, 3) := dk_182 1 5 (dk_at dksX1_digest_4 11 rfl rfl)
theorem dX1_digest_107 : decode cX1_digest 107 = .ok (.astore_n 3, 1) := dk_78 (dk_at dksX1_digest_4 14 rfl rfl)
theorem dX1_digest_108 : decode cX1_digest 108 = .ok (.iconst 0, 1) := dk_3 (dk_at dksX1_digest_4 15 rfl rfl)
theorem dX1_digest_109 : decode cX1_digest 109 = .ok (.istore 4, 2) := dk_54 4 (dk_at dksX1_digest_4 16 rfl rfl)
theorem dX1_digest_111 : decode cX1_digest 111 = .ok (.iload 4, 2) := dk_21 4 (dk_at dksX1_digest_4 18 rfl rfl)
theorem dX1_digest_113 : decode cX1_digest 113 = .ok (.iconst 4, 1) := dk_7 (dk_at dksX1_digest_4 20 rfl rfl)
theorem dX1_digest_114 : decode cX1_digest 114 = .ok (.if_icmp .ge 21, 3) := dk_162 0 21 (dk_at dksX1_digest_4 21 rfl rfl)
theorem dX1_digest_117 : decode cX1_digest 117 = .ok (.lload_n 1, 1) := dk_31 (dk_at dksX1_digest_5 0 rfl rfl)
theorem dX1_digest_118 : decode cX1_digest 118 = .ok (.aload_n 3, 1) := dk_45 (dk_at dksX1_digest_5 1 rfl rfl)
theorem dX1_digest_119 : decode cX1_digest 119 = .ok (.iload 4, 2) := dk_21 4 (dk_at dksX1_digest_5 2 rfl rfl)
theorem dX1_digest_121 : decode cX1_digest 121 = .ok (.invokevirtual 265, 3) := dk_182 1 9 (dk_at dksX1_digest_5 4 rfl rfl)
theorem dX1_digest_124 : decode cX1_digest 124 = .ok (.i2l, 1) := dk_133 (dk_at dksX1_digest_5 7 rfl rfl)
theorem dX1_digest_125 : decode cX1_digest 125 = .ok (.invokestatic 303, 3) := dk_184 1 47 (dk_at dksX1_digest_5 8 rfl rfl)
theorem dX1_digest_128 : decode cX1_digest 128 = .ok (.lstore_n 1, 1) := dk_64 (dk_at dksX1_digest_5 11 rfl rfl)
theorem dX1_digest_129 : decode cX1_digest 129 = .ok (.iinc 4 1, 3) := dk_132 4 1 (dk_at dksX1_digest_5 12 rfl rfl)
theorem dX1_digest_132 : decode cX1_digest 132 = .ok (.goto (-21), 3) := dk_167 255 235 (dk_at dksX1_digest_5 15 rfl rfl)
theorem dX1_digest_135 : decode cX1_digest 135 = .ok (.iconst 0, 1) := dk_3 (dk_at dksX1_digest_5 18 rfl rfl)
theorem dX1_digest_136 : decode cX1_digest 136 = .ok (.istore 4, 2) := dk_54 4 (dk_at dksX1_digest_5 19 rfl rfl)
theorem dX1_digest_138 : decode cX1_digest 138 = .ok (.iload 4, 2) := dk_21 4 (dk_at dksX1_digest_5 21 rfl rfl)
theorem dX1_digest_140 : decode cX1_digest 140 = .ok (.aload_n 3, 1) := dk_45 (dk_at dksX1_digest_5 23 rfl rfl)
theorem dX1_digest_141 : decode cX1_digest 141 = .ok (.getfield 268, 3) := dk_180 1 12 (dk_at dksX1_digest_6 0 rfl rfl)
theorem dX1_digest_144 : decode cX1_digest 144 = .ok (.getfield 122, 3) := dk_180 0 122 (dk_at dksX1_digest_6 3 rfl rfl)
theorem dX1_digest_147 : decode cX1_digest 147 = .ok (.if_icmp .ge 39, 3) := dk_162 0 39 (dk_at dksX1_digest_6 6 rfl rfl)
theorem dX1_digest_150 : decode cX1_digest 150 = .ok (.lload_n 1, 1) := dk_31 (dk_at dksX1_digest_6 9 rfl rfl)
theorem dX1_digest_151 : decode cX1_digest 151 = .ok (.aload_n 3, 1) := dk_45 (dk_at dksX1_digest_6 10 rfl rfl)
theorem dX1_digest_152 : decode cX1_digest 152 = .ok (.getfield 268, 3) := dk_180 1 12 (dk_at dksX1_digest_6 11 rfl rfl)
theorem dX1_digest_155 : decode cX1_digest 155 = .ok (.iload 4, 2) := dk_21 4 (dk_at dksX1_digest_6 14 rfl rfl)
theorem dX1_digest_157 : decode cX1_digest 157 = .ok (.iconst 0, 1) := dk_3 (dk_at dksX1_digest_6 16 rfl rfl)
theorem dX1_digest_158 : decode cX1_digest 158 = .ok (.invokestatic 269, 3) := dk_184 1 13 (dk_at dksX1_digest_6 17 rfl rfl)
theorem dX1_digest_161 : decode cX1_digest 161 = .ok (.i2l, 1) := dk_133 (dk_at dksX1_digest_6 20 rfl rfl)
theorem dX1_digest_162 : decode cX1_digest 162 = .ok (.invokestatic 303, 3) := dk_184 1 47 (dk_at dksX1_digest_6 21 rfl rfl)
theorem dX1_digest_165 : decode cX1_digest 165 = .ok (.aload_n 3, 1) := dk_45 (dk_at dksX1_digest_7 0 rfl rfl)
theorem dX1_digest_166 : decode cX1_digest 166 = .ok (.getfield 268, 3) := dk_180 1 12 (dk_at dksX1_digest_7 1 rfl rfl)
theorem dX1_digest_169 : decode cX1_digest 169 = .ok (.iload 4, 2) := dk_21 4 (dk_at dksX1_digest_7 4 rfl rfl)
theorem dX1_digest_171 : decode cX1_digest 171 = .ok (.iconst 1, 1) := dk_4 (dk_at dksX1_digest_7 6 rfl rfl)
theorem dX1_digest_172 : decode cX1_digest 172 = .ok (.invokestatic 269, 3) := dk_184 1 13 (dk_at dksX1_digest_7 7 rfl rfl)
theorem dX1_digest_175 : decode cX1_digest 175 = .ok (.i2l, 1) := dk_133 (dk_at dksX1_digest_7 10 rfl rfl)
theorem dX1_digest_176 : decode cX1_digest 176 = .ok (.invokestatic 303, 3) := dk_184 1 47 (dk_at dksX1_digest_7 11 rfl rfl)
theorem dX1_digest_179 : decode cX1_digest 179 = .ok (.lstore_n 1, 1) := dk_64 (dk_at dksX1_digest_7 14 rfl rfl)
theorem dX1_digest_180 : decode cX1_digest 180 = .ok (.iinc 4 1, 3) := dk_132 4 1 (dk_at dksX1_digest_7 15 rfl rfl)
theorem dX1_digest_183 : decode cX1_digest 183 = .ok (.goto (-45), 3) := dk_167 255 211 (dk_at dksX1_digest_7 18 rfl rfl)
theorem dX1_digest_186 : decode cX1_digest 186 = .ok (.lload_n 1, 1) := dk_31 (dk_at dksX1_digest_7 21 rfl rfl)
theorem dX1_digest_187 : decode cX1_digest 187 = .ok (.lreturn, 1) := dk_173 (dk_at dksX1_digest_7 22 rfl rfl)
abbrev cX1_hash : ByteArray := prog_1_method_44_code
def yX1_hash : MethodName := ⟨RX1, "hash", "(JJ)J"⟩
def dkwX1_hash_0 : List UInt8 := [20, 1, 45, 30, 105, 32, 97, 173]
abbrev dktX1_hash_0 : List UInt8 := dkwX1_hash_0 ++ []
theorem dksX1_hash_0 : cX1_hash.data.toList.drop 0 = dktX1_hash_0 := by decide +kernel
theorem dX1_hash_0 : decode cX1_hash 0 = .ok (.ldc2_w 301, 3) := dk_20 1 45 (dk_at dksX1_hash_0 0 rfl rfl)
theorem dX1_hash_3 : decode cX1_hash 3 = .ok (.lload_n 0, 1) := dk_30 (dk_at dksX1_hash_0 3 rfl rfl)
theorem dX1_hash_4 : decode cX1_hash 4 = .ok (.lmul, 1) := dk_105 (dk_at dksX1_hash_0 4 rfl rfl)
theorem dX1_hash_5 : decode cX1_hash 5 = .ok (.lload_n 2, 1) := dk_32 (dk_at dksX1_hash_0 5 rfl rfl)
theorem dX1_hash_6 : decode cX1_hash 6 = .ok (.ladd, 1) := dk_97 (dk_at dksX1_hash_0 6 rfl rfl)
theorem dX1_hash_7 : decode cX1_hash 7 = .ok (.lreturn, 1) := dk_173 (dk_at dksX1_hash_0 7 rfl rfl)
abbrev cX1_hashLine : ByteArray := prog_1_method_45_code
def yX1_hashLine : MethodName := ⟨RX1, "hashLine", "(J)J"⟩
def dkwX1_hashLine_8 : List UInt8 := [182, 0, 197, 184, 1, 47, 55, 4, 132, 6, 1, 167, 255, 228, 22, 4, 173]
abbrev dktX1_hashLine_8 : List UInt8 := dkwX1_hashLine_8 ++ []
def dkwX1_hashLine_7 : List UInt8 := [167, 255, 230, 3, 54, 6, 21, 6, 45, 180, 0, 144, 163, 0, 25, 22, 4, 42, 180, 0, 61, 21, 6]
abbrev dktX1_hashLine_7 : List UInt8 := dkwX1_hashLine_7 ++ dktX1_hashLine_8
def dkwX1_hashLine_6 : List UInt8 := [16, 9, 162, 0, 25, 22, 4, 42, 180, 0, 61, 21, 6, 182, 0, 208, 184, 1, 47, 55, 4, 132, 6, 1]
abbrev dktX1_hashLine_6 : List UInt8 := dkwX1_hashLine_6 ++ dktX1_hashLine_7
def dkwX1_hashLine_5 : List UInt8 := [184, 1, 47, 55, 4, 132, 6, 1, 167, 255, 218, 42, 180, 0, 61, 45, 182, 0, 193, 3, 54, 6, 21, 6]
abbrev dktX1_hashLine_5 : List UInt8 := dkwX1_hashLine_5 ++ dktX1_hashLine_6
def dkwX1_hashLine_4 : List UInt8 := [162, 0, 35, 22, 4, 45, 180, 1, 51, 21, 6, 46, 133, 184, 1, 47, 45, 180, 1, 54, 21, 6, 46, 133]
abbrev dktX1_hashLine_4 : List UInt8 := dkwX1_hashLine_4 ++ dktX1_hashLine_5
def dkwX1_hashLine_3 : List UInt8 := [21, 6, 46, 133, 184, 1, 47, 55, 4, 132, 6, 1, 167, 255, 218, 3, 54, 6, 21, 6, 45, 180, 0, 151]
abbrev dktX1_hashLine_3 : List UInt8 := dkwX1_hashLine_3 ++ dktX1_hashLine_4
def dkwX1_hashLine_2 : List UInt8 := [180, 0, 122, 162, 0, 35, 22, 4, 45, 180, 0, 166, 21, 6, 46, 133, 184, 1, 47, 45, 180, 0, 170]
abbrev dktX1_hashLine_2 : List UInt8 := dkwX1_hashLine_2 ++ dktX1_hashLine_3
def dkwX1_hashLine_1 : List UInt8 := [21, 6, 182, 0, 185, 133, 184, 1, 47, 55, 4, 132, 6, 1, 167, 255, 232, 3, 54, 6, 21, 6, 45]
abbrev dktX1_hashLine_1 : List UInt8 := dkwX1_hashLine_1 ++ dktX1_hashLine_2
def dkwX1_hashLine_0 : List UInt8 := [42, 180, 0, 80, 180, 0, 113, 78, 31, 55, 4, 3, 54, 6, 21, 6, 16, 6, 162, 0, 23, 22, 4, 45]
abbrev dktX1_hashLine_0 : List UInt8 := dkwX1_hashLine_0 ++ dktX1_hashLine_1
theorem dksX1_hashLine_0 : cX1_hashLine.data.toList.drop 0 = dktX1_hashLine_0 := by decide +kernel
theorem dksX1_hashLine_1 : cX1_hashLine.data.toList.drop 24 = dktX1_hashLine_1 := dk_seg dksX1_hashLine_0 24 rfl rfl
theorem dksX1_hashLine_2 : cX1_hashLine.data.toList.drop 47 = dktX1_hashLine_2 := dk_seg dksX1_hashLine_1 23 rfl rfl
theorem dksX1_hashLine_3 : cX1_hashLine.data.toList.drop 70 = dktX1_hashLine_3 := dk_seg dksX1_hashLine_2 23 rfl rfl
theorem dksX1_hashLine_4 : cX1_hashLine.data.toList.drop 94 = dktX1_hashLine_4 := dk_seg dksX1_hashLine_3 24 rfl rfl
theorem dksX1_hashLine_5 : cX1_hashLine.data.toList.drop 118 = dktX1_hashLine_5 := dk_seg dksX1_hashLine_4 24 rfl rfl
theorem dksX1_hashLine_6 : cX1_hashLine.data.toList.drop 142 = dktX1_hashLine_6 := dk_seg dksX1_hashLine_5 24 rfl rfl
theorem dksX1_hashLine_7 : cX1_hashLine.data.toList.drop 166 = dktX1_hashLine_7 := dk_seg dksX1_hashLine_6 24 rfl rfl
theorem dksX1_hashLine_8 : cX1_hashLine.data.toList.drop 189 = dktX1_hashLine_8 := dk_seg dksX1_hashLine_7 23 rfl rfl
theorem dX1_hashLine_0 : decode cX1_hashLine 0 = .ok (.aload_n 0, 1) := dk_42 (dk_at dksX1_hashLine_0 0 rfl rfl)
theorem dX1_hashLine_1 : decode cX1_hashLine 1 = .ok (.getfield 80, 3) := dk_180 0 80 (dk_at dksX1_hashLine_0 1 rfl rfl)
theorem dX1_hashLine_4 : decode cX1_hashLine 4 = .ok (.getfield 113, 3) := dk_180 0 113 (dk_at dksX1_hashLine_0 4 rfl rfl)
theorem dX1_hashLine_7 : decode cX1_hashLine 7 = .ok (.astore_n 3, 1) := dk_78 (dk_at dksX1_hashLine_0 7 rfl rfl)
theorem dX1_hashLine_8 : decode cX1_hashLine 8 = .ok (.lload_n 1, 1) := dk_31 (dk_at dksX1_hashLine_0 8 rfl rfl)
theorem dX1_hashLine_9 : decode cX1_hashLine 9 = .ok (.lstore 4, 2) := dk_55 4 (dk_at dksX1_hashLine_0 9 rfl rfl)
theorem dX1_hashLine_11 : decode cX1_hashLine 11 = .ok (.iconst 0, 1) := dk_3 (dk_at dksX1_hashLine_0 11 rfl rfl)
theorem dX1_hashLine_12 : decode cX1_hashLine 12 = .ok (.istore 6, 2) := dk_54 6 (dk_at dksX1_hashLine_0 12 rfl rfl)
theorem dX1_hashLine_14 : decode cX1_hashLine 14 = .ok (.iload 6, 2) := dk_21 6 (dk_at dksX1_hashLine_0 14 rfl rfl)
theorem dX1_hashLine_16 : decode cX1_hashLine 16 = .ok (.bipush 6, 2) := dk_16 6 (dk_at dksX1_hashLine_0 16 rfl rfl)
theorem dX1_hashLine_18 : decode cX1_hashLine 18 = .ok (.if_icmp .ge 23, 3) := dk_162 0 23 (dk_at dksX1_hashLine_0 18 rfl rfl)
theorem dX1_hashLine_21 : decode cX1_hashLine 21 = .ok (.lload 4, 2) := dk_22 4 (dk_at dksX1_hashLine_0 21 rfl rfl)
theorem dX1_hashLine_23 : decode cX1_hashLine 23 = .ok (.aload_n 3, 1) := dk_45 (dk_at dksX1_hashLine_0 23 rfl rfl)
theorem dX1_hashLine_24 : decode cX1_hashLine 24 = .ok (.iload 6, 2) := dk_21 6 (dk_at dksX1_hashLine_1 0 rfl rfl)
theorem dX1_hashLine_26 : decode cX1_hashLine 26 = .ok (.invokevirtual 185, 3) := dk_182 0 185 (dk_at dksX1_hashLine_1 2 rfl rfl)
theorem dX1_hashLine_29 : decode cX1_hashLine 29 = .ok (.i2l, 1) := dk_133 (dk_at dksX1_hashLine_1 5 rfl rfl)
theorem dX1_hashLine_30 : decode cX1_hashLine 30 = .ok (.invokestatic 303, 3) := dk_184 1 47 (dk_at dksX1_hashLine_1 6 rfl rfl)
theorem dX1_hashLine_33 : decode cX1_hashLine 33 = .ok (.lstore 4, 2) := dk_55 4 (dk_at dksX1_hashLine_1 9 rfl rfl)
theorem dX1_hashLine_35 : decode cX1_hashLine 35 = .ok (.iinc 6 1, 3) := dk_132 6 1 (dk_at dksX1_hashLine_1 11 rfl rfl)
theorem dX1_hashLine_38 : decode cX1_hashLine 38 = .ok (.goto (-24), 3) := dk_167 255 232 (dk_at dksX1_hashLine_1 14 rfl rfl)
theorem dX1_hashLine_41 : decode cX1_hashLine 41 = .ok (.iconst 0, 1) := dk_3 (dk_at dksX1_hashLine_1 17 rfl rfl)
theorem dX1_hashLine_42 : decode cX1_hashLine 42 = .ok (.istore 6, 2) := dk_54 6 (dk_at dksX1_hashLine_1 18 rfl rfl)
theorem dX1_hashLine_44 : decode cX1_hashLine 44 = .ok (.iload 6, 2) := dk_21 6 (dk_at dksX1_hashLine_1 20 rfl rfl)
theorem dX1_hashLine_46 : decode cX1_hashLine 46 = .ok (.aload_n 3, 1) := dk_45 (dk_at dksX1_hashLine_1 22 rfl rfl)
theorem dX1_hashLine_47 : decode cX1_hashLine 47 = .ok (.getfield 122, 3) := dk_180 0 122 (dk_at dksX1_hashLine_2 0 rfl rfl)
theorem dX1_hashLine_50 : decode cX1_hashLine 50 = .ok (.if_icmp .ge 35, 3) := dk_162 0 35 (dk_at dksX1_hashLine_2 3 rfl rfl)
theorem dX1_hashLine_53 : decode cX1_hashLine 53 = .ok (.lload 4, 2) := dk_22 4 (dk_at dksX1_hashLine_2 6 rfl rfl)
theorem dX1_hashLine_55 : decode cX1_hashLine 55 = .ok (.aload_n 3, 1) := dk_45 (dk_at dksX1_hashLine_2 8 rfl rfl)
theorem dX1_hashLine_56 : decode cX1_hashLine 56 = .ok (.getfield 166, 3) := dk_180 0 166 (dk_at dksX1_hashLine_2 9 rfl rfl)
theorem dX1_hashLine_59 : decode cX1_hashLine 59 = .ok (.iload 6, 2) := dk_21 6 (dk_at dksX1_hashLine_2 12 rfl rfl)
theorem dX1_hashLine_61 : decode cX1_hashLine 61 = .ok (.iaload, 1) := dk_46 (dk_at dksX1_hashLine_2 14 rfl rfl)
theorem dX1_hashLine_62 : decode cX1_hashLine 62 = .ok (.i2l, 1) := dk_133 (dk_at dksX1_hashLine_2 15 rfl rfl)
theorem dX1_hashLine_63 : decode cX1_hashLine 63 = .ok (.invokestatic 303, 3) := dk_184 1 47 (dk_at dksX1_hashLine_2 16 rfl rfl)
theorem dX1_hashLine_66 : decode cX1_hashLine 66 = .ok (.aload_n 3, 1) := dk_45 (dk_at dksX1_hashLine_2 19 rfl rfl)
theorem dX1_hashLine_67 : decode cX1_hashLine 67 = .ok (.getfield 170, 3) := dk_180 0 170 (dk_at dksX1_hashLine_2 20 rfl rfl)
theorem dX1_hashLine_70 : decode cX1_hashLine 70 = .ok (.iload 6, 2) := dk_21 6 (dk_at dksX1_hashLine_3 0 rfl rfl)
theorem dX1_hashLine_72 : decode cX1_hashLine 72 = .ok (.iaload, 1) := dk_46 (dk_at dksX1_hashLine_3 2 rfl rfl)
theorem dX1_hashLine_73 : decode cX1_hashLine 73 = .ok (.i2l, 1) := dk_133 (dk_at dksX1_hashLine_3 3 rfl rfl)
theorem dX1_hashLine_74 : decode cX1_hashLine 74 = .ok (.invokestatic 303, 3) := dk_184 1 47 (dk_at dksX1_hashLine_3 4 rfl rfl)
theorem dX1_hashLine_77 : decode cX1_hashLine 77 = .ok (.lstore 4, 2) := dk_55 4 (dk_at dksX1_hashLine_3 7 rfl rfl)
theorem dX1_hashLine_79 : decode cX1_hashLine 79 = .ok (.iinc 6 1, 3) := dk_132 6 1 (dk_at dksX1_hashLine_3 9 rfl rfl)
theorem dX1_hashLine_82 : decode cX1_hashLine 82 = .ok (.goto (-38), 3) := dk_167 255 218 (dk_at dksX1_hashLine_3 12 rfl rfl)
theorem dX1_hashLine_85 : decode cX1_hashLine 85 = .ok (.iconst 0, 1) := dk_3 (dk_at dksX1_hashLine_3 15 rfl rfl)
theorem dX1_hashLine_86 : decode cX1_hashLine 86 = .ok (.istore 6, 2) := dk_54 6 (dk_at dksX1_hashLine_3 16 rfl rfl)
theorem dX1_hashLine_88 : decode cX1_hashLine 88 = .ok (.iload 6, 2) := dk_21 6 (dk_at dksX1_hashLine_3 18 rfl rfl)
theorem dX1_hashLine_90 : decode cX1_hashLine 90 = .ok (.aload_n 3, 1) := dk_45 (dk_at dksX1_hashLine_3 20 rfl rfl)
theorem dX1_hashLine_91 : decode cX1_hashLine 91 = .ok (.getfield 151, 3) := dk_180 0 151 (dk_at dksX1_hashLine_3 21 rfl rfl)
theorem dX1_hashLine_94 : decode cX1_hashLine 94 = .ok (.if_icmp .ge 35, 3) := dk_162 0 35 (dk_at dksX1_hashLine_4 0 rfl rfl)
theorem dX1_hashLine_97 : decode cX1_hashLine 97 = .ok (.lload 4, 2) := dk_22 4 (dk_at dksX1_hashLine_4 3 rfl rfl)
theorem dX1_hashLine_99 : decode cX1_hashLine 99 = .ok (.aload_n 3, 1) := dk_45 (dk_at dksX1_hashLine_4 5 rfl rfl)
theorem dX1_hashLine_100 : decode cX1_hashLine 100 = .ok (.getfield 307, 3) := dk_180 1 51 (dk_at dksX1_hashLine_4 6 rfl rfl)
theorem dX1_hashLine_103 : decode cX1_hashLine 103 = .ok (.iload 6, 2) := dk_21 6 (dk_at dksX1_hashLine_4 9 rfl rfl)
theorem dX1_hashLine_105 : decode cX1_hashLine 105 = .ok (.iaload, 1) := dk_46 (dk_at dksX1_hashLine_4 11 rfl rfl)
theorem dX1_hashLine_106 : decode cX1_hashLine 106 = .ok (.i2l, 1) := dk_133 (dk_at dksX1_hashLine_4 12 rfl rfl)
theorem dX1_hashLine_107 : decode cX1_hashLine 107 = .ok (.invokestatic 303, 3) := dk_184 1 47 (dk_at dksX1_hashLine_4 13 rfl rfl)
theorem dX1_hashLine_110 : decode cX1_hashLine 110 = .ok (.aload_n 3, 1) := dk_45 (dk_at dksX1_hashLine_4 16 rfl rfl)
theorem dX1_hashLine_111 : decode cX1_hashLine 111 = .ok (.getfield 310, 3) := dk_180 1 54 (dk_at dksX1_hashLine_4 17 rfl rfl)
theorem dX1_hashLine_114 : decode cX1_hashLine 114 = .ok (.iload 6, 2) := dk_21 6 (dk_at dksX1_hashLine_4 20 rfl rfl)
theorem dX1_hashLine_116 : decode cX1_hashLine 116 = .ok (.iaload, 1) := dk_46 (dk_at dksX1_hashLine_4 22 rfl rfl)
theorem dX1_hashLine_117 : decode cX1_hashLine 117 = .ok (.i2l, 1) := dk_133 (dk_at dksX1_hashLine_4 23 rfl rfl)
theorem dX1_hashLine_118 : decode cX1_hashLine 118 = .ok (.invokestatic 303, 3) := dk_184 1 47 (dk_at dksX1_hashLine_5 0 rfl rfl)
theorem dX1_hashLine_121 : decode cX1_hashLine 121 = .ok (.lstore 4, 2) := dk_55 4 (dk_at dksX1_hashLine_5 3 rfl rfl)
theorem dX1_hashLine_123 : decode cX1_hashLine 123 = .ok (.iinc 6 1, 3) := dk_132 6 1 (dk_at dksX1_hashLine_5 5 rfl rfl)
theorem dX1_hashLine_126 : decode cX1_hashLine 126 = .ok (.goto (-38), 3) := dk_167 255 218 (dk_at dksX1_hashLine_5 8 rfl rfl)
theorem dX1_hashLine_129 : decode cX1_hashLine 129 = .ok (.aload_n 0, 1) := dk_42 (dk_at dksX1_hashLine_5 11 rfl rfl)
theorem dX1_hashLine_130 : decode cX1_hashLine 130 = .ok (.getfield 61, 3) := dk_180 0 61 (dk_at dksX1_hashLine_5 12 rfl rfl)
theorem dX1_hashLine_133 : decode cX1_hashLine 133 = .ok (.aload_n 3, 1) := dk_45 (dk_at dksX1_hashLine_5 15 rfl rfl)
theorem dX1_hashLine_134 : decode cX1_hashLine 134 = .ok (.invokevirtual 193, 3) := dk_182 0 193 (dk_at dksX1_hashLine_5 16 rfl rfl)
theorem dX1_hashLine_137 : decode cX1_hashLine 137 = .ok (.iconst 0, 1) := dk_3 (dk_at dksX1_hashLine_5 19 rfl rfl)
theorem dX1_hashLine_138 : decode cX1_hashLine 138 = .ok (.istore 6, 2) := dk_54 6 (dk_at dksX1_hashLine_5 20 rfl rfl)
theorem dX1_hashLine_140 : decode cX1_hashLine 140 = .ok (.iload 6, 2) := dk_21 6 (dk_at dksX1_hashLine_5 22 rfl rfl)
theorem dX1_hashLine_142 : decode cX1_hashLine 142 = .ok (.bipush 9, 2) := dk_16 9 (dk_at dksX1_hashLine_6 0 rfl rfl)
theorem dX1_hashLine_144 : decode cX1_hashLine 144 = .ok (.if_icmp .ge 25, 3) := dk_162 0 25 (dk_at dksX1_hashLine_6 2 rfl rfl)
theorem dX1_hashLine_147 : decode cX1_hashLine 147 = .ok (.lload 4, 2) := dk_22 4 (dk_at dksX1_hashLine_6 5 rfl rfl)
theorem dX1_hashLine_149 : decode cX1_hashLine 149 = .ok (.aload_n 0, 1) := dk_42 (dk_at dksX1_hashLine_6 7 rfl rfl)
theorem dX1_hashLine_150 : decode cX1_hashLine 150 = .ok (.getfield 61, 3) := dk_180 0 61 (dk_at dksX1_hashLine_6 8 rfl rfl)
theorem dX1_hashLine_153 : decode cX1_hashLine 153 = .ok (.iload 6, 2) := dk_21 6 (dk_at dksX1_hashLine_6 11 rfl rfl)
theorem dX1_hashLine_155 : decode cX1_hashLine 155 = .ok (.invokevirtual 208, 3) := dk_182 0 208 (dk_at dksX1_hashLine_6 13 rfl rfl)
theorem dX1_hashLine_158 : decode cX1_hashLine 158 = .ok (.invokestatic 303, 3) := dk_184 1 47 (dk_at dksX1_hashLine_6 16 rfl rfl)
theorem dX1_hashLine_161 : decode cX1_hashLine 161 = .ok (.lstore 4, 2) := dk_55 4 (dk_at dksX1_hashLine_6 19 rfl rfl)
theorem dX1_hashLine_163 : decode cX1_hashLine 163 = .ok (.iinc 6 1, 3) := dk_132 6 1 (dk_at dksX1_hashLine_6 21 rfl rfl)
theorem dX1_hashLine_166 : decode cX1_hashLine 166 = .ok (.goto (-26), 3) := dk_167 255 230 (dk_at dksX1_hashLine_7 0 rfl rfl)
theorem dX1_hashLine_169 : decode cX1_hashLine 169 = .ok (.iconst 0, 1) := dk_3 (dk_at dksX1_hashLine_7 3 rfl rfl)
theorem dX1_hashLine_170 : decode cX1_hashLine 170 = .ok (.istore 6, 2) := dk_54 6 (dk_at dksX1_hashLine_7 4 rfl rfl)
theorem dX1_hashLine_172 : decode cX1_hashLine 172 = .ok (.iload 6, 2) := dk_21 6 (dk_at dksX1_hashLine_7 6 rfl rfl)
theorem dX1_hashLine_174 : decode cX1_hashLine 174 = .ok (.aload_n 3, 1) := dk_45 (dk_at dksX1_hashLine_7 8 rfl rfl)
theorem dX1_hashLine_175 : decode cX1_hashLine 175 = .ok (.getfield 144, 3) := dk_180 0 144 (dk_at dksX1_hashLine_7 9 rfl rfl)
theorem dX1_hashLine_178 : decode cX1_hashLine 178 = .ok (.if_icmp .gt 25, 3) := dk_163 0 25 (dk_at dksX1_hashLine_7 12 rfl rfl)
theorem dX1_hashLine_181 : decode cX1_hashLine 181 = .ok (.lload 4, 2) := dk_22 4 (dk_at dksX1_hashLine_7 15 rfl rfl)
theorem dX1_hashLine_183 : decode cX1_hashLine 183 = .ok (.aload_n 0, 1) := dk_42 (dk_at dksX1_hashLine_7 17 rfl rfl)
theorem dX1_hashLine_184 : decode cX1_hashLine 184 = .ok (.getfield 61, 3) := dk_180 0 61 (dk_at dksX1_hashLine_7 18 rfl rfl)
theorem dX1_hashLine_187 : decode cX1_hashLine 187 = .ok (.iload 6, 2) := dk_21 6 (dk_at dksX1_hashLine_7 21 rfl rfl)
theorem dX1_hashLine_189 : decode cX1_hashLine 189 = .ok (.invokevirtual 197, 3) := dk_182 0 197 (dk_at dksX1_hashLine_8 0 rfl rfl)
theorem dX1_hashLine_192 : decode cX1_hashLine 192 = .ok (.invokestatic 303, 3) := dk_184 1 47 (dk_at dksX1_hashLine_8 3 rfl rfl)
theorem dX1_hashLine_195 : decode cX1_hashLine 195 = .ok (.lstore 4, 2) := dk_55 4 (dk_at dksX1_hashLine_8 6 rfl rfl)
theorem dX1_hashLine_197 : decode cX1_hashLine 197 = .ok (.iinc 6 1, 3) := dk_132 6 1 (dk_at dksX1_hashLine_8 8 rfl rfl)
theorem dX1_hashLine_200 : decode cX1_hashLine 200 = .ok (.goto (-28), 3) := dk_167 255 228 (dk_at dksX1_hashLine_8 11 rfl rfl)
theorem dX1_hashLine_203 : decode cX1_hashLine 203 = .ok (.lload 4, 2) := dk_22 4 (dk_at dksX1_hashLine_8 14 rfl rfl)
theorem dX1_hashLine_205 : decode cX1_hashLine 205 = .ok (.lreturn, 1) := dk_173 (dk_at dksX1_hashLine_8 16 rfl rfl)
abbrev cX1_peeling : ByteArray := prog_1_method_34_code
def yX1_peeling : MethodName := ⟨RX1, "peeling", "()LLineEchoes$Peeling;"⟩
def dkwX1_peeling_0 : List UInt8 := [42, 180, 0, 80, 180, 0, 113, 42, 180, 0, 80, 180, 0, 244, 42, 180, 0, 61, 184, 0, 255, 176]
abbrev dktX1_peeling_0 : List UInt8 := dkwX1_peeling_0 ++ []
theorem dksX1_peeling_0 : cX1_peeling.data.toList.drop 0 = dktX1_peeling_0 := by decide +kernel
theorem dX1_peeling_0 : decode cX1_peeling 0 = .ok (.aload_n 0, 1) := dk_42 (dk_at dksX1_peeling_0 0 rfl rfl)
theorem dX1_peeling_1 : decode cX1_peeling 1 = .ok (.getfield 80, 3) := dk_180 0 80 (dk_at dksX1_peeling_0 1 rfl rfl)
theorem dX1_peeling_4 : decode cX1_peeling 4 = .ok (.getfield 113, 3) := dk_180 0 113 (dk_at dksX1_peeling_0 4 rfl rfl)
theorem dX1_peeling_7 : decode cX1_peeling 7 = .ok (.aload_n 0, 1) := dk_42 (dk_at dksX1_peeling_0 7 rfl rfl)
theorem dX1_peeling_8 : decode cX1_peeling 8 = .ok (.getfield 80, 3) := dk_180 0 80 (dk_at dksX1_peeling_0 8 rfl rfl)
theorem dX1_peeling_11 : decode cX1_peeling 11 = .ok (.getfield 244, 3) := dk_180 0 244 (dk_at dksX1_peeling_0 11 rfl rfl)
theorem dX1_peeling_14 : decode cX1_peeling 14 = .ok (.aload_n 0, 1) := dk_42 (dk_at dksX1_peeling_0 14 rfl rfl)
theorem dX1_peeling_15 : decode cX1_peeling 15 = .ok (.getfield 61, 3) := dk_180 0 61 (dk_at dksX1_peeling_0 15 rfl rfl)
theorem dX1_peeling_18 : decode cX1_peeling 18 = .ok (.invokestatic 255, 3) := dk_184 0 255 (dk_at dksX1_peeling_0 18 rfl rfl)
theorem dX1_peeling_21 : decode cX1_peeling 21 = .ok (.areturn, 1) := dk_176 (dk_at dksX1_peeling_0 21 rfl rfl)
abbrev cX1_foundValue : ByteArray := prog_1_method_36_code
def yX1_foundValue : MethodName := ⟨RX1, "foundValue", "(LLineEchoes$Line;II)I"⟩
def dkwX1_foundValue_1 : List UInt8 := [167, 0, 9, 42, 180, 0, 170, 27, 46, 172]
abbrev dktX1_foundValue_1 : List UInt8 := dkwX1_foundValue_1 ++ []
def dkwX1_foundValue_0 : List UInt8 := [27, 42, 180, 0, 122, 161, 0, 7, 2, 167, 0, 22, 28, 154, 0, 12, 42, 180, 0, 166, 27, 46]
abbrev dktX1_foundValue_0 : List UInt8 := dkwX1_foundValue_0 ++ dktX1_foundValue_1
theorem dksX1_foundValue_0 : cX1_foundValue.data.toList.drop 0 = dktX1_foundValue_0 := by decide +kernel
theorem dksX1_foundValue_1 : cX1_foundValue.data.toList.drop 22 = dktX1_foundValue_1 := dk_seg dksX1_foundValue_0 22 rfl rfl
theorem dX1_foundValue_0 : decode cX1_foundValue 0 = .ok (.iload_n 1, 1) := dk_27 (dk_at dksX1_foundValue_0 0 rfl rfl)
theorem dX1_foundValue_1 : decode cX1_foundValue 1 = .ok (.aload_n 0, 1) := dk_42 (dk_at dksX1_foundValue_0 1 rfl rfl)
theorem dX1_foundValue_2 : decode cX1_foundValue 2 = .ok (.getfield 122, 3) := dk_180 0 122 (dk_at dksX1_foundValue_0 2 rfl rfl)
theorem dX1_foundValue_5 : decode cX1_foundValue 5 = .ok (.if_icmp .lt 7, 3) := dk_161 0 7 (dk_at dksX1_foundValue_0 5 rfl rfl)
theorem dX1_foundValue_8 : decode cX1_foundValue 8 = .ok (.iconst (-1), 1) := dk_2 (dk_at dksX1_foundValue_0 8 rfl rfl)
theorem dX1_foundValue_9 : decode cX1_foundValue 9 = .ok (.goto 22, 3) := dk_167 0 22 (dk_at dksX1_foundValue_0 9 rfl rfl)
theorem dX1_foundValue_12 : decode cX1_foundValue 12 = .ok (.iload_n 2, 1) := dk_28 (dk_at dksX1_foundValue_0 12 rfl rfl)
theorem dX1_foundValue_13 : decode cX1_foundValue 13 = .ok (.ifCond .ne 12, 3) := dk_154 0 12 (dk_at dksX1_foundValue_0 13 rfl rfl)
theorem dX1_foundValue_16 : decode cX1_foundValue 16 = .ok (.aload_n 0, 1) := dk_42 (dk_at dksX1_foundValue_0 16 rfl rfl)
theorem dX1_foundValue_17 : decode cX1_foundValue 17 = .ok (.getfield 166, 3) := dk_180 0 166 (dk_at dksX1_foundValue_0 17 rfl rfl)
theorem dX1_foundValue_20 : decode cX1_foundValue 20 = .ok (.iload_n 1, 1) := dk_27 (dk_at dksX1_foundValue_0 20 rfl rfl)
theorem dX1_foundValue_21 : decode cX1_foundValue 21 = .ok (.iaload, 1) := dk_46 (dk_at dksX1_foundValue_0 21 rfl rfl)
theorem dX1_foundValue_22 : decode cX1_foundValue 22 = .ok (.goto 9, 3) := dk_167 0 9 (dk_at dksX1_foundValue_1 0 rfl rfl)
theorem dX1_foundValue_25 : decode cX1_foundValue 25 = .ok (.aload_n 0, 1) := dk_42 (dk_at dksX1_foundValue_1 3 rfl rfl)
theorem dX1_foundValue_26 : decode cX1_foundValue 26 = .ok (.getfield 170, 3) := dk_180 0 170 (dk_at dksX1_foundValue_1 4 rfl rfl)
theorem dX1_foundValue_29 : decode cX1_foundValue 29 = .ok (.iload_n 1, 1) := dk_27 (dk_at dksX1_foundValue_1 7 rfl rfl)
theorem dX1_foundValue_30 : decode cX1_foundValue 30 = .ok (.iaload, 1) := dk_46 (dk_at dksX1_foundValue_1 8 rfl rfl)
theorem dX1_foundValue_31 : decode cX1_foundValue 31 = .ok (.ireturn, 1) := dk_172 (dk_at dksX1_foundValue_1 9 rfl rfl)
abbrev cX1_addPart : ByteArray := prog_1_method_9_code
def yX1_addPart : MethodName := ⟨RX1, "addPart", "(II)I"⟩
def dkwX1_addPart_0 : List UInt8 := [42, 180, 0, 80, 182, 0, 105, 78, 42, 45, 45, 27, 28, 182, 0, 41, 182, 0, 109, 172]
abbrev dktX1_addPart_0 : List UInt8 := dkwX1_addPart_0 ++ []
theorem dksX1_addPart_0 : cX1_addPart.data.toList.drop 0 = dktX1_addPart_0 := by decide +kernel
theorem dX1_addPart_0 : decode cX1_addPart 0 = .ok (.aload_n 0, 1) := dk_42 (dk_at dksX1_addPart_0 0 rfl rfl)
theorem dX1_addPart_1 : decode cX1_addPart 1 = .ok (.getfield 80, 3) := dk_180 0 80 (dk_at dksX1_addPart_0 1 rfl rfl)
theorem dX1_addPart_4 : decode cX1_addPart 4 = .ok (.invokevirtual 105, 3) := dk_182 0 105 (dk_at dksX1_addPart_0 4 rfl rfl)
theorem dX1_addPart_7 : decode cX1_addPart 7 = .ok (.astore_n 3, 1) := dk_78 (dk_at dksX1_addPart_0 7 rfl rfl)
theorem dX1_addPart_8 : decode cX1_addPart 8 = .ok (.aload_n 0, 1) := dk_42 (dk_at dksX1_addPart_0 8 rfl rfl)
theorem dX1_addPart_9 : decode cX1_addPart 9 = .ok (.aload_n 3, 1) := dk_45 (dk_at dksX1_addPart_0 9 rfl rfl)
theorem dX1_addPart_10 : decode cX1_addPart 10 = .ok (.aload_n 3, 1) := dk_45 (dk_at dksX1_addPart_0 10 rfl rfl)
theorem dX1_addPart_11 : decode cX1_addPart 11 = .ok (.iload_n 1, 1) := dk_27 (dk_at dksX1_addPart_0 11 rfl rfl)
theorem dX1_addPart_12 : decode cX1_addPart 12 = .ok (.iload_n 2, 1) := dk_28 (dk_at dksX1_addPart_0 12 rfl rfl)
theorem dX1_addPart_13 : decode cX1_addPart 13 = .ok (.invokevirtual 41, 3) := dk_182 0 41 (dk_at dksX1_addPart_0 13 rfl rfl)
theorem dX1_addPart_16 : decode cX1_addPart 16 = .ok (.invokevirtual 109, 3) := dk_182 0 109 (dk_at dksX1_addPart_0 16 rfl rfl)
theorem dX1_addPart_19 : decode cX1_addPart 19 = .ok (.ireturn, 1) := dk_172 (dk_at dksX1_addPart_0 19 rfl rfl)
abbrev cX1_setPart : ByteArray := prog_1_method_10_code
def yX1_setPart : MethodName := ⟨RX1, "setPart", "(III)I"⟩
def dkwX1_setPart_0 : List UInt8 := [42, 180, 0, 80, 182, 0, 105, 58, 4, 42, 25, 4, 25, 4, 27, 28, 29, 182, 0, 47, 182, 0, 109, 172]
abbrev dktX1_setPart_0 : List UInt8 := dkwX1_setPart_0 ++ []
theorem dksX1_setPart_0 : cX1_setPart.data.toList.drop 0 = dktX1_setPart_0 := by decide +kernel
theorem dX1_setPart_0 : decode cX1_setPart 0 = .ok (.aload_n 0, 1) := dk_42 (dk_at dksX1_setPart_0 0 rfl rfl)
theorem dX1_setPart_1 : decode cX1_setPart 1 = .ok (.getfield 80, 3) := dk_180 0 80 (dk_at dksX1_setPart_0 1 rfl rfl)
theorem dX1_setPart_4 : decode cX1_setPart 4 = .ok (.invokevirtual 105, 3) := dk_182 0 105 (dk_at dksX1_setPart_0 4 rfl rfl)
theorem dX1_setPart_7 : decode cX1_setPart 7 = .ok (.astore 4, 2) := dk_58 4 (dk_at dksX1_setPart_0 7 rfl rfl)
theorem dX1_setPart_9 : decode cX1_setPart 9 = .ok (.aload_n 0, 1) := dk_42 (dk_at dksX1_setPart_0 9 rfl rfl)
theorem dX1_setPart_10 : decode cX1_setPart 10 = .ok (.aload 4, 2) := dk_25 4 (dk_at dksX1_setPart_0 10 rfl rfl)
theorem dX1_setPart_12 : decode cX1_setPart 12 = .ok (.aload 4, 2) := dk_25 4 (dk_at dksX1_setPart_0 12 rfl rfl)
theorem dX1_setPart_14 : decode cX1_setPart 14 = .ok (.iload_n 1, 1) := dk_27 (dk_at dksX1_setPart_0 14 rfl rfl)
theorem dX1_setPart_15 : decode cX1_setPart 15 = .ok (.iload_n 2, 1) := dk_28 (dk_at dksX1_setPart_0 15 rfl rfl)
theorem dX1_setPart_16 : decode cX1_setPart 16 = .ok (.iload_n 3, 1) := dk_29 (dk_at dksX1_setPart_0 16 rfl rfl)
theorem dX1_setPart_17 : decode cX1_setPart 17 = .ok (.invokevirtual 47, 3) := dk_182 0 47 (dk_at dksX1_setPart_0 17 rfl rfl)
theorem dX1_setPart_20 : decode cX1_setPart 20 = .ok (.invokevirtual 109, 3) := dk_182 0 109 (dk_at dksX1_setPart_0 20 rfl rfl)
theorem dX1_setPart_23 : decode cX1_setPart 23 = .ok (.ireturn, 1) := dk_172 (dk_at dksX1_setPart_0 23 rfl rfl)
abbrev cX1_removePart : ByteArray := prog_1_method_11_code
def yX1_removePart : MethodName := ⟨RX1, "removePart", "(I)I"⟩
def dkwX1_removePart_0 : List UInt8 := [42, 180, 0, 80, 182, 0, 105, 77, 42, 44, 44, 27, 182, 0, 51, 182, 0, 109, 172]
abbrev dktX1_removePart_0 : List UInt8 := dkwX1_removePart_0 ++ []
theorem dksX1_removePart_0 : cX1_removePart.data.toList.drop 0 = dktX1_removePart_0 := by decide +kernel
theorem dX1_removePart_0 : decode cX1_removePart 0 = .ok (.aload_n 0, 1) := dk_42 (dk_at dksX1_removePart_0 0 rfl rfl)
theorem dX1_removePart_1 : decode cX1_removePart 1 = .ok (.getfield 80, 3) := dk_180 0 80 (dk_at dksX1_removePart_0 1 rfl rfl)
theorem dX1_removePart_4 : decode cX1_removePart 4 = .ok (.invokevirtual 105, 3) := dk_182 0 105 (dk_at dksX1_removePart_0 4 rfl rfl)
theorem dX1_removePart_7 : decode cX1_removePart 7 = .ok (.astore_n 2, 1) := dk_77 (dk_at dksX1_removePart_0 7 rfl rfl)
theorem dX1_removePart_8 : decode cX1_removePart 8 = .ok (.aload_n 0, 1) := dk_42 (dk_at dksX1_removePart_0 8 rfl rfl)
theorem dX1_removePart_9 : decode cX1_removePart 9 = .ok (.aload_n 2, 1) := dk_44 (dk_at dksX1_removePart_0 9 rfl rfl)
theorem dX1_removePart_10 : decode cX1_removePart 10 = .ok (.aload_n 2, 1) := dk_44 (dk_at dksX1_removePart_0 10 rfl rfl)
theorem dX1_removePart_11 : decode cX1_removePart 11 = .ok (.iload_n 1, 1) := dk_27 (dk_at dksX1_removePart_0 11 rfl rfl)
theorem dX1_removePart_12 : decode cX1_removePart 12 = .ok (.invokevirtual 51, 3) := dk_182 0 51 (dk_at dksX1_removePart_0 12 rfl rfl)
theorem dX1_removePart_15 : decode cX1_removePart 15 = .ok (.invokevirtual 109, 3) := dk_182 0 109 (dk_at dksX1_removePart_0 15 rfl rfl)
theorem dX1_removePart_18 : decode cX1_removePart 18 = .ok (.ireturn, 1) := dk_172 (dk_at dksX1_removePart_0 18 rfl rfl)
abbrev cX1_splitPart : ByteArray := prog_1_method_12_code
def yX1_splitPart : MethodName := ⟨RX1, "splitPart", "(III)I"⟩
def dkwX1_splitPart_0 : List UInt8 := [42, 180, 0, 80, 182, 0, 105, 58, 4, 42, 25, 4, 25, 4, 27, 28, 29, 182, 0, 55, 182, 0, 109, 172]
abbrev dktX1_splitPart_0 : List UInt8 := dkwX1_splitPart_0 ++ []
theorem dksX1_splitPart_0 : cX1_splitPart.data.toList.drop 0 = dktX1_splitPart_0 := by decide +kernel
theorem dX1_splitPart_0 : decode cX1_splitPart 0 = .ok (.aload_n 0, 1) := dk_42 (dk_at dksX1_splitPart_0 0 rfl rfl)
theorem dX1_splitPart_1 : decode cX1_splitPart 1 = .ok (.getfield 80, 3) := dk_180 0 80 (dk_at dksX1_splitPart_0 1 rfl rfl)
theorem dX1_splitPart_4 : decode cX1_splitPart 4 = .ok (.invokevirtual 105, 3) := dk_182 0 105 (dk_at dksX1_splitPart_0 4 rfl rfl)
theorem dX1_splitPart_7 : decode cX1_splitPart 7 = .ok (.astore 4, 2) := dk_58 4 (dk_at dksX1_splitPart_0 7 rfl rfl)
theorem dX1_splitPart_9 : decode cX1_splitPart 9 = .ok (.aload_n 0, 1) := dk_42 (dk_at dksX1_splitPart_0 9 rfl rfl)
theorem dX1_splitPart_10 : decode cX1_splitPart 10 = .ok (.aload 4, 2) := dk_25 4 (dk_at dksX1_splitPart_0 10 rfl rfl)
theorem dX1_splitPart_12 : decode cX1_splitPart 12 = .ok (.aload 4, 2) := dk_25 4 (dk_at dksX1_splitPart_0 12 rfl rfl)
theorem dX1_splitPart_14 : decode cX1_splitPart 14 = .ok (.iload_n 1, 1) := dk_27 (dk_at dksX1_splitPart_0 14 rfl rfl)
theorem dX1_splitPart_15 : decode cX1_splitPart 15 = .ok (.iload_n 2, 1) := dk_28 (dk_at dksX1_splitPart_0 15 rfl rfl)
theorem dX1_splitPart_16 : decode cX1_splitPart 16 = .ok (.iload_n 3, 1) := dk_29 (dk_at dksX1_splitPart_0 16 rfl rfl)
theorem dX1_splitPart_17 : decode cX1_splitPart 17 = .ok (.invokevirtual 55, 3) := dk_182 0 55 (dk_at dksX1_splitPart_0 17 rfl rfl)
theorem dX1_splitPart_20 : decode cX1_splitPart 20 = .ok (.invokevirtual 109, 3) := dk_182 0 109 (dk_at dksX1_splitPart_0 20 rfl rfl)
theorem dX1_splitPart_23 : decode cX1_splitPart 23 = .ok (.ireturn, 1) := dk_172 (dk_at dksX1_splitPart_0 23 rfl rfl)
abbrev cX1_setBench : ByteArray := prog_1_method_14_code
def yX1_setBench : MethodName := ⟨RX1, "setBench", "(III)I"⟩
def dkwX1_setBench_3 : List UInt8 := [180, 0, 113, 27, 28, 29, 182, 0, 147, 42, 25, 5, 21, 4, 182, 0, 109, 172]
abbrev dktX1_setBench_3 : List UInt8 := dkwX1_setBench_3 ++ []
def dkwX1_setBench_2 : List UInt8 := [180, 0, 80, 180, 0, 113, 180, 0, 144, 54, 4, 42, 180, 0, 80, 182, 0, 105, 58, 5, 25, 5]
abbrev dktX1_setBench_2 : List UInt8 := dkwX1_setBench_2 ++ dktX1_setBench_3
def dkwX1_setBench_1 : List UInt8 := [29, 133, 10, 20, 0, 136, 184, 0, 130, 153, 0, 7, 4, 167, 0, 4, 3, 18, 138, 184, 0, 140, 42]
abbrev dktX1_setBench_1 : List UInt8 := dkwX1_setBench_1 ++ dktX1_setBench_2
def dkwX1_setBench_0 : List UInt8 := [27, 133, 9, 20, 0, 128, 184, 0, 130, 153, 0, 31, 28, 133, 9, 20, 0, 134, 184, 0, 130, 153, 0, 19]
abbrev dktX1_setBench_0 : List UInt8 := dkwX1_setBench_0 ++ dktX1_setBench_1
theorem dksX1_setBench_0 : cX1_setBench.data.toList.drop 0 = dktX1_setBench_0 := by decide +kernel
theorem dksX1_setBench_1 : cX1_setBench.data.toList.drop 24 = dktX1_setBench_1 := dk_seg dksX1_setBench_0 24 rfl rfl
theorem dksX1_setBench_2 : cX1_setBench.data.toList.drop 47 = dktX1_setBench_2 := dk_seg dksX1_setBench_1 23 rfl rfl
theorem dksX1_setBench_3 : cX1_setBench.data.toList.drop 69 = dktX1_setBench_3 := dk_seg dksX1_setBench_2 22 rfl rfl
theorem dX1_setBench_0 : decode cX1_setBench 0 = .ok (.iload_n 1, 1) := dk_27 (dk_at dksX1_setBench_0 0 rfl rfl)
theorem dX1_setBench_1 : decode cX1_setBench 1 = .ok (.i2l, 1) := dk_133 (dk_at dksX1_setBench_0 1 rfl rfl)
theorem dX1_setBench_2 : decode cX1_setBench 2 = .ok (.lconst 0, 1) := dk_9 (dk_at dksX1_setBench_0 2 rfl rfl)
theorem dX1_setBench_3 : decode cX1_setBench 3 = .ok (.ldc2_w 128, 3) := dk_20 0 128 (dk_at dksX1_setBench_0 3 rfl rfl)
theorem dX1_setBench_6 : decode cX1_setBench 6 = .ok (.invokestatic 130, 3) := dk_184 0 130 (dk_at dksX1_setBench_0 6 rfl rfl)
theorem dX1_setBench_9 : decode cX1_setBench 9 = .ok (.ifCond .eq 31, 3) := dk_153 0 31 (dk_at dksX1_setBench_0 9 rfl rfl)
theorem dX1_setBench_12 : decode cX1_setBench 12 = .ok (.iload_n 2, 1) := dk_28 (dk_at dksX1_setBench_0 12 rfl rfl)
theorem dX1_setBench_13 : decode cX1_setBench 13 = .ok (.i2l, 1) := dk_133 (dk_at dksX1_setBench_0 13 rfl rfl)
theorem dX1_setBench_14 : decode cX1_setBench 14 = .ok (.lconst 0, 1) := dk_9 (dk_at dksX1_setBench_0 14 rfl rfl)
theorem dX1_setBench_15 : decode cX1_setBench 15 = .ok (.ldc2_w 134, 3) := dk_20 0 134 (dk_at dksX1_setBench_0 15 rfl rfl)
theorem dX1_setBench_18 : decode cX1_setBench 18 = .ok (.invokestatic 130, 3) := dk_184 0 130 (dk_at dksX1_setBench_0 18 rfl rfl)
theorem dX1_setBench_21 : decode cX1_setBench 21 = .ok (.ifCond .eq 19, 3) := dk_153 0 19 (dk_at dksX1_setBench_0 21 rfl rfl)
theorem dX1_setBench_24 : decode cX1_setBench 24 = .ok (.iload_n 3, 1) := dk_29 (dk_at dksX1_setBench_1 0 rfl rfl)
theorem dX1_setBench_25 : decode cX1_setBench 25 = .ok (.i2l, 1) := dk_133 (dk_at dksX1_setBench_1 1 rfl rfl)
theorem dX1_setBench_26 : decode cX1_setBench 26 = .ok (.lconst 1, 1) := dk_10 (dk_at dksX1_setBench_1 2 rfl rfl)
theorem dX1_setBench_27 : decode cX1_setBench 27 = .ok (.ldc2_w 136, 3) := dk_20 0 136 (dk_at dksX1_setBench_1 3 rfl rfl)
theorem dX1_setBench_30 : decode cX1_setBench 30 = .ok (.invokestatic 130, 3) := dk_184 0 130 (dk_at dksX1_setBench_1 6 rfl rfl)
theorem dX1_setBench_33 : decode cX1_setBench 33 = .ok (.ifCond .eq 7, 3) := dk_153 0 7 (dk_at dksX1_setBench_1 9 rfl rfl)
theorem dX1_setBench_36 : decode cX1_setBench 36 = .ok (.iconst 1, 1) := dk_4 (dk_at dksX1_setBench_1 12 rfl rfl)
theorem dX1_setBench_37 : decode cX1_setBench 37 = .ok (.goto 4, 3) := dk_167 0 4 (dk_at dksX1_setBench_1 13 rfl rfl)
theorem dX1_setBench_40 : decode cX1_setBench 40 = .ok (.iconst 0, 1) := dk_3 (dk_at dksX1_setBench_1 16 rfl rfl)
theorem dX1_setBench_41 : decode cX1_setBench 41 = .ok (.ldc 138, 2) := dk_18 138 (dk_at dksX1_setBench_1 17 rfl rfl)
theorem dX1_setBench_43 : decode cX1_setBench 43 = .ok (.invokestatic 140, 3) := dk_184 0 140 (dk_at dksX1_setBench_1 19 rfl rfl)
theorem dX1_setBench_46 : decode cX1_setBench 46 = .ok (.aload_n 0, 1) := dk_42 (dk_at dksX1_setBench_1 22 rfl rfl)
theorem dX1_setBench_47 : decode cX1_setBench 47 = .ok (.getfield 80, 3) := dk_180 0 80 (dk_at dksX1_setBench_2 0 rfl rfl)
theorem dX1_setBench_50 : decode cX1_setBench 50 = .ok (.getfield 113, 3) := dk_180 0 113 (dk_at dksX1_setBench_2 3 rfl rfl)
theorem dX1_setBench_53 : decode cX1_setBench 53 = .ok (.getfield 144, 3) := dk_180 0 144 (dk_at dksX1_setBench_2 6 rfl rfl)
theorem dX1_setBench_56 : decode cX1_setBench 56 = .ok (.istore 4, 2) := dk_54 4 (dk_at dksX1_setBench_2 9 rfl rfl)
theorem dX1_setBench_58 : decode cX1_setBench 58 = .ok (.aload_n 0, 1) := dk_42 (dk_at dksX1_setBench_2 11 rfl rfl)
theorem dX1_setBench_59 : decode cX1_setBench 59 = .ok (.getfield 80, 3) := dk_180 0 80 (dk_at dksX1_setBench_2 12 rfl rfl)
theorem dX1_setBench_62 : decode cX1_setBench 62 = .ok (.invokevirtual 105, 3) := dk_182 0 105 (dk_at dksX1_setBench_2 15 rfl rfl)
theorem dX1_setBench_65 : decode cX1_setBench 65 = .ok (.astore 5, 2) := dk_58 5 (dk_at dksX1_setBench_2 18 rfl rfl)
theorem dX1_setBench_67 : decode cX1_setBench 67 = .ok (.aload 5, 2) := dk_25 5 (dk_at dksX1_setBench_2 20 rfl rfl)
theorem dX1_setBench_69 : decode cX1_setBench 69 = .ok (.getfield 113, 3) := dk_180 0 113 (dk_at dksX1_setBench_3 0 rfl rfl)
theorem dX1_setBench_72 : decode cX1_setBench 72 = .ok (.iload_n 1, 1) := dk_27 (dk_at dksX1_setBench_3 3 rfl rfl)
theorem dX1_setBench_73 : decode cX1_setBench 73 = .ok (.iload_n 2, 1) := dk_28 (dk_at dksX1_setBench_3 4 rfl rfl)
theorem dX1_setBench_74 : decode cX1_setBench 74 = .ok (.iload_n 3, 1) := dk_29 (dk_at dksX1_setBench_3 5 rfl rfl)
theorem dX1_setBench_75 : decode cX1_setBench 75 = .ok (.invokevirtual 147, 3) := dk_182 0 147 (dk_at dksX1_setBench_3 6 rfl rfl)
theorem dX1_setBench_78 : decode cX1_setBench 78 = .ok (.aload_n 0, 1) := dk_42 (dk_at dksX1_setBench_3 9 rfl rfl)
theorem dX1_setBench_79 : decode cX1_setBench 79 = .ok (.aload 5, 2) := dk_25 5 (dk_at dksX1_setBench_3 10 rfl rfl)
theorem dX1_setBench_81 : decode cX1_setBench 81 = .ok (.iload 4, 2) := dk_21 4 (dk_at dksX1_setBench_3 12 rfl rfl)
theorem dX1_setBench_83 : decode cX1_setBench 83 = .ok (.invokevirtual 109, 3) := dk_182 0 109 (dk_at dksX1_setBench_3 14 rfl rfl)
theorem dX1_setBench_86 : decode cX1_setBench 86 = .ok (.ireturn, 1) := dk_172 (dk_at dksX1_setBench_3 17 rfl rfl)
abbrev cX1_addPulse : ByteArray := prog_1_method_15_code
def yX1_addPulse : MethodName := ⟨RX1, "addPulse", "(II)I"⟩
def dkwX1_addPulse_0 : List UInt8 := [42, 180, 0, 80, 182, 0, 105, 78, 42, 45, 45, 27, 28, 182, 0, 58, 182, 0, 109, 172]
abbrev dktX1_addPulse_0 : List UInt8 := dkwX1_addPulse_0 ++ []
theorem dksX1_addPulse_0 : cX1_addPulse.data.toList.drop 0 = dktX1_addPulse_0 := by decide +kernel
theorem dX1_addPulse_0 : decode cX1_addPulse 0 = .ok (.aload_n 0, 1) := dk_42 (dk_at dksX1_addPulse_0 0 rfl rfl)
theorem dX1_addPulse_1 : decode cX1_addPulse 1 = .ok (.getfield 80, 3) := dk_180 0 80 (dk_at dksX1_addPulse_0 1 rfl rfl)
theorem dX1_addPulse_4 : decode cX1_addPulse 4 = .ok (.invokevirtual 105, 3) := dk_182 0 105 (dk_at dksX1_addPulse_0 4 rfl rfl)
theorem dX1_addPulse_7 : decode cX1_addPulse 7 = .ok (.astore_n 3, 1) := dk_78 (dk_at dksX1_addPulse_0 7 rfl rfl)
theorem dX1_addPulse_8 : decode cX1_addPulse 8 = .ok (.aload_n 0, 1) := dk_42 (dk_at dksX1_addPulse_0 8 rfl rfl)
theorem dX1_addPulse_9 : decode cX1_addPulse 9 = .ok (.aload_n 3, 1) := dk_45 (dk_at dksX1_addPulse_0 9 rfl rfl)
theorem dX1_addPulse_10 : decode cX1_addPulse 10 = .ok (.aload_n 3, 1) := dk_45 (dk_at dksX1_addPulse_0 10 rfl rfl)
theorem dX1_addPulse_11 : decode cX1_addPulse 11 = .ok (.iload_n 1, 1) := dk_27 (dk_at dksX1_addPulse_0 11 rfl rfl)
theorem dX1_addPulse_12 : decode cX1_addPulse 12 = .ok (.iload_n 2, 1) := dk_28 (dk_at dksX1_addPulse_0 12 rfl rfl)
theorem dX1_addPulse_13 : decode cX1_addPulse 13 = .ok (.invokevirtual 58, 3) := dk_182 0 58 (dk_at dksX1_addPulse_0 13 rfl rfl)
theorem dX1_addPulse_16 : decode cX1_addPulse 16 = .ok (.invokevirtual 109, 3) := dk_182 0 109 (dk_at dksX1_addPulse_0 16 rfl rfl)
theorem dX1_addPulse_19 : decode cX1_addPulse 19 = .ok (.ireturn, 1) := dk_172 (dk_at dksX1_addPulse_0 19 rfl rfl)
abbrev cX1_removePulse : ByteArray := prog_1_method_16_code
def yX1_removePulse : MethodName := ⟨RX1, "removePulse", "(I)I"⟩
def dkwX1_removePulse_3 : List UInt8 := [180, 0, 151, 182, 0, 109, 172]
abbrev dktX1_removePulse_3 : List UInt8 := dkwX1_removePulse_3 ++ []
def dkwX1_removePulse_2 : List UInt8 := [42, 180, 0, 80, 182, 0, 105, 77, 44, 180, 0, 113, 27, 182, 0, 162, 42, 44, 44, 180, 0, 113]
abbrev dktX1_removePulse_2 : List UInt8 := dkwX1_removePulse_2 ++ dktX1_removePulse_3
def dkwX1_removePulse_1 : List UInt8 := [42, 180, 0, 80, 180, 0, 113, 180, 0, 151, 4, 164, 0, 7, 4, 167, 0, 4, 3, 18, 157, 184, 0, 159]
abbrev dktX1_removePulse_1 : List UInt8 := dkwX1_removePulse_1 ++ dktX1_removePulse_2
def dkwX1_removePulse_0 : List UInt8 := [27, 133, 9, 42, 180, 0, 80, 180, 0, 113, 180, 0, 151, 4, 100, 133, 184, 0, 130, 18, 29, 184, 0, 154]
abbrev dktX1_removePulse_0 : List UInt8 := dkwX1_removePulse_0 ++ dktX1_removePulse_1
theorem dksX1_removePulse_0 : cX1_removePulse.data.toList.drop 0 = dktX1_removePulse_0 := by decide +kernel
theorem dksX1_removePulse_1 : cX1_removePulse.data.toList.drop 24 = dktX1_removePulse_1 := dk_seg dksX1_removePulse_0 24 rfl rfl
theorem dksX1_removePulse_2 : cX1_removePulse.data.toList.drop 48 = dktX1_removePulse_2 := dk_seg dksX1_removePulse_1 24 rfl rfl
theorem dksX1_removePulse_3 : cX1_removePulse.data.toList.drop 70 = dktX1_removePulse_3 := dk_seg dksX1_removePulse_2 22 rfl rfl
theorem dX1_removePulse_0 : decode cX1_removePulse 0 = .ok (.iload_n 1, 1) := dk_27 (dk_at dksX1_removePulse_0 0 rfl rfl)
theorem dX1_removePulse_1 : decode cX1_removePulse 1 = .ok (.i2l, 1) := dk_133 (dk_at dksX1_removePulse_0 1 rfl rfl)
theorem dX1_removePulse_2 : decode cX1_removePulse 2 = .ok (.lconst 0, 1) := dk_9 (dk_at dksX1_removePulse_0 2 rfl rfl)
theorem dX1_removePulse_3 : decode cX1_removePulse 3 = .ok (.aload_n 0, 1) := dk_42 (dk_at dksX1_removePulse_0 3 rfl rfl)
theorem dX1_removePulse_4 : decode cX1_removePulse 4 = .ok (.getfield 80, 3) := dk_180 0 80 (dk_at dksX1_removePulse_0 4 rfl rfl)
theorem dX1_removePulse_7 : decode cX1_removePulse 7 = .ok (.getfield 113, 3) := dk_180 0 113 (dk_at dksX1_removePulse_0 7 rfl rfl)
theorem dX1_removePulse_10 : decode cX1_removePulse 10 = .ok (.getfield 151, 3) := dk_180 0 151 (dk_at dksX1_removePulse_0 10 rfl rfl)
theorem dX1_removePulse_13 : decode cX1_removePulse 13 = .ok (.iconst 1, 1) := dk_4 (dk_at dksX1_removePulse_0 13 rfl rfl)
theorem dX1_removePulse_14 : decode cX1_removePulse 14 = .ok (.isub, 1) := dk_100 (dk_at dksX1_removePulse_0 14 rfl rfl)
theorem dX1_removePulse_15 : decode cX1_removePulse 15 = .ok (.i2l, 1) := dk_133 (dk_at dksX1_removePulse_0 15 rfl rfl)
theorem dX1_removePulse_16 : decode cX1_removePulse 16 = .ok (.invokestatic 130, 3) := dk_184 0 130 (dk_at dksX1_removePulse_0 16 rfl rfl)
theorem dX1_removePulse_19 : decode cX1_removePulse 19 = .ok (.ldc 29, 2) := dk_18 29 (dk_at dksX1_removePulse_0 19 rfl rfl)
theorem dX1_removePulse_21 : decode cX1_removePulse 21 = .ok (.invokestatic 154, 3) := dk_184 0 154 (dk_at dksX1_removePulse_0 21 rfl rfl)
theorem dX1_removePulse_24 : decode cX1_removePulse 24 = .ok (.aload_n 0, 1) := dk_42 (dk_at dksX1_removePulse_1 0 rfl rfl)
theorem dX1_removePulse_25 : decode cX1_removePulse 25 = .ok (.getfield 80, 3) := dk_180 0 80 (dk_at dksX1_removePulse_1 1 rfl rfl)
theorem dX1_removePulse_28 : decode cX1_removePulse 28 = .ok (.getfield 113, 3) := dk_180 0 113 (dk_at dksX1_removePulse_1 4 rfl rfl)
theorem dX1_removePulse_31 : decode cX1_removePulse 31 = .ok (.getfield 151, 3) := dk_180 0 151 (dk_at dksX1_removePulse_1 7 rfl rfl)
theorem dX1_removePulse_34 : decode cX1_removePulse 34 = .ok (.iconst 1, 1) := dk_4 (dk_at dksX1_removePulse_1 10 rfl rfl)
theorem dX1_removePulse_35 : decode cX1_removePulse 35 = .ok (.if_icmp .le 7, 3) := dk_164 0 7 (dk_at dksX1_removePulse_1 11 rfl rfl)
theorem dX1_removePulse_38 : decode cX1_removePulse 38 = .ok (.iconst 1, 1) := dk_4 (dk_at dksX1_removePulse_1 14 rfl rfl)
theorem dX1_removePulse_39 : decode cX1_removePulse 39 = .ok (.goto 4, 3) := dk_167 0 4 (dk_at dksX1_removePulse_1 15 rfl rfl)
theorem dX1_removePulse_42 : decode cX1_removePulse 42 = .ok (.iconst 0, 1) := dk_3 (dk_at dksX1_removePulse_1 18 rfl rfl)
theorem dX1_removePulse_43 : decode cX1_removePulse 43 = .ok (.ldc 157, 2) := dk_18 157 (dk_at dksX1_removePulse_1 19 rfl rfl)
theorem dX1_removePulse_45 : decode cX1_removePulse 45 = .ok (.invokestatic 159, 3) := dk_184 0 159 (dk_at dksX1_removePulse_1 21 rfl rfl)
theorem dX1_removePulse_48 : decode cX1_removePulse 48 = .ok (.aload_n 0, 1) := dk_42 (dk_at dksX1_removePulse_2 0 rfl rfl)
theorem dX1_removePulse_49 : decode cX1_removePulse 49 = .ok (.getfield 80, 3) := dk_180 0 80 (dk_at dksX1_removePulse_2 1 rfl rfl)
theorem dX1_removePulse_52 : decode cX1_removePulse 52 = .ok (.invokevirtual 105, 3) := dk_182 0 105 (dk_at dksX1_removePulse_2 4 rfl rfl)
theorem dX1_removePulse_55 : decode cX1_removePulse 55 = .ok (.astore_n 2, 1) := dk_77 (dk_at dksX1_removePulse_2 7 rfl rfl)
theorem dX1_removePulse_56 : decode cX1_removePulse 56 = .ok (.aload_n 2, 1) := dk_44 (dk_at dksX1_removePulse_2 8 rfl rfl)
theorem dX1_removePulse_57 : decode cX1_removePulse 57 = .ok (.getfield 113, 3) := dk_180 0 113 (dk_at dksX1_removePulse_2 9 rfl rfl)
theorem dX1_removePulse_60 : decode cX1_removePulse 60 = .ok (.iload_n 1, 1) := dk_27 (dk_at dksX1_removePulse_2 12 rfl rfl)
theorem dX1_removePulse_61 : decode cX1_removePulse 61 = .ok (.invokevirtual 162, 3) := dk_182 0 162 (dk_at dksX1_removePulse_2 13 rfl rfl)
theorem dX1_removePulse_64 : decode cX1_removePulse 64 = .ok (.aload_n 0, 1) := dk_42 (dk_at dksX1_removePulse_2 16 rfl rfl)
theorem dX1_removePulse_65 : decode cX1_removePulse 65 = .ok (.aload_n 2, 1) := dk_44 (dk_at dksX1_removePulse_2 17 rfl rfl)
theorem dX1_removePulse_66 : decode cX1_removePulse 66 = .ok (.aload_n 2, 1) := dk_44 (dk_at dksX1_removePulse_2 18 rfl rfl)
theorem dX1_removePulse_67 : decode cX1_removePulse 67 = .ok (.getfield 113, 3) := dk_180 0 113 (dk_at dksX1_removePulse_2 19 rfl rfl)
theorem dX1_removePulse_70 : decode cX1_removePulse 70 = .ok (.getfield 151, 3) := dk_180 0 151 (dk_at dksX1_removePulse_3 0 rfl rfl)
theorem dX1_removePulse_73 : decode cX1_removePulse 73 = .ok (.invokevirtual 109, 3) := dk_182 0 109 (dk_at dksX1_removePulse_3 3 rfl rfl)
theorem dX1_removePulse_76 : decode cX1_removePulse 76 = .ok (.ireturn, 1) := dk_172 (dk_at dksX1_removePulse_3 6 rfl rfl)
abbrev cX1_part : ByteArray := prog_1_method_18_code
def yX1_part : MethodName := ⟨RX1, "part", "(II)I"⟩
def dkwX1_part_1 : List UInt8 := [28, 182, 0, 180, 172]
abbrev dktX1_part_1 : List UInt8 := dkwX1_part_1 ++ []
def dkwX1_part_0 : List UInt8 := [42, 180, 0, 80, 27, 182, 0, 173, 28, 133, 9, 20, 0, 176, 184, 0, 130, 18, 178, 184, 0, 140, 42, 27]
abbrev dktX1_part_0 : List UInt8 := dkwX1_part_0 ++ dktX1_part_1
theorem dksX1_part_0 : cX1_part.data.toList.drop 0 = dktX1_part_0 := by decide +kernel
theorem dksX1_part_1 : cX1_part.data.toList.drop 24 = dktX1_part_1 := dk_seg dksX1_part_0 24 rfl rfl
theorem dX1_part_0 : decode cX1_part 0 = .ok (.aload_n 0, 1) := dk_42 (dk_at dksX1_part_0 0 rfl rfl)
theorem dX1_part_1 : decode cX1_part 1 = .ok (.getfield 80, 3) := dk_180 0 80 (dk_at dksX1_part_0 1 rfl rfl)
theorem dX1_part_4 : decode cX1_part 4 = .ok (.iload_n 1, 1) := dk_27 (dk_at dksX1_part_0 4 rfl rfl)
theorem dX1_part_5 : decode cX1_part 5 = .ok (.invokevirtual 173, 3) := dk_182 0 173 (dk_at dksX1_part_0 5 rfl rfl)
theorem dX1_part_8 : decode cX1_part 8 = .ok (.iload_n 2, 1) := dk_28 (dk_at dksX1_part_0 8 rfl rfl)
theorem dX1_part_9 : decode cX1_part 9 = .ok (.i2l, 1) := dk_133 (dk_at dksX1_part_0 9 rfl rfl)
theorem dX1_part_10 : decode cX1_part 10 = .ok (.lconst 0, 1) := dk_9 (dk_at dksX1_part_0 10 rfl rfl)
theorem dX1_part_11 : decode cX1_part 11 = .ok (.ldc2_w 176, 3) := dk_20 0 176 (dk_at dksX1_part_0 11 rfl rfl)
theorem dX1_part_14 : decode cX1_part 14 = .ok (.invokestatic 130, 3) := dk_184 0 130 (dk_at dksX1_part_0 14 rfl rfl)
theorem dX1_part_17 : decode cX1_part 17 = .ok (.ldc 178, 2) := dk_18 178 (dk_at dksX1_part_0 17 rfl rfl)
theorem dX1_part_19 : decode cX1_part 19 = .ok (.invokestatic 140, 3) := dk_184 0 140 (dk_at dksX1_part_0 19 rfl rfl)
theorem dX1_part_22 : decode cX1_part 22 = .ok (.aload_n 0, 1) := dk_42 (dk_at dksX1_part_0 22 rfl rfl)
theorem dX1_part_23 : decode cX1_part 23 = .ok (.iload_n 1, 1) := dk_27 (dk_at dksX1_part_0 23 rfl rfl)
theorem dX1_part_24 : decode cX1_part 24 = .ok (.iload_n 2, 1) := dk_28 (dk_at dksX1_part_1 0 rfl rfl)
theorem dX1_part_25 : decode cX1_part 25 = .ok (.invokevirtual 180, 3) := dk_182 0 180 (dk_at dksX1_part_1 1 rfl rfl)
theorem dX1_part_28 : decode cX1_part 28 = .ok (.ireturn, 1) := dk_172 (dk_at dksX1_part_1 4 rfl rfl)
abbrev cX1_partValue : ByteArray := prog_1_method_17_code
def yX1_partValue : MethodName := ⟨RX1, "partValue", "(II)I"⟩
def dkwX1_partValue_1 : List UInt8 := [160, 0, 12, 45, 180, 0, 170, 27, 46, 167, 0, 10, 45, 27, 4, 96, 182, 0, 125, 172]
abbrev dktX1_partValue_1 : List UInt8 := dkwX1_partValue_1 ++ []
def dkwX1_partValue_0 : List UInt8 := [42, 180, 0, 80, 180, 0, 113, 78, 28, 154, 0, 12, 45, 180, 0, 166, 27, 46, 167, 0, 24, 28, 4]
abbrev dktX1_partValue_0 : List UInt8 := dkwX1_partValue_0 ++ dktX1_partValue_1
theorem dksX1_partValue_0 : cX1_partValue.data.toList.drop 0 = dktX1_partValue_0 := by decide +kernel
theorem dksX1_partValue_1 : cX1_partValue.data.toList.drop 23 = dktX1_partValue_1 := dk_seg dksX1_partValue_0 23 rfl rfl
theorem dX1_partValue_0 : decode cX1_partValue 0 = .ok (.aload_n 0, 1) := dk_42 (dk_at dksX1_partValue_0 0 rfl rfl)
theorem dX1_partValue_1 : decode cX1_partValue 1 = .ok (.getfield 80, 3) := dk_180 0 80 (dk_at dksX1_partValue_0 1 rfl rfl)
theorem dX1_partValue_4 : decode cX1_partValue 4 = .ok (.getfield 113, 3) := dk_180 0 113 (dk_at dksX1_partValue_0 4 rfl rfl)
theorem dX1_partValue_7 : decode cX1_partValue 7 = .ok (.astore_n 3, 1) := dk_78 (dk_at dksX1_partValue_0 7 rfl rfl)
theorem dX1_partValue_8 : decode cX1_partValue 8 = .ok (.iload_n 2, 1) := dk_28 (dk_at dksX1_partValue_0 8 rfl rfl)
theorem dX1_partValue_9 : decode cX1_partValue 9 = .ok (.ifCond .ne 12, 3) := dk_154 0 12 (dk_at dksX1_partValue_0 9 rfl rfl)
theorem dX1_partValue_12 : decode cX1_partValue 12 = .ok (.aload_n 3, 1) := dk_45 (dk_at dksX1_partValue_0 12 rfl rfl)
theorem dX1_partValue_13 : decode cX1_partValue 13 = .ok (.getfield 166, 3) := dk_180 0 166 (dk_at dksX1_partValue_0 13 rfl rfl)
theorem dX1_partValue_16 : decode cX1_partValue 16 = .ok (.iload_n 1, 1) := dk_27 (dk_at dksX1_partValue_0 16 rfl rfl)
theorem dX1_partValue_17 : decode cX1_partValue 17 = .ok (.iaload, 1) := dk_46 (dk_at dksX1_partValue_0 17 rfl rfl)
theorem dX1_partValue_18 : decode cX1_partValue 18 = .ok (.goto 24, 3) := dk_167 0 24 (dk_at dksX1_partValue_0 18 rfl rfl)
theorem dX1_partValue_21 : decode cX1_partValue 21 = .ok (.iload_n 2, 1) := dk_28 (dk_at dksX1_partValue_0 21 rfl rfl)
theorem dX1_partValue_22 : decode cX1_partValue 22 = .ok (.iconst 1, 1) := dk_4 (dk_at dksX1_partValue_0 22 rfl rfl)
theorem dX1_partValue_23 : decode cX1_partValue 23 = .ok (.if_icmp .ne 12, 3) := dk_160 0 12 (dk_at dksX1_partValue_1 0 rfl rfl)
theorem dX1_partValue_26 : decode cX1_partValue 26 = .ok (.aload_n 3, 1) := dk_45 (dk_at dksX1_partValue_1 3 rfl rfl)
theorem dX1_partValue_27 : decode cX1_partValue 27 = .ok (.getfield 170, 3) := dk_180 0 170 (dk_at dksX1_partValue_1 4 rfl rfl)
theorem dX1_partValue_30 : decode cX1_partValue 30 = .ok (.iload_n 1, 1) := dk_27 (dk_at dksX1_partValue_1 7 rfl rfl)
theorem dX1_partValue_31 : decode cX1_partValue 31 = .ok (.iaload, 1) := dk_46 (dk_at dksX1_partValue_1 8 rfl rfl)
theorem dX1_partValue_32 : decode cX1_partValue 32 = .ok (.goto 10, 3) := dk_167 0 10 (dk_at dksX1_partValue_1 9 rfl rfl)
theorem dX1_partValue_35 : decode cX1_partValue 35 = .ok (.aload_n 3, 1) := dk_45 (dk_at dksX1_partValue_1 12 rfl rfl)
theorem dX1_partValue_36 : decode cX1_partValue 36 = .ok (.iload_n 1, 1) := dk_27 (dk_at dksX1_partValue_1 13 rfl rfl)
theorem dX1_partValue_37 : decode cX1_partValue 37 = .ok (.iconst 1, 1) := dk_4 (dk_at dksX1_partValue_1 14 rfl rfl)
theorem dX1_partValue_38 : decode cX1_partValue 38 = .ok (.iadd, 1) := dk_96 (dk_at dksX1_partValue_1 15 rfl rfl)
theorem dX1_partValue_39 : decode cX1_partValue 39 = .ok (.invokevirtual 125, 3) := dk_182 0 125 (dk_at dksX1_partValue_1 16 rfl rfl)
theorem dX1_partValue_42 : decode cX1_partValue 42 = .ok (.ireturn, 1) := dk_172 (dk_at dksX1_partValue_1 19 rfl rfl)
abbrev cX1_bench : ByteArray := prog_1_method_19_code
def yX1_bench : MethodName := ⟨RX1, "bench", "(I)I"⟩
def dkwX1_bench_1 : List UInt8 := [182, 0, 185, 172]
abbrev dktX1_bench_1 : List UInt8 := dkwX1_bench_1 ++ []
def dkwX1_bench_0 : List UInt8 := [27, 133, 9, 20, 0, 183, 184, 0, 130, 18, 178, 184, 0, 140, 42, 180, 0, 80, 180, 0, 113, 27]
abbrev dktX1_bench_0 : List UInt8 := dkwX1_bench_0 ++ dktX1_bench_1
theorem dksX1_bench_0 : cX1_bench.data.toList.drop 0 = dktX1_bench_0 := by decide +kernel
theorem dksX1_bench_1 : cX1_bench.data.toList.drop 22 = dktX1_bench_1 := dk_seg dksX1_bench_0 22 rfl rfl
theorem dX1_bench_0 : decode cX1_bench 0 = .ok (.iload_n 1, 1) := dk_27 (dk_at dksX1_bench_0 0 rfl rfl)
theorem dX1_bench_1 : decode cX1_bench 1 = .ok (.i2l, 1) := dk_133 (dk_at dksX1_bench_0 1 rfl rfl)
theorem dX1_bench_2 : decode cX1_bench 2 = .ok (.lconst 0, 1) := dk_9 (dk_at dksX1_bench_0 2 rfl rfl)
theorem dX1_bench_3 : decode cX1_bench 3 = .ok (.ldc2_w 183, 3) := dk_20 0 183 (dk_at dksX1_bench_0 3 rfl rfl)
theorem dX1_bench_6 : decode cX1_bench 6 = .ok (.invokestatic 130, 3) := dk_184 0 130 (dk_at dksX1_bench_0 6 rfl rfl)
theorem dX1_bench_9 : decode cX1_bench 9 = .ok (.ldc 178, 2) := dk_18 178 (dk_at dksX1_bench_0 9 rfl rfl)
theorem dX1_bench_11 : decode cX1_bench 11 = .ok (.invokestatic 140, 3) := dk_184 0 140 (dk_at dksX1_bench_0 11 rfl rfl)
theorem dX1_bench_14 : decode cX1_bench 14 = .ok (.aload_n 0, 1) := dk_42 (dk_at dksX1_bench_0 14 rfl rfl)
theorem dX1_bench_15 : decode cX1_bench 15 = .ok (.getfield 80, 3) := dk_180 0 80 (dk_at dksX1_bench_0 15 rfl rfl)
theorem dX1_bench_18 : decode cX1_bench 18 = .ok (.getfield 113, 3) := dk_180 0 113 (dk_at dksX1_bench_0 18 rfl rfl)
theorem dX1_bench_21 : decode cX1_bench 21 = .ok (.iload_n 1, 1) := dk_27 (dk_at dksX1_bench_0 21 rfl rfl)
theorem dX1_bench_22 : decode cX1_bench 22 = .ok (.invokevirtual 185, 3) := dk_182 0 185 (dk_at dksX1_bench_1 0 rfl rfl)
theorem dX1_bench_25 : decode cX1_bench 25 = .ok (.ireturn, 1) := dk_172 (dk_at dksX1_bench_1 3 rfl rfl)
abbrev cX1_echo : ByteArray := prog_1_method_21_code
def yX1_echo : MethodName := ⟨RX1, "echo", "(I)J"⟩
def dkwX1_echo_1 : List UInt8 := [182, 0, 197, 173]
abbrev dktX1_echo_1 : List UInt8 := dkwX1_echo_1 ++ []
def dkwX1_echo_0 : List UInt8 := [42, 27, 182, 0, 190, 42, 180, 0, 61, 42, 180, 0, 80, 180, 0, 113, 182, 0, 193, 42, 180, 0, 61, 27]
abbrev dktX1_echo_0 : List UInt8 := dkwX1_echo_0 ++ dktX1_echo_1
theorem dksX1_echo_0 : cX1_echo.data.toList.drop 0 = dktX1_echo_0 := by decide +kernel
theorem dksX1_echo_1 : cX1_echo.data.toList.drop 24 = dktX1_echo_1 := dk_seg dksX1_echo_0 24 rfl rfl
theorem dX1_echo_0 : decode cX1_echo 0 = .ok (.aload_n 0, 1) := dk_42 (dk_at dksX1_echo_0 0 rfl rfl)
theorem dX1_echo_1 : decode cX1_echo 1 = .ok (.iload_n 1, 1) := dk_27 (dk_at dksX1_echo_0 1 rfl rfl)
theorem dX1_echo_2 : decode cX1_echo 2 = .ok (.invokevirtual 190, 3) := dk_182 0 190 (dk_at dksX1_echo_0 2 rfl rfl)
theorem dX1_echo_5 : decode cX1_echo 5 = .ok (.aload_n 0, 1) := dk_42 (dk_at dksX1_echo_0 5 rfl rfl)
theorem dX1_echo_6 : decode cX1_echo 6 = .ok (.getfield 61, 3) := dk_180 0 61 (dk_at dksX1_echo_0 6 rfl rfl)
theorem dX1_echo_9 : decode cX1_echo 9 = .ok (.aload_n 0, 1) := dk_42 (dk_at dksX1_echo_0 9 rfl rfl)
theorem dX1_echo_10 : decode cX1_echo 10 = .ok (.getfield 80, 3) := dk_180 0 80 (dk_at dksX1_echo_0 10 rfl rfl)
theorem dX1_echo_13 : decode cX1_echo 13 = .ok (.getfield 113, 3) := dk_180 0 113 (dk_at dksX1_echo_0 13 rfl rfl)
theorem dX1_echo_16 : decode cX1_echo 16 = .ok (.invokevirtual 193, 3) := dk_182 0 193 (dk_at dksX1_echo_0 16 rfl rfl)
theorem dX1_echo_19 : decode cX1_echo 19 = .ok (.aload_n 0, 1) := dk_42 (dk_at dksX1_echo_0 19 rfl rfl)
theorem dX1_echo_20 : decode cX1_echo 20 = .ok (.getfield 61, 3) := dk_180 0 61 (dk_at dksX1_echo_0 20 rfl rfl)
theorem dX1_echo_23 : decode cX1_echo 23 = .ok (.iload_n 1, 1) := dk_27 (dk_at dksX1_echo_0 23 rfl rfl)
theorem dX1_echo_24 : decode cX1_echo 24 = .ok (.invokevirtual 197, 3) := dk_182 0 197 (dk_at dksX1_echo_1 0 rfl rfl)
theorem dX1_echo_27 : decode cX1_echo 27 = .ok (.lreturn, 1) := dk_173 (dk_at dksX1_echo_1 3 rfl rfl)
abbrev cX1_requireTime : ByteArray := prog_1_method_20_code
def yX1_requireTime : MethodName := ⟨RX1, "requireTime", "(I)V"⟩
def dkwX1_requireTime_0 : List UInt8 := [27, 133, 9, 42, 180, 0, 80, 180, 0, 113, 180, 0, 144, 133, 184, 0, 130, 18, 188, 184, 0, 140, 177]
abbrev dktX1_requireTime_0 : List UInt8 := dkwX1_requireTime_0 ++ []
theorem dksX1_requireTime_0 : cX1_requireTime.data.toList.drop 0 = dktX1_requireTime_0 := by decide +kernel
theorem dX1_requireTime_0 : decode cX1_requireTime 0 = .ok (.iload_n 1, 1) := dk_27 (dk_at dksX1_requireTime_0 0 rfl rfl)
theorem dX1_requireTime_1 : decode cX1_requireTime 1 = .ok (.i2l, 1) := dk_133 (dk_at dksX1_requireTime_0 1 rfl rfl)
theorem dX1_requireTime_2 : decode cX1_requireTime 2 = .ok (.lconst 0, 1) := dk_9 (dk_at dksX1_requireTime_0 2 rfl rfl)
theorem dX1_requireTime_3 : decode cX1_requireTime 3 = .ok (.aload_n 0, 1) := dk_42 (dk_at dksX1_requireTime_0 3 rfl rfl)
theorem dX1_requireTime_4 : decode cX1_requireTime 4 = .ok (.getfield 80, 3) := dk_180 0 80 (dk_at dksX1_requireTime_0 4 rfl rfl)
theorem dX1_requireTime_7 : decode cX1_requireTime 7 = .ok (.getfield 113, 3) := dk_180 0 113 (dk_at dksX1_requireTime_0 7 rfl rfl)
theorem dX1_requireTime_10 : decode cX1_requireTime 10 = .ok (.getfield 144, 3) := dk_180 0 144 (dk_at dksX1_requireTime_0 10 rfl rfl)
theorem dX1_requireTime_13 : decode cX1_requireTime 13 = .ok (.i2l, 1) := dk_133 (dk_at dksX1_requireTime_0 13 rfl rfl)
theorem dX1_requireTime_14 : decode cX1_requireTime 14 = .ok (.invokestatic 130, 3) := dk_184 0 130 (dk_at dksX1_requireTime_0 14 rfl rfl)
theorem dX1_requireTime_17 : decode cX1_requireTime 17 = .ok (.ldc 188, 2) := dk_18 188 (dk_at dksX1_requireTime_0 17 rfl rfl)
theorem dX1_requireTime_19 : decode cX1_requireTime 19 = .ok (.invokestatic 140, 3) := dk_184 0 140 (dk_at dksX1_requireTime_0 19 rfl rfl)
theorem dX1_requireTime_22 : decode cX1_requireTime 22 = .ok (.return_, 1) := dk_177 (dk_at dksX1_requireTime_0 22 rfl rfl)
abbrev cX1_echoTime : ByteArray := prog_1_method_23_code
def yX1_echoTime : MethodName := ⟨RX1, "echoTime", "(I)I"⟩
def dkwX1_echoTime_1 : List UInt8 := [180, 0, 113, 182, 0, 193, 42, 27, 182, 0, 203, 172]
abbrev dktX1_echoTime_1 : List UInt8 := dkwX1_echoTime_1 ++ []
def dkwX1_echoTime_0 : List UInt8 := [27, 155, 0, 7, 4, 167, 0, 4, 3, 18, 201, 184, 0, 140, 42, 180, 0, 61, 42, 180, 0, 80]
abbrev dktX1_echoTime_0 : List UInt8 := dkwX1_echoTime_0 ++ dktX1_echoTime_1
theorem dksX1_echoTime_0 : cX1_echoTime.data.toList.drop 0 = dktX1_echoTime_0 := by decide +kernel
theorem dksX1_echoTime_1 : cX1_echoTime.data.toList.drop 22 = dktX1_echoTime_1 := dk_seg dksX1_echoTime_0 22 rfl rfl
theorem dX1_echoTime_0 : decode cX1_echoTime 0 = .ok (.iload_n 1, 1) := dk_27 (dk_at dksX1_echoTime_0 0 rfl rfl)
theorem dX1_echoTime_1 : decode cX1_echoTime 1 = .ok (.ifCond .lt 7, 3) := dk_155 0 7 (dk_at dksX1_echoTime_0 1 rfl rfl)
theorem dX1_echoTime_4 : decode cX1_echoTime 4 = .ok (.iconst 1, 1) := dk_4 (dk_at dksX1_echoTime_0 4 rfl rfl)
theorem dX1_echoTime_5 : decode cX1_echoTime 5 = .ok (.goto 4, 3) := dk_167 0 4 (dk_at dksX1_echoTime_0 5 rfl rfl)
theorem dX1_echoTime_8 : decode cX1_echoTime 8 = .ok (.iconst 0, 1) := dk_3 (dk_at dksX1_echoTime_0 8 rfl rfl)
theorem dX1_echoTime_9 : decode cX1_echoTime 9 = .ok (.ldc 201, 2) := dk_18 201 (dk_at dksX1_echoTime_0 9 rfl rfl)
theorem dX1_echoTime_11 : decode cX1_echoTime 11 = .ok (.invokestatic 140, 3) := dk_184 0 140 (dk_at dksX1_echoTime_0 11 rfl rfl)
theorem dX1_echoTime_14 : decode cX1_echoTime 14 = .ok (.aload_n 0, 1) := dk_42 (dk_at dksX1_echoTime_0 14 rfl rfl)
theorem dX1_echoTime_15 : decode cX1_echoTime 15 = .ok (.getfield 61, 3) := dk_180 0 61 (dk_at dksX1_echoTime_0 15 rfl rfl)
theorem dX1_echoTime_18 : decode cX1_echoTime 18 = .ok (.aload_n 0, 1) := dk_42 (dk_at dksX1_echoTime_0 18 rfl rfl)
theorem dX1_echoTime_19 : decode cX1_echoTime 19 = .ok (.getfield 80, 3) := dk_180 0 80 (dk_at dksX1_echoTime_0 19 rfl rfl)
theorem dX1_echoTime_22 : decode cX1_echoTime 22 = .ok (.getfield 113, 3) := dk_180 0 113 (dk_at dksX1_echoTime_1 0 rfl rfl)
theorem dX1_echoTime_25 : decode cX1_echoTime 25 = .ok (.invokevirtual 193, 3) := dk_182 0 193 (dk_at dksX1_echoTime_1 3 rfl rfl)
theorem dX1_echoTime_28 : decode cX1_echoTime 28 = .ok (.aload_n 0, 1) := dk_42 (dk_at dksX1_echoTime_1 6 rfl rfl)
theorem dX1_echoTime_29 : decode cX1_echoTime 29 = .ok (.iload_n 1, 1) := dk_27 (dk_at dksX1_echoTime_1 7 rfl rfl)
theorem dX1_echoTime_30 : decode cX1_echoTime 30 = .ok (.invokevirtual 203, 3) := dk_182 0 203 (dk_at dksX1_echoTime_1 8 rfl rfl)
theorem dX1_echoTime_33 : decode cX1_echoTime 33 = .ok (.ireturn, 1) := dk_172 (dk_at dksX1_echoTime_1 11 rfl rfl)
abbrev cX1_timeOf : ByteArray := prog_1_method_22_code
def yX1_timeOf : MethodName := ⟨RX1, "timeOf", "(I)I"⟩
def dkwX1_timeOf_2 : List UInt8 := [172]
abbrev dktX1_timeOf_2 : List UInt8 := dkwX1_timeOf_2 ++ []
def dkwX1_timeOf_1 : List UInt8 := [182, 0, 197, 9, 148, 158, 0, 12, 28, 154, 0, 5, 29, 172, 132, 2, 255, 132, 3, 1, 167, 255, 217, 2]
abbrev dktX1_timeOf_1 : List UInt8 := dkwX1_timeOf_1 ++ dktX1_timeOf_2
def dkwX1_timeOf_0 : List UInt8 := [27, 61, 3, 62, 29, 42, 180, 0, 80, 180, 0, 113, 180, 0, 144, 163, 0, 31, 42, 180, 0, 61, 29]
abbrev dktX1_timeOf_0 : List UInt8 := dkwX1_timeOf_0 ++ dktX1_timeOf_1
theorem dksX1_timeOf_0 : cX1_timeOf.data.toList.drop 0 = dktX1_timeOf_0 := by decide +kernel
theorem dksX1_timeOf_1 : cX1_timeOf.data.toList.drop 23 = dktX1_timeOf_1 := dk_seg dksX1_timeOf_0 23 rfl rfl
theorem dksX1_timeOf_2 : cX1_timeOf.data.toList.drop 47 = dktX1_timeOf_2 := dk_seg dksX1_timeOf_1 24 rfl rfl
theorem dX1_timeOf_0 : decode cX1_timeOf 0 = .ok (.iload_n 1, 1) := dk_27 (dk_at dksX1_timeOf_0 0 rfl rfl)
theorem dX1_timeOf_1 : decode cX1_timeOf 1 = .ok (.istore_n 2, 1) := dk_61 (dk_at dksX1_timeOf_0 1 rfl rfl)
theorem dX1_timeOf_2 : decode cX1_timeOf 2 = .ok (.iconst 0, 1) := dk_3 (dk_at dksX1_timeOf_0 2 rfl rfl)
theorem dX1_timeOf_3 : decode cX1_timeOf 3 = .ok (.istore_n 3, 1) := dk_62 (dk_at dksX1_timeOf_0 3 rfl rfl)
theorem dX1_timeOf_4 : decode cX1_timeOf 4 = .ok (.iload_n 3, 1) := dk_29 (dk_at dksX1_timeOf_0 4 rfl rfl)
theorem dX1_timeOf_5 : decode cX1_timeOf 5 = .ok (.aload_n 0, 1) := dk_42 (dk_at dksX1_timeOf_0 5 rfl rfl)
theorem dX1_timeOf_6 : decode cX1_timeOf 6 = .ok (.getfield 80, 3) := dk_180 0 80 (dk_at dksX1_timeOf_0 6 rfl rfl)
theorem dX1_timeOf_9 : decode cX1_timeOf 9 = .ok (.getfield 113, 3) := dk_180 0 113 (dk_at dksX1_timeOf_0 9 rfl rfl)
theorem dX1_timeOf_12 : decode cX1_timeOf 12 = .ok (.getfield 144, 3) := dk_180 0 144 (dk_at dksX1_timeOf_0 12 rfl rfl)
theorem dX1_timeOf_15 : decode cX1_timeOf 15 = .ok (.if_icmp .gt 31, 3) := dk_163 0 31 (dk_at dksX1_timeOf_0 15 rfl rfl)
theorem dX1_timeOf_18 : decode cX1_timeOf 18 = .ok (.aload_n 0, 1) := dk_42 (dk_at dksX1_timeOf_0 18 rfl rfl)
theorem dX1_timeOf_19 : decode cX1_timeOf 19 = .ok (.getfield 61, 3) := dk_180 0 61 (dk_at dksX1_timeOf_0 19 rfl rfl)
theorem dX1_timeOf_22 : decode cX1_timeOf 22 = .ok (.iload_n 3, 1) := dk_29 (dk_at dksX1_timeOf_0 22 rfl rfl)
theorem dX1_timeOf_23 : decode cX1_timeOf 23 = .ok (.invokevirtual 197, 3) := dk_182 0 197 (dk_at dksX1_timeOf_1 0 rfl rfl)
theorem dX1_timeOf_26 : decode cX1_timeOf 26 = .ok (.lconst 0, 1) := dk_9 (dk_at dksX1_timeOf_1 3 rfl rfl)
theorem dX1_timeOf_27 : decode cX1_timeOf 27 = .ok (.lcmp, 1) := dk_148 (dk_at dksX1_timeOf_1 4 rfl rfl)
theorem dX1_timeOf_28 : decode cX1_timeOf 28 = .ok (.ifCond .le 12, 3) := dk_158 0 12 (dk_at dksX1_timeOf_1 5 rfl rfl)
theorem dX1_timeOf_31 : decode cX1_timeOf 31 = .ok (.iload_n 2, 1) := dk_28 (dk_at dksX1_timeOf_1 8 rfl rfl)
theorem dX1_timeOf_32 : decode cX1_timeOf 32 = .ok (.ifCond .ne 5, 3) := dk_154 0 5 (dk_at dksX1_timeOf_1 9 rfl rfl)
theorem dX1_timeOf_35 : decode cX1_timeOf 35 = .ok (.iload_n 3, 1) := dk_29 (dk_at dksX1_timeOf_1 12 rfl rfl)
theorem dX1_timeOf_36 : decode cX1_timeOf 36 = .ok (.ireturn, 1) := dk_172 (dk_at dksX1_timeOf_1 13 rfl rfl)
theorem dX1_timeOf_37 : decode cX1_timeOf 37 = .ok (.iinc 2 (-1), 3) := dk_132 2 255 (dk_at dksX1_timeOf_1 14 rfl rfl)
theorem dX1_timeOf_40 : decode cX1_timeOf 40 = .ok (.iinc 3 1, 3) := dk_132 3 1 (dk_at dksX1_timeOf_1 17 rfl rfl)
theorem dX1_timeOf_43 : decode cX1_timeOf 43 = .ok (.goto (-39), 3) := dk_167 255 217 (dk_at dksX1_timeOf_1 20 rfl rfl)
theorem dX1_timeOf_46 : decode cX1_timeOf 46 = .ok (.iconst (-1), 1) := dk_2 (dk_at dksX1_timeOf_1 23 rfl rfl)
theorem dX1_timeOf_47 : decode cX1_timeOf 47 = .ok (.ireturn, 1) := dk_172 (dk_at dksX1_timeOf_2 0 rfl rfl)
abbrev cX1_total : ByteArray := prog_1_method_24_code
def yX1_total : MethodName := ⟨RX1, "total", "(I)J"⟩
def dkwX1_total_1 : List UInt8 := [180, 0, 113, 182, 0, 193, 42, 180, 0, 61, 27, 182, 0, 208, 173]
abbrev dktX1_total_1 : List UInt8 := dkwX1_total_1 ++ []
def dkwX1_total_0 : List UInt8 := [27, 133, 9, 20, 0, 206, 184, 0, 130, 18, 178, 184, 0, 140, 42, 180, 0, 61, 42, 180, 0, 80]
abbrev dktX1_total_0 : List UInt8 := dkwX1_total_0 ++ dktX1_total_1
theorem dksX1_total_0 : cX1_total.data.toList.drop 0 = dktX1_total_0 := by decide +kernel
theorem dksX1_total_1 : cX1_total.data.toList.drop 22 = dktX1_total_1 := dk_seg dksX1_total_0 22 rfl rfl
theorem dX1_total_0 : decode cX1_total 0 = .ok (.iload_n 1, 1) := dk_27 (dk_at dksX1_total_0 0 rfl rfl)
theorem dX1_total_1 : decode cX1_total 1 = .ok (.i2l, 1) := dk_133 (dk_at dksX1_total_0 1 rfl rfl)
theorem dX1_total_2 : decode cX1_total 2 = .ok (.lconst 0, 1) := dk_9 (dk_at dksX1_total_0 2 rfl rfl)
theorem dX1_total_3 : decode cX1_total 3 = .ok (.ldc2_w 206, 3) := dk_20 0 206 (dk_at dksX1_total_0 3 rfl rfl)
theorem dX1_total_6 : decode cX1_total 6 = .ok (.invokestatic 130, 3) := dk_184 0 130 (dk_at dksX1_total_0 6 rfl rfl)
theorem dX1_total_9 : decode cX1_total 9 = .ok (.ldc 178, 2) := dk_18 178 (dk_at dksX1_total_0 9 rfl rfl)
theorem dX1_total_11 : decode cX1_total 11 = .ok (.invokestatic 140, 3) := dk_184 0 140 (dk_at dksX1_total_0 11 rfl rfl)
theorem dX1_total_14 : decode cX1_total 14 = .ok (.aload_n 0, 1) := dk_42 (dk_at dksX1_total_0 14 rfl rfl)
theorem dX1_total_15 : decode cX1_total 15 = .ok (.getfield 61, 3) := dk_180 0 61 (dk_at dksX1_total_0 15 rfl rfl)
theorem dX1_total_18 : decode cX1_total 18 = .ok (.aload_n 0, 1) := dk_42 (dk_at dksX1_total_0 18 rfl rfl)
theorem dX1_total_19 : decode cX1_total 19 = .ok (.getfield 80, 3) := dk_180 0 80 (dk_at dksX1_total_0 19 rfl rfl)
theorem dX1_total_22 : decode cX1_total 22 = .ok (.getfield 113, 3) := dk_180 0 113 (dk_at dksX1_total_1 0 rfl rfl)
theorem dX1_total_25 : decode cX1_total 25 = .ok (.invokevirtual 193, 3) := dk_182 0 193 (dk_at dksX1_total_1 3 rfl rfl)
theorem dX1_total_28 : decode cX1_total 28 = .ok (.aload_n 0, 1) := dk_42 (dk_at dksX1_total_1 6 rfl rfl)
theorem dX1_total_29 : decode cX1_total 29 = .ok (.getfield 61, 3) := dk_180 0 61 (dk_at dksX1_total_1 7 rfl rfl)
theorem dX1_total_32 : decode cX1_total 32 = .ok (.iload_n 1, 1) := dk_27 (dk_at dksX1_total_1 10 rfl rfl)
theorem dX1_total_33 : decode cX1_total 33 = .ok (.invokevirtual 208, 3) := dk_182 0 208 (dk_at dksX1_total_1 11 rfl rfl)
theorem dX1_total_36 : decode cX1_total 36 = .ok (.lreturn, 1) := dk_173 (dk_at dksX1_total_1 14 rfl rfl)
abbrev cX1_arrival : ByteArray := prog_1_method_25_code
def yX1_arrival : MethodName := ⟨RX1, "arrival", "(IIZ)J"⟩
def dkwX1_arrival_2 : List UInt8 := [182, 0, 213, 173]
abbrev dktX1_arrival_2 : List UInt8 := dkwX1_arrival_2 ++ []
def dkwX1_arrival_1 : List UInt8 := [182, 0, 190, 42, 180, 0, 61, 42, 180, 0, 80, 180, 0, 113, 182, 0, 193, 42, 180, 0, 61, 27, 28, 29]
abbrev dktX1_arrival_1 : List UInt8 := dkwX1_arrival_1 ++ dktX1_arrival_2
def dkwX1_arrival_0 : List UInt8 := [27, 133, 9, 42, 180, 0, 80, 180, 0, 113, 180, 0, 122, 133, 184, 0, 130, 18, 211, 184, 0, 154, 42, 28]
abbrev dktX1_arrival_0 : List UInt8 := dkwX1_arrival_0 ++ dktX1_arrival_1
theorem dksX1_arrival_0 : cX1_arrival.data.toList.drop 0 = dktX1_arrival_0 := by decide +kernel
theorem dksX1_arrival_1 : cX1_arrival.data.toList.drop 24 = dktX1_arrival_1 := dk_seg dksX1_arrival_0 24 rfl rfl
theorem dksX1_arrival_2 : cX1_arrival.data.toList.drop 48 = dktX1_arrival_2 := dk_seg dksX1_arrival_1 24 rfl rfl
theorem dX1_arrival_0 : decode cX1_arrival 0 = .ok (.iload_n 1, 1) := dk_27 (dk_at dksX1_arrival_0 0 rfl rfl)
theorem dX1_arrival_1 : decode cX1_arrival 1 = .ok (.i2l, 1) := dk_133 (dk_at dksX1_arrival_0 1 rfl rfl)
theorem dX1_arrival_2 : decode cX1_arrival 2 = .ok (.lconst 0, 1) := dk_9 (dk_at dksX1_arrival_0 2 rfl rfl)
theorem dX1_arrival_3 : decode cX1_arrival 3 = .ok (.aload_n 0, 1) := dk_42 (dk_at dksX1_arrival_0 3 rfl rfl)
theorem dX1_arrival_4 : decode cX1_arrival 4 = .ok (.getfield 80, 3) := dk_180 0 80 (dk_at dksX1_arrival_0 4 rfl rfl)
theorem dX1_arrival_7 : decode cX1_arrival 7 = .ok (.getfield 113, 3) := dk_180 0 113 (dk_at dksX1_arrival_0 7 rfl rfl)
theorem dX1_arrival_10 : decode cX1_arrival 10 = .ok (.getfield 122, 3) := dk_180 0 122 (dk_at dksX1_arrival_0 10 rfl rfl)
theorem dX1_arrival_13 : decode cX1_arrival 13 = .ok (.i2l, 1) := dk_133 (dk_at dksX1_arrival_0 13 rfl rfl)
theorem dX1_arrival_14 : decode cX1_arrival 14 = .ok (.invokestatic 130, 3) := dk_184 0 130 (dk_at dksX1_arrival_0 14 rfl rfl)
theorem dX1_arrival_17 : decode cX1_arrival 17 = .ok (.ldc 211, 2) := dk_18 211 (dk_at dksX1_arrival_0 17 rfl rfl)
theorem dX1_arrival_19 : decode cX1_arrival 19 = .ok (.invokestatic 154, 3) := dk_184 0 154 (dk_at dksX1_arrival_0 19 rfl rfl)
theorem dX1_arrival_22 : decode cX1_arrival 22 = .ok (.aload_n 0, 1) := dk_42 (dk_at dksX1_arrival_0 22 rfl rfl)
theorem dX1_arrival_23 : decode cX1_arrival 23 = .ok (.iload_n 2, 1) := dk_28 (dk_at dksX1_arrival_0 23 rfl rfl)
theorem dX1_arrival_24 : decode cX1_arrival 24 = .ok (.invokevirtual 190, 3) := dk_182 0 190 (dk_at dksX1_arrival_1 0 rfl rfl)
theorem dX1_arrival_27 : decode cX1_arrival 27 = .ok (.aload_n 0, 1) := dk_42 (dk_at dksX1_arrival_1 3 rfl rfl)
theorem dX1_arrival_28 : decode cX1_arrival 28 = .ok (.getfield 61, 3) := dk_180 0 61 (dk_at dksX1_arrival_1 4 rfl rfl)
theorem dX1_arrival_31 : decode cX1_arrival 31 = .ok (.aload_n 0, 1) := dk_42 (dk_at dksX1_arrival_1 7 rfl rfl)
theorem dX1_arrival_32 : decode cX1_arrival 32 = .ok (.getfield 80, 3) := dk_180 0 80 (dk_at dksX1_arrival_1 8 rfl rfl)
theorem dX1_arrival_35 : decode cX1_arrival 35 = .ok (.getfield 113, 3) := dk_180 0 113 (dk_at dksX1_arrival_1 11 rfl rfl)
theorem dX1_arrival_38 : decode cX1_arrival 38 = .ok (.invokevirtual 193, 3) := dk_182 0 193 (dk_at dksX1_arrival_1 14 rfl rfl)
theorem dX1_arrival_41 : decode cX1_arrival 41 = .ok (.aload_n 0, 1) := dk_42 (dk_at dksX1_arrival_1 17 rfl rfl)
theorem dX1_arrival_42 : decode cX1_arrival 42 = .ok (.getfield 61, 3) := dk_180 0 61 (dk_at dksX1_arrival_1 18 rfl rfl)
theorem dX1_arrival_45 : decode cX1_arrival 45 = .ok (.iload_n 1, 1) := dk_27 (dk_at dksX1_arrival_1 21 rfl rfl)
theorem dX1_arrival_46 : decode cX1_arrival 46 = .ok (.iload_n 2, 1) := dk_28 (dk_at dksX1_arrival_1 22 rfl rfl)
theorem dX1_arrival_47 : decode cX1_arrival 47 = .ok (.iload_n 3, 1) := dk_29 (dk_at dksX1_arrival_1 23 rfl rfl)
theorem dX1_arrival_48 : decode cX1_arrival 48 = .ok (.invokevirtual 213, 3) := dk_182 0 213 (dk_at dksX1_arrival_2 0 rfl rfl)
theorem dX1_arrival_51 : decode cX1_arrival 51 = .ok (.lreturn, 1) := dk_173 (dk_at dksX1_arrival_2 3 rfl rfl)
abbrev cX1_echoByte : ByteArray := prog_1_method_26_code
def yX1_echoByte : MethodName := ⟨RX1, "echoByte", "(I)I"⟩
def dkwX1_echoByte_2 : List UInt8 := [182, 0, 224, 167, 0, 4, 2, 172]
abbrev dktX1_echoByte_2 : List UInt8 := dkwX1_echoByte_2 ++ []
def dkwX1_echoByte_1 : List UInt8 := [180, 0, 113, 182, 0, 193, 42, 180, 0, 61, 182, 0, 217, 77, 27, 44, 182, 0, 221, 162, 0, 11, 44, 27]
abbrev dktX1_echoByte_1 : List UInt8 := dkwX1_echoByte_1 ++ dktX1_echoByte_2
def dkwX1_echoByte_0 : List UInt8 := [27, 155, 0, 7, 4, 167, 0, 4, 3, 18, 201, 184, 0, 140, 42, 180, 0, 61, 42, 180, 0, 80]
abbrev dktX1_echoByte_0 : List UInt8 := dkwX1_echoByte_0 ++ dktX1_echoByte_1
theorem dksX1_echoByte_0 : cX1_echoByte.data.toList.drop 0 = dktX1_echoByte_0 := by decide +kernel
theorem dksX1_echoByte_1 : cX1_echoByte.data.toList.drop 22 = dktX1_echoByte_1 := dk_seg dksX1_echoByte_0 22 rfl rfl
theorem dksX1_echoByte_2 : cX1_echoByte.data.toList.drop 46 = dktX1_echoByte_2 := dk_seg dksX1_echoByte_1 24 rfl rfl
theorem dX1_echoByte_0 : decode cX1_echoByte 0 = .ok (.iload_n 1, 1) := dk_27 (dk_at dksX1_echoByte_0 0 rfl rfl)
theorem dX1_echoByte_1 : decode cX1_echoByte 1 = .ok (.ifCond .lt 7, 3) := dk_155 0 7 (dk_at dksX1_echoByte_0 1 rfl rfl)
theorem dX1_echoByte_4 : decode cX1_echoByte 4 = .ok (.iconst 1, 1) := dk_4 (dk_at dksX1_echoByte_0 4 rfl rfl)
theorem dX1_echoByte_5 : decode cX1_echoByte 5 = .ok (.goto 4, 3) := dk_167 0 4 (dk_at dksX1_echoByte_0 5 rfl rfl)
theorem dX1_echoByte_8 : decode cX1_echoByte 8 = .ok (.iconst 0, 1) := dk_3 (dk_at dksX1_echoByte_0 8 rfl rfl)
theorem dX1_echoByte_9 : decode cX1_echoByte 9 = .ok (.ldc 201, 2) := dk_18 201 (dk_at dksX1_echoByte_0 9 rfl rfl)
theorem dX1_echoByte_11 : decode cX1_echoByte 11 = .ok (.invokestatic 140, 3) := dk_184 0 140 (dk_at dksX1_echoByte_0 11 rfl rfl)
theorem dX1_echoByte_14 : decode cX1_echoByte 14 = .ok (.aload_n 0, 1) := dk_42 (dk_at dksX1_echoByte_0 14 rfl rfl)
theorem dX1_echoByte_15 : decode cX1_echoByte 15 = .ok (.getfield 61, 3) := dk_180 0 61 (dk_at dksX1_echoByte_0 15 rfl rfl)
theorem dX1_echoByte_18 : decode cX1_echoByte 18 = .ok (.aload_n 0, 1) := dk_42 (dk_at dksX1_echoByte_0 18 rfl rfl)
theorem dX1_echoByte_19 : decode cX1_echoByte 19 = .ok (.getfield 80, 3) := dk_180 0 80 (dk_at dksX1_echoByte_0 19 rfl rfl)
theorem dX1_echoByte_22 : decode cX1_echoByte 22 = .ok (.getfield 113, 3) := dk_180 0 113 (dk_at dksX1_echoByte_1 0 rfl rfl)
theorem dX1_echoByte_25 : decode cX1_echoByte 25 = .ok (.invokevirtual 193, 3) := dk_182 0 193 (dk_at dksX1_echoByte_1 3 rfl rfl)
theorem dX1_echoByte_28 : decode cX1_echoByte 28 = .ok (.aload_n 0, 1) := dk_42 (dk_at dksX1_echoByte_1 6 rfl rfl)
theorem dX1_echoByte_29 : decode cX1_echoByte 29 = .ok (.getfield 61, 3) := dk_180 0 61 (dk_at dksX1_echoByte_1 7 rfl rfl)
theorem dX1_echoByte_32 : decode cX1_echoByte 32 = .ok (.invokevirtual 217, 3) := dk_182 0 217 (dk_at dksX1_echoByte_1 10 rfl rfl)
theorem dX1_echoByte_35 : decode cX1_echoByte 35 = .ok (.astore_n 2, 1) := dk_77 (dk_at dksX1_echoByte_1 13 rfl rfl)
theorem dX1_echoByte_36 : decode cX1_echoByte 36 = .ok (.iload_n 1, 1) := dk_27 (dk_at dksX1_echoByte_1 14 rfl rfl)
theorem dX1_echoByte_37 : decode cX1_echoByte 37 = .ok (.aload_n 2, 1) := dk_44 (dk_at dksX1_echoByte_1 15 rfl rfl)
theorem dX1_echoByte_38 : decode cX1_echoByte 38 = .ok (.invokevirtual 221, 3) := dk_182 0 221 (dk_at dksX1_echoByte_1 16 rfl rfl)
theorem dX1_echoByte_41 : decode cX1_echoByte 41 = .ok (.if_icmp .ge 11, 3) := dk_162 0 11 (dk_at dksX1_echoByte_1 19 rfl rfl)
theorem dX1_echoByte_44 : decode cX1_echoByte 44 = .ok (.aload_n 2, 1) := dk_44 (dk_at dksX1_echoByte_1 22 rfl rfl)
theorem dX1_echoByte_45 : decode cX1_echoByte 45 = .ok (.iload_n 1, 1) := dk_27 (dk_at dksX1_echoByte_1 23 rfl rfl)
theorem dX1_echoByte_46 : decode cX1_echoByte 46 = .ok (.invokevirtual 224, 3) := dk_182 0 224 (dk_at dksX1_echoByte_2 0 rfl rfl)
theorem dX1_echoByte_49 : decode cX1_echoByte 49 = .ok (.goto 4, 3) := dk_167 0 4 (dk_at dksX1_echoByte_2 3 rfl rfl)
theorem dX1_echoByte_52 : decode cX1_echoByte 52 = .ok (.iconst (-1), 1) := dk_2 (dk_at dksX1_echoByte_2 6 rfl rfl)
theorem dX1_echoByte_53 : decode cX1_echoByte 53 = .ok (.ireturn, 1) := dk_172 (dk_at dksX1_echoByte_2 7 rfl rfl)
abbrev cX1_fault : ByteArray := prog_1_method_29_code
def yX1_fault : MethodName := ⟨RX1, "fault", "(I)I"⟩
def dkwX1_fault_1 : List UInt8 := [182, 0, 233, 172]
abbrev dktX1_fault_1 : List UInt8 := dkwX1_fault_1 ++ []
def dkwX1_fault_0 : List UInt8 := [27, 133, 9, 20, 0, 231, 184, 0, 130, 18, 178, 184, 0, 140, 42, 180, 0, 80, 42, 180, 0, 61, 27]
abbrev dktX1_fault_0 : List UInt8 := dkwX1_fault_0 ++ dktX1_fault_1
theorem dksX1_fault_0 : cX1_fault.data.toList.drop 0 = dktX1_fault_0 := by decide +kernel
theorem dksX1_fault_1 : cX1_fault.data.toList.drop 23 = dktX1_fault_1 := dk_seg dksX1_fault_0 23 rfl rfl
theorem dX1_fault_0 : decode cX1_fault 0 = .ok (.iload_n 1, 1) := dk_27 (dk_at dksX1_fault_0 0 rfl rfl)
theorem dX1_fault_1 : decode cX1_fault 1 = .ok (.i2l, 1) := dk_133 (dk_at dksX1_fault_0 1 rfl rfl)
theorem dX1_fault_2 : decode cX1_fault 2 = .ok (.lconst 0, 1) := dk_9 (dk_at dksX1_fault_0 2 rfl rfl)
theorem dX1_fault_3 : decode cX1_fault 3 = .ok (.ldc2_w 231, 3) := dk_20 0 231 (dk_at dksX1_fault_0 3 rfl rfl)
theorem dX1_fault_6 : decode cX1_fault 6 = .ok (.invokestatic 130, 3) := dk_184 0 130 (dk_at dksX1_fault_0 6 rfl rfl)
theorem dX1_fault_9 : decode cX1_fault 9 = .ok (.ldc 178, 2) := dk_18 178 (dk_at dksX1_fault_0 9 rfl rfl)
theorem dX1_fault_11 : decode cX1_fault 11 = .ok (.invokestatic 140, 3) := dk_184 0 140 (dk_at dksX1_fault_0 11 rfl rfl)
theorem dX1_fault_14 : decode cX1_fault 14 = .ok (.aload_n 0, 1) := dk_42 (dk_at dksX1_fault_0 14 rfl rfl)
theorem dX1_fault_15 : decode cX1_fault 15 = .ok (.getfield 80, 3) := dk_180 0 80 (dk_at dksX1_fault_0 15 rfl rfl)
theorem dX1_fault_18 : decode cX1_fault 18 = .ok (.aload_n 0, 1) := dk_42 (dk_at dksX1_fault_0 18 rfl rfl)
theorem dX1_fault_19 : decode cX1_fault 19 = .ok (.getfield 61, 3) := dk_180 0 61 (dk_at dksX1_fault_0 19 rfl rfl)
theorem dX1_fault_22 : decode cX1_fault 22 = .ok (.iload_n 1, 1) := dk_27 (dk_at dksX1_fault_0 22 rfl rfl)
theorem dX1_fault_23 : decode cX1_fault 23 = .ok (.invokevirtual 233, 3) := dk_182 0 233 (dk_at dksX1_fault_1 0 rfl rfl)
theorem dX1_fault_26 : decode cX1_fault 26 = .ok (.ireturn, 1) := dk_172 (dk_at dksX1_fault_1 3 rfl rfl)
abbrev cX1_setObserved : ByteArray := prog_1_method_32_code
def yX1_setObserved : MethodName := ⟨RX1, "setObserved", "(IJ)J"⟩
def dkwX1_setObserved_2 : List UInt8 := [182, 0, 251, 181, 0, 244, 42, 25, 6, 27, 182, 0, 109, 54, 7, 22, 4, 173]
abbrev dktX1_setObserved_2 : List UInt8 := dkwX1_setObserved_2 ++ []
def dkwX1_setObserved_1 : List UInt8 := [27, 182, 0, 248, 55, 4, 42, 180, 0, 80, 182, 0, 105, 58, 6, 25, 6, 25, 6, 180, 0, 244, 27, 32]
abbrev dktX1_setObserved_1 : List UInt8 := dkwX1_setObserved_1 ++ dktX1_setObserved_2
def dkwX1_setObserved_0 : List UInt8 := [27, 184, 0, 237, 32, 9, 20, 0, 240, 184, 0, 130, 18, 242, 184, 0, 140, 42, 180, 0, 80, 180, 0, 244]
abbrev dktX1_setObserved_0 : List UInt8 := dkwX1_setObserved_0 ++ dktX1_setObserved_1
theorem dksX1_setObserved_0 : cX1_setObserved.data.toList.drop 0 = dktX1_setObserved_0 := by decide +kernel
theorem dksX1_setObserved_1 : cX1_setObserved.data.toList.drop 24 = dktX1_setObserved_1 := dk_seg dksX1_setObserved_0 24 rfl rfl
theorem dksX1_setObserved_2 : cX1_setObserved.data.toList.drop 48 = dktX1_setObserved_2 := dk_seg dksX1_setObserved_1 24 rfl rfl
theorem dX1_setObserved_0 : decode cX1_setObserved 0 = .ok (.iload_n 1, 1) := dk_27 (dk_at dksX1_setObserved_0 0 rfl rfl)
theorem dX1_setObserved_1 : decode cX1_setObserved 1 = .ok (.invokestatic 237, 3) := dk_184 0 237 (dk_at dksX1_setObserved_0 1 rfl rfl)
theorem dX1_setObserved_4 : decode cX1_setObserved 4 = .ok (.lload_n 2, 1) := dk_32 (dk_at dksX1_setObserved_0 4 rfl rfl)
theorem dX1_setObserved_5 : decode cX1_setObserved 5 = .ok (.lconst 0, 1) := dk_9 (dk_at dksX1_setObserved_0 5 rfl rfl)
theorem dX1_setObserved_6 : decode cX1_setObserved 6 = .ok (.ldc2_w 240, 3) := dk_20 0 240 (dk_at dksX1_setObserved_0 6 rfl rfl)
theorem dX1_setObserved_9 : decode cX1_setObserved 9 = .ok (.invokestatic 130, 3) := dk_184 0 130 (dk_at dksX1_setObserved_0 9 rfl rfl)
theorem dX1_setObserved_12 : decode cX1_setObserved 12 = .ok (.ldc 242, 2) := dk_18 242 (dk_at dksX1_setObserved_0 12 rfl rfl)
theorem dX1_setObserved_14 : decode cX1_setObserved 14 = .ok (.invokestatic 140, 3) := dk_184 0 140 (dk_at dksX1_setObserved_0 14 rfl rfl)
theorem dX1_setObserved_17 : decode cX1_setObserved 17 = .ok (.aload_n 0, 1) := dk_42 (dk_at dksX1_setObserved_0 17 rfl rfl)
theorem dX1_setObserved_18 : decode cX1_setObserved 18 = .ok (.getfield 80, 3) := dk_180 0 80 (dk_at dksX1_setObserved_0 18 rfl rfl)
theorem dX1_setObserved_21 : decode cX1_setObserved 21 = .ok (.getfield 244, 3) := dk_180 0 244 (dk_at dksX1_setObserved_0 21 rfl rfl)
theorem dX1_setObserved_24 : decode cX1_setObserved 24 = .ok (.iload_n 1, 1) := dk_27 (dk_at dksX1_setObserved_1 0 rfl rfl)
theorem dX1_setObserved_25 : decode cX1_setObserved 25 = .ok (.invokevirtual 248, 3) := dk_182 0 248 (dk_at dksX1_setObserved_1 1 rfl rfl)
theorem dX1_setObserved_28 : decode cX1_setObserved 28 = .ok (.lstore 4, 2) := dk_55 4 (dk_at dksX1_setObserved_1 4 rfl rfl)
theorem dX1_setObserved_30 : decode cX1_setObserved 30 = .ok (.aload_n 0, 1) := dk_42 (dk_at dksX1_setObserved_1 6 rfl rfl)
theorem dX1_setObserved_31 : decode cX1_setObserved 31 = .ok (.getfield 80, 3) := dk_180 0 80 (dk_at dksX1_setObserved_1 7 rfl rfl)
theorem dX1_setObserved_34 : decode cX1_setObserved 34 = .ok (.invokevirtual 105, 3) := dk_182 0 105 (dk_at dksX1_setObserved_1 10 rfl rfl)
theorem dX1_setObserved_37 : decode cX1_setObserved 37 = .ok (.astore 6, 2) := dk_58 6 (dk_at dksX1_setObserved_1 13 rfl rfl)
theorem dX1_setObserved_39 : decode cX1_setObserved 39 = .ok (.aload 6, 2) := dk_25 6 (dk_at dksX1_setObserved_1 15 rfl rfl)
theorem dX1_setObserved_41 : decode cX1_setObserved 41 = .ok (.aload 6, 2) := dk_25 6 (dk_at dksX1_setObserved_1 17 rfl rfl)
theorem dX1_setObserved_43 : decode cX1_setObserved 43 = .ok (.getfield 244, 3) := dk_180 0 244 (dk_at dksX1_setObserved_1 19 rfl rfl)
theorem dX1_setObserved_46 : decode cX1_setObserved 46 = .ok (.iload_n 1, 1) := dk_27 (dk_at dksX1_setObserved_1 22 rfl rfl)
theorem dX1_setObserved_47 : decode cX1_setObserved 47 = .ok (.lload_n 2, 1) := dk_32 (dk_at dksX1_setObserved_1 23 rfl rfl)
theorem dX1_setObserved_48 : decode cX1_setObserved 48 = .ok (.invokevirtual 251, 3) := dk_182 0 251 (dk_at dksX1_setObserved_2 0 rfl rfl)
theorem dX1_setObserved_51 : decode cX1_setObserved 51 = .ok (.putfield 244, 3) := dk_181 0 244 (dk_at dksX1_setObserved_2 3 rfl rfl)
theorem dX1_setObserved_54 : decode cX1_setObserved 54 = .ok (.aload_n 0, 1) := dk_42 (dk_at dksX1_setObserved_2 6 rfl rfl)
theorem dX1_setObserved_55 : decode cX1_setObserved 55 = .ok (.aload 6, 2) := dk_25 6 (dk_at dksX1_setObserved_2 7 rfl rfl)
theorem dX1_setObserved_57 : decode cX1_setObserved 57 = .ok (.iload_n 1, 1) := dk_27 (dk_at dksX1_setObserved_2 9 rfl rfl)
theorem dX1_setObserved_58 : decode cX1_setObserved 58 = .ok (.invokevirtual 109, 3) := dk_182 0 109 (dk_at dksX1_setObserved_2 10 rfl rfl)
theorem dX1_setObserved_61 : decode cX1_setObserved 61 = .ok (.istore 7, 2) := dk_54 7 (dk_at dksX1_setObserved_2 13 rfl rfl)
theorem dX1_setObserved_63 : decode cX1_setObserved 63 = .ok (.lload 4, 2) := dk_22 4 (dk_at dksX1_setObserved_2 15 rfl rfl)
theorem dX1_setObserved_65 : decode cX1_setObserved 65 = .ok (.lreturn, 1) := dk_173 (dk_at dksX1_setObserved_2 17 rfl rfl)
abbrev cX1_requireObserved : ByteArray := prog_1_method_31_code
def yX1_requireObserved : MethodName := ⟨RX1, "requireObserved", "(I)V"⟩
def dkwX1_requireObserved_0 : List UInt8 := [26, 133, 9, 20, 0, 136, 184, 0, 130, 18, 188, 184, 0, 140, 177]
abbrev dktX1_requireObserved_0 : List UInt8 := dkwX1_requireObserved_0 ++ []
theorem dksX1_requireObserved_0 : cX1_requireObserved.data.toList.drop 0 = dktX1_requireObserved_0 := by decide +kernel
theorem dX1_requireObserved_0 : decode cX1_requireObserved 0 = .ok (.iload_n 0, 1) := dk_26 (dk_at dksX1_requireObserved_0 0 rfl rfl)
theorem dX1_requireObserved_1 : decode cX1_requireObserved 1 = .ok (.i2l, 1) := dk_133 (dk_at dksX1_requireObserved_0 1 rfl rfl)
theorem dX1_requireObserved_2 : decode cX1_requireObserved 2 = .ok (.lconst 0, 1) := dk_9 (dk_at dksX1_requireObserved_0 2 rfl rfl)
theorem dX1_requireObserved_3 : decode cX1_requireObserved 3 = .ok (.ldc2_w 136, 3) := dk_20 0 136 (dk_at dksX1_requireObserved_0 3 rfl rfl)
theorem dX1_requireObserved_6 : decode cX1_requireObserved 6 = .ok (.invokestatic 130, 3) := dk_184 0 130 (dk_at dksX1_requireObserved_0 6 rfl rfl)
theorem dX1_requireObserved_9 : decode cX1_requireObserved 9 = .ok (.ldc 188, 2) := dk_18 188 (dk_at dksX1_requireObserved_0 9 rfl rfl)
theorem dX1_requireObserved_11 : decode cX1_requireObserved 11 = .ok (.invokestatic 140, 3) := dk_184 0 140 (dk_at dksX1_requireObserved_0 11 rfl rfl)
theorem dX1_requireObserved_14 : decode cX1_requireObserved 14 = .ok (.return_, 1) := dk_177 (dk_at dksX1_requireObserved_0 14 rfl rfl)
abbrev cX1_observed : ByteArray := prog_1_method_33_code
def yX1_observed : MethodName := ⟨RX1, "observed", "(I)J"⟩
def dkwX1_observed_0 : List UInt8 := [27, 184, 0, 237, 42, 180, 0, 80, 180, 0, 244, 27, 182, 0, 248, 173]
abbrev dktX1_observed_0 : List UInt8 := dkwX1_observed_0 ++ []
theorem dksX1_observed_0 : cX1_observed.data.toList.drop 0 = dktX1_observed_0 := by decide +kernel
theorem dX1_observed_0 : decode cX1_observed 0 = .ok (.iload_n 1, 1) := dk_27 (dk_at dksX1_observed_0 0 rfl rfl)
theorem dX1_observed_1 : decode cX1_observed 1 = .ok (.invokestatic 237, 3) := dk_184 0 237 (dk_at dksX1_observed_0 1 rfl rfl)
theorem dX1_observed_4 : decode cX1_observed 4 = .ok (.aload_n 0, 1) := dk_42 (dk_at dksX1_observed_0 4 rfl rfl)
theorem dX1_observed_5 : decode cX1_observed 5 = .ok (.getfield 80, 3) := dk_180 0 80 (dk_at dksX1_observed_0 5 rfl rfl)
theorem dX1_observed_8 : decode cX1_observed 8 = .ok (.getfield 244, 3) := dk_180 0 244 (dk_at dksX1_observed_0 8 rfl rfl)
theorem dX1_observed_11 : decode cX1_observed 11 = .ok (.iload_n 1, 1) := dk_27 (dk_at dksX1_observed_0 11 rfl rfl)
theorem dX1_observed_12 : decode cX1_observed 12 = .ok (.invokevirtual 248, 3) := dk_182 0 248 (dk_at dksX1_observed_0 12 rfl rfl)
theorem dX1_observed_15 : decode cX1_observed 15 = .ok (.lreturn, 1) := dk_173 (dk_at dksX1_observed_0 15 rfl rfl)
abbrev cX1_peel : ByteArray := prog_1_method_35_code
def yX1_peel : MethodName := ⟨RX1, "peel", "(I)I"⟩
def dkwX1_peel_0 : List UInt8 := [27, 133, 9, 20, 0, 231, 184, 0, 130, 18, 178, 184, 0, 140, 42, 182, 1, 5, 27, 182, 1, 9, 172]
abbrev dktX1_peel_0 : List UInt8 := dkwX1_peel_0 ++ []
theorem dksX1_peel_0 : cX1_peel.data.toList.drop 0 = dktX1_peel_0 := by decide +kernel
theorem dX1_peel_0 : decode cX1_peel 0 = .ok (.iload_n 1, 1) := dk_27 (dk_at dksX1_peel_0 0 rfl rfl)
theorem dX1_peel_1 : decode cX1_peel 1 = .ok (.i2l, 1) := dk_133 (dk_at dksX1_peel_0 1 rfl rfl)
theorem dX1_peel_2 : decode cX1_peel 2 = .ok (.lconst 0, 1) := dk_9 (dk_at dksX1_peel_0 2 rfl rfl)
theorem dX1_peel_3 : decode cX1_peel 3 = .ok (.ldc2_w 231, 3) := dk_20 0 231 (dk_at dksX1_peel_0 3 rfl rfl)
theorem dX1_peel_6 : decode cX1_peel 6 = .ok (.invokestatic 130, 3) := dk_184 0 130 (dk_at dksX1_peel_0 6 rfl rfl)
theorem dX1_peel_9 : decode cX1_peel 9 = .ok (.ldc 178, 2) := dk_18 178 (dk_at dksX1_peel_0 9 rfl rfl)
theorem dX1_peel_11 : decode cX1_peel 11 = .ok (.invokestatic 140, 3) := dk_184 0 140 (dk_at dksX1_peel_0 11 rfl rfl)
theorem dX1_peel_14 : decode cX1_peel 14 = .ok (.aload_n 0, 1) := dk_42 (dk_at dksX1_peel_0 14 rfl rfl)
theorem dX1_peel_15 : decode cX1_peel 15 = .ok (.invokevirtual 261, 3) := dk_182 1 5 (dk_at dksX1_peel_0 15 rfl rfl)
theorem dX1_peel_18 : decode cX1_peel 18 = .ok (.iload_n 1, 1) := dk_27 (dk_at dksX1_peel_0 18 rfl rfl)
theorem dX1_peel_19 : decode cX1_peel 19 = .ok (.invokevirtual 265, 3) := dk_182 1 9 (dk_at dksX1_peel_0 19 rfl rfl)
theorem dX1_peel_22 : decode cX1_peel 22 = .ok (.ireturn, 1) := dk_172 (dk_at dksX1_peel_0 22 rfl rfl)
abbrev cX1_found : ByteArray := prog_1_method_37_code
def yX1_found : MethodName := ⟨RX1, "found", "(II)I"⟩
def dkwX1_found_1 : List UInt8 := [184, 0, 140, 42, 182, 1, 5, 180, 1, 12, 27, 28, 184, 1, 13, 172]
abbrev dktX1_found_1 : List UInt8 := dkwX1_found_1 ++ []
def dkwX1_found_0 : List UInt8 := [27, 155, 0, 17, 28, 133, 9, 10, 184, 0, 130, 153, 0, 7, 4, 167, 0, 4, 3, 19, 1, 10]
abbrev dktX1_found_0 : List UInt8 := dkwX1_found_0 ++ dktX1_found_1
theorem dksX1_found_0 : cX1_found.data.toList.drop 0 = dktX1_found_0 := by decide +kernel
theorem dksX1_found_1 : cX1_found.data.toList.drop 22 = dktX1_found_1 := dk_seg dksX1_found_0 22 rfl rfl
theorem dX1_found_0 : decode cX1_found 0 = .ok (.iload_n 1, 1) := dk_27 (dk_at dksX1_found_0 0 rfl rfl)
theorem dX1_found_1 : decode cX1_found 1 = .ok (.ifCond .lt 17, 3) := dk_155 0 17 (dk_at dksX1_found_0 1 rfl rfl)
theorem dX1_found_4 : decode cX1_found 4 = .ok (.iload_n 2, 1) := dk_28 (dk_at dksX1_found_0 4 rfl rfl)
theorem dX1_found_5 : decode cX1_found 5 = .ok (.i2l, 1) := dk_133 (dk_at dksX1_found_0 5 rfl rfl)
theorem dX1_found_6 : decode cX1_found 6 = .ok (.lconst 0, 1) := dk_9 (dk_at dksX1_found_0 6 rfl rfl)
theorem dX1_found_7 : decode cX1_found 7 = .ok (.lconst 1, 1) := dk_10 (dk_at dksX1_found_0 7 rfl rfl)
theorem dX1_found_8 : decode cX1_found 8 = .ok (.invokestatic 130, 3) := dk_184 0 130 (dk_at dksX1_found_0 8 rfl rfl)
theorem dX1_found_11 : decode cX1_found 11 = .ok (.ifCond .eq 7, 3) := dk_153 0 7 (dk_at dksX1_found_0 11 rfl rfl)
theorem dX1_found_14 : decode cX1_found 14 = .ok (.iconst 1, 1) := dk_4 (dk_at dksX1_found_0 14 rfl rfl)
theorem dX1_found_15 : decode cX1_found 15 = .ok (.goto 4, 3) := dk_167 0 4 (dk_at dksX1_found_0 15 rfl rfl)
theorem dX1_found_18 : decode cX1_found 18 = .ok (.iconst 0, 1) := dk_3 (dk_at dksX1_found_0 18 rfl rfl)
theorem dX1_found_19 : decode cX1_found 19 = .ok (.ldc_w 266, 3) := dk_19 1 10 (dk_at dksX1_found_0 19 rfl rfl)
theorem dX1_found_22 : decode cX1_found 22 = .ok (.invokestatic 140, 3) := dk_184 0 140 (dk_at dksX1_found_1 0 rfl rfl)
theorem dX1_found_25 : decode cX1_found 25 = .ok (.aload_n 0, 1) := dk_42 (dk_at dksX1_found_1 3 rfl rfl)
theorem dX1_found_26 : decode cX1_found 26 = .ok (.invokevirtual 261, 3) := dk_182 1 5 (dk_at dksX1_found_1 4 rfl rfl)
theorem dX1_found_29 : decode cX1_found 29 = .ok (.getfield 268, 3) := dk_180 1 12 (dk_at dksX1_found_1 7 rfl rfl)
theorem dX1_found_32 : decode cX1_found 32 = .ok (.iload_n 1, 1) := dk_27 (dk_at dksX1_found_1 10 rfl rfl)
theorem dX1_found_33 : decode cX1_found 33 = .ok (.iload_n 2, 1) := dk_28 (dk_at dksX1_found_1 11 rfl rfl)
theorem dX1_found_34 : decode cX1_found 34 = .ok (.invokestatic 269, 3) := dk_184 1 13 (dk_at dksX1_found_1 12 rfl rfl)
theorem dX1_found_37 : decode cX1_found 37 = .ok (.ireturn, 1) := dk_172 (dk_at dksX1_found_1 15 rfl rfl)
abbrev cX1_type : ByteArray := prog_1_method_39_code
def yX1_type : MethodName := ⟨RX1, "type", "(I)I"⟩
def dkwX1_type_2 : List UInt8 := [180, 1, 21, 4, 96, 181, 1, 21, 42, 180, 1, 21, 172]
abbrev dktX1_type_2 : List UInt8 := dkwX1_type_2 ++ []
def dkwX1_type_1 : List UInt8 := [4, 167, 0, 4, 3, 19, 1, 24, 184, 0, 159, 42, 180, 0, 88, 42, 180, 1, 21, 27, 145, 84, 42, 89]
abbrev dktX1_type_1 : List UInt8 := dkwX1_type_1 ++ dktX1_type_2
def dkwX1_type_0 : List UInt8 := [27, 133, 9, 20, 1, 17, 184, 0, 130, 19, 1, 19, 184, 0, 140, 42, 180, 1, 21, 16, 120, 162, 0, 7]
abbrev dktX1_type_0 : List UInt8 := dkwX1_type_0 ++ dktX1_type_1
theorem dksX1_type_0 : cX1_type.data.toList.drop 0 = dktX1_type_0 := by decide +kernel
theorem dksX1_type_1 : cX1_type.data.toList.drop 24 = dktX1_type_1 := dk_seg dksX1_type_0 24 rfl rfl
theorem dksX1_type_2 : cX1_type.data.toList.drop 48 = dktX1_type_2 := dk_seg dksX1_type_1 24 rfl rfl
theorem dX1_type_0 : decode cX1_type 0 = .ok (.iload_n 1, 1) := dk_27 (dk_at dksX1_type_0 0 rfl rfl)
theorem dX1_type_1 : decode cX1_type 1 = .ok (.i2l, 1) := dk_133 (dk_at dksX1_type_0 1 rfl rfl)
theorem dX1_type_2 : decode cX1_type 2 = .ok (.lconst 0, 1) := dk_9 (dk_at dksX1_type_0 2 rfl rfl)
theorem dX1_type_3 : decode cX1_type 3 = .ok (.ldc2_w 273, 3) := dk_20 1 17 (dk_at dksX1_type_0 3 rfl rfl)
theorem dX1_type_6 : decode cX1_type 6 = .ok (.invokestatic 130, 3) := dk_184 0 130 (dk_at dksX1_type_0 6 rfl rfl)
theorem dX1_type_9 : decode cX1_type 9 = .ok (.ldc_w 275, 3) := dk_19 1 19 (dk_at dksX1_type_0 9 rfl rfl)
theorem dX1_type_12 : decode cX1_type 12 = .ok (.invokestatic 140, 3) := dk_184 0 140 (dk_at dksX1_type_0 12 rfl rfl)
theorem dX1_type_15 : decode cX1_type 15 = .ok (.aload_n 0, 1) := dk_42 (dk_at dksX1_type_0 15 rfl rfl)
theorem dX1_type_16 : decode cX1_type 16 = .ok (.getfield 277, 3) := dk_180 1 21 (dk_at dksX1_type_0 16 rfl rfl)
theorem dX1_type_19 : decode cX1_type 19 = .ok (.bipush 120, 2) := dk_16 120 (dk_at dksX1_type_0 19 rfl rfl)
theorem dX1_type_21 : decode cX1_type 21 = .ok (.if_icmp .ge 7, 3) := dk_162 0 7 (dk_at dksX1_type_0 21 rfl rfl)
theorem dX1_type_24 : decode cX1_type 24 = .ok (.iconst 1, 1) := dk_4 (dk_at dksX1_type_1 0 rfl rfl)
theorem dX1_type_25 : decode cX1_type 25 = .ok (.goto 4, 3) := dk_167 0 4 (dk_at dksX1_type_1 1 rfl rfl)
theorem dX1_type_28 : decode cX1_type 28 = .ok (.iconst 0, 1) := dk_3 (dk_at dksX1_type_1 4 rfl rfl)
theorem dX1_type_29 : decode cX1_type 29 = .ok (.ldc_w 280, 3) := dk_19 1 24 (dk_at dksX1_type_1 5 rfl rfl)
theorem dX1_type_32 : decode cX1_type 32 = .ok (.invokestatic 159, 3) := dk_184 0 159 (dk_at dksX1_type_1 8 rfl rfl)
theorem dX1_type_35 : decode cX1_type 35 = .ok (.aload_n 0, 1) := dk_42 (dk_at dksX1_type_1 11 rfl rfl)
theorem dX1_type_36 : decode cX1_type 36 = .ok (.getfield 88, 3) := dk_180 0 88 (dk_at dksX1_type_1 12 rfl rfl)
theorem dX1_type_39 : decode cX1_type 39 = .ok (.aload_n 0, 1) := dk_42 (dk_at dksX1_type_1 15 rfl rfl)
theorem dX1_type_40 : decode cX1_type 40 = .ok (.getfield 277, 3) := dk_180 1 21 (dk_at dksX1_type_1 16 rfl rfl)
theorem dX1_type_43 : decode cX1_type 43 = .ok (.iload_n 1, 1) := dk_27 (dk_at dksX1_type_1 19 rfl rfl)
theorem dX1_type_44 : decode cX1_type 44 = .ok (.i2b, 1) := dk_145 (dk_at dksX1_type_1 20 rfl rfl)
theorem dX1_type_45 : decode cX1_type 45 = .ok (.bastore, 1) := dk_84 (dk_at dksX1_type_1 21 rfl rfl)
theorem dX1_type_46 : decode cX1_type 46 = .ok (.aload_n 0, 1) := dk_42 (dk_at dksX1_type_1 22 rfl rfl)
theorem dX1_type_47 : decode cX1_type 47 = .ok (.dup, 1) := dk_89 (dk_at dksX1_type_1 23 rfl rfl)
theorem dX1_type_48 : decode cX1_type 48 = .ok (.getfield 277, 3) := dk_180 1 21 (dk_at dksX1_type_2 0 rfl rfl)
theorem dX1_type_51 : decode cX1_type 51 = .ok (.iconst 1, 1) := dk_4 (dk_at dksX1_type_2 3 rfl rfl)
theorem dX1_type_52 : decode cX1_type 52 = .ok (.iadd, 1) := dk_96 (dk_at dksX1_type_2 4 rfl rfl)
theorem dX1_type_53 : decode cX1_type 53 = .ok (.putfield 277, 3) := dk_181 1 21 (dk_at dksX1_type_2 5 rfl rfl)
theorem dX1_type_56 : decode cX1_type 56 = .ok (.aload_n 0, 1) := dk_42 (dk_at dksX1_type_2 8 rfl rfl)
theorem dX1_type_57 : decode cX1_type 57 = .ok (.getfield 277, 3) := dk_180 1 21 (dk_at dksX1_type_2 9 rfl rfl)
theorem dX1_type_60 : decode cX1_type 60 = .ok (.ireturn, 1) := dk_172 (dk_at dksX1_type_2 12 rfl rfl)
abbrev cX1_undo : ByteArray := prog_1_method_43_code
def yX1_undo : MethodName := ⟨RX1, "undo", "()I"⟩
def dkwX1_undo_1 : List UInt8 := [100, 181, 0, 95, 42, 42, 180, 0, 84, 42, 180, 0, 95, 50, 181, 0, 80, 42, 180, 0, 95, 172]
abbrev dktX1_undo_1 : List UInt8 := dkwX1_undo_1 ++ []
def dkwX1_undo_0 : List UInt8 := [42, 180, 0, 95, 158, 0, 7, 4, 167, 0, 4, 3, 19, 1, 43, 184, 0, 159, 42, 89, 180, 0, 95, 4]
abbrev dktX1_undo_0 : List UInt8 := dkwX1_undo_0 ++ dktX1_undo_1
theorem dksX1_undo_0 : cX1_undo.data.toList.drop 0 = dktX1_undo_0 := by decide +kernel
theorem dksX1_undo_1 : cX1_undo.data.toList.drop 24 = dktX1_undo_1 := dk_seg dksX1_undo_0 24 rfl rfl
theorem dX1_undo_0 : decode cX1_undo 0 = .ok (.aload_n 0, 1) := dk_42 (dk_at dksX1_undo_0 0 rfl rfl)
theorem dX1_undo_1 : decode cX1_undo 1 = .ok (.getfield 95, 3) := dk_180 0 95 (dk_at dksX1_undo_0 1 rfl rfl)
theorem dX1_undo_4 : decode cX1_undo 4 = .ok (.ifCond .le 7, 3) := dk_158 0 7 (dk_at dksX1_undo_0 4 rfl rfl)
theorem dX1_undo_7 : decode cX1_undo 7 = .ok (.iconst 1, 1) := dk_4 (dk_at dksX1_undo_0 7 rfl rfl)
theorem dX1_undo_8 : decode cX1_undo 8 = .ok (.goto 4, 3) := dk_167 0 4 (dk_at dksX1_undo_0 8 rfl rfl)
theorem dX1_undo_11 : decode cX1_undo 11 = .ok (.iconst 0, 1) := dk_3 (dk_at dksX1_undo_0 11 rfl rfl)
theorem dX1_undo_12 : decode cX1_undo 12 = .ok (.ldc_w 299, 3) := dk_19 1 43 (dk_at dksX1_undo_0 12 rfl rfl)
theorem dX1_undo_15 : decode cX1_undo 15 = .ok (.invokestatic 159, 3) := dk_184 0 159 (dk_at dksX1_undo_0 15 rfl rfl)
theorem dX1_undo_18 : decode cX1_undo 18 = .ok (.aload_n 0, 1) := dk_42 (dk_at dksX1_undo_0 18 rfl rfl)
theorem dX1_undo_19 : decode cX1_undo 19 = .ok (.dup, 1) := dk_89 (dk_at dksX1_undo_0 19 rfl rfl)
theorem dX1_undo_20 : decode cX1_undo 20 = .ok (.getfield 95, 3) := dk_180 0 95 (dk_at dksX1_undo_0 20 rfl rfl)
theorem dX1_undo_23 : decode cX1_undo 23 = .ok (.iconst 1, 1) := dk_4 (dk_at dksX1_undo_0 23 rfl rfl)
theorem dX1_undo_24 : decode cX1_undo 24 = .ok (.isub, 1) := dk_100 (dk_at dksX1_undo_1 0 rfl rfl)
theorem dX1_undo_25 : decode cX1_undo 25 = .ok (.putfield 95, 3) := dk_181 0 95 (dk_at dksX1_undo_1 1 rfl rfl)
theorem dX1_undo_28 : decode cX1_undo 28 = .ok (.aload_n 0, 1) := dk_42 (dk_at dksX1_undo_1 4 rfl rfl)
theorem dX1_undo_29 : decode cX1_undo 29 = .ok (.aload_n 0, 1) := dk_42 (dk_at dksX1_undo_1 5 rfl rfl)
theorem dX1_undo_30 : decode cX1_undo 30 = .ok (.getfield 84, 3) := dk_180 0 84 (dk_at dksX1_undo_1 6 rfl rfl)
theorem dX1_undo_33 : decode cX1_undo 33 = .ok (.aload_n 0, 1) := dk_42 (dk_at dksX1_undo_1 9 rfl rfl)
theorem dX1_undo_34 : decode cX1_undo 34 = .ok (.getfield 95, 3) := dk_180 0 95 (dk_at dksX1_undo_1 10 rfl rfl)
theorem dX1_undo_37 : decode cX1_undo 37 = .ok (.aaload, 1) := dk_50 (dk_at dksX1_undo_1 13 rfl rfl)
theorem dX1_undo_38 : decode cX1_undo 38 = .ok (.putfield 80, 3) := dk_181 0 80 (dk_at dksX1_undo_1 14 rfl rfl)
theorem dX1_undo_41 : decode cX1_undo 41 = .ok (.aload_n 0, 1) := dk_42 (dk_at dksX1_undo_1 17 rfl rfl)
theorem dX1_undo_42 : decode cX1_undo 42 = .ok (.getfield 95, 3) := dk_180 0 95 (dk_at dksX1_undo_1 18 rfl rfl)
theorem dX1_undo_45 : decode cX1_undo 45 = .ok (.ireturn, 1) := dk_172 (dk_at dksX1_undo_1 21 rfl rfl)
theorem q69 : (Jvm.Cond.initialized "LineEchoes") ∈ lw_all := lw_g (lw_at lw_m1 1 rfl) rfl
theorem q99 : (Jvm.Cond.instantiable "LineEchoes" (6 : Nat)) ∈ lw_all := lw_g (lw_at lw_m1 31 rfl) rfl
theorem q101 : (Jvm.Cond.instanceMethod ({ cls := "LineEchoes", name := "<init>", desc := "()V" } : Jvm.MethodName)) ∈ lw_all := lw_g (lw_at lw_m1 33 rfl) rfl
theorem q102 : (Jvm.Cond.code ({ cls := "LineEchoes", name := "<init>", desc := "()V" } : Jvm.MethodName) prog_1_method_7_code (1 : Nat) (Option.none : Option Jvm.ClassFile.FieldType)) ∈ lw_all := lw_g (lw_at lw_m1 34 rfl) rfl
theorem q103 : (Jvm.Cond.methodLink "LineEchoes" (74 : Nat) ({ cls := "java/lang/Object", name := "<init>", desc := "()V" } : Jvm.MethodName)) ∈ lw_all := lw_g (lw_at lw_m1 35 rfl) rfl
theorem q106 : (Jvm.Cond.classLink "LineEchoes" (42 : Nat) "LineEchoes$Bench") ∈ lw_all := lw_g (lw_at lw_m1 38 rfl) rfl
theorem q108 : (Jvm.Cond.methodLinkNest "LineEchoes" (79 : Nat) ({ cls := "LineEchoes$Bench", name := "<init>", desc := "()V" } : Jvm.MethodName) "LineEchoes") ∈ lw_tbl := lw_at lw_m1 40 rfl
theorem q124 : (Jvm.Cond.fieldLinkNest "LineEchoes" (166 : Nat) "LineEchoes$Line" "lengths" "[I" "LineEchoes") ∈ lw_tbl := lw_at lw_m1 56 rfl
theorem q129 : (Jvm.Cond.fieldLinkNest "LineEchoes" (170 : Nat) "LineEchoes$Line" "fractions" "[I" "LineEchoes") ∈ lw_tbl := lw_at lw_m1 61 rfl
theorem q134 : (Jvm.Cond.fieldLinkNest "LineEchoes" (122 : Nat) "LineEchoes$Line" "n" "I" "LineEchoes") ∈ lw_tbl := lw_at lw_m1 66 rfl
theorem q137 : (Jvm.Cond.fieldLinkNest "LineEchoes" (307 : Nat) "LineEchoes$Line" "pulseTimes" "[I" "LineEchoes") ∈ lw_tbl := lw_at lw_m1 69 rfl
theorem q140 : (Jvm.Cond.fieldLinkNest "LineEchoes" (310 : Nat) "LineEchoes$Line" "pulseEnergies" "[I" "LineEchoes") ∈ lw_tbl := lw_at lw_m1 72 rfl
theorem q144 : (Jvm.Cond.fieldLinkNest "LineEchoes" (151 : Nat) "LineEchoes$Line" "pulses" "I" "LineEchoes") ∈ lw_tbl := lw_at lw_m1 76 rfl
theorem q153 : (Jvm.Cond.fieldLinkNest "LineEchoes" (144 : Nat) "LineEchoes$Line" "window" "I" "LineEchoes") ∈ lw_tbl := lw_at lw_m1 85 rfl
theorem q191 : (Jvm.Cond.fieldLinkNest "LineEchoes" (113 : Nat) "LineEchoes$Bench" "line" "LLineEchoes$Line;" "LineEchoes") ∈ lw_tbl := lw_at lw_m1 123 rfl
theorem q194 : (Jvm.Cond.fieldLinkNest "LineEchoes" (244 : Nat) "LineEchoes$Bench" "observed" "LLineEchoes$Kept;" "LineEchoes") ∈ lw_tbl := lw_at lw_m1 126 rfl
theorem q203 : (Jvm.Cond.classLink "LineEchoes" (92 : Nat) "LineEchoes$Runner") ∈ lw_all := lw_g (lw_at lw_m1 135 rfl) rfl
theorem q205 : (Jvm.Cond.methodLinkNest "LineEchoes" (94 : Nat) ({ cls := "LineEchoes$Runner", name := "<init>", desc := "()V" } : Jvm.MethodName) "LineEchoes") ∈ lw_tbl := lw_at lw_m1 137 rfl
theorem q241 : (Jvm.Cond.fieldLink "LineEchoes" (80 : Nat) "LineEchoes" "current" "LLineEchoes$Bench;") ∈ lw_all := lw_g (lw_at lw_m1 173 rfl) rfl
theorem q242 : (Jvm.Cond.fieldLink "LineEchoes" (84 : Nat) "LineEchoes" "saved" "[LLineEchoes$Bench;") ∈ lw_all := lw_g (lw_at lw_m1 174 rfl) rfl
theorem q243 : (Jvm.Cond.fieldLink "LineEchoes" (95 : Nat) "LineEchoes" "depth" "I") ∈ lw_all := lw_g (lw_at lw_m1 175 rfl) rfl
theorem q245 : (Jvm.Cond.fieldLink "LineEchoes" (88 : Nat) "LineEchoes" "script" "[B") ∈ lw_all := lw_g (lw_at lw_m1 177 rfl) rfl
theorem q247 : (Jvm.Cond.fieldLink "LineEchoes" (277 : Nat) "LineEchoes" "scriptLength" "I") ∈ lw_all := lw_g (lw_at lw_m1 179 rfl) rfl
theorem q248 : (Jvm.Cond.fieldLink "LineEchoes" (61 : Nat) "LineEchoes" "runner" "LLineEchoes$Runner;") ∈ lw_all := lw_g (lw_at lw_m1 180 rfl) rfl
theorem q249 : (Jvm.Cond.lays "LineEchoes" "LineEchoes" "current" "LLineEchoes$Bench;") ∈ lw_all := lw_g (lw_at lw_m1 181 rfl) rfl
theorem q250 : (Jvm.Cond.soleField "LineEchoes" "current") ∈ lw_all := lw_g (lw_at lw_m1 182 rfl) rfl
theorem q251 : (Jvm.Cond.laysFinal "LineEchoes" "LineEchoes" "saved" "[LLineEchoes$Bench;") ∈ lw_all := lw_g (lw_at lw_m1 183 rfl) rfl
theorem q252 : (Jvm.Cond.soleField "LineEchoes" "saved") ∈ lw_all := lw_g (lw_at lw_m1 184 rfl) rfl
theorem q253 : (Jvm.Cond.lays "LineEchoes" "LineEchoes" "depth" "I") ∈ lw_all := lw_g (lw_at lw_m1 185 rfl) rfl
theorem q254 : (Jvm.Cond.soleField "LineEchoes" "depth") ∈ lw_all := lw_g (lw_at lw_m1 186 rfl) rfl
theorem q255 : (Jvm.Cond.laysFinal "LineEchoes" "LineEchoes" "script" "[B") ∈ lw_all := lw_g (lw_at lw_m1 187 rfl) rfl
theorem q256 : (Jvm.Cond.soleField "LineEchoes" "script") ∈ lw_all := lw_g (lw_at lw_m1 188 rfl) rfl
theorem q257 : (Jvm.Cond.lays "LineEchoes" "LineEchoes" "scriptLength" "I") ∈ lw_all := lw_g (lw_at lw_m1 189 rfl) rfl
theorem q258 : (Jvm.Cond.soleField "LineEchoes" "scriptLength") ∈ lw_all := lw_g (lw_at lw_m1 190 rfl) rfl
theorem q259 : (Jvm.Cond.laysFinal "LineEchoes" "LineEchoes" "runner" "LLineEchoes$Runner;") ∈ lw_all := lw_g (lw_at lw_m1 191 rfl) rfl
theorem q260 : (Jvm.Cond.soleField "LineEchoes" "runner") ∈ lw_all := lw_g (lw_at lw_m1 192 rfl) rfl
theorem q261 : (Jvm.Cond.superclass "LineEchoes" "java/lang/Object") ∈ lw_all := lw_g (lw_at lw_m1 193 rfl) rfl
theorem q263 : (Jvm.Cond.instanceMethod ({ cls := "LineEchoes", name := "reverse", desc := "()I" } : Jvm.MethodName)) ∈ lw_all := lw_g (lw_at lw_m1 195 rfl) rfl
theorem q264 : (Jvm.Cond.selects "LineEchoes" ({ cls := "LineEchoes", name := "reverse", desc := "()I" } : Jvm.MethodName) ({ cls := "LineEchoes", name := "reverse", desc := "()I" } : Jvm.MethodName)) ∈ lw_all := lw_g (lw_at lw_m1 196 rfl) rfl
theorem q265 : (Jvm.Cond.code ({ cls := "LineEchoes", name := "reverse", desc := "()I" } : Jvm.MethodName) prog_1_method_13_code (2 : Nat) (Option.some Jvm.ClassFile.FieldType.int)) ∈ lw_all := lw_g (lw_at lw_m1 197 rfl) rfl
theorem q266 : (Jvm.Cond.methodLink "LineEchoes" (105 : Nat) ({ cls := "LineEchoes$Bench", name := "copy", desc := "()LLineEchoes$Bench;" } : Jvm.MethodName)) ∈ lw_all := lw_g (lw_at lw_m1 198 rfl) rfl
theorem q283 : (Jvm.Cond.methodLink "LineEchoes" (117 : Nat) ({ cls := "LineEchoes$Line", name := "reverse", desc := "()V" } : Jvm.MethodName)) ∈ lw_all := lw_g (lw_at lw_m1 215 rfl) rfl
theorem q290 : (Jvm.Cond.methodLink "LineEchoes" (125 : Nat) ({ cls := "LineEchoes$Line", name := "sum", desc := "(I)I" } : Jvm.MethodName)) ∈ lw_all := lw_g (lw_at lw_m1 222 rfl) rfl
theorem q294 : (Jvm.Cond.methodLink "LineEchoes" (109 : Nat) ({ cls := "LineEchoes", name := "become", desc := "(LLineEchoes$Bench;I)I" } : Jvm.MethodName)) ∈ lw_all := lw_g (lw_at lw_m1 226 rfl) rfl
theorem q295 : (Jvm.Cond.privateMethod ({ cls := "LineEchoes", name := "become", desc := "(LLineEchoes$Bench;I)I" } : Jvm.MethodName)) ∈ lw_tbl := lw_at lw_m1 227 rfl
theorem q296 : (Jvm.Cond.instanceMethod ({ cls := "LineEchoes", name := "become", desc := "(LLineEchoes$Bench;I)I" } : Jvm.MethodName)) ∈ lw_all := lw_g (lw_at lw_m1 228 rfl) rfl
theorem q297 : (Jvm.Cond.code ({ cls := "LineEchoes", name := "become", desc := "(LLineEchoes$Bench;I)I" } : Jvm.MethodName) prog_1_method_8_code (3 : Nat) (Option.some Jvm.ClassFile.FieldType.int)) ∈ lw_all := lw_g (lw_at lw_m1 229 rfl) rfl
theorem q298 : (Jvm.Cond.methodLink "LineEchoes" (99 : Nat) ({ cls := "java/lang/System", name := "arraycopy", desc := "(Ljava/lang/Object;ILjava/lang/Object;II)V" } : Jvm.MethodName)) ∈ lw_all := lw_g (lw_at lw_m1 230 rfl) rfl
theorem q300 : (Jvm.Cond.instanceMethod ({ cls := "LineEchoes", name := "keepSound", desc := "()I" } : Jvm.MethodName)) ∈ lw_all := lw_g (lw_at lw_m1 232 rfl) rfl
theorem q301 : (Jvm.Cond.selects "LineEchoes" ({ cls := "LineEchoes", name := "keepSound", desc := "()I" } : Jvm.MethodName) ({ cls := "LineEchoes", name := "keepSound", desc := "()I" } : Jvm.MethodName)) ∈ lw_all := lw_g (lw_at lw_m1 233 rfl) rfl
theorem q302 : (Jvm.Cond.code ({ cls := "LineEchoes", name := "keepSound", desc := "()I" } : Jvm.MethodName) prog_1_method_27_code (2 : Nat) (Option.some Jvm.ClassFile.FieldType.int)) ∈ lw_all := lw_g (lw_at lw_m1 234 rfl) rfl
theorem q303 : (Jvm.Cond.methodLink "LineEchoes" (65 : Nat) ({ cls := "LineEchoes$Bench", name := "keepSound", desc := "(LLineEchoes$Runner;)I" } : Jvm.MethodName)) ∈ lw_all := lw_g (lw_at lw_m1 235 rfl) rfl
theorem q359 : (Jvm.Cond.instanceMethod ({ cls := "LineEchoes", name := "differences", desc := "()I" } : Jvm.MethodName)) ∈ lw_all := lw_g (lw_at lw_m2 51 rfl) rfl
theorem q360 : (Jvm.Cond.selects "LineEchoes" ({ cls := "LineEchoes", name := "differences", desc := "()I" } : Jvm.MethodName) ({ cls := "LineEchoes", name := "differences", desc := "()I" } : Jvm.MethodName)) ∈ lw_all := lw_g (lw_at lw_m2 52 rfl) rfl
theorem q361 : (Jvm.Cond.code ({ cls := "LineEchoes", name := "differences", desc := "()I" } : Jvm.MethodName) prog_1_method_28_code (1 : Nat) (Option.some Jvm.ClassFile.FieldType.int)) ∈ lw_all := lw_g (lw_at lw_m2 53 rfl) rfl
theorem q362 : (Jvm.Cond.methodLink "LineEchoes" (228 : Nat) ({ cls := "LineEchoes$Bench", name := "differences", desc := "(LLineEchoes$Runner;)I" } : Jvm.MethodName)) ∈ lw_all := lw_g (lw_at lw_m2 54 rfl) rfl
theorem q369 : (Jvm.Cond.instanceMethod ({ cls := "LineEchoes", name := "observe", desc := "()I" } : Jvm.MethodName)) ∈ lw_all := lw_g (lw_at lw_m2 61 rfl) rfl
theorem q370 : (Jvm.Cond.selects "LineEchoes" ({ cls := "LineEchoes", name := "observe", desc := "()I" } : Jvm.MethodName) ({ cls := "LineEchoes", name := "observe", desc := "()I" } : Jvm.MethodName)) ∈ lw_all := lw_g (lw_at lw_m2 62 rfl) rfl
theorem q371 : (Jvm.Cond.code ({ cls := "LineEchoes", name := "observe", desc := "()I" } : Jvm.MethodName) prog_1_method_30_code (2 : Nat) (Option.some Jvm.ClassFile.FieldType.int)) ∈ lw_all := lw_g (lw_at lw_m2 63 rfl) rfl
theorem q372 : (Jvm.Cond.methodLink "LineEchoes" (69 : Nat) ({ cls := "LineEchoes$Bench", name := "observe", desc := "(LLineEchoes$Runner;)I" } : Jvm.MethodName)) ∈ lw_all := lw_g (lw_at lw_m2 64 rfl) rfl
theorem q377 : (Jvm.Cond.instanceMethod ({ cls := "LineEchoes", name := "adopt", desc := "()I" } : Jvm.MethodName)) ∈ lw_all := lw_g (lw_at lw_m2 69 rfl) rfl
theorem q378 : (Jvm.Cond.selects "LineEchoes" ({ cls := "LineEchoes", name := "adopt", desc := "()I" } : Jvm.MethodName) ({ cls := "LineEchoes", name := "adopt", desc := "()I" } : Jvm.MethodName)) ∈ lw_all := lw_g (lw_at lw_m2 70 rfl) rfl
theorem q379 : (Jvm.Cond.code ({ cls := "LineEchoes", name := "adopt", desc := "()I" } : Jvm.MethodName) prog_1_method_38_code (2 : Nat) (Option.some Jvm.ClassFile.FieldType.int)) ∈ lw_all := lw_g (lw_at lw_m2 71 rfl) rfl
theorem q380 : (Jvm.Cond.methodLink "LineEchoes" (72 : Nat) ({ cls := "LineEchoes$Bench", name := "adopt", desc := "(LLineEchoes$Runner;)I" } : Jvm.MethodName)) ∈ lw_all := lw_g (lw_at lw_m2 72 rfl) rfl
theorem q399 : (Jvm.Cond.fieldLinkNest "LineEchoes" (268 : Nat) "LineEchoes$Peeling" "line" "LLineEchoes$Line;" "LineEchoes") ∈ lw_tbl := lw_at lw_m2 91 rfl
theorem q444 : (Jvm.Cond.instanceMethod ({ cls := "LineEchoes", name := "clearScript", desc := "()I" } : Jvm.MethodName)) ∈ lw_all := lw_g (lw_at lw_m2 136 rfl) rfl
theorem q445 : (Jvm.Cond.selects "LineEchoes" ({ cls := "LineEchoes", name := "clearScript", desc := "()I" } : Jvm.MethodName) ({ cls := "LineEchoes", name := "clearScript", desc := "()I" } : Jvm.MethodName)) ∈ lw_all := lw_g (lw_at lw_m2 137 rfl) rfl
theorem q446 : (Jvm.Cond.code ({ cls := "LineEchoes", name := "clearScript", desc := "()I" } : Jvm.MethodName) prog_1_method_40_code (2 : Nat) (Option.some Jvm.ClassFile.FieldType.int)) ∈ lw_all := lw_g (lw_at lw_m2 138 rfl) rfl
theorem q448 : (Jvm.Cond.instanceMethod ({ cls := "LineEchoes", name := "run", desc := "()I" } : Jvm.MethodName)) ∈ lw_all := lw_g (lw_at lw_m2 140 rfl) rfl
theorem q449 : (Jvm.Cond.selects "LineEchoes" ({ cls := "LineEchoes", name := "run", desc := "()I" } : Jvm.MethodName) ({ cls := "LineEchoes", name := "run", desc := "()I" } : Jvm.MethodName)) ∈ lw_all := lw_g (lw_at lw_m2 141 rfl) rfl
theorem q450 : (Jvm.Cond.code ({ cls := "LineEchoes", name := "run", desc := "()I" } : Jvm.MethodName) prog_1_method_42_code (4 : Nat) (Option.some Jvm.ClassFile.FieldType.int)) ∈ lw_all := lw_g (lw_at lw_m2 142 rfl) rfl
theorem q451 : (Jvm.Cond.classLink "LineEchoes" (281 : Nat) "LineEchoes$Reader") ∈ lw_all := lw_g (lw_at lw_m2 143 rfl) rfl
theorem q453 : (Jvm.Cond.methodLinkNest "LineEchoes" (283 : Nat) ({ cls := "LineEchoes$Reader", name := "<init>", desc := "(LLineEchoes;)V" } : Jvm.MethodName) "LineEchoes") ∈ lw_tbl := lw_at lw_m2 145 rfl
theorem q460 : (Jvm.Cond.fieldLinkNest "LineEchoes" (294 : Nat) "LineEchoes$Reader" "fault" "I" "LineEchoes") ∈ lw_tbl := lw_at lw_m2 152 rfl
theorem q475 : (Jvm.Cond.methodLink "LineEchoes" (286 : Nat) ({ cls := "LineEchoes$Reader", name := "next", desc := "()Z" } : Jvm.MethodName)) ∈ lw_all := lw_g (lw_at lw_m2 167 rfl) rfl
theorem q488 : (Jvm.Cond.static ({ cls := "LineEchoes", name := "inRange", desc := "(JJJ)Z" } : Jvm.MethodName)) ∈ lw_all := lw_g (lw_at lw_m2 180 rfl) rfl
theorem q489 : (Jvm.Cond.code ({ cls := "LineEchoes", name := "inRange", desc := "(JJJ)Z" } : Jvm.MethodName) prog_1_method_1_code (6 : Nat) (Option.some Jvm.ClassFile.FieldType.boolean)) ∈ lw_all := lw_g (lw_at lw_m2 181 rfl) rfl
theorem q824 : (Jvm.Cond.static ({ cls := "LineEchoes", name := "numbersOf", desc := "(Ljava/lang/String;)I" } : Jvm.MethodName)) ∈ lw_all := lw_g (lw_at lw_m4 36 rfl) rfl
theorem q825 : (Jvm.Cond.code ({ cls := "LineEchoes", name := "numbersOf", desc := "(Ljava/lang/String;)I" } : Jvm.MethodName) prog_1_method_5_code (3 : Nat) (Option.some Jvm.ClassFile.FieldType.int)) ∈ lw_all := lw_g (lw_at lw_m4 37 rfl) rfl
theorem q826 : (Jvm.Cond.methodLink "LineEchoes" (13 : Nat) ({ cls := "java/lang/String", name := "hashCode", desc := "()I" } : Jvm.MethodName)) ∈ lw_all := lw_g (lw_at lw_m4 38 rfl) rfl
theorem q887 : (Jvm.Cond.stringRef "LineEchoes" (19 : Nat) "set") ∈ lw_tbl := lw_at lw_m4 99 rfl
theorem q888 : (Jvm.Cond.methodLink "LineEchoes" (21 : Nat) ({ cls := "java/lang/String", name := "equals", desc := "(Ljava/lang/Object;)Z" } : Jvm.MethodName)) ∈ lw_all := lw_g (lw_at lw_m4 100 rfl) rfl
theorem q896 : (Jvm.Cond.stringRef "LineEchoes" (25 : Nat) "split") ∈ lw_tbl := lw_at lw_m4 108 rfl
theorem q897 : (Jvm.Cond.stringRef "LineEchoes" (27 : Nat) "part") ∈ lw_tbl := lw_at lw_m4 109 rfl
theorem q898 : (Jvm.Cond.stringRef "LineEchoes" (29 : Nat) "pulse") ∈ lw_tbl := lw_at lw_m4 110 rfl
theorem q899 : (Jvm.Cond.stringRef "LineEchoes" (31 : Nat) "cut") ∈ lw_tbl := lw_at lw_m4 111 rfl
theorem q900 : (Jvm.Cond.stringRef "LineEchoes" (33 : Nat) "sound") ∈ lw_tbl := lw_at lw_m4 112 rfl
theorem q901 : (Jvm.Cond.stringRef "LineEchoes" (35 : Nat) "look") ∈ lw_tbl := lw_at lw_m4 113 rfl
theorem q902 : (Jvm.Cond.stringRef "LineEchoes" (37 : Nat) "adopt") ∈ lw_tbl := lw_at lw_m4 114 rfl
theorem q907 : (Jvm.Cond.methodLink "LineEchoes" (296 : Nat) ({ cls := "LineEchoes", name := "carryOutAll", desc := "(LLineEchoes$Bench;)I" } : Jvm.MethodName)) ∈ lw_all := lw_g (lw_at lw_m4 119 rfl) rfl
theorem q908 : (Jvm.Cond.privateMethod ({ cls := "LineEchoes", name := "carryOutAll", desc := "(LLineEchoes$Bench;)I" } : Jvm.MethodName)) ∈ lw_tbl := lw_at lw_m4 120 rfl
theorem q909 : (Jvm.Cond.instanceMethod ({ cls := "LineEchoes", name := "carryOutAll", desc := "(LLineEchoes$Bench;)I" } : Jvm.MethodName)) ∈ lw_all := lw_g (lw_at lw_m4 121 rfl) rfl
theorem q910 : (Jvm.Cond.codeWith ({ cls := "LineEchoes", name := "carryOutAll", desc := "(LLineEchoes$Bench;)I" } : Jvm.MethodName) prog_1_method_41_code (5 : Nat) (Option.some Jvm.ClassFile.FieldType.int) [((11 : Nat), (31 : Nat), (34 : Nat), (1 : Nat)), ((11 : Nat), (31 : Nat), (34 : Nat), (7 : Nat)), ((11 : Nat), (31 : Nat), (34 : Nat), (10 : Nat))]) ∈ lw_all := lw_g (lw_at lw_m4 122 rfl) rfl
theorem q911 : (Jvm.Cond.classLink "LineEchoes" (1 : Nat) "java/lang/IndexOutOfBoundsException") ∈ lw_all := lw_g (lw_at lw_m4 123 rfl) rfl
theorem q930 : (Jvm.Cond.classLink "LineEchoes" (7 : Nat) "java/lang/IllegalArgumentException") ∈ lw_all := lw_g (lw_at lw_m4 142 rfl) rfl
theorem q931 : (Jvm.Cond.classLink "LineEchoes" (10 : Nat) "java/lang/IllegalStateException") ∈ lw_all := lw_g (lw_at lw_m4 143 rfl) rfl
theorem q932 : (Jvm.Cond.methodLink "LineEchoes" (290 : Nat) ({ cls := "LineEchoes$Reader", name := "carryOutOn", desc := "(LLineEchoes$Bench;)I" } : Jvm.MethodName)) ∈ lw_all := lw_g (lw_at lw_m4 144 rfl) rfl
theorem q937 : (Jvm.Cond.privateMethod ({ cls := "LineEchoes", name := "carryOut", desc := "(LLineEchoes$Bench;Ljava/lang/String;III)I" } : Jvm.MethodName)) ∈ lw_tbl := lw_at lw_m4 149 rfl
theorem q938 : (Jvm.Cond.instanceMethod ({ cls := "LineEchoes", name := "carryOut", desc := "(LLineEchoes$Bench;Ljava/lang/String;III)I" } : Jvm.MethodName)) ∈ lw_all := lw_g (lw_at lw_m4 150 rfl) rfl
theorem q939 : (Jvm.Cond.code ({ cls := "LineEchoes", name := "carryOut", desc := "(LLineEchoes$Bench;Ljava/lang/String;III)I" } : Jvm.MethodName) prog_1_method_6_code (8 : Nat) (Option.some Jvm.ClassFile.FieldType.int)) ∈ lw_all := lw_g (lw_at lw_m4 151 rfl) rfl
theorem q940 : (Jvm.Cond.methodLink "LineEchoes" (41 : Nat) ({ cls := "LineEchoes$Bench", name := "addPart", desc := "(II)I" } : Jvm.MethodName)) ∈ lw_all := lw_g (lw_at lw_m4 152 rfl) rfl
theorem q952 : (Jvm.Cond.static ({ cls := "LineEchoes", name := "requireArgument", desc := "(ZLjava/lang/String;)V" } : Jvm.MethodName)) ∈ lw_all := lw_g (lw_at lw_m4 164 rfl) rfl
theorem q953 : (Jvm.Cond.code ({ cls := "LineEchoes", name := "requireArgument", desc := "(ZLjava/lang/String;)V" } : Jvm.MethodName) prog_1_method_3_code (2 : Nat) (Option.none : Option Jvm.ClassFile.FieldType)) ∈ lw_all := lw_g (lw_at lw_m4 165 rfl) rfl
theorem q954 : (Jvm.Cond.methodLink "LineEchoes" (9 : Nat) ({ cls := "java/lang/IllegalArgumentException", name := "<init>", desc := "(Ljava/lang/String;)V" } : Jvm.MethodName)) ∈ lw_all := lw_g (lw_at lw_m4 166 rfl) rfl
theorem q961 : (Jvm.Cond.static ({ cls := "LineEchoes", name := "requireState", desc := "(ZLjava/lang/String;)V" } : Jvm.MethodName)) ∈ lw_all := lw_g (lw_at lw_m4 173 rfl) rfl
theorem q962 : (Jvm.Cond.code ({ cls := "LineEchoes", name := "requireState", desc := "(ZLjava/lang/String;)V" } : Jvm.MethodName) prog_1_method_4_code (2 : Nat) (Option.none : Option Jvm.ClassFile.FieldType)) ∈ lw_all := lw_g (lw_at lw_m4 174 rfl) rfl
theorem q971 : (Jvm.Cond.methodLink "LineEchoes" (12 : Nat) ({ cls := "java/lang/IllegalStateException", name := "<init>", desc := "(Ljava/lang/String;)V" } : Jvm.MethodName)) ∈ lw_all := lw_g (lw_at lw_m4 183 rfl) rfl
theorem q978 : (Jvm.Cond.methodLink "LineEchoes" (47 : Nat) ({ cls := "LineEchoes$Bench", name := "setPart", desc := "(III)I" } : Jvm.MethodName)) ∈ lw_all := lw_g (lw_at lw_m4 190 rfl) rfl
theorem q988 : (Jvm.Cond.static ({ cls := "LineEchoes", name := "requireIndex", desc := "(ZLjava/lang/String;)V" } : Jvm.MethodName)) ∈ lw_all := lw_g (lw_at lw_m4 200 rfl) rfl
theorem q989 : (Jvm.Cond.code ({ cls := "LineEchoes", name := "requireIndex", desc := "(ZLjava/lang/String;)V" } : Jvm.MethodName) prog_1_method_2_code (2 : Nat) (Option.none : Option Jvm.ClassFile.FieldType)) ∈ lw_all := lw_g (lw_at lw_m4 201 rfl) rfl
theorem q998 : (Jvm.Cond.methodLink "LineEchoes" (3 : Nat) ({ cls := "java/lang/IndexOutOfBoundsException", name := "<init>", desc := "(Ljava/lang/String;)V" } : Jvm.MethodName)) ∈ lw_all := lw_g (lw_at lw_m4 210 rfl) rfl
theorem q1001 : (Jvm.Cond.methodLink "LineEchoes" (51 : Nat) ({ cls := "LineEchoes$Bench", name := "removePart", desc := "(I)I" } : Jvm.MethodName)) ∈ lw_all := lw_g (lw_at lw_m4 213 rfl) rfl
theorem q1006 : (Jvm.Cond.methodLink "LineEchoes" (55 : Nat) ({ cls := "LineEchoes$Bench", name := "splitPart", desc := "(III)I" } : Jvm.MethodName)) ∈ lw_all := lw_g (lw_at lw_m4 218 rfl) rfl
theorem q1011 : (Jvm.Cond.methodLink "LineEchoes" (58 : Nat) ({ cls := "LineEchoes$Bench", name := "addPulse", desc := "(II)I" } : Jvm.MethodName)) ∈ lw_all := lw_g (lw_at lw_m4 223 rfl) rfl
theorem q1021 : (Jvm.Cond.instanceMethod ({ cls := "LineEchoes", name := "digest", desc := "()J" } : Jvm.MethodName)) ∈ lw_all := lw_g (lw_at lw_m4 233 rfl) rfl
theorem q1022 : (Jvm.Cond.selects "LineEchoes" ({ cls := "LineEchoes", name := "digest", desc := "()J" } : Jvm.MethodName) ({ cls := "LineEchoes", name := "digest", desc := "()J" } : Jvm.MethodName)) ∈ lw_all := lw_g (lw_at lw_m4 234 rfl) rfl
theorem q1023 : (Jvm.Cond.code ({ cls := "LineEchoes", name := "digest", desc := "()J" } : Jvm.MethodName) prog_1_method_46_code (5 : Nat) (Option.some Jvm.ClassFile.FieldType.long)) ∈ lw_all := lw_g (lw_at lw_m4 235 rfl) rfl
theorem q1024 : (Jvm.Cond.constantLong "LineEchoes" (313 : Nat) (11908 : Int64)) ∈ lw_all := lw_g (lw_at lw_m4 236 rfl) rfl
theorem q1025 : (Jvm.Cond.methodLink "LineEchoes" (303 : Nat) ({ cls := "LineEchoes", name := "hash", desc := "(JJ)J" } : Jvm.MethodName)) ∈ lw_all := lw_g (lw_at lw_m4 237 rfl) rfl
theorem q1026 : (Jvm.Cond.static ({ cls := "LineEchoes", name := "hash", desc := "(JJ)J" } : Jvm.MethodName)) ∈ lw_all := lw_g (lw_at lw_m4 238 rfl) rfl
theorem q1027 : (Jvm.Cond.code ({ cls := "LineEchoes", name := "hash", desc := "(JJ)J" } : Jvm.MethodName) prog_1_method_44_code (4 : Nat) (Option.some Jvm.ClassFile.FieldType.long)) ∈ lw_all := lw_g (lw_at lw_m4 239 rfl) rfl
theorem q1028 : (Jvm.Cond.constantLong "LineEchoes" (301 : Nat) (31 : Int64)) ∈ lw_all := lw_g (lw_at lw_m5 0 rfl) rfl
theorem q1029 : (Jvm.Cond.methodLink "LineEchoes" (315 : Nat) ({ cls := "LineEchoes", name := "hashLine", desc := "(J)J" } : Jvm.MethodName)) ∈ lw_all := lw_g (lw_at lw_m5 1 rfl) rfl
theorem q1030 : (Jvm.Cond.privateMethod ({ cls := "LineEchoes", name := "hashLine", desc := "(J)J" } : Jvm.MethodName)) ∈ lw_tbl := lw_at lw_m5 2 rfl
theorem q1031 : (Jvm.Cond.instanceMethod ({ cls := "LineEchoes", name := "hashLine", desc := "(J)J" } : Jvm.MethodName)) ∈ lw_all := lw_g (lw_at lw_m5 3 rfl) rfl
theorem q1032 : (Jvm.Cond.code ({ cls := "LineEchoes", name := "hashLine", desc := "(J)J" } : Jvm.MethodName) prog_1_method_45_code (7 : Nat) (Option.some Jvm.ClassFile.FieldType.long)) ∈ lw_all := lw_g (lw_at lw_m5 4 rfl) rfl
theorem q1033 : (Jvm.Cond.methodLink "LineEchoes" (185 : Nat) ({ cls := "LineEchoes$Line", name := "value", desc := "(I)I" } : Jvm.MethodName)) ∈ lw_all := lw_g (lw_at lw_m5 5 rfl) rfl
theorem q1038 : (Jvm.Cond.methodLink "LineEchoes" (193 : Nat) ({ cls := "LineEchoes$Runner", name := "run", desc := "(LLineEchoes$Line;)V" } : Jvm.MethodName)) ∈ lw_all := lw_g (lw_at lw_m5 10 rfl) rfl
theorem q1039 : (Jvm.Cond.methodLink "LineEchoes" (208 : Nat) ({ cls := "LineEchoes$Runner", name := "total", desc := "(I)J" } : Jvm.MethodName)) ∈ lw_all := lw_g (lw_at lw_m5 11 rfl) rfl
theorem q1055 : (Jvm.Cond.methodLink "LineEchoes" (197 : Nat) ({ cls := "LineEchoes$Runner", name := "at", desc := "(I)J" } : Jvm.MethodName)) ∈ lw_all := lw_g (lw_at lw_m5 27 rfl) rfl
theorem q1056 : (Jvm.Cond.methodLink "LineEchoes" (233 : Nat) ({ cls := "LineEchoes$Bench", name := "fault", desc := "(LLineEchoes$Runner;I)I" } : Jvm.MethodName)) ∈ lw_all := lw_g (lw_at lw_m5 28 rfl) rfl
theorem q1069 : (Jvm.Cond.methodLink "LineEchoes" (248 : Nat) ({ cls := "LineEchoes$Kept", name := "at", desc := "(I)J" } : Jvm.MethodName)) ∈ lw_all := lw_g (lw_at lw_m5 41 rfl) rfl
theorem q1070 : (Jvm.Cond.methodLink "LineEchoes" (261 : Nat) ({ cls := "LineEchoes", name := "peeling", desc := "()LLineEchoes$Peeling;" } : Jvm.MethodName)) ∈ lw_all := lw_g (lw_at lw_m5 42 rfl) rfl
theorem q1071 : (Jvm.Cond.privateMethod ({ cls := "LineEchoes", name := "peeling", desc := "()LLineEchoes$Peeling;" } : Jvm.MethodName)) ∈ lw_tbl := lw_at lw_m5 43 rfl
theorem q1072 : (Jvm.Cond.instanceMethod ({ cls := "LineEchoes", name := "peeling", desc := "()LLineEchoes$Peeling;" } : Jvm.MethodName)) ∈ lw_all := lw_g (lw_at lw_m5 44 rfl) rfl
theorem q1073 : (Jvm.Cond.code ({ cls := "LineEchoes", name := "peeling", desc := "()LLineEchoes$Peeling;" } : Jvm.MethodName) prog_1_method_34_code (1 : Nat) (Option.some (Jvm.ClassFile.FieldType.object "LineEchoes$Peeling"))) ∈ lw_all := lw_g (lw_at lw_m5 45 rfl) rfl
theorem q1074 : (Jvm.Cond.methodLink "LineEchoes" (255 : Nat) ({ cls := "LineEchoes$Peeling", name := "of", desc := "(LLineEchoes$Line;LLineEchoes$Echoes;LLineEchoes$Runner;)LLineEchoes$Peeling;" } : Jvm.MethodName)) ∈ lw_all := lw_g (lw_at lw_m5 46 rfl) rfl
theorem q1075 : (Jvm.Cond.methodLink "LineEchoes" (265 : Nat) ({ cls := "LineEchoes$Peeling", name := "value", desc := "(I)I" } : Jvm.MethodName)) ∈ lw_all := lw_g (lw_at lw_m5 47 rfl) rfl
theorem q1079 : (Jvm.Cond.methodLink "LineEchoes" (269 : Nat) ({ cls := "LineEchoes", name := "foundValue", desc := "(LLineEchoes$Line;II)I" } : Jvm.MethodName)) ∈ lw_all := lw_g (lw_at lw_m5 51 rfl) rfl
theorem q1080 : (Jvm.Cond.static ({ cls := "LineEchoes", name := "foundValue", desc := "(LLineEchoes$Line;II)I" } : Jvm.MethodName)) ∈ lw_all := lw_g (lw_at lw_m5 52 rfl) rfl
theorem q1081 : (Jvm.Cond.code ({ cls := "LineEchoes", name := "foundValue", desc := "(LLineEchoes$Line;II)I" } : Jvm.MethodName) prog_1_method_36_code (3 : Nat) (Option.some Jvm.ClassFile.FieldType.int)) ∈ lw_all := lw_g (lw_at lw_m5 53 rfl) rfl
theorem q1088 : (Jvm.Cond.instanceMethod ({ cls := "LineEchoes", name := "addPart", desc := "(II)I" } : Jvm.MethodName)) ∈ lw_all := lw_g (lw_at lw_m5 60 rfl) rfl
theorem q1089 : (Jvm.Cond.selects "LineEchoes" ({ cls := "LineEchoes", name := "addPart", desc := "(II)I" } : Jvm.MethodName) ({ cls := "LineEchoes", name := "addPart", desc := "(II)I" } : Jvm.MethodName)) ∈ lw_all := lw_g (lw_at lw_m5 61 rfl) rfl
theorem q1090 : (Jvm.Cond.code ({ cls := "LineEchoes", name := "addPart", desc := "(II)I" } : Jvm.MethodName) prog_1_method_9_code (4 : Nat) (Option.some Jvm.ClassFile.FieldType.int)) ∈ lw_all := lw_g (lw_at lw_m5 62 rfl) rfl
theorem q1096 : (Jvm.Cond.instanceMethod ({ cls := "LineEchoes", name := "setPart", desc := "(III)I" } : Jvm.MethodName)) ∈ lw_all := lw_g (lw_at lw_m5 68 rfl) rfl
theorem q1097 : (Jvm.Cond.selects "LineEchoes" ({ cls := "LineEchoes", name := "setPart", desc := "(III)I" } : Jvm.MethodName) ({ cls := "LineEchoes", name := "setPart", desc := "(III)I" } : Jvm.MethodName)) ∈ lw_all := lw_g (lw_at lw_m5 69 rfl) rfl
theorem q1098 : (Jvm.Cond.code ({ cls := "LineEchoes", name := "setPart", desc := "(III)I" } : Jvm.MethodName) prog_1_method_10_code (5 : Nat) (Option.some Jvm.ClassFile.FieldType.int)) ∈ lw_all := lw_g (lw_at lw_m5 70 rfl) rfl
theorem q1103 : (Jvm.Cond.instanceMethod ({ cls := "LineEchoes", name := "removePart", desc := "(I)I" } : Jvm.MethodName)) ∈ lw_all := lw_g (lw_at lw_m5 75 rfl) rfl
theorem q1104 : (Jvm.Cond.selects "LineEchoes" ({ cls := "LineEchoes", name := "removePart", desc := "(I)I" } : Jvm.MethodName) ({ cls := "LineEchoes", name := "removePart", desc := "(I)I" } : Jvm.MethodName)) ∈ lw_all := lw_g (lw_at lw_m5 76 rfl) rfl
theorem q1105 : (Jvm.Cond.code ({ cls := "LineEchoes", name := "removePart", desc := "(I)I" } : Jvm.MethodName) prog_1_method_11_code (3 : Nat) (Option.some Jvm.ClassFile.FieldType.int)) ∈ lw_all := lw_g (lw_at lw_m5 77 rfl) rfl
theorem q1110 : (Jvm.Cond.instanceMethod ({ cls := "LineEchoes", name := "splitPart", desc := "(III)I" } : Jvm.MethodName)) ∈ lw_all := lw_g (lw_at lw_m5 82 rfl) rfl
theorem q1111 : (Jvm.Cond.selects "LineEchoes" ({ cls := "LineEchoes", name := "splitPart", desc := "(III)I" } : Jvm.MethodName) ({ cls := "LineEchoes", name := "splitPart", desc := "(III)I" } : Jvm.MethodName)) ∈ lw_all := lw_g (lw_at lw_m5 83 rfl) rfl
theorem q1112 : (Jvm.Cond.code ({ cls := "LineEchoes", name := "splitPart", desc := "(III)I" } : Jvm.MethodName) prog_1_method_12_code (5 : Nat) (Option.some Jvm.ClassFile.FieldType.int)) ∈ lw_all := lw_g (lw_at lw_m5 84 rfl) rfl
theorem q1117 : (Jvm.Cond.instanceMethod ({ cls := "LineEchoes", name := "setBench", desc := "(III)I" } : Jvm.MethodName)) ∈ lw_all := lw_g (lw_at lw_m5 89 rfl) rfl
theorem q1118 : (Jvm.Cond.selects "LineEchoes" ({ cls := "LineEchoes", name := "setBench", desc := "(III)I" } : Jvm.MethodName) ({ cls := "LineEchoes", name := "setBench", desc := "(III)I" } : Jvm.MethodName)) ∈ lw_all := lw_g (lw_at lw_m5 90 rfl) rfl
theorem q1119 : (Jvm.Cond.code ({ cls := "LineEchoes", name := "setBench", desc := "(III)I" } : Jvm.MethodName) prog_1_method_14_code (6 : Nat) (Option.some Jvm.ClassFile.FieldType.int)) ∈ lw_all := lw_g (lw_at lw_m5 91 rfl) rfl
theorem q1120 : (Jvm.Cond.constantLong "LineEchoes" (128 : Nat) (999 : Int64)) ∈ lw_all := lw_g (lw_at lw_m5 92 rfl) rfl
theorem q1121 : (Jvm.Cond.methodLink "LineEchoes" (130 : Nat) ({ cls := "LineEchoes", name := "inRange", desc := "(JJJ)Z" } : Jvm.MethodName)) ∈ lw_all := lw_g (lw_at lw_m5 93 rfl) rfl
theorem q1122 : (Jvm.Cond.constantLong "LineEchoes" (134 : Nat) (1000 : Int64)) ∈ lw_all := lw_g (lw_at lw_m5 94 rfl) rfl
theorem q1123 : (Jvm.Cond.constantLong "LineEchoes" (136 : Nat) (200 : Int64)) ∈ lw_all := lw_g (lw_at lw_m5 95 rfl) rfl
theorem q1124 : (Jvm.Cond.stringRef "LineEchoes" (138 : Nat) "bench") ∈ lw_tbl := lw_at lw_m5 96 rfl
theorem q1125 : (Jvm.Cond.methodLink "LineEchoes" (140 : Nat) ({ cls := "LineEchoes", name := "requireArgument", desc := "(ZLjava/lang/String;)V" } : Jvm.MethodName)) ∈ lw_all := lw_g (lw_at lw_m5 97 rfl) rfl
theorem q1126 : (Jvm.Cond.methodLink "LineEchoes" (147 : Nat) ({ cls := "LineEchoes$Line", name := "setBench", desc := "(III)V" } : Jvm.MethodName)) ∈ lw_all := lw_g (lw_at lw_m5 98 rfl) rfl
theorem q1131 : (Jvm.Cond.instanceMethod ({ cls := "LineEchoes", name := "addPulse", desc := "(II)I" } : Jvm.MethodName)) ∈ lw_all := lw_g (lw_at lw_m5 103 rfl) rfl
theorem q1132 : (Jvm.Cond.selects "LineEchoes" ({ cls := "LineEchoes", name := "addPulse", desc := "(II)I" } : Jvm.MethodName) ({ cls := "LineEchoes", name := "addPulse", desc := "(II)I" } : Jvm.MethodName)) ∈ lw_all := lw_g (lw_at lw_m5 104 rfl) rfl
theorem q1133 : (Jvm.Cond.code ({ cls := "LineEchoes", name := "addPulse", desc := "(II)I" } : Jvm.MethodName) prog_1_method_15_code (4 : Nat) (Option.some Jvm.ClassFile.FieldType.int)) ∈ lw_all := lw_g (lw_at lw_m5 105 rfl) rfl
theorem q1138 : (Jvm.Cond.instanceMethod ({ cls := "LineEchoes", name := "removePulse", desc := "(I)I" } : Jvm.MethodName)) ∈ lw_all := lw_g (lw_at lw_m5 110 rfl) rfl
theorem q1139 : (Jvm.Cond.selects "LineEchoes" ({ cls := "LineEchoes", name := "removePulse", desc := "(I)I" } : Jvm.MethodName) ({ cls := "LineEchoes", name := "removePulse", desc := "(I)I" } : Jvm.MethodName)) ∈ lw_all := lw_g (lw_at lw_m5 111 rfl) rfl
theorem q1140 : (Jvm.Cond.code ({ cls := "LineEchoes", name := "removePulse", desc := "(I)I" } : Jvm.MethodName) prog_1_method_16_code (3 : Nat) (Option.some Jvm.ClassFile.FieldType.int)) ∈ lw_all := lw_g (lw_at lw_m5 112 rfl) rfl
theorem q1141 : (Jvm.Cond.methodLink "LineEchoes" (154 : Nat) ({ cls := "LineEchoes", name := "requireIndex", desc := "(ZLjava/lang/String;)V" } : Jvm.MethodName)) ∈ lw_all := lw_g (lw_at lw_m5 113 rfl) rfl
theorem q1142 : (Jvm.Cond.stringRef "LineEchoes" (157 : Nat) "the only pulse") ∈ lw_tbl := lw_at lw_m5 114 rfl
theorem q1143 : (Jvm.Cond.methodLink "LineEchoes" (159 : Nat) ({ cls := "LineEchoes", name := "requireState", desc := "(ZLjava/lang/String;)V" } : Jvm.MethodName)) ∈ lw_all := lw_g (lw_at lw_m5 115 rfl) rfl
theorem q1144 : (Jvm.Cond.methodLink "LineEchoes" (162 : Nat) ({ cls := "LineEchoes$Line", name := "removePulse", desc := "(I)V" } : Jvm.MethodName)) ∈ lw_all := lw_g (lw_at lw_m5 116 rfl) rfl
theorem q1152 : (Jvm.Cond.instanceMethod ({ cls := "LineEchoes", name := "part", desc := "(II)I" } : Jvm.MethodName)) ∈ lw_all := lw_g (lw_at lw_m5 124 rfl) rfl
theorem q1153 : (Jvm.Cond.selects "LineEchoes" ({ cls := "LineEchoes", name := "part", desc := "(II)I" } : Jvm.MethodName) ({ cls := "LineEchoes", name := "part", desc := "(II)I" } : Jvm.MethodName)) ∈ lw_all := lw_g (lw_at lw_m5 125 rfl) rfl
theorem q1154 : (Jvm.Cond.code ({ cls := "LineEchoes", name := "part", desc := "(II)I" } : Jvm.MethodName) prog_1_method_18_code (3 : Nat) (Option.some Jvm.ClassFile.FieldType.int)) ∈ lw_all := lw_g (lw_at lw_m5 126 rfl) rfl
theorem q1155 : (Jvm.Cond.methodLink "LineEchoes" (173 : Nat) ({ cls := "LineEchoes$Bench", name := "requirePart", desc := "(I)V" } : Jvm.MethodName)) ∈ lw_all := lw_g (lw_at lw_m5 127 rfl) rfl
theorem q1156 : (Jvm.Cond.constantLong "LineEchoes" (176 : Nat) (2 : Int64)) ∈ lw_all := lw_g (lw_at lw_m5 128 rfl) rfl
theorem q1157 : (Jvm.Cond.stringRef "LineEchoes" (178 : Nat) "what") ∈ lw_tbl := lw_at lw_m5 129 rfl
theorem q1158 : (Jvm.Cond.methodLink "LineEchoes" (180 : Nat) ({ cls := "LineEchoes", name := "partValue", desc := "(II)I" } : Jvm.MethodName)) ∈ lw_all := lw_g (lw_at lw_m5 130 rfl) rfl
theorem q1159 : (Jvm.Cond.privateMethod ({ cls := "LineEchoes", name := "partValue", desc := "(II)I" } : Jvm.MethodName)) ∈ lw_tbl := lw_at lw_m5 131 rfl
theorem q1160 : (Jvm.Cond.instanceMethod ({ cls := "LineEchoes", name := "partValue", desc := "(II)I" } : Jvm.MethodName)) ∈ lw_all := lw_g (lw_at lw_m5 132 rfl) rfl
theorem q1161 : (Jvm.Cond.code ({ cls := "LineEchoes", name := "partValue", desc := "(II)I" } : Jvm.MethodName) prog_1_method_17_code (4 : Nat) (Option.some Jvm.ClassFile.FieldType.int)) ∈ lw_all := lw_g (lw_at lw_m5 133 rfl) rfl
theorem q1166 : (Jvm.Cond.instanceMethod ({ cls := "LineEchoes", name := "bench", desc := "(I)I" } : Jvm.MethodName)) ∈ lw_all := lw_g (lw_at lw_m5 138 rfl) rfl
theorem q1167 : (Jvm.Cond.selects "LineEchoes" ({ cls := "LineEchoes", name := "bench", desc := "(I)I" } : Jvm.MethodName) ({ cls := "LineEchoes", name := "bench", desc := "(I)I" } : Jvm.MethodName)) ∈ lw_all := lw_g (lw_at lw_m5 139 rfl) rfl
theorem q1168 : (Jvm.Cond.code ({ cls := "LineEchoes", name := "bench", desc := "(I)I" } : Jvm.MethodName) prog_1_method_19_code (2 : Nat) (Option.some Jvm.ClassFile.FieldType.int)) ∈ lw_all := lw_g (lw_at lw_m5 140 rfl) rfl
theorem q1169 : (Jvm.Cond.constantLong "LineEchoes" (183 : Nat) (5 : Int64)) ∈ lw_all := lw_g (lw_at lw_m5 141 rfl) rfl
theorem q1174 : (Jvm.Cond.instanceMethod ({ cls := "LineEchoes", name := "echo", desc := "(I)J" } : Jvm.MethodName)) ∈ lw_all := lw_g (lw_at lw_m5 146 rfl) rfl
theorem q1175 : (Jvm.Cond.selects "LineEchoes" ({ cls := "LineEchoes", name := "echo", desc := "(I)J" } : Jvm.MethodName) ({ cls := "LineEchoes", name := "echo", desc := "(I)J" } : Jvm.MethodName)) ∈ lw_all := lw_g (lw_at lw_m5 147 rfl) rfl
theorem q1176 : (Jvm.Cond.code ({ cls := "LineEchoes", name := "echo", desc := "(I)J" } : Jvm.MethodName) prog_1_method_21_code (2 : Nat) (Option.some Jvm.ClassFile.FieldType.long)) ∈ lw_all := lw_g (lw_at lw_m5 148 rfl) rfl
theorem q1177 : (Jvm.Cond.methodLink "LineEchoes" (190 : Nat) ({ cls := "LineEchoes", name := "requireTime", desc := "(I)V" } : Jvm.MethodName)) ∈ lw_all := lw_g (lw_at lw_m5 149 rfl) rfl
theorem q1178 : (Jvm.Cond.privateMethod ({ cls := "LineEchoes", name := "requireTime", desc := "(I)V" } : Jvm.MethodName)) ∈ lw_tbl := lw_at lw_m5 150 rfl
theorem q1179 : (Jvm.Cond.instanceMethod ({ cls := "LineEchoes", name := "requireTime", desc := "(I)V" } : Jvm.MethodName)) ∈ lw_all := lw_g (lw_at lw_m5 151 rfl) rfl
theorem q1180 : (Jvm.Cond.code ({ cls := "LineEchoes", name := "requireTime", desc := "(I)V" } : Jvm.MethodName) prog_1_method_20_code (2 : Nat) (Option.none : Option Jvm.ClassFile.FieldType)) ∈ lw_all := lw_g (lw_at lw_m5 152 rfl) rfl
theorem q1181 : (Jvm.Cond.stringRef "LineEchoes" (188 : Nat) "time") ∈ lw_tbl := lw_at lw_m5 153 rfl
theorem q1186 : (Jvm.Cond.instanceMethod ({ cls := "LineEchoes", name := "echoTime", desc := "(I)I" } : Jvm.MethodName)) ∈ lw_all := lw_g (lw_at lw_m5 158 rfl) rfl
theorem q1187 : (Jvm.Cond.selects "LineEchoes" ({ cls := "LineEchoes", name := "echoTime", desc := "(I)I" } : Jvm.MethodName) ({ cls := "LineEchoes", name := "echoTime", desc := "(I)I" } : Jvm.MethodName)) ∈ lw_all := lw_g (lw_at lw_m5 159 rfl) rfl
theorem q1188 : (Jvm.Cond.code ({ cls := "LineEchoes", name := "echoTime", desc := "(I)I" } : Jvm.MethodName) prog_1_method_23_code (2 : Nat) (Option.some Jvm.ClassFile.FieldType.int)) ∈ lw_all := lw_g (lw_at lw_m5 160 rfl) rfl
theorem q1189 : (Jvm.Cond.stringRef "LineEchoes" (201 : Nat) "index") ∈ lw_tbl := lw_at lw_m5 161 rfl
theorem q1190 : (Jvm.Cond.methodLink "LineEchoes" (203 : Nat) ({ cls := "LineEchoes", name := "timeOf", desc := "(I)I" } : Jvm.MethodName)) ∈ lw_all := lw_g (lw_at lw_m5 162 rfl) rfl
theorem q1191 : (Jvm.Cond.privateMethod ({ cls := "LineEchoes", name := "timeOf", desc := "(I)I" } : Jvm.MethodName)) ∈ lw_tbl := lw_at lw_m5 163 rfl
theorem q1192 : (Jvm.Cond.instanceMethod ({ cls := "LineEchoes", name := "timeOf", desc := "(I)I" } : Jvm.MethodName)) ∈ lw_all := lw_g (lw_at lw_m5 164 rfl) rfl
theorem q1193 : (Jvm.Cond.code ({ cls := "LineEchoes", name := "timeOf", desc := "(I)I" } : Jvm.MethodName) prog_1_method_22_code (4 : Nat) (Option.some Jvm.ClassFile.FieldType.int)) ∈ lw_all := lw_g (lw_at lw_m5 165 rfl) rfl
theorem q1198 : (Jvm.Cond.instanceMethod ({ cls := "LineEchoes", name := "total", desc := "(I)J" } : Jvm.MethodName)) ∈ lw_all := lw_g (lw_at lw_m5 170 rfl) rfl
theorem q1199 : (Jvm.Cond.selects "LineEchoes" ({ cls := "LineEchoes", name := "total", desc := "(I)J" } : Jvm.MethodName) ({ cls := "LineEchoes", name := "total", desc := "(I)J" } : Jvm.MethodName)) ∈ lw_all := lw_g (lw_at lw_m5 171 rfl) rfl
theorem q1200 : (Jvm.Cond.code ({ cls := "LineEchoes", name := "total", desc := "(I)J" } : Jvm.MethodName) prog_1_method_24_code (2 : Nat) (Option.some Jvm.ClassFile.FieldType.long)) ∈ lw_all := lw_g (lw_at lw_m5 172 rfl) rfl
theorem q1201 : (Jvm.Cond.constantLong "LineEchoes" (206 : Nat) (8 : Int64)) ∈ lw_all := lw_g (lw_at lw_m5 173 rfl) rfl
theorem q1206 : (Jvm.Cond.instanceMethod ({ cls := "LineEchoes", name := "arrival", desc := "(IIZ)J" } : Jvm.MethodName)) ∈ lw_all := lw_g (lw_at lw_m5 178 rfl) rfl
theorem q1207 : (Jvm.Cond.selects "LineEchoes" ({ cls := "LineEchoes", name := "arrival", desc := "(IIZ)J" } : Jvm.MethodName) ({ cls := "LineEchoes", name := "arrival", desc := "(IIZ)J" } : Jvm.MethodName)) ∈ lw_all := lw_g (lw_at lw_m5 179 rfl) rfl
theorem q1208 : (Jvm.Cond.code ({ cls := "LineEchoes", name := "arrival", desc := "(IIZ)J" } : Jvm.MethodName) prog_1_method_25_code (4 : Nat) (Option.some Jvm.ClassFile.FieldType.long)) ∈ lw_all := lw_g (lw_at lw_m5 180 rfl) rfl
theorem q1209 : (Jvm.Cond.stringRef "LineEchoes" (211 : Nat) "joint") ∈ lw_tbl := lw_at lw_m5 181 rfl
theorem q1210 : (Jvm.Cond.methodLink "LineEchoes" (213 : Nat) ({ cls := "LineEchoes$Runner", name := "arrival", desc := "(IIZ)J" } : Jvm.MethodName)) ∈ lw_all := lw_g (lw_at lw_m5 182 rfl) rfl
theorem q1218 : (Jvm.Cond.instanceMethod ({ cls := "LineEchoes", name := "echoByte", desc := "(I)I" } : Jvm.MethodName)) ∈ lw_all := lw_g (lw_at lw_m5 190 rfl) rfl
theorem q1219 : (Jvm.Cond.selects "LineEchoes" ({ cls := "LineEchoes", name := "echoByte", desc := "(I)I" } : Jvm.MethodName) ({ cls := "LineEchoes", name := "echoByte", desc := "(I)I" } : Jvm.MethodName)) ∈ lw_all := lw_g (lw_at lw_m5 191 rfl) rfl
theorem q1220 : (Jvm.Cond.code ({ cls := "LineEchoes", name := "echoByte", desc := "(I)I" } : Jvm.MethodName) prog_1_method_26_code (3 : Nat) (Option.some Jvm.ClassFile.FieldType.int)) ∈ lw_all := lw_g (lw_at lw_m5 192 rfl) rfl
theorem q1221 : (Jvm.Cond.methodLink "LineEchoes" (217 : Nat) ({ cls := "LineEchoes$Runner", name := "text", desc := "()Ljava/lang/String;" } : Jvm.MethodName)) ∈ lw_all := lw_g (lw_at lw_m5 193 rfl) rfl
theorem q1257 : (Jvm.Cond.methodLink "LineEchoes" (221 : Nat) ({ cls := "java/lang/String", name := "length", desc := "()I" } : Jvm.MethodName)) ∈ lw_all := lw_g (lw_at lw_m5 229 rfl) rfl
theorem q1258 : (Jvm.Cond.methodLink "LineEchoes" (224 : Nat) ({ cls := "java/lang/String", name := "charAt", desc := "(I)C" } : Jvm.MethodName)) ∈ lw_all := lw_g (lw_at lw_m5 230 rfl) rfl
theorem q1273 : (Jvm.Cond.instanceMethod ({ cls := "LineEchoes", name := "fault", desc := "(I)I" } : Jvm.MethodName)) ∈ lw_all := lw_g (lw_at lw_m6 5 rfl) rfl
theorem q1274 : (Jvm.Cond.selects "LineEchoes" ({ cls := "LineEchoes", name := "fault", desc := "(I)I" } : Jvm.MethodName) ({ cls := "LineEchoes", name := "fault", desc := "(I)I" } : Jvm.MethodName)) ∈ lw_all := lw_g (lw_at lw_m6 6 rfl) rfl
theorem q1275 : (Jvm.Cond.code ({ cls := "LineEchoes", name := "fault", desc := "(I)I" } : Jvm.MethodName) prog_1_method_29_code (2 : Nat) (Option.some Jvm.ClassFile.FieldType.int)) ∈ lw_all := lw_g (lw_at lw_m6 7 rfl) rfl
theorem q1276 : (Jvm.Cond.constantLong "LineEchoes" (231 : Nat) (3 : Int64)) ∈ lw_all := lw_g (lw_at lw_m6 8 rfl) rfl
theorem q1281 : (Jvm.Cond.instanceMethod ({ cls := "LineEchoes", name := "setObserved", desc := "(IJ)J" } : Jvm.MethodName)) ∈ lw_all := lw_g (lw_at lw_m6 13 rfl) rfl
theorem q1282 : (Jvm.Cond.selects "LineEchoes" ({ cls := "LineEchoes", name := "setObserved", desc := "(IJ)J" } : Jvm.MethodName) ({ cls := "LineEchoes", name := "setObserved", desc := "(IJ)J" } : Jvm.MethodName)) ∈ lw_all := lw_g (lw_at lw_m6 14 rfl) rfl
theorem q1283 : (Jvm.Cond.code ({ cls := "LineEchoes", name := "setObserved", desc := "(IJ)J" } : Jvm.MethodName) prog_1_method_32_code (8 : Nat) (Option.some Jvm.ClassFile.FieldType.long)) ∈ lw_all := lw_g (lw_at lw_m6 15 rfl) rfl
theorem q1284 : (Jvm.Cond.methodLink "LineEchoes" (237 : Nat) ({ cls := "LineEchoes", name := "requireObserved", desc := "(I)V" } : Jvm.MethodName)) ∈ lw_all := lw_g (lw_at lw_m6 16 rfl) rfl
theorem q1285 : (Jvm.Cond.static ({ cls := "LineEchoes", name := "requireObserved", desc := "(I)V" } : Jvm.MethodName)) ∈ lw_all := lw_g (lw_at lw_m6 17 rfl) rfl
theorem q1286 : (Jvm.Cond.code ({ cls := "LineEchoes", name := "requireObserved", desc := "(I)V" } : Jvm.MethodName) prog_1_method_31_code (1 : Nat) (Option.none : Option Jvm.ClassFile.FieldType)) ∈ lw_all := lw_g (lw_at lw_m6 18 rfl) rfl
theorem q1287 : (Jvm.Cond.constantLong "LineEchoes" (240 : Nat) (4000000 : Int64)) ∈ lw_all := lw_g (lw_at lw_m6 19 rfl) rfl
theorem q1288 : (Jvm.Cond.stringRef "LineEchoes" (242 : Nat) "energy") ∈ lw_tbl := lw_at lw_m6 20 rfl
theorem q1289 : (Jvm.Cond.methodLink "LineEchoes" (251 : Nat) ({ cls := "LineEchoes$Kept", name := "with", desc := "(IJ)LLineEchoes$Kept;" } : Jvm.MethodName)) ∈ lw_all := lw_g (lw_at lw_m6 21 rfl) rfl
theorem q1298 : (Jvm.Cond.instanceMethod ({ cls := "LineEchoes", name := "observed", desc := "(I)J" } : Jvm.MethodName)) ∈ lw_all := lw_g (lw_at lw_m6 30 rfl) rfl
theorem q1299 : (Jvm.Cond.selects "LineEchoes" ({ cls := "LineEchoes", name := "observed", desc := "(I)J" } : Jvm.MethodName) ({ cls := "LineEchoes", name := "observed", desc := "(I)J" } : Jvm.MethodName)) ∈ lw_all := lw_g (lw_at lw_m6 31 rfl) rfl
theorem q1300 : (Jvm.Cond.code ({ cls := "LineEchoes", name := "observed", desc := "(I)J" } : Jvm.MethodName) prog_1_method_33_code (2 : Nat) (Option.some Jvm.ClassFile.FieldType.long)) ∈ lw_all := lw_g (lw_at lw_m6 32 rfl) rfl
theorem q1305 : (Jvm.Cond.instanceMethod ({ cls := "LineEchoes", name := "peel", desc := "(I)I" } : Jvm.MethodName)) ∈ lw_all := lw_g (lw_at lw_m6 37 rfl) rfl
theorem q1306 : (Jvm.Cond.selects "LineEchoes" ({ cls := "LineEchoes", name := "peel", desc := "(I)I" } : Jvm.MethodName) ({ cls := "LineEchoes", name := "peel", desc := "(I)I" } : Jvm.MethodName)) ∈ lw_all := lw_g (lw_at lw_m6 38 rfl) rfl
theorem q1307 : (Jvm.Cond.code ({ cls := "LineEchoes", name := "peel", desc := "(I)I" } : Jvm.MethodName) prog_1_method_35_code (2 : Nat) (Option.some Jvm.ClassFile.FieldType.int)) ∈ lw_all := lw_g (lw_at lw_m6 39 rfl) rfl
theorem q1312 : (Jvm.Cond.instanceMethod ({ cls := "LineEchoes", name := "found", desc := "(II)I" } : Jvm.MethodName)) ∈ lw_all := lw_g (lw_at lw_m6 44 rfl) rfl
theorem q1313 : (Jvm.Cond.selects "LineEchoes" ({ cls := "LineEchoes", name := "found", desc := "(II)I" } : Jvm.MethodName) ({ cls := "LineEchoes", name := "found", desc := "(II)I" } : Jvm.MethodName)) ∈ lw_all := lw_g (lw_at lw_m6 45 rfl) rfl
theorem q1314 : (Jvm.Cond.code ({ cls := "LineEchoes", name := "found", desc := "(II)I" } : Jvm.MethodName) prog_1_method_37_code (3 : Nat) (Option.some Jvm.ClassFile.FieldType.int)) ∈ lw_all := lw_g (lw_at lw_m6 46 rfl) rfl
theorem q1315 : (Jvm.Cond.stringRef "LineEchoes" (266 : Nat) "part or what") ∈ lw_tbl := lw_at lw_m6 47 rfl
theorem q1320 : (Jvm.Cond.instanceMethod ({ cls := "LineEchoes", name := "type", desc := "(I)I" } : Jvm.MethodName)) ∈ lw_all := lw_g (lw_at lw_m6 52 rfl) rfl
theorem q1321 : (Jvm.Cond.selects "LineEchoes" ({ cls := "LineEchoes", name := "type", desc := "(I)I" } : Jvm.MethodName) ({ cls := "LineEchoes", name := "type", desc := "(I)I" } : Jvm.MethodName)) ∈ lw_all := lw_g (lw_at lw_m6 53 rfl) rfl
theorem q1322 : (Jvm.Cond.code ({ cls := "LineEchoes", name := "type", desc := "(I)I" } : Jvm.MethodName) prog_1_method_39_code (2 : Nat) (Option.some Jvm.ClassFile.FieldType.int)) ∈ lw_all := lw_g (lw_at lw_m6 54 rfl) rfl
theorem q1323 : (Jvm.Cond.constantLong "LineEchoes" (273 : Nat) (127 : Int64)) ∈ lw_all := lw_g (lw_at lw_m6 55 rfl) rfl
theorem q1324 : (Jvm.Cond.stringRef "LineEchoes" (275 : Nat) "byte") ∈ lw_tbl := lw_at lw_m6 56 rfl
theorem q1325 : (Jvm.Cond.stringRef "LineEchoes" (280 : Nat) "script") ∈ lw_tbl := lw_at lw_m6 57 rfl
theorem q1330 : (Jvm.Cond.instanceMethod ({ cls := "LineEchoes", name := "undo", desc := "()I" } : Jvm.MethodName)) ∈ lw_all := lw_g (lw_at lw_m6 62 rfl) rfl
theorem q1331 : (Jvm.Cond.selects "LineEchoes" ({ cls := "LineEchoes", name := "undo", desc := "()I" } : Jvm.MethodName) ({ cls := "LineEchoes", name := "undo", desc := "()I" } : Jvm.MethodName)) ∈ lw_all := lw_g (lw_at lw_m6 63 rfl) rfl
theorem q1332 : (Jvm.Cond.code ({ cls := "LineEchoes", name := "undo", desc := "()I" } : Jvm.MethodName) prog_1_method_43_code (1 : Nat) (Option.some Jvm.ClassFile.FieldType.int)) ∈ lw_all := lw_g (lw_at lw_m6 64 rfl) rfl
theorem q1333 : (Jvm.Cond.stringRef "LineEchoes" (299 : Nat) "nothing saved") ∈ lw_tbl := lw_at lw_m6 65 rfl
theorem in_X1 : ∀ w ∈ wsX10, w ∈ lw_all := lw_in wsX10 [249, 251, 253, 255, 257, 259] (by decide +kernel) (by decide +kernel)

/-! LineEchoesLaw -/
set_option maxRecDepth 100000
def RX0 : String := "LineEchoesLaw"
abbrev cX0_addPart : ByteArray := method_3_code
def yX0_addPart : MethodName := ⟨RX0, "addPart", "(LLineEchoes;II[J)I"⟩
def dkwX0_addPart_0 : List UInt8 := [45, 3, 42, 27, 28, 182, 0, 7, 133, 80, 167, 0, 11, 58, 4, 4, 172, 58, 4, 5, 172, 3, 172]
abbrev dktX0_addPart_0 : List UInt8 := dkwX0_addPart_0 ++ []
theorem dksX0_addPart_0 : cX0_addPart.data.toList.drop 0 = dktX0_addPart_0 := by decide +kernel
theorem dX0_addPart_0 : decode cX0_addPart 0 = .ok (.aload_n 3, 1) := dk_45 (dk_at dksX0_addPart_0 0 rfl rfl)
theorem dX0_addPart_1 : decode cX0_addPart 1 = .ok (.iconst 0, 1) := dk_3 (dk_at dksX0_addPart_0 1 rfl rfl)
theorem dX0_addPart_2 : decode cX0_addPart 2 = .ok (.aload_n 0, 1) := dk_42 (dk_at dksX0_addPart_0 2 rfl rfl)
theorem dX0_addPart_3 : decode cX0_addPart 3 = .ok (.iload_n 1, 1) := dk_27 (dk_at dksX0_addPart_0 3 rfl rfl)
theorem dX0_addPart_4 : decode cX0_addPart 4 = .ok (.iload_n 2, 1) := dk_28 (dk_at dksX0_addPart_0 4 rfl rfl)
theorem dX0_addPart_5 : decode cX0_addPart 5 = .ok (.invokevirtual 7, 3) := dk_182 0 7 (dk_at dksX0_addPart_0 5 rfl rfl)
theorem dX0_addPart_8 : decode cX0_addPart 8 = .ok (.i2l, 1) := dk_133 (dk_at dksX0_addPart_0 8 rfl rfl)
theorem dX0_addPart_9 : decode cX0_addPart 9 = .ok (.lastore, 1) := dk_80 (dk_at dksX0_addPart_0 9 rfl rfl)
theorem dX0_addPart_10 : decode cX0_addPart 10 = .ok (.goto 11, 3) := dk_167 0 11 (dk_at dksX0_addPart_0 10 rfl rfl)
theorem dX0_addPart_13 : decode cX0_addPart 13 = .ok (.astore 4, 2) := dk_58 4 (dk_at dksX0_addPart_0 13 rfl rfl)
theorem dX0_addPart_15 : decode cX0_addPart 15 = .ok (.iconst 1, 1) := dk_4 (dk_at dksX0_addPart_0 15 rfl rfl)
theorem dX0_addPart_16 : decode cX0_addPart 16 = .ok (.ireturn, 1) := dk_172 (dk_at dksX0_addPart_0 16 rfl rfl)
theorem dX0_addPart_17 : decode cX0_addPart 17 = .ok (.astore 4, 2) := dk_58 4 (dk_at dksX0_addPart_0 17 rfl rfl)
theorem dX0_addPart_19 : decode cX0_addPart 19 = .ok (.iconst 2, 1) := dk_5 (dk_at dksX0_addPart_0 19 rfl rfl)
theorem dX0_addPart_20 : decode cX0_addPart 20 = .ok (.ireturn, 1) := dk_172 (dk_at dksX0_addPart_0 20 rfl rfl)
theorem dX0_addPart_21 : decode cX0_addPart 21 = .ok (.iconst 0, 1) := dk_3 (dk_at dksX0_addPart_0 21 rfl rfl)
theorem dX0_addPart_22 : decode cX0_addPart 22 = .ok (.ireturn, 1) := dk_172 (dk_at dksX0_addPart_0 22 rfl rfl)
abbrev cX0_setPart : ByteArray := method_4_code
def yX0_setPart : MethodName := ⟨RX0, "setPart", "(LLineEchoes;III[J)I"⟩
def dkwX0_setPart_1 : List UInt8 := [172]
abbrev dktX0_setPart_1 : List UInt8 := dkwX0_setPart_1 ++ []
def dkwX0_setPart_0 : List UInt8 := [25, 4, 3, 42, 27, 28, 29, 182, 0, 17, 133, 80, 167, 0, 11, 58, 5, 4, 172, 58, 5, 5, 172, 3]
abbrev dktX0_setPart_0 : List UInt8 := dkwX0_setPart_0 ++ dktX0_setPart_1
theorem dksX0_setPart_0 : cX0_setPart.data.toList.drop 0 = dktX0_setPart_0 := by decide +kernel
theorem dksX0_setPart_1 : cX0_setPart.data.toList.drop 24 = dktX0_setPart_1 := dk_seg dksX0_setPart_0 24 rfl rfl
theorem dX0_setPart_0 : decode cX0_setPart 0 = .ok (.aload 4, 2) := dk_25 4 (dk_at dksX0_setPart_0 0 rfl rfl)
theorem dX0_setPart_2 : decode cX0_setPart 2 = .ok (.iconst 0, 1) := dk_3 (dk_at dksX0_setPart_0 2 rfl rfl)
theorem dX0_setPart_3 : decode cX0_setPart 3 = .ok (.aload_n 0, 1) := dk_42 (dk_at dksX0_setPart_0 3 rfl rfl)
theorem dX0_setPart_4 : decode cX0_setPart 4 = .ok (.iload_n 1, 1) := dk_27 (dk_at dksX0_setPart_0 4 rfl rfl)
theorem dX0_setPart_5 : decode cX0_setPart 5 = .ok (.iload_n 2, 1) := dk_28 (dk_at dksX0_setPart_0 5 rfl rfl)
theorem dX0_setPart_6 : decode cX0_setPart 6 = .ok (.iload_n 3, 1) := dk_29 (dk_at dksX0_setPart_0 6 rfl rfl)
theorem dX0_setPart_7 : decode cX0_setPart 7 = .ok (.invokevirtual 17, 3) := dk_182 0 17 (dk_at dksX0_setPart_0 7 rfl rfl)
theorem dX0_setPart_10 : decode cX0_setPart 10 = .ok (.i2l, 1) := dk_133 (dk_at dksX0_setPart_0 10 rfl rfl)
theorem dX0_setPart_11 : decode cX0_setPart 11 = .ok (.lastore, 1) := dk_80 (dk_at dksX0_setPart_0 11 rfl rfl)
theorem dX0_setPart_12 : decode cX0_setPart 12 = .ok (.goto 11, 3) := dk_167 0 11 (dk_at dksX0_setPart_0 12 rfl rfl)
theorem dX0_setPart_15 : decode cX0_setPart 15 = .ok (.astore 5, 2) := dk_58 5 (dk_at dksX0_setPart_0 15 rfl rfl)
theorem dX0_setPart_17 : decode cX0_setPart 17 = .ok (.iconst 1, 1) := dk_4 (dk_at dksX0_setPart_0 17 rfl rfl)
theorem dX0_setPart_18 : decode cX0_setPart 18 = .ok (.ireturn, 1) := dk_172 (dk_at dksX0_setPart_0 18 rfl rfl)
theorem dX0_setPart_19 : decode cX0_setPart 19 = .ok (.astore 5, 2) := dk_58 5 (dk_at dksX0_setPart_0 19 rfl rfl)
theorem dX0_setPart_21 : decode cX0_setPart 21 = .ok (.iconst 2, 1) := dk_5 (dk_at dksX0_setPart_0 21 rfl rfl)
theorem dX0_setPart_22 : decode cX0_setPart 22 = .ok (.ireturn, 1) := dk_172 (dk_at dksX0_setPart_0 22 rfl rfl)
theorem dX0_setPart_23 : decode cX0_setPart 23 = .ok (.iconst 0, 1) := dk_3 (dk_at dksX0_setPart_0 23 rfl rfl)
theorem dX0_setPart_24 : decode cX0_setPart 24 = .ok (.ireturn, 1) := dk_172 (dk_at dksX0_setPart_1 0 rfl rfl)
abbrev cX0_removePart : ByteArray := method_5_code
def yX0_removePart : MethodName := ⟨RX0, "removePart", "(LLineEchoes;I[J)I"⟩
def dkwX0_removePart_0 : List UInt8 := [44, 3, 42, 27, 182, 0, 23, 133, 80, 167, 0, 6, 78, 4, 172, 3, 172]
abbrev dktX0_removePart_0 : List UInt8 := dkwX0_removePart_0 ++ []
theorem dksX0_removePart_0 : cX0_removePart.data.toList.drop 0 = dktX0_removePart_0 := by decide +kernel
theorem dX0_removePart_0 : decode cX0_removePart 0 = .ok (.aload_n 2, 1) := dk_44 (dk_at dksX0_removePart_0 0 rfl rfl)
theorem dX0_removePart_1 : decode cX0_removePart 1 = .ok (.iconst 0, 1) := dk_3 (dk_at dksX0_removePart_0 1 rfl rfl)
theorem dX0_removePart_2 : decode cX0_removePart 2 = .ok (.aload_n 0, 1) := dk_42 (dk_at dksX0_removePart_0 2 rfl rfl)
theorem dX0_removePart_3 : decode cX0_removePart 3 = .ok (.iload_n 1, 1) := dk_27 (dk_at dksX0_removePart_0 3 rfl rfl)
theorem dX0_removePart_4 : decode cX0_removePart 4 = .ok (.invokevirtual 23, 3) := dk_182 0 23 (dk_at dksX0_removePart_0 4 rfl rfl)
theorem dX0_removePart_7 : decode cX0_removePart 7 = .ok (.i2l, 1) := dk_133 (dk_at dksX0_removePart_0 7 rfl rfl)
theorem dX0_removePart_8 : decode cX0_removePart 8 = .ok (.lastore, 1) := dk_80 (dk_at dksX0_removePart_0 8 rfl rfl)
theorem dX0_removePart_9 : decode cX0_removePart 9 = .ok (.goto 6, 3) := dk_167 0 6 (dk_at dksX0_removePart_0 9 rfl rfl)
theorem dX0_removePart_12 : decode cX0_removePart 12 = .ok (.astore_n 3, 1) := dk_78 (dk_at dksX0_removePart_0 12 rfl rfl)
theorem dX0_removePart_13 : decode cX0_removePart 13 = .ok (.iconst 1, 1) := dk_4 (dk_at dksX0_removePart_0 13 rfl rfl)
theorem dX0_removePart_14 : decode cX0_removePart 14 = .ok (.ireturn, 1) := dk_172 (dk_at dksX0_removePart_0 14 rfl rfl)
theorem dX0_removePart_15 : decode cX0_removePart 15 = .ok (.iconst 0, 1) := dk_3 (dk_at dksX0_removePart_0 15 rfl rfl)
theorem dX0_removePart_16 : decode cX0_removePart 16 = .ok (.ireturn, 1) := dk_172 (dk_at dksX0_removePart_0 16 rfl rfl)
abbrev cX0_splitPart : ByteArray := method_6_code
def yX0_splitPart : MethodName := ⟨RX0, "splitPart", "(LLineEchoes;III[J)I"⟩
def dkwX0_splitPart_1 : List UInt8 := [58, 5, 6, 172, 3, 172]
abbrev dktX0_splitPart_1 : List UInt8 := dkwX0_splitPart_1 ++ []
def dkwX0_splitPart_0 : List UInt8 := [25, 4, 3, 42, 27, 28, 29, 182, 0, 27, 133, 80, 167, 0, 15, 58, 5, 4, 172, 58, 5, 5, 172]
abbrev dktX0_splitPart_0 : List UInt8 := dkwX0_splitPart_0 ++ dktX0_splitPart_1
theorem dksX0_splitPart_0 : cX0_splitPart.data.toList.drop 0 = dktX0_splitPart_0 := by decide +kernel
theorem dksX0_splitPart_1 : cX0_splitPart.data.toList.drop 23 = dktX0_splitPart_1 := dk_seg dksX0_splitPart_0 23 rfl rfl
theorem dX0_splitPart_0 : decode cX0_splitPart 0 = .ok (.aload 4, 2) := dk_25 4 (dk_at dksX0_splitPart_0 0 rfl rfl)
theorem dX0_splitPart_2 : decode cX0_splitPart 2 = .ok (.iconst 0, 1) := dk_3 (dk_at dksX0_splitPart_0 2 rfl rfl)
theorem dX0_splitPart_3 : decode cX0_splitPart 3 = .ok (.aload_n 0, 1) := dk_42 (dk_at dksX0_splitPart_0 3 rfl rfl)
theorem dX0_splitPart_4 : decode cX0_splitPart 4 = .ok (.iload_n 1, 1) := dk_27 (dk_at dksX0_splitPart_0 4 rfl rfl)
theorem dX0_splitPart_5 : decode cX0_splitPart 5 = .ok (.iload_n 2, 1) := dk_28 (dk_at dksX0_splitPart_0 5 rfl rfl)
theorem dX0_splitPart_6 : decode cX0_splitPart 6 = .ok (.iload_n 3, 1) := dk_29 (dk_at dksX0_splitPart_0 6 rfl rfl)
theorem dX0_splitPart_7 : decode cX0_splitPart 7 = .ok (.invokevirtual 27, 3) := dk_182 0 27 (dk_at dksX0_splitPart_0 7 rfl rfl)
theorem dX0_splitPart_10 : decode cX0_splitPart 10 = .ok (.i2l, 1) := dk_133 (dk_at dksX0_splitPart_0 10 rfl rfl)
theorem dX0_splitPart_11 : decode cX0_splitPart 11 = .ok (.lastore, 1) := dk_80 (dk_at dksX0_splitPart_0 11 rfl rfl)
theorem dX0_splitPart_12 : decode cX0_splitPart 12 = .ok (.goto 15, 3) := dk_167 0 15 (dk_at dksX0_splitPart_0 12 rfl rfl)
theorem dX0_splitPart_15 : decode cX0_splitPart 15 = .ok (.astore 5, 2) := dk_58 5 (dk_at dksX0_splitPart_0 15 rfl rfl)
theorem dX0_splitPart_17 : decode cX0_splitPart 17 = .ok (.iconst 1, 1) := dk_4 (dk_at dksX0_splitPart_0 17 rfl rfl)
theorem dX0_splitPart_18 : decode cX0_splitPart 18 = .ok (.ireturn, 1) := dk_172 (dk_at dksX0_splitPart_0 18 rfl rfl)
theorem dX0_splitPart_19 : decode cX0_splitPart 19 = .ok (.astore 5, 2) := dk_58 5 (dk_at dksX0_splitPart_0 19 rfl rfl)
theorem dX0_splitPart_21 : decode cX0_splitPart 21 = .ok (.iconst 2, 1) := dk_5 (dk_at dksX0_splitPart_0 21 rfl rfl)
theorem dX0_splitPart_22 : decode cX0_splitPart 22 = .ok (.ireturn, 1) := dk_172 (dk_at dksX0_splitPart_0 22 rfl rfl)
theorem dX0_splitPart_23 : decode cX0_splitPart 23 = .ok (.astore 5, 2) := dk_58 5 (dk_at dksX0_splitPart_1 0 rfl rfl)
theorem dX0_splitPart_25 : decode cX0_splitPart 25 = .ok (.iconst 3, 1) := dk_6 (dk_at dksX0_splitPart_1 2 rfl rfl)
theorem dX0_splitPart_26 : decode cX0_splitPart 26 = .ok (.ireturn, 1) := dk_172 (dk_at dksX0_splitPart_1 3 rfl rfl)
theorem dX0_splitPart_27 : decode cX0_splitPart 27 = .ok (.iconst 0, 1) := dk_3 (dk_at dksX0_splitPart_1 4 rfl rfl)
theorem dX0_splitPart_28 : decode cX0_splitPart 28 = .ok (.ireturn, 1) := dk_172 (dk_at dksX0_splitPart_1 5 rfl rfl)
abbrev cX0_setBench : ByteArray := method_7_code
def yX0_setBench : MethodName := ⟨RX0, "setBench", "(LLineEchoes;III[J)I"⟩
def dkwX0_setBench_0 : List UInt8 := [25, 4, 3, 42, 27, 28, 29, 182, 0, 30, 133, 80, 167, 0, 7, 58, 5, 4, 172, 3, 172]
abbrev dktX0_setBench_0 : List UInt8 := dkwX0_setBench_0 ++ []
theorem dksX0_setBench_0 : cX0_setBench.data.toList.drop 0 = dktX0_setBench_0 := by decide +kernel
theorem dX0_setBench_0 : decode cX0_setBench 0 = .ok (.aload 4, 2) := dk_25 4 (dk_at dksX0_setBench_0 0 rfl rfl)
theorem dX0_setBench_2 : decode cX0_setBench 2 = .ok (.iconst 0, 1) := dk_3 (dk_at dksX0_setBench_0 2 rfl rfl)
theorem dX0_setBench_3 : decode cX0_setBench 3 = .ok (.aload_n 0, 1) := dk_42 (dk_at dksX0_setBench_0 3 rfl rfl)
theorem dX0_setBench_4 : decode cX0_setBench 4 = .ok (.iload_n 1, 1) := dk_27 (dk_at dksX0_setBench_0 4 rfl rfl)
theorem dX0_setBench_5 : decode cX0_setBench 5 = .ok (.iload_n 2, 1) := dk_28 (dk_at dksX0_setBench_0 5 rfl rfl)
theorem dX0_setBench_6 : decode cX0_setBench 6 = .ok (.iload_n 3, 1) := dk_29 (dk_at dksX0_setBench_0 6 rfl rfl)
theorem dX0_setBench_7 : decode cX0_setBench 7 = .ok (.invokevirtual 30, 3) := dk_182 0 30 (dk_at dksX0_setBench_0 7 rfl rfl)
theorem dX0_setBench_10 : decode cX0_setBench 10 = .ok (.i2l, 1) := dk_133 (dk_at dksX0_setBench_0 10 rfl rfl)
theorem dX0_setBench_11 : decode cX0_setBench 11 = .ok (.lastore, 1) := dk_80 (dk_at dksX0_setBench_0 11 rfl rfl)
theorem dX0_setBench_12 : decode cX0_setBench 12 = .ok (.goto 7, 3) := dk_167 0 7 (dk_at dksX0_setBench_0 12 rfl rfl)
theorem dX0_setBench_15 : decode cX0_setBench 15 = .ok (.astore 5, 2) := dk_58 5 (dk_at dksX0_setBench_0 15 rfl rfl)
theorem dX0_setBench_17 : decode cX0_setBench 17 = .ok (.iconst 1, 1) := dk_4 (dk_at dksX0_setBench_0 17 rfl rfl)
theorem dX0_setBench_18 : decode cX0_setBench 18 = .ok (.ireturn, 1) := dk_172 (dk_at dksX0_setBench_0 18 rfl rfl)
theorem dX0_setBench_19 : decode cX0_setBench 19 = .ok (.iconst 0, 1) := dk_3 (dk_at dksX0_setBench_0 19 rfl rfl)
theorem dX0_setBench_20 : decode cX0_setBench 20 = .ok (.ireturn, 1) := dk_172 (dk_at dksX0_setBench_0 20 rfl rfl)
abbrev cX0_addPulse : ByteArray := method_8_code
def yX0_addPulse : MethodName := ⟨RX0, "addPulse", "(LLineEchoes;II[J)I"⟩
def dkwX0_addPulse_0 : List UInt8 := [45, 3, 42, 27, 28, 182, 0, 33, 133, 80, 167, 0, 11, 58, 4, 4, 172, 58, 4, 5, 172, 3, 172]
abbrev dktX0_addPulse_0 : List UInt8 := dkwX0_addPulse_0 ++ []
theorem dksX0_addPulse_0 : cX0_addPulse.data.toList.drop 0 = dktX0_addPulse_0 := by decide +kernel
theorem dX0_addPulse_0 : decode cX0_addPulse 0 = .ok (.aload_n 3, 1) := dk_45 (dk_at dksX0_addPulse_0 0 rfl rfl)
theorem dX0_addPulse_1 : decode cX0_addPulse 1 = .ok (.iconst 0, 1) := dk_3 (dk_at dksX0_addPulse_0 1 rfl rfl)
theorem dX0_addPulse_2 : decode cX0_addPulse 2 = .ok (.aload_n 0, 1) := dk_42 (dk_at dksX0_addPulse_0 2 rfl rfl)
theorem dX0_addPulse_3 : decode cX0_addPulse 3 = .ok (.iload_n 1, 1) := dk_27 (dk_at dksX0_addPulse_0 3 rfl rfl)
theorem dX0_addPulse_4 : decode cX0_addPulse 4 = .ok (.iload_n 2, 1) := dk_28 (dk_at dksX0_addPulse_0 4 rfl rfl)
theorem dX0_addPulse_5 : decode cX0_addPulse 5 = .ok (.invokevirtual 33, 3) := dk_182 0 33 (dk_at dksX0_addPulse_0 5 rfl rfl)
theorem dX0_addPulse_8 : decode cX0_addPulse 8 = .ok (.i2l, 1) := dk_133 (dk_at dksX0_addPulse_0 8 rfl rfl)
theorem dX0_addPulse_9 : decode cX0_addPulse 9 = .ok (.lastore, 1) := dk_80 (dk_at dksX0_addPulse_0 9 rfl rfl)
theorem dX0_addPulse_10 : decode cX0_addPulse 10 = .ok (.goto 11, 3) := dk_167 0 11 (dk_at dksX0_addPulse_0 10 rfl rfl)
theorem dX0_addPulse_13 : decode cX0_addPulse 13 = .ok (.astore 4, 2) := dk_58 4 (dk_at dksX0_addPulse_0 13 rfl rfl)
theorem dX0_addPulse_15 : decode cX0_addPulse 15 = .ok (.iconst 1, 1) := dk_4 (dk_at dksX0_addPulse_0 15 rfl rfl)
theorem dX0_addPulse_16 : decode cX0_addPulse 16 = .ok (.ireturn, 1) := dk_172 (dk_at dksX0_addPulse_0 16 rfl rfl)
theorem dX0_addPulse_17 : decode cX0_addPulse 17 = .ok (.astore 4, 2) := dk_58 4 (dk_at dksX0_addPulse_0 17 rfl rfl)
theorem dX0_addPulse_19 : decode cX0_addPulse 19 = .ok (.iconst 2, 1) := dk_5 (dk_at dksX0_addPulse_0 19 rfl rfl)
theorem dX0_addPulse_20 : decode cX0_addPulse 20 = .ok (.ireturn, 1) := dk_172 (dk_at dksX0_addPulse_0 20 rfl rfl)
theorem dX0_addPulse_21 : decode cX0_addPulse 21 = .ok (.iconst 0, 1) := dk_3 (dk_at dksX0_addPulse_0 21 rfl rfl)
theorem dX0_addPulse_22 : decode cX0_addPulse 22 = .ok (.ireturn, 1) := dk_172 (dk_at dksX0_addPulse_0 22 rfl rfl)
abbrev cX0_removePulse : ByteArray := method_9_code
def yX0_removePulse : MethodName := ⟨RX0, "removePulse", "(LLineEchoes;I[J)I"⟩
def dkwX0_removePulse_0 : List UInt8 := [44, 3, 42, 27, 182, 0, 36, 133, 80, 167, 0, 9, 78, 4, 172, 78, 5, 172, 3, 172]
abbrev dktX0_removePulse_0 : List UInt8 := dkwX0_removePulse_0 ++ []
theorem dksX0_removePulse_0 : cX0_removePulse.data.toList.drop 0 = dktX0_removePulse_0 := by decide +kernel
theorem dX0_removePulse_0 : decode cX0_removePulse 0 = .ok (.aload_n 2, 1) := dk_44 (dk_at dksX0_removePulse_0 0 rfl rfl)
theorem dX0_removePulse_1 : decode cX0_removePulse 1 = .ok (.iconst 0, 1) := dk_3 (dk_at dksX0_removePulse_0 1 rfl rfl)
theorem dX0_removePulse_2 : decode cX0_removePulse 2 = .ok (.aload_n 0, 1) := dk_42 (dk_at dksX0_removePulse_0 2 rfl rfl)
theorem dX0_removePulse_3 : decode cX0_removePulse 3 = .ok (.iload_n 1, 1) := dk_27 (dk_at dksX0_removePulse_0 3 rfl rfl)
theorem dX0_removePulse_4 : decode cX0_removePulse 4 = .ok (.invokevirtual 36, 3) := dk_182 0 36 (dk_at dksX0_removePulse_0 4 rfl rfl)
theorem dX0_removePulse_7 : decode cX0_removePulse 7 = .ok (.i2l, 1) := dk_133 (dk_at dksX0_removePulse_0 7 rfl rfl)
theorem dX0_removePulse_8 : decode cX0_removePulse 8 = .ok (.lastore, 1) := dk_80 (dk_at dksX0_removePulse_0 8 rfl rfl)
theorem dX0_removePulse_9 : decode cX0_removePulse 9 = .ok (.goto 9, 3) := dk_167 0 9 (dk_at dksX0_removePulse_0 9 rfl rfl)
theorem dX0_removePulse_12 : decode cX0_removePulse 12 = .ok (.astore_n 3, 1) := dk_78 (dk_at dksX0_removePulse_0 12 rfl rfl)
theorem dX0_removePulse_13 : decode cX0_removePulse 13 = .ok (.iconst 1, 1) := dk_4 (dk_at dksX0_removePulse_0 13 rfl rfl)
theorem dX0_removePulse_14 : decode cX0_removePulse 14 = .ok (.ireturn, 1) := dk_172 (dk_at dksX0_removePulse_0 14 rfl rfl)
theorem dX0_removePulse_15 : decode cX0_removePulse 15 = .ok (.astore_n 3, 1) := dk_78 (dk_at dksX0_removePulse_0 15 rfl rfl)
theorem dX0_removePulse_16 : decode cX0_removePulse 16 = .ok (.iconst 2, 1) := dk_5 (dk_at dksX0_removePulse_0 16 rfl rfl)
theorem dX0_removePulse_17 : decode cX0_removePulse 17 = .ok (.ireturn, 1) := dk_172 (dk_at dksX0_removePulse_0 17 rfl rfl)
theorem dX0_removePulse_18 : decode cX0_removePulse 18 = .ok (.iconst 0, 1) := dk_3 (dk_at dksX0_removePulse_0 18 rfl rfl)
theorem dX0_removePulse_19 : decode cX0_removePulse 19 = .ok (.ireturn, 1) := dk_172 (dk_at dksX0_removePulse_0 19 rfl rfl)
abbrev cX0_part : ByteArray := method_10_code
def yX0_part : MethodName := ⟨RX0, "part", "(LLineEchoes;II[J)I"⟩
def dkwX0_part_0 : List UInt8 := [45, 3, 42, 27, 28, 182, 0, 39, 133, 80, 167, 0, 11, 58, 4, 4, 172, 58, 4, 5, 172, 3, 172]
abbrev dktX0_part_0 : List UInt8 := dkwX0_part_0 ++ []
theorem dksX0_part_0 : cX0_part.data.toList.drop 0 = dktX0_part_0 := by decide +kernel
theorem dX0_part_0 : decode cX0_part 0 = .ok (.aload_n 3, 1) := dk_45 (dk_at dksX0_part_0 0 rfl rfl)
theorem dX0_part_1 : decode cX0_part 1 = .ok (.iconst 0, 1) := dk_3 (dk_at dksX0_part_0 1 rfl rfl)
theorem dX0_part_2 : decode cX0_part 2 = .ok (.aload_n 0, 1) := dk_42 (dk_at dksX0_part_0 2 rfl rfl)
theorem dX0_part_3 : decode cX0_part 3 = .ok (.iload_n 1, 1) := dk_27 (dk_at dksX0_part_0 3 rfl rfl)
theorem dX0_part_4 : decode cX0_part 4 = .ok (.iload_n 2, 1) := dk_28 (dk_at dksX0_part_0 4 rfl rfl)
theorem dX0_part_5 : decode cX0_part 5 = .ok (.invokevirtual 39, 3) := dk_182 0 39 (dk_at dksX0_part_0 5 rfl rfl)
theorem dX0_part_8 : decode cX0_part 8 = .ok (.i2l, 1) := dk_133 (dk_at dksX0_part_0 8 rfl rfl)
theorem dX0_part_9 : decode cX0_part 9 = .ok (.lastore, 1) := dk_80 (dk_at dksX0_part_0 9 rfl rfl)
theorem dX0_part_10 : decode cX0_part 10 = .ok (.goto 11, 3) := dk_167 0 11 (dk_at dksX0_part_0 10 rfl rfl)
theorem dX0_part_13 : decode cX0_part 13 = .ok (.astore 4, 2) := dk_58 4 (dk_at dksX0_part_0 13 rfl rfl)
theorem dX0_part_15 : decode cX0_part 15 = .ok (.iconst 1, 1) := dk_4 (dk_at dksX0_part_0 15 rfl rfl)
theorem dX0_part_16 : decode cX0_part 16 = .ok (.ireturn, 1) := dk_172 (dk_at dksX0_part_0 16 rfl rfl)
theorem dX0_part_17 : decode cX0_part 17 = .ok (.astore 4, 2) := dk_58 4 (dk_at dksX0_part_0 17 rfl rfl)
theorem dX0_part_19 : decode cX0_part 19 = .ok (.iconst 2, 1) := dk_5 (dk_at dksX0_part_0 19 rfl rfl)
theorem dX0_part_20 : decode cX0_part 20 = .ok (.ireturn, 1) := dk_172 (dk_at dksX0_part_0 20 rfl rfl)
theorem dX0_part_21 : decode cX0_part 21 = .ok (.iconst 0, 1) := dk_3 (dk_at dksX0_part_0 21 rfl rfl)
theorem dX0_part_22 : decode cX0_part 22 = .ok (.ireturn, 1) := dk_172 (dk_at dksX0_part_0 22 rfl rfl)
abbrev cX0_bench : ByteArray := method_11_code
def yX0_bench : MethodName := ⟨RX0, "bench", "(LLineEchoes;I[J)I"⟩
def dkwX0_bench_0 : List UInt8 := [44, 3, 42, 27, 182, 0, 42, 133, 80, 167, 0, 6, 78, 4, 172, 3, 172]
abbrev dktX0_bench_0 : List UInt8 := dkwX0_bench_0 ++ []
theorem dksX0_bench_0 : cX0_bench.data.toList.drop 0 = dktX0_bench_0 := by decide +kernel
theorem dX0_bench_0 : decode cX0_bench 0 = .ok (.aload_n 2, 1) := dk_44 (dk_at dksX0_bench_0 0 rfl rfl)
theorem dX0_bench_1 : decode cX0_bench 1 = .ok (.iconst 0, 1) := dk_3 (dk_at dksX0_bench_0 1 rfl rfl)
theorem dX0_bench_2 : decode cX0_bench 2 = .ok (.aload_n 0, 1) := dk_42 (dk_at dksX0_bench_0 2 rfl rfl)
theorem dX0_bench_3 : decode cX0_bench 3 = .ok (.iload_n 1, 1) := dk_27 (dk_at dksX0_bench_0 3 rfl rfl)
theorem dX0_bench_4 : decode cX0_bench 4 = .ok (.invokevirtual 42, 3) := dk_182 0 42 (dk_at dksX0_bench_0 4 rfl rfl)
theorem dX0_bench_7 : decode cX0_bench 7 = .ok (.i2l, 1) := dk_133 (dk_at dksX0_bench_0 7 rfl rfl)
theorem dX0_bench_8 : decode cX0_bench 8 = .ok (.lastore, 1) := dk_80 (dk_at dksX0_bench_0 8 rfl rfl)
theorem dX0_bench_9 : decode cX0_bench 9 = .ok (.goto 6, 3) := dk_167 0 6 (dk_at dksX0_bench_0 9 rfl rfl)
theorem dX0_bench_12 : decode cX0_bench 12 = .ok (.astore_n 3, 1) := dk_78 (dk_at dksX0_bench_0 12 rfl rfl)
theorem dX0_bench_13 : decode cX0_bench 13 = .ok (.iconst 1, 1) := dk_4 (dk_at dksX0_bench_0 13 rfl rfl)
theorem dX0_bench_14 : decode cX0_bench 14 = .ok (.ireturn, 1) := dk_172 (dk_at dksX0_bench_0 14 rfl rfl)
theorem dX0_bench_15 : decode cX0_bench 15 = .ok (.iconst 0, 1) := dk_3 (dk_at dksX0_bench_0 15 rfl rfl)
theorem dX0_bench_16 : decode cX0_bench 16 = .ok (.ireturn, 1) := dk_172 (dk_at dksX0_bench_0 16 rfl rfl)
abbrev cX0_echo : ByteArray := method_12_code
def yX0_echo : MethodName := ⟨RX0, "echo", "(LLineEchoes;I[J)I"⟩
def dkwX0_echo_0 : List UInt8 := [44, 3, 42, 27, 182, 0, 45, 80, 167, 0, 6, 78, 4, 172, 3, 172]
abbrev dktX0_echo_0 : List UInt8 := dkwX0_echo_0 ++ []
theorem dksX0_echo_0 : cX0_echo.data.toList.drop 0 = dktX0_echo_0 := by decide +kernel
theorem dX0_echo_0 : decode cX0_echo 0 = .ok (.aload_n 2, 1) := dk_44 (dk_at dksX0_echo_0 0 rfl rfl)
theorem dX0_echo_1 : decode cX0_echo 1 = .ok (.iconst 0, 1) := dk_3 (dk_at dksX0_echo_0 1 rfl rfl)
theorem dX0_echo_2 : decode cX0_echo 2 = .ok (.aload_n 0, 1) := dk_42 (dk_at dksX0_echo_0 2 rfl rfl)
theorem dX0_echo_3 : decode cX0_echo 3 = .ok (.iload_n 1, 1) := dk_27 (dk_at dksX0_echo_0 3 rfl rfl)
theorem dX0_echo_4 : decode cX0_echo 4 = .ok (.invokevirtual 45, 3) := dk_182 0 45 (dk_at dksX0_echo_0 4 rfl rfl)
theorem dX0_echo_7 : decode cX0_echo 7 = .ok (.lastore, 1) := dk_80 (dk_at dksX0_echo_0 7 rfl rfl)
theorem dX0_echo_8 : decode cX0_echo 8 = .ok (.goto 6, 3) := dk_167 0 6 (dk_at dksX0_echo_0 8 rfl rfl)
theorem dX0_echo_11 : decode cX0_echo 11 = .ok (.astore_n 3, 1) := dk_78 (dk_at dksX0_echo_0 11 rfl rfl)
theorem dX0_echo_12 : decode cX0_echo 12 = .ok (.iconst 1, 1) := dk_4 (dk_at dksX0_echo_0 12 rfl rfl)
theorem dX0_echo_13 : decode cX0_echo 13 = .ok (.ireturn, 1) := dk_172 (dk_at dksX0_echo_0 13 rfl rfl)
theorem dX0_echo_14 : decode cX0_echo 14 = .ok (.iconst 0, 1) := dk_3 (dk_at dksX0_echo_0 14 rfl rfl)
theorem dX0_echo_15 : decode cX0_echo 15 = .ok (.ireturn, 1) := dk_172 (dk_at dksX0_echo_0 15 rfl rfl)
abbrev cX0_echoTime : ByteArray := method_13_code
def yX0_echoTime : MethodName := ⟨RX0, "echoTime", "(LLineEchoes;I[J)I"⟩
def dkwX0_echoTime_0 : List UInt8 := [44, 3, 42, 27, 182, 0, 49, 133, 80, 167, 0, 6, 78, 4, 172, 3, 172]
abbrev dktX0_echoTime_0 : List UInt8 := dkwX0_echoTime_0 ++ []
theorem dksX0_echoTime_0 : cX0_echoTime.data.toList.drop 0 = dktX0_echoTime_0 := by decide +kernel
theorem dX0_echoTime_0 : decode cX0_echoTime 0 = .ok (.aload_n 2, 1) := dk_44 (dk_at dksX0_echoTime_0 0 rfl rfl)
theorem dX0_echoTime_1 : decode cX0_echoTime 1 = .ok (.iconst 0, 1) := dk_3 (dk_at dksX0_echoTime_0 1 rfl rfl)
theorem dX0_echoTime_2 : decode cX0_echoTime 2 = .ok (.aload_n 0, 1) := dk_42 (dk_at dksX0_echoTime_0 2 rfl rfl)
theorem dX0_echoTime_3 : decode cX0_echoTime 3 = .ok (.iload_n 1, 1) := dk_27 (dk_at dksX0_echoTime_0 3 rfl rfl)
theorem dX0_echoTime_4 : decode cX0_echoTime 4 = .ok (.invokevirtual 49, 3) := dk_182 0 49 (dk_at dksX0_echoTime_0 4 rfl rfl)
theorem dX0_echoTime_7 : decode cX0_echoTime 7 = .ok (.i2l, 1) := dk_133 (dk_at dksX0_echoTime_0 7 rfl rfl)
theorem dX0_echoTime_8 : decode cX0_echoTime 8 = .ok (.lastore, 1) := dk_80 (dk_at dksX0_echoTime_0 8 rfl rfl)
theorem dX0_echoTime_9 : decode cX0_echoTime 9 = .ok (.goto 6, 3) := dk_167 0 6 (dk_at dksX0_echoTime_0 9 rfl rfl)
theorem dX0_echoTime_12 : decode cX0_echoTime 12 = .ok (.astore_n 3, 1) := dk_78 (dk_at dksX0_echoTime_0 12 rfl rfl)
theorem dX0_echoTime_13 : decode cX0_echoTime 13 = .ok (.iconst 1, 1) := dk_4 (dk_at dksX0_echoTime_0 13 rfl rfl)
theorem dX0_echoTime_14 : decode cX0_echoTime 14 = .ok (.ireturn, 1) := dk_172 (dk_at dksX0_echoTime_0 14 rfl rfl)
theorem dX0_echoTime_15 : decode cX0_echoTime 15 = .ok (.iconst 0, 1) := dk_3 (dk_at dksX0_echoTime_0 15 rfl rfl)
theorem dX0_echoTime_16 : decode cX0_echoTime 16 = .ok (.ireturn, 1) := dk_172 (dk_at dksX0_echoTime_0 16 rfl rfl)
abbrev cX0_total : ByteArray := method_14_code
def yX0_total : MethodName := ⟨RX0, "total", "(LLineEchoes;I[J)I"⟩
def dkwX0_total_0 : List UInt8 := [44, 3, 42, 27, 182, 0, 52, 80, 167, 0, 6, 78, 4, 172, 3, 172]
abbrev dktX0_total_0 : List UInt8 := dkwX0_total_0 ++ []
theorem dksX0_total_0 : cX0_total.data.toList.drop 0 = dktX0_total_0 := by decide +kernel
theorem dX0_total_0 : decode cX0_total 0 = .ok (.aload_n 2, 1) := dk_44 (dk_at dksX0_total_0 0 rfl rfl)
theorem dX0_total_1 : decode cX0_total 1 = .ok (.iconst 0, 1) := dk_3 (dk_at dksX0_total_0 1 rfl rfl)
theorem dX0_total_2 : decode cX0_total 2 = .ok (.aload_n 0, 1) := dk_42 (dk_at dksX0_total_0 2 rfl rfl)
theorem dX0_total_3 : decode cX0_total 3 = .ok (.iload_n 1, 1) := dk_27 (dk_at dksX0_total_0 3 rfl rfl)
theorem dX0_total_4 : decode cX0_total 4 = .ok (.invokevirtual 52, 3) := dk_182 0 52 (dk_at dksX0_total_0 4 rfl rfl)
theorem dX0_total_7 : decode cX0_total 7 = .ok (.lastore, 1) := dk_80 (dk_at dksX0_total_0 7 rfl rfl)
theorem dX0_total_8 : decode cX0_total 8 = .ok (.goto 6, 3) := dk_167 0 6 (dk_at dksX0_total_0 8 rfl rfl)
theorem dX0_total_11 : decode cX0_total 11 = .ok (.astore_n 3, 1) := dk_78 (dk_at dksX0_total_0 11 rfl rfl)
theorem dX0_total_12 : decode cX0_total 12 = .ok (.iconst 1, 1) := dk_4 (dk_at dksX0_total_0 12 rfl rfl)
theorem dX0_total_13 : decode cX0_total 13 = .ok (.ireturn, 1) := dk_172 (dk_at dksX0_total_0 13 rfl rfl)
theorem dX0_total_14 : decode cX0_total 14 = .ok (.iconst 0, 1) := dk_3 (dk_at dksX0_total_0 14 rfl rfl)
theorem dX0_total_15 : decode cX0_total 15 = .ok (.ireturn, 1) := dk_172 (dk_at dksX0_total_0 15 rfl rfl)
abbrev cX0_arrival : ByteArray := method_15_code
def yX0_arrival : MethodName := ⟨RX0, "arrival", "(LLineEchoes;IIZ[J)I"⟩
def dkwX0_arrival_0 : List UInt8 := [25, 4, 3, 42, 27, 28, 29, 182, 0, 55, 80, 167, 0, 11, 58, 5, 4, 172, 58, 5, 5, 172, 3, 172]
abbrev dktX0_arrival_0 : List UInt8 := dkwX0_arrival_0 ++ []
theorem dksX0_arrival_0 : cX0_arrival.data.toList.drop 0 = dktX0_arrival_0 := by decide +kernel
theorem dX0_arrival_0 : decode cX0_arrival 0 = .ok (.aload 4, 2) := dk_25 4 (dk_at dksX0_arrival_0 0 rfl rfl)
theorem dX0_arrival_2 : decode cX0_arrival 2 = .ok (.iconst 0, 1) := dk_3 (dk_at dksX0_arrival_0 2 rfl rfl)
theorem dX0_arrival_3 : decode cX0_arrival 3 = .ok (.aload_n 0, 1) := dk_42 (dk_at dksX0_arrival_0 3 rfl rfl)
theorem dX0_arrival_4 : decode cX0_arrival 4 = .ok (.iload_n 1, 1) := dk_27 (dk_at dksX0_arrival_0 4 rfl rfl)
theorem dX0_arrival_5 : decode cX0_arrival 5 = .ok (.iload_n 2, 1) := dk_28 (dk_at dksX0_arrival_0 5 rfl rfl)
theorem dX0_arrival_6 : decode cX0_arrival 6 = .ok (.iload_n 3, 1) := dk_29 (dk_at dksX0_arrival_0 6 rfl rfl)
theorem dX0_arrival_7 : decode cX0_arrival 7 = .ok (.invokevirtual 55, 3) := dk_182 0 55 (dk_at dksX0_arrival_0 7 rfl rfl)
theorem dX0_arrival_10 : decode cX0_arrival 10 = .ok (.lastore, 1) := dk_80 (dk_at dksX0_arrival_0 10 rfl rfl)
theorem dX0_arrival_11 : decode cX0_arrival 11 = .ok (.goto 11, 3) := dk_167 0 11 (dk_at dksX0_arrival_0 11 rfl rfl)
theorem dX0_arrival_14 : decode cX0_arrival 14 = .ok (.astore 5, 2) := dk_58 5 (dk_at dksX0_arrival_0 14 rfl rfl)
theorem dX0_arrival_16 : decode cX0_arrival 16 = .ok (.iconst 1, 1) := dk_4 (dk_at dksX0_arrival_0 16 rfl rfl)
theorem dX0_arrival_17 : decode cX0_arrival 17 = .ok (.ireturn, 1) := dk_172 (dk_at dksX0_arrival_0 17 rfl rfl)
theorem dX0_arrival_18 : decode cX0_arrival 18 = .ok (.astore 5, 2) := dk_58 5 (dk_at dksX0_arrival_0 18 rfl rfl)
theorem dX0_arrival_20 : decode cX0_arrival 20 = .ok (.iconst 2, 1) := dk_5 (dk_at dksX0_arrival_0 20 rfl rfl)
theorem dX0_arrival_21 : decode cX0_arrival 21 = .ok (.ireturn, 1) := dk_172 (dk_at dksX0_arrival_0 21 rfl rfl)
theorem dX0_arrival_22 : decode cX0_arrival 22 = .ok (.iconst 0, 1) := dk_3 (dk_at dksX0_arrival_0 22 rfl rfl)
theorem dX0_arrival_23 : decode cX0_arrival 23 = .ok (.ireturn, 1) := dk_172 (dk_at dksX0_arrival_0 23 rfl rfl)
abbrev cX0_echoByte : ByteArray := method_16_code
def yX0_echoByte : MethodName := ⟨RX0, "echoByte", "(LLineEchoes;I[J)I"⟩
def dkwX0_echoByte_0 : List UInt8 := [44, 3, 42, 27, 182, 0, 59, 133, 80, 167, 0, 6, 78, 4, 172, 3, 172]
abbrev dktX0_echoByte_0 : List UInt8 := dkwX0_echoByte_0 ++ []
theorem dksX0_echoByte_0 : cX0_echoByte.data.toList.drop 0 = dktX0_echoByte_0 := by decide +kernel
theorem dX0_echoByte_0 : decode cX0_echoByte 0 = .ok (.aload_n 2, 1) := dk_44 (dk_at dksX0_echoByte_0 0 rfl rfl)
theorem dX0_echoByte_1 : decode cX0_echoByte 1 = .ok (.iconst 0, 1) := dk_3 (dk_at dksX0_echoByte_0 1 rfl rfl)
theorem dX0_echoByte_2 : decode cX0_echoByte 2 = .ok (.aload_n 0, 1) := dk_42 (dk_at dksX0_echoByte_0 2 rfl rfl)
theorem dX0_echoByte_3 : decode cX0_echoByte 3 = .ok (.iload_n 1, 1) := dk_27 (dk_at dksX0_echoByte_0 3 rfl rfl)
theorem dX0_echoByte_4 : decode cX0_echoByte 4 = .ok (.invokevirtual 59, 3) := dk_182 0 59 (dk_at dksX0_echoByte_0 4 rfl rfl)
theorem dX0_echoByte_7 : decode cX0_echoByte 7 = .ok (.i2l, 1) := dk_133 (dk_at dksX0_echoByte_0 7 rfl rfl)
theorem dX0_echoByte_8 : decode cX0_echoByte 8 = .ok (.lastore, 1) := dk_80 (dk_at dksX0_echoByte_0 8 rfl rfl)
theorem dX0_echoByte_9 : decode cX0_echoByte 9 = .ok (.goto 6, 3) := dk_167 0 6 (dk_at dksX0_echoByte_0 9 rfl rfl)
theorem dX0_echoByte_12 : decode cX0_echoByte 12 = .ok (.astore_n 3, 1) := dk_78 (dk_at dksX0_echoByte_0 12 rfl rfl)
theorem dX0_echoByte_13 : decode cX0_echoByte 13 = .ok (.iconst 1, 1) := dk_4 (dk_at dksX0_echoByte_0 13 rfl rfl)
theorem dX0_echoByte_14 : decode cX0_echoByte 14 = .ok (.ireturn, 1) := dk_172 (dk_at dksX0_echoByte_0 14 rfl rfl)
theorem dX0_echoByte_15 : decode cX0_echoByte 15 = .ok (.iconst 0, 1) := dk_3 (dk_at dksX0_echoByte_0 15 rfl rfl)
theorem dX0_echoByte_16 : decode cX0_echoByte 16 = .ok (.ireturn, 1) := dk_172 (dk_at dksX0_echoByte_0 16 rfl rfl)
abbrev cX0_fault : ByteArray := method_17_code
def yX0_fault : MethodName := ⟨RX0, "fault", "(LLineEchoes;I[J)I"⟩
def dkwX0_fault_0 : List UInt8 := [44, 3, 42, 27, 182, 0, 62, 133, 80, 167, 0, 6, 78, 4, 172, 3, 172]
abbrev dktX0_fault_0 : List UInt8 := dkwX0_fault_0 ++ []
theorem dksX0_fault_0 : cX0_fault.data.toList.drop 0 = dktX0_fault_0 := by decide +kernel
theorem dX0_fault_0 : decode cX0_fault 0 = .ok (.aload_n 2, 1) := dk_44 (dk_at dksX0_fault_0 0 rfl rfl)
theorem dX0_fault_1 : decode cX0_fault 1 = .ok (.iconst 0, 1) := dk_3 (dk_at dksX0_fault_0 1 rfl rfl)
theorem dX0_fault_2 : decode cX0_fault 2 = .ok (.aload_n 0, 1) := dk_42 (dk_at dksX0_fault_0 2 rfl rfl)
theorem dX0_fault_3 : decode cX0_fault 3 = .ok (.iload_n 1, 1) := dk_27 (dk_at dksX0_fault_0 3 rfl rfl)
theorem dX0_fault_4 : decode cX0_fault 4 = .ok (.invokevirtual 62, 3) := dk_182 0 62 (dk_at dksX0_fault_0 4 rfl rfl)
theorem dX0_fault_7 : decode cX0_fault 7 = .ok (.i2l, 1) := dk_133 (dk_at dksX0_fault_0 7 rfl rfl)
theorem dX0_fault_8 : decode cX0_fault 8 = .ok (.lastore, 1) := dk_80 (dk_at dksX0_fault_0 8 rfl rfl)
theorem dX0_fault_9 : decode cX0_fault 9 = .ok (.goto 6, 3) := dk_167 0 6 (dk_at dksX0_fault_0 9 rfl rfl)
theorem dX0_fault_12 : decode cX0_fault 12 = .ok (.astore_n 3, 1) := dk_78 (dk_at dksX0_fault_0 12 rfl rfl)
theorem dX0_fault_13 : decode cX0_fault 13 = .ok (.iconst 1, 1) := dk_4 (dk_at dksX0_fault_0 13 rfl rfl)
theorem dX0_fault_14 : decode cX0_fault 14 = .ok (.ireturn, 1) := dk_172 (dk_at dksX0_fault_0 14 rfl rfl)
theorem dX0_fault_15 : decode cX0_fault 15 = .ok (.iconst 0, 1) := dk_3 (dk_at dksX0_fault_0 15 rfl rfl)
theorem dX0_fault_16 : decode cX0_fault 16 = .ok (.ireturn, 1) := dk_172 (dk_at dksX0_fault_0 16 rfl rfl)
abbrev cX0_setObserved : ByteArray := method_18_code
def yX0_setObserved : MethodName := ⟨RX0, "setObserved", "(LLineEchoes;IJ[J)I"⟩
def dkwX0_setObserved_0 : List UInt8 := [25, 4, 3, 42, 27, 32, 182, 0, 65, 80, 167, 0, 7, 58, 5, 4, 172, 3, 172]
abbrev dktX0_setObserved_0 : List UInt8 := dkwX0_setObserved_0 ++ []
theorem dksX0_setObserved_0 : cX0_setObserved.data.toList.drop 0 = dktX0_setObserved_0 := by decide +kernel
theorem dX0_setObserved_0 : decode cX0_setObserved 0 = .ok (.aload 4, 2) := dk_25 4 (dk_at dksX0_setObserved_0 0 rfl rfl)
theorem dX0_setObserved_2 : decode cX0_setObserved 2 = .ok (.iconst 0, 1) := dk_3 (dk_at dksX0_setObserved_0 2 rfl rfl)
theorem dX0_setObserved_3 : decode cX0_setObserved 3 = .ok (.aload_n 0, 1) := dk_42 (dk_at dksX0_setObserved_0 3 rfl rfl)
theorem dX0_setObserved_4 : decode cX0_setObserved 4 = .ok (.iload_n 1, 1) := dk_27 (dk_at dksX0_setObserved_0 4 rfl rfl)
theorem dX0_setObserved_5 : decode cX0_setObserved 5 = .ok (.lload_n 2, 1) := dk_32 (dk_at dksX0_setObserved_0 5 rfl rfl)
theorem dX0_setObserved_6 : decode cX0_setObserved 6 = .ok (.invokevirtual 65, 3) := dk_182 0 65 (dk_at dksX0_setObserved_0 6 rfl rfl)
theorem dX0_setObserved_9 : decode cX0_setObserved 9 = .ok (.lastore, 1) := dk_80 (dk_at dksX0_setObserved_0 9 rfl rfl)
theorem dX0_setObserved_10 : decode cX0_setObserved 10 = .ok (.goto 7, 3) := dk_167 0 7 (dk_at dksX0_setObserved_0 10 rfl rfl)
theorem dX0_setObserved_13 : decode cX0_setObserved 13 = .ok (.astore 5, 2) := dk_58 5 (dk_at dksX0_setObserved_0 13 rfl rfl)
theorem dX0_setObserved_15 : decode cX0_setObserved 15 = .ok (.iconst 1, 1) := dk_4 (dk_at dksX0_setObserved_0 15 rfl rfl)
theorem dX0_setObserved_16 : decode cX0_setObserved 16 = .ok (.ireturn, 1) := dk_172 (dk_at dksX0_setObserved_0 16 rfl rfl)
theorem dX0_setObserved_17 : decode cX0_setObserved 17 = .ok (.iconst 0, 1) := dk_3 (dk_at dksX0_setObserved_0 17 rfl rfl)
theorem dX0_setObserved_18 : decode cX0_setObserved 18 = .ok (.ireturn, 1) := dk_172 (dk_at dksX0_setObserved_0 18 rfl rfl)
abbrev cX0_observed : ByteArray := method_19_code
def yX0_observed : MethodName := ⟨RX0, "observed", "(LLineEchoes;I[J)I"⟩
def dkwX0_observed_0 : List UInt8 := [44, 3, 42, 27, 182, 0, 69, 80, 167, 0, 6, 78, 4, 172, 3, 172]
abbrev dktX0_observed_0 : List UInt8 := dkwX0_observed_0 ++ []
theorem dksX0_observed_0 : cX0_observed.data.toList.drop 0 = dktX0_observed_0 := by decide +kernel
theorem dX0_observed_0 : decode cX0_observed 0 = .ok (.aload_n 2, 1) := dk_44 (dk_at dksX0_observed_0 0 rfl rfl)
theorem dX0_observed_1 : decode cX0_observed 1 = .ok (.iconst 0, 1) := dk_3 (dk_at dksX0_observed_0 1 rfl rfl)
theorem dX0_observed_2 : decode cX0_observed 2 = .ok (.aload_n 0, 1) := dk_42 (dk_at dksX0_observed_0 2 rfl rfl)
theorem dX0_observed_3 : decode cX0_observed 3 = .ok (.iload_n 1, 1) := dk_27 (dk_at dksX0_observed_0 3 rfl rfl)
theorem dX0_observed_4 : decode cX0_observed 4 = .ok (.invokevirtual 69, 3) := dk_182 0 69 (dk_at dksX0_observed_0 4 rfl rfl)
theorem dX0_observed_7 : decode cX0_observed 7 = .ok (.lastore, 1) := dk_80 (dk_at dksX0_observed_0 7 rfl rfl)
theorem dX0_observed_8 : decode cX0_observed 8 = .ok (.goto 6, 3) := dk_167 0 6 (dk_at dksX0_observed_0 8 rfl rfl)
theorem dX0_observed_11 : decode cX0_observed 11 = .ok (.astore_n 3, 1) := dk_78 (dk_at dksX0_observed_0 11 rfl rfl)
theorem dX0_observed_12 : decode cX0_observed 12 = .ok (.iconst 1, 1) := dk_4 (dk_at dksX0_observed_0 12 rfl rfl)
theorem dX0_observed_13 : decode cX0_observed 13 = .ok (.ireturn, 1) := dk_172 (dk_at dksX0_observed_0 13 rfl rfl)
theorem dX0_observed_14 : decode cX0_observed 14 = .ok (.iconst 0, 1) := dk_3 (dk_at dksX0_observed_0 14 rfl rfl)
theorem dX0_observed_15 : decode cX0_observed 15 = .ok (.ireturn, 1) := dk_172 (dk_at dksX0_observed_0 15 rfl rfl)
abbrev cX0_peel : ByteArray := method_20_code
def yX0_peel : MethodName := ⟨RX0, "peel", "(LLineEchoes;I[J)I"⟩
def dkwX0_peel_0 : List UInt8 := [44, 3, 42, 27, 182, 0, 72, 133, 80, 167, 0, 6, 78, 4, 172, 3, 172]
abbrev dktX0_peel_0 : List UInt8 := dkwX0_peel_0 ++ []
theorem dksX0_peel_0 : cX0_peel.data.toList.drop 0 = dktX0_peel_0 := by decide +kernel
theorem dX0_peel_0 : decode cX0_peel 0 = .ok (.aload_n 2, 1) := dk_44 (dk_at dksX0_peel_0 0 rfl rfl)
theorem dX0_peel_1 : decode cX0_peel 1 = .ok (.iconst 0, 1) := dk_3 (dk_at dksX0_peel_0 1 rfl rfl)
theorem dX0_peel_2 : decode cX0_peel 2 = .ok (.aload_n 0, 1) := dk_42 (dk_at dksX0_peel_0 2 rfl rfl)
theorem dX0_peel_3 : decode cX0_peel 3 = .ok (.iload_n 1, 1) := dk_27 (dk_at dksX0_peel_0 3 rfl rfl)
theorem dX0_peel_4 : decode cX0_peel 4 = .ok (.invokevirtual 72, 3) := dk_182 0 72 (dk_at dksX0_peel_0 4 rfl rfl)
theorem dX0_peel_7 : decode cX0_peel 7 = .ok (.i2l, 1) := dk_133 (dk_at dksX0_peel_0 7 rfl rfl)
theorem dX0_peel_8 : decode cX0_peel 8 = .ok (.lastore, 1) := dk_80 (dk_at dksX0_peel_0 8 rfl rfl)
theorem dX0_peel_9 : decode cX0_peel 9 = .ok (.goto 6, 3) := dk_167 0 6 (dk_at dksX0_peel_0 9 rfl rfl)
theorem dX0_peel_12 : decode cX0_peel 12 = .ok (.astore_n 3, 1) := dk_78 (dk_at dksX0_peel_0 12 rfl rfl)
theorem dX0_peel_13 : decode cX0_peel 13 = .ok (.iconst 1, 1) := dk_4 (dk_at dksX0_peel_0 13 rfl rfl)
theorem dX0_peel_14 : decode cX0_peel 14 = .ok (.ireturn, 1) := dk_172 (dk_at dksX0_peel_0 14 rfl rfl)
theorem dX0_peel_15 : decode cX0_peel 15 = .ok (.iconst 0, 1) := dk_3 (dk_at dksX0_peel_0 15 rfl rfl)
theorem dX0_peel_16 : decode cX0_peel 16 = .ok (.ireturn, 1) := dk_172 (dk_at dksX0_peel_0 16 rfl rfl)
abbrev cX0_found : ByteArray := method_21_code
def yX0_found : MethodName := ⟨RX0, "found", "(LLineEchoes;II[J)I"⟩
def dkwX0_found_0 : List UInt8 := [45, 3, 42, 27, 28, 182, 0, 75, 133, 80, 167, 0, 7, 58, 4, 4, 172, 3, 172]
abbrev dktX0_found_0 : List UInt8 := dkwX0_found_0 ++ []
theorem dksX0_found_0 : cX0_found.data.toList.drop 0 = dktX0_found_0 := by decide +kernel
theorem dX0_found_0 : decode cX0_found 0 = .ok (.aload_n 3, 1) := dk_45 (dk_at dksX0_found_0 0 rfl rfl)
theorem dX0_found_1 : decode cX0_found 1 = .ok (.iconst 0, 1) := dk_3 (dk_at dksX0_found_0 1 rfl rfl)
theorem dX0_found_2 : decode cX0_found 2 = .ok (.aload_n 0, 1) := dk_42 (dk_at dksX0_found_0 2 rfl rfl)
theorem dX0_found_3 : decode cX0_found 3 = .ok (.iload_n 1, 1) := dk_27 (dk_at dksX0_found_0 3 rfl rfl)
theorem dX0_found_4 : decode cX0_found 4 = .ok (.iload_n 2, 1) := dk_28 (dk_at dksX0_found_0 4 rfl rfl)
theorem dX0_found_5 : decode cX0_found 5 = .ok (.invokevirtual 75, 3) := dk_182 0 75 (dk_at dksX0_found_0 5 rfl rfl)
theorem dX0_found_8 : decode cX0_found 8 = .ok (.i2l, 1) := dk_133 (dk_at dksX0_found_0 8 rfl rfl)
theorem dX0_found_9 : decode cX0_found 9 = .ok (.lastore, 1) := dk_80 (dk_at dksX0_found_0 9 rfl rfl)
theorem dX0_found_10 : decode cX0_found 10 = .ok (.goto 7, 3) := dk_167 0 7 (dk_at dksX0_found_0 10 rfl rfl)
theorem dX0_found_13 : decode cX0_found 13 = .ok (.astore 4, 2) := dk_58 4 (dk_at dksX0_found_0 13 rfl rfl)
theorem dX0_found_15 : decode cX0_found 15 = .ok (.iconst 1, 1) := dk_4 (dk_at dksX0_found_0 15 rfl rfl)
theorem dX0_found_16 : decode cX0_found 16 = .ok (.ireturn, 1) := dk_172 (dk_at dksX0_found_0 16 rfl rfl)
theorem dX0_found_17 : decode cX0_found 17 = .ok (.iconst 0, 1) := dk_3 (dk_at dksX0_found_0 17 rfl rfl)
theorem dX0_found_18 : decode cX0_found 18 = .ok (.ireturn, 1) := dk_172 (dk_at dksX0_found_0 18 rfl rfl)
abbrev cX0_type : ByteArray := method_22_code
def yX0_type : MethodName := ⟨RX0, "type", "(LLineEchoes;I[J)I"⟩
def dkwX0_type_0 : List UInt8 := [44, 3, 42, 27, 182, 0, 78, 133, 80, 167, 0, 9, 78, 4, 172, 78, 5, 172, 3, 172]
abbrev dktX0_type_0 : List UInt8 := dkwX0_type_0 ++ []
theorem dksX0_type_0 : cX0_type.data.toList.drop 0 = dktX0_type_0 := by decide +kernel
theorem dX0_type_0 : decode cX0_type 0 = .ok (.aload_n 2, 1) := dk_44 (dk_at dksX0_type_0 0 rfl rfl)
theorem dX0_type_1 : decode cX0_type 1 = .ok (.iconst 0, 1) := dk_3 (dk_at dksX0_type_0 1 rfl rfl)
theorem dX0_type_2 : decode cX0_type 2 = .ok (.aload_n 0, 1) := dk_42 (dk_at dksX0_type_0 2 rfl rfl)
theorem dX0_type_3 : decode cX0_type 3 = .ok (.iload_n 1, 1) := dk_27 (dk_at dksX0_type_0 3 rfl rfl)
theorem dX0_type_4 : decode cX0_type 4 = .ok (.invokevirtual 78, 3) := dk_182 0 78 (dk_at dksX0_type_0 4 rfl rfl)
theorem dX0_type_7 : decode cX0_type 7 = .ok (.i2l, 1) := dk_133 (dk_at dksX0_type_0 7 rfl rfl)
theorem dX0_type_8 : decode cX0_type 8 = .ok (.lastore, 1) := dk_80 (dk_at dksX0_type_0 8 rfl rfl)
theorem dX0_type_9 : decode cX0_type 9 = .ok (.goto 9, 3) := dk_167 0 9 (dk_at dksX0_type_0 9 rfl rfl)
theorem dX0_type_12 : decode cX0_type 12 = .ok (.astore_n 3, 1) := dk_78 (dk_at dksX0_type_0 12 rfl rfl)
theorem dX0_type_13 : decode cX0_type 13 = .ok (.iconst 1, 1) := dk_4 (dk_at dksX0_type_0 13 rfl rfl)
theorem dX0_type_14 : decode cX0_type 14 = .ok (.ireturn, 1) := dk_172 (dk_at dksX0_type_0 14 rfl rfl)
theorem dX0_type_15 : decode cX0_type 15 = .ok (.astore_n 3, 1) := dk_78 (dk_at dksX0_type_0 15 rfl rfl)
theorem dX0_type_16 : decode cX0_type 16 = .ok (.iconst 2, 1) := dk_5 (dk_at dksX0_type_0 16 rfl rfl)
theorem dX0_type_17 : decode cX0_type 17 = .ok (.ireturn, 1) := dk_172 (dk_at dksX0_type_0 17 rfl rfl)
theorem dX0_type_18 : decode cX0_type 18 = .ok (.iconst 0, 1) := dk_3 (dk_at dksX0_type_0 18 rfl rfl)
theorem dX0_type_19 : decode cX0_type 19 = .ok (.ireturn, 1) := dk_172 (dk_at dksX0_type_0 19 rfl rfl)
abbrev cX0_undo : ByteArray := method_23_code
def yX0_undo : MethodName := ⟨RX0, "undo", "(LLineEchoes;[J)I"⟩
def dkwX0_undo_0 : List UInt8 := [43, 3, 42, 182, 0, 81, 133, 80, 167, 0, 6, 77, 4, 172, 3, 172]
abbrev dktX0_undo_0 : List UInt8 := dkwX0_undo_0 ++ []
theorem dksX0_undo_0 : cX0_undo.data.toList.drop 0 = dktX0_undo_0 := by decide +kernel
theorem dX0_undo_0 : decode cX0_undo 0 = .ok (.aload_n 1, 1) := dk_43 (dk_at dksX0_undo_0 0 rfl rfl)
theorem dX0_undo_1 : decode cX0_undo 1 = .ok (.iconst 0, 1) := dk_3 (dk_at dksX0_undo_0 1 rfl rfl)
theorem dX0_undo_2 : decode cX0_undo 2 = .ok (.aload_n 0, 1) := dk_42 (dk_at dksX0_undo_0 2 rfl rfl)
theorem dX0_undo_3 : decode cX0_undo 3 = .ok (.invokevirtual 81, 3) := dk_182 0 81 (dk_at dksX0_undo_0 3 rfl rfl)
theorem dX0_undo_6 : decode cX0_undo 6 = .ok (.i2l, 1) := dk_133 (dk_at dksX0_undo_0 6 rfl rfl)
theorem dX0_undo_7 : decode cX0_undo 7 = .ok (.lastore, 1) := dk_80 (dk_at dksX0_undo_0 7 rfl rfl)
theorem dX0_undo_8 : decode cX0_undo 8 = .ok (.goto 6, 3) := dk_167 0 6 (dk_at dksX0_undo_0 8 rfl rfl)
theorem dX0_undo_11 : decode cX0_undo 11 = .ok (.astore_n 2, 1) := dk_77 (dk_at dksX0_undo_0 11 rfl rfl)
theorem dX0_undo_12 : decode cX0_undo 12 = .ok (.iconst 1, 1) := dk_4 (dk_at dksX0_undo_0 12 rfl rfl)
theorem dX0_undo_13 : decode cX0_undo 13 = .ok (.ireturn, 1) := dk_172 (dk_at dksX0_undo_0 13 rfl rfl)
theorem dX0_undo_14 : decode cX0_undo 14 = .ok (.iconst 0, 1) := dk_3 (dk_at dksX0_undo_0 14 rfl rfl)
theorem dX0_undo_15 : decode cX0_undo 15 = .ok (.ireturn, 1) := dk_172 (dk_at dksX0_undo_0 15 rfl rfl)
theorem q68 : (Jvm.Cond.initialized "LineEchoesLaw") ∈ lw_all := lw_g (lw_at lw_m1 0 rfl) rfl
theorem q98 : (Jvm.Cond.classLink "LineEchoesLaw" (8 : Nat) "LineEchoes") ∈ lw_all := lw_g (lw_at lw_m1 30 rfl) rfl
theorem q100 : (Jvm.Cond.methodLink "LineEchoesLaw" (85 : Nat) ({ cls := "LineEchoes", name := "<init>", desc := "()V" } : Jvm.MethodName)) ∈ lw_all := lw_g (lw_at lw_m1 32 rfl) rfl
theorem q262 : (Jvm.Cond.methodLink "LineEchoesLaw" (109 : Nat) ({ cls := "LineEchoes", name := "reverse", desc := "()I" } : Jvm.MethodName)) ∈ lw_all := lw_g (lw_at lw_m1 194 rfl) rfl
theorem q299 : (Jvm.Cond.methodLink "LineEchoesLaw" (144 : Nat) ({ cls := "LineEchoes", name := "keepSound", desc := "()I" } : Jvm.MethodName)) ∈ lw_all := lw_g (lw_at lw_m1 231 rfl) rfl
theorem q358 : (Jvm.Cond.methodLink "LineEchoesLaw" (148 : Nat) ({ cls := "LineEchoes", name := "differences", desc := "()I" } : Jvm.MethodName)) ∈ lw_all := lw_g (lw_at lw_m2 50 rfl) rfl
theorem q368 : (Jvm.Cond.methodLink "LineEchoesLaw" (155 : Nat) ({ cls := "LineEchoes", name := "observe", desc := "()I" } : Jvm.MethodName)) ∈ lw_all := lw_g (lw_at lw_m2 60 rfl) rfl
theorem q376 : (Jvm.Cond.methodLink "LineEchoesLaw" (174 : Nat) ({ cls := "LineEchoes", name := "adopt", desc := "()I" } : Jvm.MethodName)) ∈ lw_all := lw_g (lw_at lw_m2 68 rfl) rfl
theorem q443 : (Jvm.Cond.methodLink "LineEchoesLaw" (181 : Nat) ({ cls := "LineEchoes", name := "clearScript", desc := "()I" } : Jvm.MethodName)) ∈ lw_all := lw_g (lw_at lw_m2 135 rfl) rfl
theorem q447 : (Jvm.Cond.methodLink "LineEchoesLaw" (185 : Nat) ({ cls := "LineEchoes", name := "run", desc := "()I" } : Jvm.MethodName)) ∈ lw_all := lw_g (lw_at lw_m2 139 rfl) rfl
theorem q1020 : (Jvm.Cond.methodLink "LineEchoesLaw" (193 : Nat) ({ cls := "LineEchoes", name := "digest", desc := "()J" } : Jvm.MethodName)) ∈ lw_all := lw_g (lw_at lw_m4 232 rfl) rfl
theorem q1082 : (Jvm.Cond.methodLink "LineEchoesLaw" (89 : Nat) ({ cls := "LineEchoesLaw", name := "addPart", desc := "(LLineEchoes;II[J)I" } : Jvm.MethodName)) ∈ lw_all := lw_g (lw_at lw_m5 54 rfl) rfl
theorem q1083 : (Jvm.Cond.static ({ cls := "LineEchoesLaw", name := "addPart", desc := "(LLineEchoes;II[J)I" } : Jvm.MethodName)) ∈ lw_all := lw_g (lw_at lw_m5 55 rfl) rfl
theorem q1084 : (Jvm.Cond.codeWith ({ cls := "LineEchoesLaw", name := "addPart", desc := "(LLineEchoes;II[J)I" } : Jvm.MethodName) method_3_code (5 : Nat) (Option.some Jvm.ClassFile.FieldType.int) [((0 : Nat), (10 : Nat), (13 : Nat), (13 : Nat)), ((0 : Nat), (10 : Nat), (17 : Nat), (15 : Nat))]) ∈ lw_all := lw_g (lw_at lw_m5 56 rfl) rfl
theorem q1085 : (Jvm.Cond.classLink "LineEchoesLaw" (13 : Nat) "java/lang/IllegalArgumentException") ∈ lw_all := lw_g (lw_at lw_m5 57 rfl) rfl
theorem q1086 : (Jvm.Cond.classLink "LineEchoesLaw" (15 : Nat) "java/lang/IllegalStateException") ∈ lw_all := lw_g (lw_at lw_m5 58 rfl) rfl
theorem q1087 : (Jvm.Cond.methodLink "LineEchoesLaw" (7 : Nat) ({ cls := "LineEchoes", name := "addPart", desc := "(II)I" } : Jvm.MethodName)) ∈ lw_all := lw_g (lw_at lw_m5 59 rfl) rfl
theorem q1091 : (Jvm.Cond.methodLink "LineEchoesLaw" (98 : Nat) ({ cls := "LineEchoesLaw", name := "setPart", desc := "(LLineEchoes;III[J)I" } : Jvm.MethodName)) ∈ lw_all := lw_g (lw_at lw_m5 63 rfl) rfl
theorem q1092 : (Jvm.Cond.static ({ cls := "LineEchoesLaw", name := "setPart", desc := "(LLineEchoes;III[J)I" } : Jvm.MethodName)) ∈ lw_all := lw_g (lw_at lw_m5 64 rfl) rfl
theorem q1093 : (Jvm.Cond.codeWith ({ cls := "LineEchoesLaw", name := "setPart", desc := "(LLineEchoes;III[J)I" } : Jvm.MethodName) method_4_code (6 : Nat) (Option.some Jvm.ClassFile.FieldType.int) [((0 : Nat), (12 : Nat), (15 : Nat), (21 : Nat)), ((0 : Nat), (12 : Nat), (19 : Nat), (13 : Nat))]) ∈ lw_all := lw_g (lw_at lw_m5 65 rfl) rfl
theorem q1094 : (Jvm.Cond.classLink "LineEchoesLaw" (21 : Nat) "java/lang/IndexOutOfBoundsException") ∈ lw_all := lw_g (lw_at lw_m5 66 rfl) rfl
theorem q1095 : (Jvm.Cond.methodLink "LineEchoesLaw" (17 : Nat) ({ cls := "LineEchoes", name := "setPart", desc := "(III)I" } : Jvm.MethodName)) ∈ lw_all := lw_g (lw_at lw_m5 67 rfl) rfl
theorem q1099 : (Jvm.Cond.methodLink "LineEchoesLaw" (102 : Nat) ({ cls := "LineEchoesLaw", name := "removePart", desc := "(LLineEchoes;I[J)I" } : Jvm.MethodName)) ∈ lw_all := lw_g (lw_at lw_m5 71 rfl) rfl
theorem q1100 : (Jvm.Cond.static ({ cls := "LineEchoesLaw", name := "removePart", desc := "(LLineEchoes;I[J)I" } : Jvm.MethodName)) ∈ lw_all := lw_g (lw_at lw_m5 72 rfl) rfl
theorem q1101 : (Jvm.Cond.codeWith ({ cls := "LineEchoesLaw", name := "removePart", desc := "(LLineEchoes;I[J)I" } : Jvm.MethodName) method_5_code (4 : Nat) (Option.some Jvm.ClassFile.FieldType.int) [((0 : Nat), (9 : Nat), (12 : Nat), (21 : Nat))]) ∈ lw_all := lw_g (lw_at lw_m5 73 rfl) rfl
theorem q1102 : (Jvm.Cond.methodLink "LineEchoesLaw" (23 : Nat) ({ cls := "LineEchoes", name := "removePart", desc := "(I)I" } : Jvm.MethodName)) ∈ lw_all := lw_g (lw_at lw_m5 74 rfl) rfl
theorem q1106 : (Jvm.Cond.methodLink "LineEchoesLaw" (106 : Nat) ({ cls := "LineEchoesLaw", name := "splitPart", desc := "(LLineEchoes;III[J)I" } : Jvm.MethodName)) ∈ lw_all := lw_g (lw_at lw_m5 78 rfl) rfl
theorem q1107 : (Jvm.Cond.static ({ cls := "LineEchoesLaw", name := "splitPart", desc := "(LLineEchoes;III[J)I" } : Jvm.MethodName)) ∈ lw_all := lw_g (lw_at lw_m5 79 rfl) rfl
theorem q1108 : (Jvm.Cond.codeWith ({ cls := "LineEchoesLaw", name := "splitPart", desc := "(LLineEchoes;III[J)I" } : Jvm.MethodName) method_6_code (6 : Nat) (Option.some Jvm.ClassFile.FieldType.int) [((0 : Nat), (12 : Nat), (15 : Nat), (21 : Nat)), ((0 : Nat), (12 : Nat), (19 : Nat), (13 : Nat)), ((0 : Nat), (12 : Nat), (23 : Nat), (15 : Nat))]) ∈ lw_all := lw_g (lw_at lw_m5 80 rfl) rfl
theorem q1109 : (Jvm.Cond.methodLink "LineEchoesLaw" (27 : Nat) ({ cls := "LineEchoes", name := "splitPart", desc := "(III)I" } : Jvm.MethodName)) ∈ lw_all := lw_g (lw_at lw_m5 81 rfl) rfl
theorem q1113 : (Jvm.Cond.methodLink "LineEchoesLaw" (113 : Nat) ({ cls := "LineEchoesLaw", name := "setBench", desc := "(LLineEchoes;III[J)I" } : Jvm.MethodName)) ∈ lw_all := lw_g (lw_at lw_m5 85 rfl) rfl
theorem q1114 : (Jvm.Cond.static ({ cls := "LineEchoesLaw", name := "setBench", desc := "(LLineEchoes;III[J)I" } : Jvm.MethodName)) ∈ lw_all := lw_g (lw_at lw_m5 86 rfl) rfl
theorem q1115 : (Jvm.Cond.codeWith ({ cls := "LineEchoesLaw", name := "setBench", desc := "(LLineEchoes;III[J)I" } : Jvm.MethodName) method_7_code (6 : Nat) (Option.some Jvm.ClassFile.FieldType.int) [((0 : Nat), (12 : Nat), (15 : Nat), (13 : Nat))]) ∈ lw_all := lw_g (lw_at lw_m5 87 rfl) rfl
theorem q1116 : (Jvm.Cond.methodLink "LineEchoesLaw" (30 : Nat) ({ cls := "LineEchoes", name := "setBench", desc := "(III)I" } : Jvm.MethodName)) ∈ lw_all := lw_g (lw_at lw_m5 88 rfl) rfl
theorem q1127 : (Jvm.Cond.methodLink "LineEchoesLaw" (116 : Nat) ({ cls := "LineEchoesLaw", name := "addPulse", desc := "(LLineEchoes;II[J)I" } : Jvm.MethodName)) ∈ lw_all := lw_g (lw_at lw_m5 99 rfl) rfl
theorem q1128 : (Jvm.Cond.static ({ cls := "LineEchoesLaw", name := "addPulse", desc := "(LLineEchoes;II[J)I" } : Jvm.MethodName)) ∈ lw_all := lw_g (lw_at lw_m5 100 rfl) rfl
theorem q1129 : (Jvm.Cond.codeWith ({ cls := "LineEchoesLaw", name := "addPulse", desc := "(LLineEchoes;II[J)I" } : Jvm.MethodName) method_8_code (5 : Nat) (Option.some Jvm.ClassFile.FieldType.int) [((0 : Nat), (10 : Nat), (13 : Nat), (13 : Nat)), ((0 : Nat), (10 : Nat), (17 : Nat), (15 : Nat))]) ∈ lw_all := lw_g (lw_at lw_m5 101 rfl) rfl
theorem q1130 : (Jvm.Cond.methodLink "LineEchoesLaw" (33 : Nat) ({ cls := "LineEchoes", name := "addPulse", desc := "(II)I" } : Jvm.MethodName)) ∈ lw_all := lw_g (lw_at lw_m5 102 rfl) rfl
theorem q1134 : (Jvm.Cond.methodLink "LineEchoesLaw" (119 : Nat) ({ cls := "LineEchoesLaw", name := "removePulse", desc := "(LLineEchoes;I[J)I" } : Jvm.MethodName)) ∈ lw_all := lw_g (lw_at lw_m5 106 rfl) rfl
theorem q1135 : (Jvm.Cond.static ({ cls := "LineEchoesLaw", name := "removePulse", desc := "(LLineEchoes;I[J)I" } : Jvm.MethodName)) ∈ lw_all := lw_g (lw_at lw_m5 107 rfl) rfl
theorem q1136 : (Jvm.Cond.codeWith ({ cls := "LineEchoesLaw", name := "removePulse", desc := "(LLineEchoes;I[J)I" } : Jvm.MethodName) method_9_code (4 : Nat) (Option.some Jvm.ClassFile.FieldType.int) [((0 : Nat), (9 : Nat), (12 : Nat), (21 : Nat)), ((0 : Nat), (9 : Nat), (15 : Nat), (15 : Nat))]) ∈ lw_all := lw_g (lw_at lw_m5 108 rfl) rfl
theorem q1137 : (Jvm.Cond.methodLink "LineEchoesLaw" (36 : Nat) ({ cls := "LineEchoes", name := "removePulse", desc := "(I)I" } : Jvm.MethodName)) ∈ lw_all := lw_g (lw_at lw_m5 109 rfl) rfl
theorem q1148 : (Jvm.Cond.methodLink "LineEchoesLaw" (122 : Nat) ({ cls := "LineEchoesLaw", name := "part", desc := "(LLineEchoes;II[J)I" } : Jvm.MethodName)) ∈ lw_all := lw_g (lw_at lw_m5 120 rfl) rfl
theorem q1149 : (Jvm.Cond.static ({ cls := "LineEchoesLaw", name := "part", desc := "(LLineEchoes;II[J)I" } : Jvm.MethodName)) ∈ lw_all := lw_g (lw_at lw_m5 121 rfl) rfl
theorem q1150 : (Jvm.Cond.codeWith ({ cls := "LineEchoesLaw", name := "part", desc := "(LLineEchoes;II[J)I" } : Jvm.MethodName) method_10_code (5 : Nat) (Option.some Jvm.ClassFile.FieldType.int) [((0 : Nat), (10 : Nat), (13 : Nat), (21 : Nat)), ((0 : Nat), (10 : Nat), (17 : Nat), (13 : Nat))]) ∈ lw_all := lw_g (lw_at lw_m5 122 rfl) rfl
theorem q1151 : (Jvm.Cond.methodLink "LineEchoesLaw" (39 : Nat) ({ cls := "LineEchoes", name := "part", desc := "(II)I" } : Jvm.MethodName)) ∈ lw_all := lw_g (lw_at lw_m5 123 rfl) rfl
theorem q1162 : (Jvm.Cond.methodLink "LineEchoesLaw" (125 : Nat) ({ cls := "LineEchoesLaw", name := "bench", desc := "(LLineEchoes;I[J)I" } : Jvm.MethodName)) ∈ lw_all := lw_g (lw_at lw_m5 134 rfl) rfl
theorem q1163 : (Jvm.Cond.static ({ cls := "LineEchoesLaw", name := "bench", desc := "(LLineEchoes;I[J)I" } : Jvm.MethodName)) ∈ lw_all := lw_g (lw_at lw_m5 135 rfl) rfl
theorem q1164 : (Jvm.Cond.codeWith ({ cls := "LineEchoesLaw", name := "bench", desc := "(LLineEchoes;I[J)I" } : Jvm.MethodName) method_11_code (4 : Nat) (Option.some Jvm.ClassFile.FieldType.int) [((0 : Nat), (9 : Nat), (12 : Nat), (13 : Nat))]) ∈ lw_all := lw_g (lw_at lw_m5 136 rfl) rfl
theorem q1165 : (Jvm.Cond.methodLink "LineEchoesLaw" (42 : Nat) ({ cls := "LineEchoes", name := "bench", desc := "(I)I" } : Jvm.MethodName)) ∈ lw_all := lw_g (lw_at lw_m5 137 rfl) rfl
theorem q1170 : (Jvm.Cond.methodLink "LineEchoesLaw" (128 : Nat) ({ cls := "LineEchoesLaw", name := "echo", desc := "(LLineEchoes;I[J)I" } : Jvm.MethodName)) ∈ lw_all := lw_g (lw_at lw_m5 142 rfl) rfl
theorem q1171 : (Jvm.Cond.static ({ cls := "LineEchoesLaw", name := "echo", desc := "(LLineEchoes;I[J)I" } : Jvm.MethodName)) ∈ lw_all := lw_g (lw_at lw_m5 143 rfl) rfl
theorem q1172 : (Jvm.Cond.codeWith ({ cls := "LineEchoesLaw", name := "echo", desc := "(LLineEchoes;I[J)I" } : Jvm.MethodName) method_12_code (4 : Nat) (Option.some Jvm.ClassFile.FieldType.int) [((0 : Nat), (8 : Nat), (11 : Nat), (13 : Nat))]) ∈ lw_all := lw_g (lw_at lw_m5 144 rfl) rfl
theorem q1173 : (Jvm.Cond.methodLink "LineEchoesLaw" (45 : Nat) ({ cls := "LineEchoes", name := "echo", desc := "(I)J" } : Jvm.MethodName)) ∈ lw_all := lw_g (lw_at lw_m5 145 rfl) rfl
theorem q1182 : (Jvm.Cond.methodLink "LineEchoesLaw" (131 : Nat) ({ cls := "LineEchoesLaw", name := "echoTime", desc := "(LLineEchoes;I[J)I" } : Jvm.MethodName)) ∈ lw_all := lw_g (lw_at lw_m5 154 rfl) rfl
theorem q1183 : (Jvm.Cond.static ({ cls := "LineEchoesLaw", name := "echoTime", desc := "(LLineEchoes;I[J)I" } : Jvm.MethodName)) ∈ lw_all := lw_g (lw_at lw_m5 155 rfl) rfl
theorem q1184 : (Jvm.Cond.codeWith ({ cls := "LineEchoesLaw", name := "echoTime", desc := "(LLineEchoes;I[J)I" } : Jvm.MethodName) method_13_code (4 : Nat) (Option.some Jvm.ClassFile.FieldType.int) [((0 : Nat), (9 : Nat), (12 : Nat), (13 : Nat))]) ∈ lw_all := lw_g (lw_at lw_m5 156 rfl) rfl
theorem q1185 : (Jvm.Cond.methodLink "LineEchoesLaw" (49 : Nat) ({ cls := "LineEchoes", name := "echoTime", desc := "(I)I" } : Jvm.MethodName)) ∈ lw_all := lw_g (lw_at lw_m5 157 rfl) rfl
theorem q1194 : (Jvm.Cond.methodLink "LineEchoesLaw" (134 : Nat) ({ cls := "LineEchoesLaw", name := "total", desc := "(LLineEchoes;I[J)I" } : Jvm.MethodName)) ∈ lw_all := lw_g (lw_at lw_m5 166 rfl) rfl
theorem q1195 : (Jvm.Cond.static ({ cls := "LineEchoesLaw", name := "total", desc := "(LLineEchoes;I[J)I" } : Jvm.MethodName)) ∈ lw_all := lw_g (lw_at lw_m5 167 rfl) rfl
theorem q1196 : (Jvm.Cond.codeWith ({ cls := "LineEchoesLaw", name := "total", desc := "(LLineEchoes;I[J)I" } : Jvm.MethodName) method_14_code (4 : Nat) (Option.some Jvm.ClassFile.FieldType.int) [((0 : Nat), (8 : Nat), (11 : Nat), (13 : Nat))]) ∈ lw_all := lw_g (lw_at lw_m5 168 rfl) rfl
theorem q1197 : (Jvm.Cond.methodLink "LineEchoesLaw" (52 : Nat) ({ cls := "LineEchoes", name := "total", desc := "(I)J" } : Jvm.MethodName)) ∈ lw_all := lw_g (lw_at lw_m5 169 rfl) rfl
theorem q1202 : (Jvm.Cond.methodLink "LineEchoesLaw" (137 : Nat) ({ cls := "LineEchoesLaw", name := "arrival", desc := "(LLineEchoes;IIZ[J)I" } : Jvm.MethodName)) ∈ lw_all := lw_g (lw_at lw_m5 174 rfl) rfl
theorem q1203 : (Jvm.Cond.static ({ cls := "LineEchoesLaw", name := "arrival", desc := "(LLineEchoes;IIZ[J)I" } : Jvm.MethodName)) ∈ lw_all := lw_g (lw_at lw_m5 175 rfl) rfl
theorem q1204 : (Jvm.Cond.codeWith ({ cls := "LineEchoesLaw", name := "arrival", desc := "(LLineEchoes;IIZ[J)I" } : Jvm.MethodName) method_15_code (6 : Nat) (Option.some Jvm.ClassFile.FieldType.int) [((0 : Nat), (11 : Nat), (14 : Nat), (21 : Nat)), ((0 : Nat), (11 : Nat), (18 : Nat), (13 : Nat))]) ∈ lw_all := lw_g (lw_at lw_m5 176 rfl) rfl
theorem q1205 : (Jvm.Cond.methodLink "LineEchoesLaw" (55 : Nat) ({ cls := "LineEchoes", name := "arrival", desc := "(IIZ)J" } : Jvm.MethodName)) ∈ lw_all := lw_g (lw_at lw_m5 177 rfl) rfl
theorem q1214 : (Jvm.Cond.methodLink "LineEchoesLaw" (141 : Nat) ({ cls := "LineEchoesLaw", name := "echoByte", desc := "(LLineEchoes;I[J)I" } : Jvm.MethodName)) ∈ lw_all := lw_g (lw_at lw_m5 186 rfl) rfl
theorem q1215 : (Jvm.Cond.static ({ cls := "LineEchoesLaw", name := "echoByte", desc := "(LLineEchoes;I[J)I" } : Jvm.MethodName)) ∈ lw_all := lw_g (lw_at lw_m5 187 rfl) rfl
theorem q1216 : (Jvm.Cond.codeWith ({ cls := "LineEchoesLaw", name := "echoByte", desc := "(LLineEchoes;I[J)I" } : Jvm.MethodName) method_16_code (4 : Nat) (Option.some Jvm.ClassFile.FieldType.int) [((0 : Nat), (9 : Nat), (12 : Nat), (13 : Nat))]) ∈ lw_all := lw_g (lw_at lw_m5 188 rfl) rfl
theorem q1217 : (Jvm.Cond.methodLink "LineEchoesLaw" (59 : Nat) ({ cls := "LineEchoes", name := "echoByte", desc := "(I)I" } : Jvm.MethodName)) ∈ lw_all := lw_g (lw_at lw_m5 189 rfl) rfl
theorem q1269 : (Jvm.Cond.methodLink "LineEchoesLaw" (152 : Nat) ({ cls := "LineEchoesLaw", name := "fault", desc := "(LLineEchoes;I[J)I" } : Jvm.MethodName)) ∈ lw_all := lw_g (lw_at lw_m6 1 rfl) rfl
theorem q1270 : (Jvm.Cond.static ({ cls := "LineEchoesLaw", name := "fault", desc := "(LLineEchoes;I[J)I" } : Jvm.MethodName)) ∈ lw_all := lw_g (lw_at lw_m6 2 rfl) rfl
theorem q1271 : (Jvm.Cond.codeWith ({ cls := "LineEchoesLaw", name := "fault", desc := "(LLineEchoes;I[J)I" } : Jvm.MethodName) method_17_code (4 : Nat) (Option.some Jvm.ClassFile.FieldType.int) [((0 : Nat), (9 : Nat), (12 : Nat), (13 : Nat))]) ∈ lw_all := lw_g (lw_at lw_m6 3 rfl) rfl
theorem q1272 : (Jvm.Cond.methodLink "LineEchoesLaw" (62 : Nat) ({ cls := "LineEchoes", name := "fault", desc := "(I)I" } : Jvm.MethodName)) ∈ lw_all := lw_g (lw_at lw_m6 4 rfl) rfl
theorem q1277 : (Jvm.Cond.methodLink "LineEchoesLaw" (161 : Nat) ({ cls := "LineEchoesLaw", name := "setObserved", desc := "(LLineEchoes;IJ[J)I" } : Jvm.MethodName)) ∈ lw_all := lw_g (lw_at lw_m6 9 rfl) rfl
theorem q1278 : (Jvm.Cond.static ({ cls := "LineEchoesLaw", name := "setObserved", desc := "(LLineEchoes;IJ[J)I" } : Jvm.MethodName)) ∈ lw_all := lw_g (lw_at lw_m6 10 rfl) rfl
theorem q1279 : (Jvm.Cond.codeWith ({ cls := "LineEchoesLaw", name := "setObserved", desc := "(LLineEchoes;IJ[J)I" } : Jvm.MethodName) method_18_code (6 : Nat) (Option.some Jvm.ClassFile.FieldType.int) [((0 : Nat), (10 : Nat), (13 : Nat), (13 : Nat))]) ∈ lw_all := lw_g (lw_at lw_m6 11 rfl) rfl
theorem q1280 : (Jvm.Cond.methodLink "LineEchoesLaw" (65 : Nat) ({ cls := "LineEchoes", name := "setObserved", desc := "(IJ)J" } : Jvm.MethodName)) ∈ lw_all := lw_g (lw_at lw_m6 12 rfl) rfl
theorem q1294 : (Jvm.Cond.methodLink "LineEchoesLaw" (165 : Nat) ({ cls := "LineEchoesLaw", name := "observed", desc := "(LLineEchoes;I[J)I" } : Jvm.MethodName)) ∈ lw_all := lw_g (lw_at lw_m6 26 rfl) rfl
theorem q1295 : (Jvm.Cond.static ({ cls := "LineEchoesLaw", name := "observed", desc := "(LLineEchoes;I[J)I" } : Jvm.MethodName)) ∈ lw_all := lw_g (lw_at lw_m6 27 rfl) rfl
theorem q1296 : (Jvm.Cond.codeWith ({ cls := "LineEchoesLaw", name := "observed", desc := "(LLineEchoes;I[J)I" } : Jvm.MethodName) method_19_code (4 : Nat) (Option.some Jvm.ClassFile.FieldType.int) [((0 : Nat), (8 : Nat), (11 : Nat), (13 : Nat))]) ∈ lw_all := lw_g (lw_at lw_m6 28 rfl) rfl
theorem q1297 : (Jvm.Cond.methodLink "LineEchoesLaw" (69 : Nat) ({ cls := "LineEchoes", name := "observed", desc := "(I)J" } : Jvm.MethodName)) ∈ lw_all := lw_g (lw_at lw_m6 29 rfl) rfl
theorem q1301 : (Jvm.Cond.methodLink "LineEchoesLaw" (168 : Nat) ({ cls := "LineEchoesLaw", name := "peel", desc := "(LLineEchoes;I[J)I" } : Jvm.MethodName)) ∈ lw_all := lw_g (lw_at lw_m6 33 rfl) rfl
theorem q1302 : (Jvm.Cond.static ({ cls := "LineEchoesLaw", name := "peel", desc := "(LLineEchoes;I[J)I" } : Jvm.MethodName)) ∈ lw_all := lw_g (lw_at lw_m6 34 rfl) rfl
theorem q1303 : (Jvm.Cond.codeWith ({ cls := "LineEchoesLaw", name := "peel", desc := "(LLineEchoes;I[J)I" } : Jvm.MethodName) method_20_code (4 : Nat) (Option.some Jvm.ClassFile.FieldType.int) [((0 : Nat), (9 : Nat), (12 : Nat), (13 : Nat))]) ∈ lw_all := lw_g (lw_at lw_m6 35 rfl) rfl
theorem q1304 : (Jvm.Cond.methodLink "LineEchoesLaw" (72 : Nat) ({ cls := "LineEchoes", name := "peel", desc := "(I)I" } : Jvm.MethodName)) ∈ lw_all := lw_g (lw_at lw_m6 36 rfl) rfl
theorem q1308 : (Jvm.Cond.methodLink "LineEchoesLaw" (171 : Nat) ({ cls := "LineEchoesLaw", name := "found", desc := "(LLineEchoes;II[J)I" } : Jvm.MethodName)) ∈ lw_all := lw_g (lw_at lw_m6 40 rfl) rfl
theorem q1309 : (Jvm.Cond.static ({ cls := "LineEchoesLaw", name := "found", desc := "(LLineEchoes;II[J)I" } : Jvm.MethodName)) ∈ lw_all := lw_g (lw_at lw_m6 41 rfl) rfl
theorem q1310 : (Jvm.Cond.codeWith ({ cls := "LineEchoesLaw", name := "found", desc := "(LLineEchoes;II[J)I" } : Jvm.MethodName) method_21_code (5 : Nat) (Option.some Jvm.ClassFile.FieldType.int) [((0 : Nat), (10 : Nat), (13 : Nat), (13 : Nat))]) ∈ lw_all := lw_g (lw_at lw_m6 42 rfl) rfl
theorem q1311 : (Jvm.Cond.methodLink "LineEchoesLaw" (75 : Nat) ({ cls := "LineEchoes", name := "found", desc := "(II)I" } : Jvm.MethodName)) ∈ lw_all := lw_g (lw_at lw_m6 43 rfl) rfl
theorem q1316 : (Jvm.Cond.methodLink "LineEchoesLaw" (178 : Nat) ({ cls := "LineEchoesLaw", name := "type", desc := "(LLineEchoes;I[J)I" } : Jvm.MethodName)) ∈ lw_all := lw_g (lw_at lw_m6 48 rfl) rfl
theorem q1317 : (Jvm.Cond.static ({ cls := "LineEchoesLaw", name := "type", desc := "(LLineEchoes;I[J)I" } : Jvm.MethodName)) ∈ lw_all := lw_g (lw_at lw_m6 49 rfl) rfl
theorem q1318 : (Jvm.Cond.codeWith ({ cls := "LineEchoesLaw", name := "type", desc := "(LLineEchoes;I[J)I" } : Jvm.MethodName) method_22_code (4 : Nat) (Option.some Jvm.ClassFile.FieldType.int) [((0 : Nat), (9 : Nat), (12 : Nat), (13 : Nat)), ((0 : Nat), (9 : Nat), (15 : Nat), (15 : Nat))]) ∈ lw_all := lw_g (lw_at lw_m6 50 rfl) rfl
theorem q1319 : (Jvm.Cond.methodLink "LineEchoesLaw" (78 : Nat) ({ cls := "LineEchoes", name := "type", desc := "(I)I" } : Jvm.MethodName)) ∈ lw_all := lw_g (lw_at lw_m6 51 rfl) rfl
theorem q1326 : (Jvm.Cond.methodLink "LineEchoesLaw" (189 : Nat) ({ cls := "LineEchoesLaw", name := "undo", desc := "(LLineEchoes;[J)I" } : Jvm.MethodName)) ∈ lw_all := lw_g (lw_at lw_m6 58 rfl) rfl
theorem q1327 : (Jvm.Cond.static ({ cls := "LineEchoesLaw", name := "undo", desc := "(LLineEchoes;[J)I" } : Jvm.MethodName)) ∈ lw_all := lw_g (lw_at lw_m6 59 rfl) rfl
theorem q1328 : (Jvm.Cond.codeWith ({ cls := "LineEchoesLaw", name := "undo", desc := "(LLineEchoes;[J)I" } : Jvm.MethodName) method_23_code (3 : Nat) (Option.some Jvm.ClassFile.FieldType.int) [((0 : Nat), (8 : Nat), (11 : Nat), (15 : Nat))]) ∈ lw_all := lw_g (lw_at lw_m6 60 rfl) rfl
theorem q1329 : (Jvm.Cond.methodLink "LineEchoesLaw" (81 : Nat) ({ cls := "LineEchoes", name := "undo", desc := "()I" } : Jvm.MethodName)) ∈ lw_all := lw_g (lw_at lw_m6 61 rfl) rfl
theorem q1334 : (Jvm.Cond.classLink "LineEchoesLaw" (86 : Nat) "LineEchoesModel") ∈ lw_all := lw_g (lw_at lw_m6 66 rfl) rfl
theorem q1336 : (Jvm.Cond.methodLink "LineEchoesLaw" (88 : Nat) ({ cls := "LineEchoesModel", name := "<init>", desc := "()V" } : Jvm.MethodName)) ∈ lw_all := lw_g (lw_at lw_m6 68 rfl) rfl
theorem q1427 : (Jvm.Cond.methodLink "LineEchoesLaw" (95 : Nat) ({ cls := "LineEchoesModel", name := "thrown", desc := "()I" } : Jvm.MethodName)) ∈ lw_all := lw_g (lw_at lw_m6 159 rfl) rfl
theorem q1431 : (Jvm.Cond.methodLink "LineEchoesLaw" (94 : Nat) ({ cls := "LineEchoesModel", name := "addPart", desc := "(II)I" } : Jvm.MethodName)) ∈ lw_all := lw_g (lw_at lw_m6 163 rfl) rfl
theorem q1463 : (Jvm.Cond.methodLink "LineEchoesLaw" (101 : Nat) ({ cls := "LineEchoesModel", name := "setPart", desc := "(III)I" } : Jvm.MethodName)) ∈ lw_all := lw_g (lw_at lw_m6 195 rfl) rfl
theorem q1479 : (Jvm.Cond.methodLink "LineEchoesLaw" (105 : Nat) ({ cls := "LineEchoesModel", name := "removePart", desc := "(I)I" } : Jvm.MethodName)) ∈ lw_all := lw_g (lw_at lw_m6 211 rfl) rfl
theorem q1487 : (Jvm.Cond.methodLink "LineEchoesLaw" (108 : Nat) ({ cls := "LineEchoesModel", name := "splitPart", desc := "(III)I" } : Jvm.MethodName)) ∈ lw_all := lw_g (lw_at lw_m6 219 rfl) rfl
theorem q1499 : (Jvm.Cond.methodLink "LineEchoesLaw" (112 : Nat) ({ cls := "LineEchoesModel", name := "reverse", desc := "()I" } : Jvm.MethodName)) ∈ lw_all := lw_g (lw_at lw_m6 231 rfl) rfl
theorem q1511 : (Jvm.Cond.methodLink "LineEchoesLaw" (115 : Nat) ({ cls := "LineEchoesModel", name := "setBench", desc := "(III)I" } : Jvm.MethodName)) ∈ lw_all := lw_g (lw_at lw_m7 3 rfl) rfl
theorem q1521 : (Jvm.Cond.methodLink "LineEchoesLaw" (118 : Nat) ({ cls := "LineEchoesModel", name := "addPulse", desc := "(II)I" } : Jvm.MethodName)) ∈ lw_all := lw_g (lw_at lw_m7 13 rfl) rfl
theorem q1535 : (Jvm.Cond.methodLink "LineEchoesLaw" (121 : Nat) ({ cls := "LineEchoesModel", name := "removePulse", desc := "(I)I" } : Jvm.MethodName)) ∈ lw_all := lw_g (lw_at lw_m7 27 rfl) rfl
theorem q1541 : (Jvm.Cond.methodLink "LineEchoesLaw" (124 : Nat) ({ cls := "LineEchoesModel", name := "part", desc := "(II)I" } : Jvm.MethodName)) ∈ lw_all := lw_g (lw_at lw_m7 33 rfl) rfl
theorem q1549 : (Jvm.Cond.methodLink "LineEchoesLaw" (127 : Nat) ({ cls := "LineEchoesModel", name := "bench", desc := "(I)I" } : Jvm.MethodName)) ∈ lw_all := lw_g (lw_at lw_m7 41 rfl) rfl
theorem q1558 : (Jvm.Cond.methodLink "LineEchoesLaw" (130 : Nat) ({ cls := "LineEchoesModel", name := "echo", desc := "(I)J" } : Jvm.MethodName)) ∈ lw_all := lw_g (lw_at lw_m7 50 rfl) rfl
theorem q1594 : (Jvm.Cond.methodLink "LineEchoesLaw" (133 : Nat) ({ cls := "LineEchoesModel", name := "echoTime", desc := "(I)I" } : Jvm.MethodName)) ∈ lw_all := lw_g (lw_at lw_m7 86 rfl) rfl
theorem q1598 : (Jvm.Cond.methodLink "LineEchoesLaw" (136 : Nat) ({ cls := "LineEchoesModel", name := "total", desc := "(I)J" } : Jvm.MethodName)) ∈ lw_all := lw_g (lw_at lw_m7 90 rfl) rfl
theorem q1611 : (Jvm.Cond.methodLink "LineEchoesLaw" (140 : Nat) ({ cls := "LineEchoesModel", name := "arrival", desc := "(IIZ)J" } : Jvm.MethodName)) ∈ lw_all := lw_g (lw_at lw_m7 103 rfl) rfl
theorem q1615 : (Jvm.Cond.methodLink "LineEchoesLaw" (143 : Nat) ({ cls := "LineEchoesModel", name := "echoByte", desc := "(I)I" } : Jvm.MethodName)) ∈ lw_all := lw_g (lw_at lw_m7 107 rfl) rfl
theorem q1626 : (Jvm.Cond.methodLink "LineEchoesLaw" (147 : Nat) ({ cls := "LineEchoesModel", name := "keepSound", desc := "()I" } : Jvm.MethodName)) ∈ lw_all := lw_g (lw_at lw_m7 118 rfl) rfl
theorem q1634 : (Jvm.Cond.methodLink "LineEchoesLaw" (151 : Nat) ({ cls := "LineEchoesModel", name := "differences", desc := "()I" } : Jvm.MethodName)) ∈ lw_all := lw_g (lw_at lw_m7 126 rfl) rfl
theorem q1642 : (Jvm.Cond.methodLink "LineEchoesLaw" (154 : Nat) ({ cls := "LineEchoesModel", name := "fault", desc := "(I)I" } : Jvm.MethodName)) ∈ lw_all := lw_g (lw_at lw_m7 134 rfl) rfl
theorem q1655 : (Jvm.Cond.methodLink "LineEchoesLaw" (158 : Nat) ({ cls := "LineEchoesModel", name := "observe", desc := "()I" } : Jvm.MethodName)) ∈ lw_all := lw_g (lw_at lw_m7 147 rfl) rfl
theorem q1659 : (Jvm.Cond.methodLink "LineEchoesLaw" (164 : Nat) ({ cls := "LineEchoesModel", name := "setObserved", desc := "(IJ)J" } : Jvm.MethodName)) ∈ lw_all := lw_g (lw_at lw_m7 151 rfl) rfl
theorem q1664 : (Jvm.Cond.methodLink "LineEchoesLaw" (167 : Nat) ({ cls := "LineEchoesModel", name := "observed", desc := "(I)J" } : Jvm.MethodName)) ∈ lw_all := lw_g (lw_at lw_m7 156 rfl) rfl
theorem q1668 : (Jvm.Cond.methodLink "LineEchoesLaw" (170 : Nat) ({ cls := "LineEchoesModel", name := "peel", desc := "(I)I" } : Jvm.MethodName)) ∈ lw_all := lw_g (lw_at lw_m7 160 rfl) rfl
theorem q1692 : (Jvm.Cond.methodLink "LineEchoesLaw" (173 : Nat) ({ cls := "LineEchoesModel", name := "found", desc := "(II)I" } : Jvm.MethodName)) ∈ lw_all := lw_g (lw_at lw_m7 184 rfl) rfl
theorem q1696 : (Jvm.Cond.methodLink "LineEchoesLaw" (177 : Nat) ({ cls := "LineEchoesModel", name := "adopt", desc := "()I" } : Jvm.MethodName)) ∈ lw_all := lw_g (lw_at lw_m7 188 rfl) rfl
theorem q1704 : (Jvm.Cond.methodLink "LineEchoesLaw" (180 : Nat) ({ cls := "LineEchoesModel", name := "type", desc := "(I)I" } : Jvm.MethodName)) ∈ lw_all := lw_g (lw_at lw_m7 196 rfl) rfl
theorem q1709 : (Jvm.Cond.methodLink "LineEchoesLaw" (184 : Nat) ({ cls := "LineEchoesModel", name := "clearScript", desc := "()I" } : Jvm.MethodName)) ∈ lw_all := lw_g (lw_at lw_m7 201 rfl) rfl
theorem q1713 : (Jvm.Cond.methodLink "LineEchoesLaw" (188 : Nat) ({ cls := "LineEchoesModel", name := "run", desc := "()I" } : Jvm.MethodName)) ∈ lw_all := lw_g (lw_at lw_m7 205 rfl) rfl
theorem q1762 : (Jvm.Cond.methodLink "LineEchoesLaw" (192 : Nat) ({ cls := "LineEchoesModel", name := "undo", desc := "()I" } : Jvm.MethodName)) ∈ lw_all := lw_g (lw_at lw_m8 14 rfl) rfl
theorem q1766 : (Jvm.Cond.methodLink "LineEchoesLaw" (197 : Nat) ({ cls := "LineEchoesModel", name := "digest", desc := "()J" } : Jvm.MethodName)) ∈ lw_all := lw_g (lw_at lw_m8 18 rfl) rfl
theorem q1780 : (Jvm.Cond.constantLong "LineEchoesLaw" (159 : Nat) (4294967295 : Int64)) ∈ lw_all := lw_g (lw_at lw_m8 32 rfl) rfl

/-! the law's own entry -/
set_option maxRecDepth 100000
abbrev cL_law : ByteArray := code
def dkwL_law_65 : List UInt8 := [182, 0, 197, 148, 153, 0, 5, 3, 172, 132, 4, 4, 167, 249, 176, 4, 172]
abbrev dktL_law_65 : List UInt8 := dkwL_law_65 ++ []
def dkwL_law_64 : List UInt8 := [154, 0, 15, 45, 3, 47, 21, 6, 133, 148, 153, 0, 5, 3, 172, 167, 0, 17, 43, 182, 0, 193, 44]
abbrev dktL_law_64 : List UInt8 := dkwL_law_64 ++ dktL_law_65
def dkwL_law_63 : List UInt8 := [184, 0, 189, 54, 5, 44, 182, 0, 192, 54, 6, 44, 182, 0, 95, 21, 5, 159, 0, 5, 3, 172, 21, 5]
abbrev dktL_law_63 : List UInt8 := dkwL_law_63 ++ dktL_law_64
def dkwL_law_62 : List UInt8 := [182, 0, 184, 159, 0, 76, 3, 172, 43, 182, 0, 185, 44, 182, 0, 188, 159, 0, 63, 3, 172, 43, 45]
abbrev dktL_law_62 : List UInt8 := dkwL_law_62 ++ dktL_law_63
def dkwL_law_61 : List UInt8 := [154, 0, 15, 45, 3, 47, 21, 6, 133, 148, 153, 0, 5, 3, 172, 167, 0, 87, 43, 182, 0, 181, 44]
abbrev dktL_law_61 : List UInt8 := dkwL_law_61 ++ dktL_law_62
def dkwL_law_60 : List UInt8 := [21, 4, 4, 96, 46, 182, 0, 180, 54, 6, 44, 182, 0, 95, 21, 5, 159, 0, 5, 3, 172, 21, 5]
abbrev dktL_law_60 : List UInt8 := dkwL_law_60 ++ dktL_law_61
def dkwL_law_59 : List UInt8 := [182, 0, 177, 159, 0, 145, 3, 172, 43, 42, 21, 4, 4, 96, 46, 45, 184, 0, 178, 54, 5, 44, 42]
abbrev dktL_law_59 : List UInt8 := dkwL_law_59 ++ dktL_law_60
def dkwL_law_58 : List UInt8 := [154, 0, 15, 45, 3, 47, 21, 6, 133, 148, 153, 0, 5, 3, 172, 167, 0, 156, 43, 182, 0, 174, 44]
abbrev dktL_law_58 : List UInt8 := dkwL_law_58 ++ dktL_law_59
def dkwL_law_57 : List UInt8 := [42, 21, 4, 5, 96, 46, 182, 0, 173, 54, 6, 44, 182, 0, 95, 21, 5, 159, 0, 5, 3, 172, 21, 5]
abbrev dktL_law_57 : List UInt8 := dkwL_law_57 ++ dktL_law_58
def dkwL_law_56 : List UInt8 := [21, 4, 4, 96, 46, 42, 21, 4, 5, 96, 46, 45, 184, 0, 171, 54, 5, 44, 42, 21, 4, 4, 96, 46]
abbrev dktL_law_56 : List UInt8 := dkwL_law_56 ++ dktL_law_57
def dkwL_law_55 : List UInt8 := [172, 21, 5, 154, 0, 15, 45, 3, 47, 21, 6, 133, 148, 153, 0, 5, 3, 172, 167, 0, 224, 43, 42]
abbrev dktL_law_55 : List UInt8 := dkwL_law_55 ++ dktL_law_56
def dkwL_law_54 : List UInt8 := [54, 5, 44, 42, 21, 4, 4, 96, 46, 182, 0, 170, 54, 6, 44, 182, 0, 95, 21, 5, 159, 0, 5, 3]
abbrev dktL_law_54 : List UInt8 := dkwL_law_54 ++ dktL_law_55
def dkwL_law_53 : List UInt8 := [47, 22, 6, 148, 153, 0, 5, 3, 172, 167, 1, 24, 43, 42, 21, 4, 4, 96, 46, 45, 184, 0, 168]
abbrev dktL_law_53 : List UInt8 := dkwL_law_53 ++ dktL_law_54
def dkwL_law_52 : List UInt8 := [46, 182, 0, 167, 55, 6, 44, 182, 0, 95, 21, 5, 159, 0, 5, 3, 172, 21, 5, 154, 0, 14, 45, 3]
abbrev dktL_law_52 : List UInt8 := dkwL_law_52 ++ dktL_law_53
def dkwL_law_51 : List UInt8 := [3, 172, 167, 1, 79, 43, 42, 21, 4, 4, 96, 46, 45, 184, 0, 165, 54, 5, 44, 42, 21, 4, 4, 96]
abbrev dktL_law_51 : List UInt8 := dkwL_law_51 ++ dktL_law_52
def dkwL_law_50 : List UInt8 := [182, 0, 95, 21, 5, 159, 0, 5, 3, 172, 21, 5, 154, 0, 14, 45, 3, 47, 22, 6, 148, 153, 0, 5]
abbrev dktL_law_50 : List UInt8 := dkwL_law_50 ++ dktL_law_51
def dkwL_law_49 : List UInt8 := [96, 46, 133, 16, 32, 121, 42, 21, 4, 6, 96, 46, 133, 20, 0, 159, 127, 129, 182, 0, 164, 55, 6, 44]
abbrev dktL_law_49 : List UInt8 := dkwL_law_49 ++ dktL_law_50
def dkwL_law_48 : List UInt8 := [46, 133, 20, 0, 159, 127, 129, 45, 184, 0, 161, 54, 5, 44, 42, 21, 4, 4, 96, 46, 42, 21, 4, 5]
abbrev dktL_law_48 : List UInt8 := dkwL_law_48 ++ dktL_law_49
def dkwL_law_47 : List UInt8 := [3, 172, 43, 42, 21, 4, 4, 96, 46, 42, 21, 4, 5, 96, 46, 133, 16, 32, 121, 42, 21, 4, 6, 96]
abbrev dktL_law_47 : List UInt8 := dkwL_law_47 ++ dktL_law_48
def dkwL_law_46 : List UInt8 := [47, 21, 6, 133, 148, 153, 0, 5, 3, 172, 167, 1, 191, 43, 182, 0, 155, 44, 182, 0, 158, 159, 1, 180]
abbrev dktL_law_46 : List UInt8 := dkwL_law_46 ++ dktL_law_47
def dkwL_law_45 : List UInt8 := [46, 182, 0, 154, 54, 6, 44, 182, 0, 95, 21, 5, 159, 0, 5, 3, 172, 21, 5, 154, 0, 15, 45, 3]
abbrev dktL_law_45 : List UInt8 := dkwL_law_45 ++ dktL_law_46
def dkwL_law_44 : List UInt8 := [159, 1, 249, 3, 172, 43, 42, 21, 4, 4, 96, 46, 45, 184, 0, 152, 54, 5, 44, 42, 21, 4, 4, 96]
abbrev dktL_law_44 : List UInt8 := dkwL_law_44 ++ dktL_law_45
def dkwL_law_43 : List UInt8 := [167, 2, 17, 43, 182, 0, 144, 44, 182, 0, 147, 159, 2, 6, 3, 172, 43, 182, 0, 148, 44, 182, 0, 151]
abbrev dktL_law_43 : List UInt8 := dkwL_law_43 ++ dktL_law_44
def dkwL_law_42 : List UInt8 := [21, 5, 159, 0, 5, 3, 172, 21, 5, 154, 0, 15, 45, 3, 47, 21, 6, 133, 148, 153, 0, 5, 3, 172]
abbrev dktL_law_42 : List UInt8 := dkwL_law_42 ++ dktL_law_43
def dkwL_law_41 : List UInt8 := [96, 46, 45, 184, 0, 141, 54, 5, 44, 42, 21, 4, 4, 96, 46, 182, 0, 143, 54, 6, 44, 182, 0, 95]
abbrev dktL_law_41 : List UInt8 := dkwL_law_41 ++ dktL_law_42
def dkwL_law_40 : List UInt8 := [21, 5, 154, 0, 14, 45, 3, 47, 22, 6, 148, 153, 0, 5, 3, 172, 167, 2, 73, 43, 42, 21, 4, 4]
abbrev dktL_law_40 : List UInt8 := dkwL_law_40 ++ dktL_law_41
def dkwL_law_39 : List UInt8 := [153, 0, 7, 4, 167, 0, 4, 3, 182, 0, 140, 55, 6, 44, 182, 0, 95, 21, 5, 159, 0, 5, 3, 172]
abbrev dktL_law_39 : List UInt8 := dkwL_law_39 ++ dktL_law_40
def dkwL_law_38 : List UInt8 := [184, 0, 137, 54, 5, 44, 42, 21, 4, 4, 96, 46, 42, 21, 4, 5, 96, 46, 42, 21, 4, 6, 96, 46]
abbrev dktL_law_38 : List UInt8 := dkwL_law_38 ++ dktL_law_39
def dkwL_law_37 : List UInt8 := [4, 96, 46, 42, 21, 4, 5, 96, 46, 42, 21, 4, 6, 96, 46, 153, 0, 7, 4, 167, 0, 4, 3, 45]
abbrev dktL_law_37 : List UInt8 := dkwL_law_37 ++ dktL_law_38
def dkwL_law_36 : List UInt8 := [172, 21, 5, 154, 0, 14, 45, 3, 47, 22, 6, 148, 153, 0, 5, 3, 172, 167, 2, 168, 43, 42, 21, 4]
abbrev dktL_law_36 : List UInt8 := dkwL_law_36 ++ dktL_law_37
def dkwL_law_35 : List UInt8 := [54, 5, 44, 42, 21, 4, 4, 96, 46, 182, 0, 136, 55, 6, 44, 182, 0, 95, 21, 5, 159, 0, 5, 3]
abbrev dktL_law_35 : List UInt8 := dkwL_law_35 ++ dktL_law_36
def dkwL_law_34 : List UInt8 := [21, 6, 133, 148, 153, 0, 5, 3, 172, 167, 2, 223, 43, 42, 21, 4, 4, 96, 46, 45, 184, 0, 134]
abbrev dktL_law_34 : List UInt8 := dkwL_law_34 ++ dktL_law_35
def dkwL_law_33 : List UInt8 := [182, 0, 133, 54, 6, 44, 182, 0, 95, 21, 5, 159, 0, 5, 3, 172, 21, 5, 154, 0, 15, 45, 3, 47]
abbrev dktL_law_33 : List UInt8 := dkwL_law_33 ++ dktL_law_34
def dkwL_law_32 : List UInt8 := [167, 3, 23, 43, 42, 21, 4, 4, 96, 46, 45, 184, 0, 131, 54, 5, 44, 42, 21, 4, 4, 96, 46]
abbrev dktL_law_32 : List UInt8 := dkwL_law_32 ++ dktL_law_33
def dkwL_law_31 : List UInt8 := [21, 5, 159, 0, 5, 3, 172, 21, 5, 154, 0, 14, 45, 3, 47, 22, 6, 148, 153, 0, 5, 3, 172]
abbrev dktL_law_31 : List UInt8 := dkwL_law_31 ++ dktL_law_32
def dkwL_law_30 : List UInt8 := [46, 45, 184, 0, 128, 54, 5, 44, 42, 21, 4, 4, 96, 46, 182, 0, 130, 55, 6, 44, 182, 0, 95]
abbrev dktL_law_30 : List UInt8 := dkwL_law_30 ++ dktL_law_31
def dkwL_law_29 : List UInt8 := [154, 0, 15, 45, 3, 47, 21, 6, 133, 148, 153, 0, 5, 3, 172, 167, 3, 78, 43, 42, 21, 4, 4, 96]
abbrev dktL_law_29 : List UInt8 := dkwL_law_29 ++ dktL_law_30
def dkwL_law_28 : List UInt8 := [21, 4, 4, 96, 46, 182, 0, 127, 54, 6, 44, 182, 0, 95, 21, 5, 159, 0, 5, 3, 172, 21, 5]
abbrev dktL_law_28 : List UInt8 := dkwL_law_28 ++ dktL_law_29
def dkwL_law_27 : List UInt8 := [148, 153, 0, 5, 3, 172, 167, 3, 134, 43, 42, 21, 4, 4, 96, 46, 45, 184, 0, 125, 54, 5, 44, 42]
abbrev dktL_law_27 : List UInt8 := dkwL_law_27 ++ dktL_law_28
def dkwL_law_26 : List UInt8 := [54, 6, 44, 182, 0, 95, 21, 5, 159, 0, 5, 3, 172, 21, 5, 154, 0, 15, 45, 3, 47, 21, 6, 133]
abbrev dktL_law_26 : List UInt8 := dkwL_law_26 ++ dktL_law_27
def dkwL_law_25 : List UInt8 := [46, 45, 184, 0, 122, 54, 5, 44, 42, 21, 4, 4, 96, 46, 42, 21, 4, 5, 96, 46, 182, 0, 124]
abbrev dktL_law_25 : List UInt8 := dkwL_law_25 ++ dktL_law_26
def dkwL_law_24 : List UInt8 := [21, 6, 133, 148, 153, 0, 5, 3, 172, 167, 3, 202, 43, 42, 21, 4, 4, 96, 46, 42, 21, 4, 5, 96]
abbrev dktL_law_24 : List UInt8 := dkwL_law_24 ++ dktL_law_25
def dkwL_law_23 : List UInt8 := [182, 0, 121, 54, 6, 44, 182, 0, 95, 21, 5, 159, 0, 5, 3, 172, 21, 5, 154, 0, 15, 45, 3, 47]
abbrev dktL_law_23 : List UInt8 := dkwL_law_23 ++ dktL_law_24
def dkwL_law_22 : List UInt8 := [167, 4, 2, 43, 42, 21, 4, 4, 96, 46, 45, 184, 0, 119, 54, 5, 44, 42, 21, 4, 4, 96, 46]
abbrev dktL_law_22 : List UInt8 := dkwL_law_22 ++ dktL_law_23
def dkwL_law_21 : List UInt8 := [159, 0, 5, 3, 172, 21, 5, 154, 0, 15, 45, 3, 47, 21, 6, 133, 148, 153, 0, 5, 3, 172]
abbrev dktL_law_21 : List UInt8 := dkwL_law_21 ++ dktL_law_22
def dkwL_law_20 : List UInt8 := [21, 4, 4, 96, 46, 42, 21, 4, 5, 96, 46, 182, 0, 118, 54, 6, 44, 182, 0, 95, 21, 5]
abbrev dktL_law_20 : List UInt8 := dkwL_law_20 ++ dktL_law_21
def dkwL_law_19 : List UInt8 := [167, 4, 70, 43, 42, 21, 4, 4, 96, 46, 42, 21, 4, 5, 96, 46, 45, 184, 0, 116, 54, 5, 44, 42]
abbrev dktL_law_19 : List UInt8 := dkwL_law_19 ++ dktL_law_20
def dkwL_law_18 : List UInt8 := [159, 0, 5, 3, 172, 21, 5, 154, 0, 15, 45, 3, 47, 21, 6, 133, 148, 153, 0, 5, 3, 172]
abbrev dktL_law_18 : List UInt8 := dkwL_law_18 ++ dktL_law_19
def dkwL_law_17 : List UInt8 := [42, 21, 4, 5, 96, 46, 42, 21, 4, 6, 96, 46, 182, 0, 115, 54, 6, 44, 182, 0, 95, 21, 5]
abbrev dktL_law_17 : List UInt8 := dkwL_law_17 ++ dktL_law_18
def dkwL_law_16 : List UInt8 := [21, 4, 5, 96, 46, 42, 21, 4, 6, 96, 46, 45, 184, 0, 113, 54, 5, 44, 42, 21, 4, 4, 96, 46]
abbrev dktL_law_16 : List UInt8 := dkwL_law_16 ++ dktL_law_17
def dkwL_law_15 : List UInt8 := [167, 4, 163, 43, 182, 0, 109, 44, 182, 0, 112, 159, 4, 152, 3, 172, 43, 42, 21, 4, 4, 96, 46, 42]
abbrev dktL_law_15 : List UInt8 := dkwL_law_15 ++ dktL_law_16
def dkwL_law_14 : List UInt8 := [21, 5, 159, 0, 5, 3, 172, 21, 5, 154, 0, 15, 45, 3, 47, 21, 6, 133, 148, 153, 0, 5, 3, 172]
abbrev dktL_law_14 : List UInt8 := dkwL_law_14 ++ dktL_law_15
def dkwL_law_13 : List UInt8 := [96, 46, 42, 21, 4, 5, 96, 46, 42, 21, 4, 6, 96, 46, 182, 0, 108, 54, 6, 44, 182, 0, 95]
abbrev dktL_law_13 : List UInt8 := dkwL_law_13 ++ dktL_law_14
def dkwL_law_12 : List UInt8 := [46, 42, 21, 4, 5, 96, 46, 42, 21, 4, 6, 96, 46, 45, 184, 0, 106, 54, 5, 44, 42, 21, 4, 4]
abbrev dktL_law_12 : List UInt8 := dkwL_law_12 ++ dktL_law_13
def dkwL_law_11 : List UInt8 := [154, 0, 15, 45, 3, 47, 21, 6, 133, 148, 153, 0, 5, 3, 172, 167, 4, 243, 43, 42, 21, 4, 4, 96]
abbrev dktL_law_11 : List UInt8 := dkwL_law_11 ++ dktL_law_12
def dkwL_law_10 : List UInt8 := [21, 4, 4, 96, 46, 182, 0, 105, 54, 6, 44, 182, 0, 95, 21, 5, 159, 0, 5, 3, 172, 21, 5]
abbrev dktL_law_10 : List UInt8 := dkwL_law_10 ++ dktL_law_11
def dkwL_law_9 : List UInt8 := [153, 0, 5, 3, 172, 167, 5, 43, 43, 42, 21, 4, 4, 96, 46, 45, 184, 0, 102, 54, 5, 44, 42]
abbrev dktL_law_9 : List UInt8 := dkwL_law_9 ++ dktL_law_10
def dkwL_law_8 : List UInt8 := [182, 0, 95, 21, 5, 159, 0, 5, 3, 172, 21, 5, 154, 0, 15, 45, 3, 47, 21, 6, 133, 148]
abbrev dktL_law_8 : List UInt8 := dkwL_law_8 ++ dktL_law_9
def dkwL_law_7 : List UInt8 := [21, 4, 4, 96, 46, 42, 21, 4, 5, 96, 46, 42, 21, 4, 6, 96, 46, 182, 0, 101, 54, 6, 44]
abbrev dktL_law_7 : List UInt8 := dkwL_law_7 ++ dktL_law_8
def dkwL_law_6 : List UInt8 := [4, 96, 46, 42, 21, 4, 5, 96, 46, 42, 21, 4, 6, 96, 46, 45, 184, 0, 98, 54, 5, 44, 42]
abbrev dktL_law_6 : List UInt8 := dkwL_law_6 ++ dktL_law_7
def dkwL_law_5 : List UInt8 := [21, 5, 154, 0, 15, 45, 3, 47, 21, 6, 133, 148, 153, 0, 5, 3, 172, 167, 5, 123, 43, 42, 21, 4]
abbrev dktL_law_5 : List UInt8 := dkwL_law_5 ++ dktL_law_6
def dkwL_law_4 : List UInt8 := [96, 46, 42, 21, 4, 5, 96, 46, 182, 0, 94, 54, 6, 44, 182, 0, 95, 21, 5, 159, 0, 5, 3, 172]
abbrev dktL_law_4 : List UInt8 := dkwL_law_4 ++ dktL_law_5
def dkwL_law_3 : List UInt8 := [43, 42, 21, 4, 4, 96, 46, 42, 21, 4, 5, 96, 46, 45, 184, 0, 89, 54, 5, 44, 42, 21, 4, 4]
abbrev dktL_law_3 : List UInt8 := dkwL_law_3 ++ dktL_law_4
def dkwL_law_2 : List UInt8 := [170, 0, 0, 6, 61, 0, 0, 0, 0, 0, 0, 0, 28, 0, 0, 0, 129, 0, 0, 0, 197, 0, 0, 1, 21, 0, 0, 1, 77, 0, 0, 1, 157, 0, 0, 1, 170, 0, 0, 1, 250, 0, 0, 2, 62, 0, 0, 2, 118, 0, 0, 2, 186, 0, 0, 2, 242, 0, 0, 3, 41, 0, 0, 3, 97, 0, 0, 3, 152, 0, 0, 3, 247, 0, 0, 4, 47, 0, 0, 4, 60, 0, 0, 4, 73, 0, 0, 4, 129, 0, 0, 4, 142, 0, 0, 4, 241, 0, 0, 5, 40, 0, 0, 5, 96, 0, 0, 5, 164, 0, 0, 5, 177, 0, 0, 5, 233, 0, 0, 5, 246, 0, 0, 6, 3, 0, 0, 6, 47]
abbrev dktL_law_2 : List UInt8 := dkwL_law_2 ++ dktL_law_3
def dkwL_law_1 : List UInt8 := [21, 4, 42, 190, 7, 100, 163, 6, 77, 42, 21, 4, 46, 16, 31, 126]
abbrev dktL_law_1 : List UInt8 := dkwL_law_1 ++ dktL_law_2
def dkwL_law_0 : List UInt8 := [187, 0, 8, 89, 183, 0, 85, 76, 187, 0, 86, 89, 183, 0, 88, 77, 4, 188, 11, 78, 3, 54, 4]
abbrev dktL_law_0 : List UInt8 := dkwL_law_0 ++ dktL_law_1
theorem dksL_law_0 : cL_law.data.toList.drop 0 = dktL_law_0 := by decide +kernel
theorem dksL_law_1 : cL_law.data.toList.drop 23 = dktL_law_1 := dk_seg dksL_law_0 23 rfl rfl
theorem dksL_law_2 : cL_law.data.toList.drop 39 = dktL_law_2 := dk_seg dksL_law_1 16 rfl rfl
theorem dksL_law_3 : cL_law.data.toList.drop 168 = dktL_law_3 := dk_seg dksL_law_2 129 rfl rfl
theorem dksL_law_4 : cL_law.data.toList.drop 192 = dktL_law_4 := dk_seg dksL_law_3 24 rfl rfl
theorem dksL_law_5 : cL_law.data.toList.drop 216 = dktL_law_5 := dk_seg dksL_law_4 24 rfl rfl
theorem dksL_law_6 : cL_law.data.toList.drop 240 = dktL_law_6 := dk_seg dksL_law_5 24 rfl rfl
theorem dksL_law_7 : cL_law.data.toList.drop 263 = dktL_law_7 := dk_seg dksL_law_6 23 rfl rfl
theorem dksL_law_8 : cL_law.data.toList.drop 286 = dktL_law_8 := dk_seg dksL_law_7 23 rfl rfl
theorem dksL_law_9 : cL_law.data.toList.drop 308 = dktL_law_9 := dk_seg dksL_law_8 22 rfl rfl
theorem dksL_law_10 : cL_law.data.toList.drop 331 = dktL_law_10 := dk_seg dksL_law_9 23 rfl rfl
theorem dksL_law_11 : cL_law.data.toList.drop 354 = dktL_law_11 := dk_seg dksL_law_10 23 rfl rfl
theorem dksL_law_12 : cL_law.data.toList.drop 378 = dktL_law_12 := dk_seg dksL_law_11 24 rfl rfl
theorem dksL_law_13 : cL_law.data.toList.drop 402 = dktL_law_13 := dk_seg dksL_law_12 24 rfl rfl
theorem dksL_law_14 : cL_law.data.toList.drop 425 = dktL_law_14 := dk_seg dksL_law_13 23 rfl rfl
theorem dksL_law_15 : cL_law.data.toList.drop 449 = dktL_law_15 := dk_seg dksL_law_14 24 rfl rfl
theorem dksL_law_16 : cL_law.data.toList.drop 473 = dktL_law_16 := dk_seg dksL_law_15 24 rfl rfl
theorem dksL_law_17 : cL_law.data.toList.drop 497 = dktL_law_17 := dk_seg dksL_law_16 24 rfl rfl
theorem dksL_law_18 : cL_law.data.toList.drop 520 = dktL_law_18 := dk_seg dksL_law_17 23 rfl rfl
theorem dksL_law_19 : cL_law.data.toList.drop 542 = dktL_law_19 := dk_seg dksL_law_18 22 rfl rfl
theorem dksL_law_20 : cL_law.data.toList.drop 566 = dktL_law_20 := dk_seg dksL_law_19 24 rfl rfl
theorem dksL_law_21 : cL_law.data.toList.drop 588 = dktL_law_21 := dk_seg dksL_law_20 22 rfl rfl
theorem dksL_law_22 : cL_law.data.toList.drop 610 = dktL_law_22 := dk_seg dksL_law_21 22 rfl rfl
theorem dksL_law_23 : cL_law.data.toList.drop 633 = dktL_law_23 := dk_seg dksL_law_22 23 rfl rfl
theorem dksL_law_24 : cL_law.data.toList.drop 657 = dktL_law_24 := dk_seg dksL_law_23 24 rfl rfl
theorem dksL_law_25 : cL_law.data.toList.drop 681 = dktL_law_25 := dk_seg dksL_law_24 24 rfl rfl
theorem dksL_law_26 : cL_law.data.toList.drop 704 = dktL_law_26 := dk_seg dksL_law_25 23 rfl rfl
theorem dksL_law_27 : cL_law.data.toList.drop 728 = dktL_law_27 := dk_seg dksL_law_26 24 rfl rfl
theorem dksL_law_28 : cL_law.data.toList.drop 752 = dktL_law_28 := dk_seg dksL_law_27 24 rfl rfl
theorem dksL_law_29 : cL_law.data.toList.drop 775 = dktL_law_29 := dk_seg dksL_law_28 23 rfl rfl
theorem dksL_law_30 : cL_law.data.toList.drop 799 = dktL_law_30 := dk_seg dksL_law_29 24 rfl rfl
theorem dksL_law_31 : cL_law.data.toList.drop 822 = dktL_law_31 := dk_seg dksL_law_30 23 rfl rfl
theorem dksL_law_32 : cL_law.data.toList.drop 845 = dktL_law_32 := dk_seg dksL_law_31 23 rfl rfl
theorem dksL_law_33 : cL_law.data.toList.drop 868 = dktL_law_33 := dk_seg dksL_law_32 23 rfl rfl
theorem dksL_law_34 : cL_law.data.toList.drop 892 = dktL_law_34 := dk_seg dksL_law_33 24 rfl rfl
theorem dksL_law_35 : cL_law.data.toList.drop 915 = dktL_law_35 := dk_seg dksL_law_34 23 rfl rfl
theorem dksL_law_36 : cL_law.data.toList.drop 939 = dktL_law_36 := dk_seg dksL_law_35 24 rfl rfl
theorem dksL_law_37 : cL_law.data.toList.drop 963 = dktL_law_37 := dk_seg dksL_law_36 24 rfl rfl
theorem dksL_law_38 : cL_law.data.toList.drop 987 = dktL_law_38 := dk_seg dksL_law_37 24 rfl rfl
theorem dksL_law_39 : cL_law.data.toList.drop 1011 = dktL_law_39 := dk_seg dksL_law_38 24 rfl rfl
theorem dksL_law_40 : cL_law.data.toList.drop 1035 = dktL_law_40 := dk_seg dksL_law_39 24 rfl rfl
theorem dksL_law_41 : cL_law.data.toList.drop 1059 = dktL_law_41 := dk_seg dksL_law_40 24 rfl rfl
theorem dksL_law_42 : cL_law.data.toList.drop 1083 = dktL_law_42 := dk_seg dksL_law_41 24 rfl rfl
theorem dksL_law_43 : cL_law.data.toList.drop 1107 = dktL_law_43 := dk_seg dksL_law_42 24 rfl rfl
theorem dksL_law_44 : cL_law.data.toList.drop 1131 = dktL_law_44 := dk_seg dksL_law_43 24 rfl rfl
theorem dksL_law_45 : cL_law.data.toList.drop 1155 = dktL_law_45 := dk_seg dksL_law_44 24 rfl rfl
theorem dksL_law_46 : cL_law.data.toList.drop 1179 = dktL_law_46 := dk_seg dksL_law_45 24 rfl rfl
theorem dksL_law_47 : cL_law.data.toList.drop 1203 = dktL_law_47 := dk_seg dksL_law_46 24 rfl rfl
theorem dksL_law_48 : cL_law.data.toList.drop 1227 = dktL_law_48 := dk_seg dksL_law_47 24 rfl rfl
theorem dksL_law_49 : cL_law.data.toList.drop 1251 = dktL_law_49 := dk_seg dksL_law_48 24 rfl rfl
theorem dksL_law_50 : cL_law.data.toList.drop 1275 = dktL_law_50 := dk_seg dksL_law_49 24 rfl rfl
theorem dksL_law_51 : cL_law.data.toList.drop 1299 = dktL_law_51 := dk_seg dksL_law_50 24 rfl rfl
theorem dksL_law_52 : cL_law.data.toList.drop 1323 = dktL_law_52 := dk_seg dksL_law_51 24 rfl rfl
theorem dksL_law_53 : cL_law.data.toList.drop 1347 = dktL_law_53 := dk_seg dksL_law_52 24 rfl rfl
theorem dksL_law_54 : cL_law.data.toList.drop 1370 = dktL_law_54 := dk_seg dksL_law_53 23 rfl rfl
theorem dksL_law_55 : cL_law.data.toList.drop 1394 = dktL_law_55 := dk_seg dksL_law_54 24 rfl rfl
theorem dksL_law_56 : cL_law.data.toList.drop 1417 = dktL_law_56 := dk_seg dksL_law_55 23 rfl rfl
theorem dksL_law_57 : cL_law.data.toList.drop 1441 = dktL_law_57 := dk_seg dksL_law_56 24 rfl rfl
theorem dksL_law_58 : cL_law.data.toList.drop 1465 = dktL_law_58 := dk_seg dksL_law_57 24 rfl rfl
theorem dksL_law_59 : cL_law.data.toList.drop 1488 = dktL_law_59 := dk_seg dksL_law_58 23 rfl rfl
theorem dksL_law_60 : cL_law.data.toList.drop 1511 = dktL_law_60 := dk_seg dksL_law_59 23 rfl rfl
theorem dksL_law_61 : cL_law.data.toList.drop 1534 = dktL_law_61 := dk_seg dksL_law_60 23 rfl rfl
theorem dksL_law_62 : cL_law.data.toList.drop 1557 = dktL_law_62 := dk_seg dksL_law_61 23 rfl rfl
theorem dksL_law_63 : cL_law.data.toList.drop 1580 = dktL_law_63 := dk_seg dksL_law_62 23 rfl rfl
theorem dksL_law_64 : cL_law.data.toList.drop 1604 = dktL_law_64 := dk_seg dksL_law_63 24 rfl rfl
theorem dksL_law_65 : cL_law.data.toList.drop 1627 = dktL_law_65 := dk_seg dksL_law_64 23 rfl rfl
theorem dL_law_0 : decode cL_law 0 = .ok (.new 8, 3) := dk_187 0 8 (dk_at dksL_law_0 0 rfl rfl)
theorem dL_law_3 : decode cL_law 3 = .ok (.dup, 1) := dk_89 (dk_at dksL_law_0 3 rfl rfl)
theorem dL_law_4 : decode cL_law 4 = .ok (.invokespecial 85, 3) := dk_183 0 85 (dk_at dksL_law_0 4 rfl rfl)
theorem dL_law_7 : decode cL_law 7 = .ok (.astore_n 1, 1) := dk_76 (dk_at dksL_law_0 7 rfl rfl)
theorem dL_law_8 : decode cL_law 8 = .ok (.new 86, 3) := dk_187 0 86 (dk_at dksL_law_0 8 rfl rfl)
theorem dL_law_11 : decode cL_law 11 = .ok (.dup, 1) := dk_89 (dk_at dksL_law_0 11 rfl rfl)
theorem dL_law_12 : decode cL_law 12 = .ok (.invokespecial 88, 3) := dk_183 0 88 (dk_at dksL_law_0 12 rfl rfl)
theorem dL_law_15 : decode cL_law 15 = .ok (.astore_n 2, 1) := dk_77 (dk_at dksL_law_0 15 rfl rfl)
theorem dL_law_16 : decode cL_law 16 = .ok (.iconst 1, 1) := dk_4 (dk_at dksL_law_0 16 rfl rfl)
theorem dL_law_17 : decode cL_law 17 = .ok (.newarray .long, 2) := dk_188_11 (dk_at dksL_law_0 17 rfl rfl)
theorem dL_law_19 : decode cL_law 19 = .ok (.astore_n 3, 1) := dk_78 (dk_at dksL_law_0 19 rfl rfl)
theorem dL_law_20 : decode cL_law 20 = .ok (.iconst 0, 1) := dk_3 (dk_at dksL_law_0 20 rfl rfl)
theorem dL_law_21 : decode cL_law 21 = .ok (.istore 4, 2) := dk_54 4 (dk_at dksL_law_0 21 rfl rfl)
theorem dL_law_23 : decode cL_law 23 = .ok (.iload 4, 2) := dk_21 4 (dk_at dksL_law_1 0 rfl rfl)
theorem dL_law_25 : decode cL_law 25 = .ok (.aload_n 0, 1) := dk_42 (dk_at dksL_law_1 2 rfl rfl)
theorem dL_law_26 : decode cL_law 26 = .ok (.arraylength, 1) := dk_190 (dk_at dksL_law_1 3 rfl rfl)
theorem dL_law_27 : decode cL_law 27 = .ok (.iconst 4, 1) := dk_7 (dk_at dksL_law_1 4 rfl rfl)
theorem dL_law_28 : decode cL_law 28 = .ok (.isub, 1) := dk_100 (dk_at dksL_law_1 5 rfl rfl)
theorem dL_law_29 : decode cL_law 29 = .ok (.if_icmp .gt 1613, 3) := dk_163 6 77 (dk_at dksL_law_1 6 rfl rfl)
theorem dL_law_32 : decode cL_law 32 = .ok (.aload_n 0, 1) := dk_42 (dk_at dksL_law_1 9 rfl rfl)
theorem dL_law_33 : decode cL_law 33 = .ok (.iload 4, 2) := dk_21 4 (dk_at dksL_law_1 10 rfl rfl)
theorem dL_law_35 : decode cL_law 35 = .ok (.iaload, 1) := dk_46 (dk_at dksL_law_1 12 rfl rfl)
theorem dL_law_36 : decode cL_law 36 = .ok (.bipush 31, 2) := dk_16 31 (dk_at dksL_law_1 13 rfl rfl)
theorem dL_law_38 : decode cL_law 38 = .ok (.iand, 1) := dk_126 (dk_at dksL_law_1 15 rfl rfl)
theorem dL_law_39 : decode cL_law 39 = .ok (.tableswitch 1597 0 28 #[129, 197, 277, 333, 413, 426, 506, 574, 630, 698, 754, 809, 865, 920, 1015, 1071, 1084, 1097, 1153, 1166, 1265, 1320, 1376, 1444, 1457, 1513, 1526, 1539, 1583], 129) := by decide +kernel
theorem dL_law_168 : decode cL_law 168 = .ok (.aload_n 1, 1) := dk_43 (dk_at dksL_law_3 0 rfl rfl)
theorem dL_law_169 : decode cL_law 169 = .ok (.aload_n 0, 1) := dk_42 (dk_at dksL_law_3 1 rfl rfl)
theorem dL_law_170 : decode cL_law 170 = .ok (.iload 4, 2) := dk_21 4 (dk_at dksL_law_3 2 rfl rfl)
theorem dL_law_172 : decode cL_law 172 = .ok (.iconst 1, 1) := dk_4 (dk_at dksL_law_3 4 rfl rfl)
theorem dL_law_173 : decode cL_law 173 = .ok (.iadd, 1) := dk_96 (dk_at dksL_law_3 5 rfl rfl)
theorem dL_law_174 : decode cL_law 174 = .ok (.iaload, 1) := dk_46 (dk_at dksL_law_3 6 rfl rfl)
theorem dL_law_175 : decode cL_law 175 = .ok (.aload_n 0, 1) := dk_42 (dk_at dksL_law_3 7 rfl rfl)
theorem dL_law_176 : decode cL_law 176 = .ok (.iload 4, 2) := dk_21 4 (dk_at dksL_law_3 8 rfl rfl)
theorem dL_law_178 : decode cL_law 178 = .ok (.iconst 2, 1) := dk_5 (dk_at dksL_law_3 10 rfl rfl)
theorem dL_law_179 : decode cL_law 179 = .ok (.iadd, 1) := dk_96 (dk_at dksL_law_3 11 rfl rfl)
theorem dL_law_180 : decode cL_law 180 = .ok (.iaload, 1) := dk_46 (dk_at dksL_law_3 12 rfl rfl)
theorem dL_law_181 : decode cL_law 181 = .ok (.aload_n 3, 1) := dk_45 (dk_at dksL_law_3 13 rfl rfl)
theorem dL_law_182 : decode cL_law 182 = .ok (.invokestatic 89, 3) := dk_184 0 89 (dk_at dksL_law_3 14 rfl rfl)
theorem dL_law_185 : decode cL_law 185 = .ok (.istore 5, 2) := dk_54 5 (dk_at dksL_law_3 17 rfl rfl)
theorem dL_law_187 : decode cL_law 187 = .ok (.aload_n 2, 1) := dk_44 (dk_at dksL_law_3 19 rfl rfl)
theorem dL_law_188 : decode cL_law 188 = .ok (.aload_n 0, 1) := dk_42 (dk_at dksL_law_3 20 rfl rfl)
theorem dL_law_189 : decode cL_law 189 = .ok (.iload 4, 2) := dk_21 4 (dk_at dksL_law_3 21 rfl rfl)
theorem dL_law_191 : decode cL_law 191 = .ok (.iconst 1, 1) := dk_4 (dk_at dksL_law_3 23 rfl rfl)
theorem dL_law_192 : decode cL_law 192 = .ok (.iadd, 1) := dk_96 (dk_at dksL_law_4 0 rfl rfl)
theorem dL_law_193 : decode cL_law 193 = .ok (.iaload, 1) := dk_46 (dk_at dksL_law_4 1 rfl rfl)
theorem dL_law_194 : decode cL_law 194 = .ok (.aload_n 0, 1) := dk_42 (dk_at dksL_law_4 2 rfl rfl)
theorem dL_law_195 : decode cL_law 195 = .ok (.iload 4, 2) := dk_21 4 (dk_at dksL_law_4 3 rfl rfl)
theorem dL_law_197 : decode cL_law 197 = .ok (.iconst 2, 1) := dk_5 (dk_at dksL_law_4 5 rfl rfl)
theorem dL_law_198 : decode cL_law 198 = .ok (.iadd, 1) := dk_96 (dk_at dksL_law_4 6 rfl rfl)
theorem dL_law_199 : decode cL_law 199 = .ok (.iaload, 1) := dk_46 (dk_at dksL_law_4 7 rfl rfl)
theorem dL_law_200 : decode cL_law 200 = .ok (.invokevirtual 94, 3) := dk_182 0 94 (dk_at dksL_law_4 8 rfl rfl)
theorem dL_law_203 : decode cL_law 203 = .ok (.istore 6, 2) := dk_54 6 (dk_at dksL_law_4 11 rfl rfl)
theorem dL_law_205 : decode cL_law 205 = .ok (.aload_n 2, 1) := dk_44 (dk_at dksL_law_4 13 rfl rfl)
theorem dL_law_206 : decode cL_law 206 = .ok (.invokevirtual 95, 3) := dk_182 0 95 (dk_at dksL_law_4 14 rfl rfl)
theorem dL_law_209 : decode cL_law 209 = .ok (.iload 5, 2) := dk_21 5 (dk_at dksL_law_4 17 rfl rfl)
theorem dL_law_211 : decode cL_law 211 = .ok (.if_icmp .eq 5, 3) := dk_159 0 5 (dk_at dksL_law_4 19 rfl rfl)
theorem dL_law_214 : decode cL_law 214 = .ok (.iconst 0, 1) := dk_3 (dk_at dksL_law_4 22 rfl rfl)
theorem dL_law_215 : decode cL_law 215 = .ok (.ireturn, 1) := dk_172 (dk_at dksL_law_4 23 rfl rfl)
theorem dL_law_216 : decode cL_law 216 = .ok (.iload 5, 2) := dk_21 5 (dk_at dksL_law_5 0 rfl rfl)
theorem dL_law_218 : decode cL_law 218 = .ok (.ifCond .ne 15, 3) := dk_154 0 15 (dk_at dksL_law_5 2 rfl rfl)
theorem dL_law_221 : decode cL_law 221 = .ok (.aload_n 3, 1) := dk_45 (dk_at dksL_law_5 5 rfl rfl)
theorem dL_law_222 : decode cL_law 222 = .ok (.iconst 0, 1) := dk_3 (dk_at dksL_law_5 6 rfl rfl)
theorem dL_law_223 : decode cL_law 223 = .ok (.laload, 1) := dk_47 (dk_at dksL_law_5 7 rfl rfl)
theorem dL_law_224 : decode cL_law 224 = .ok (.iload 6, 2) := dk_21 6 (dk_at dksL_law_5 8 rfl rfl)
theorem dL_law_226 : decode cL_law 226 = .ok (.i2l, 1) := dk_133 (dk_at dksL_law_5 10 rfl rfl)
theorem dL_law_227 : decode cL_law 227 = .ok (.lcmp, 1) := dk_148 (dk_at dksL_law_5 11 rfl rfl)
theorem dL_law_228 : decode cL_law 228 = .ok (.ifCond .eq 5, 3) := dk_153 0 5 (dk_at dksL_law_5 12 rfl rfl)
theorem dL_law_231 : decode cL_law 231 = .ok (.iconst 0, 1) := dk_3 (dk_at dksL_law_5 15 rfl rfl)
theorem dL_law_232 : decode cL_law 232 = .ok (.ireturn, 1) := dk_172 (dk_at dksL_law_5 16 rfl rfl)
theorem dL_law_233 : decode cL_law 233 = .ok (.goto 1403, 3) := dk_167 5 123 (dk_at dksL_law_5 17 rfl rfl)
theorem dL_law_236 : decode cL_law 236 = .ok (.aload_n 1, 1) := dk_43 (dk_at dksL_law_5 20 rfl rfl)
theorem dL_law_237 : decode cL_law 237 = .ok (.aload_n 0, 1) := dk_42 (dk_at dksL_law_5 21 rfl rfl)
theorem dL_law_238 : decode cL_law 238 = .ok (.iload 4, 2) := dk_21 4 (dk_at dksL_law_5 22 rfl rfl)
theorem dL_law_240 : decode cL_law 240 = .ok (.iconst 1, 1) := dk_4 (dk_at dksL_law_6 0 rfl rfl)
theorem dL_law_241 : decode cL_law 241 = .ok (.iadd, 1) := dk_96 (dk_at dksL_law_6 1 rfl rfl)
theorem dL_law_242 : decode cL_law 242 = .ok (.iaload, 1) := dk_46 (dk_at dksL_law_6 2 rfl rfl)
theorem dL_law_243 : decode cL_law 243 = .ok (.aload_n 0, 1) := dk_42 (dk_at dksL_law_6 3 rfl rfl)
theorem dL_law_244 : decode cL_law 244 = .ok (.iload 4, 2) := dk_21 4 (dk_at dksL_law_6 4 rfl rfl)
theorem dL_law_246 : decode cL_law 246 = .ok (.iconst 2, 1) := dk_5 (dk_at dksL_law_6 6 rfl rfl)
theorem dL_law_247 : decode cL_law 247 = .ok (.iadd, 1) := dk_96 (dk_at dksL_law_6 7 rfl rfl)
theorem dL_law_248 : decode cL_law 248 = .ok (.iaload, 1) := dk_46 (dk_at dksL_law_6 8 rfl rfl)
theorem dL_law_249 : decode cL_law 249 = .ok (.aload_n 0, 1) := dk_42 (dk_at dksL_law_6 9 rfl rfl)
theorem dL_law_250 : decode cL_law 250 = .ok (.iload 4, 2) := dk_21 4 (dk_at dksL_law_6 10 rfl rfl)
theorem dL_law_252 : decode cL_law 252 = .ok (.iconst 3, 1) := dk_6 (dk_at dksL_law_6 12 rfl rfl)
theorem dL_law_253 : decode cL_law 253 = .ok (.iadd, 1) := dk_96 (dk_at dksL_law_6 13 rfl rfl)
theorem dL_law_254 : decode cL_law 254 = .ok (.iaload, 1) := dk_46 (dk_at dksL_law_6 14 rfl rfl)
theorem dL_law_255 : decode cL_law 255 = .ok (.aload_n 3, 1) := dk_45 (dk_at dksL_law_6 15 rfl rfl)
theorem dL_law_256 : decode cL_law 256 = .ok (.invokestatic 98, 3) := dk_184 0 98 (dk_at dksL_law_6 16 rfl rfl)
theorem dL_law_259 : decode cL_law 259 = .ok (.istore 5, 2) := dk_54 5 (dk_at dksL_law_6 19 rfl rfl)
theorem dL_law_261 : decode cL_law 261 = .ok (.aload_n 2, 1) := dk_44 (dk_at dksL_law_6 21 rfl rfl)
theorem dL_law_262 : decode cL_law 262 = .ok (.aload_n 0, 1) := dk_42 (dk_at dksL_law_6 22 rfl rfl)
theorem dL_law_263 : decode cL_law 263 = .ok (.iload 4, 2) := dk_21 4 (dk_at dksL_law_7 0 rfl rfl)
theorem dL_law_265 : decode cL_law 265 = .ok (.iconst 1, 1) := dk_4 (dk_at dksL_law_7 2 rfl rfl)
theorem dL_law_266 : decode cL_law 266 = .ok (.iadd, 1) := dk_96 (dk_at dksL_law_7 3 rfl rfl)
theorem dL_law_267 : decode cL_law 267 = .ok (.iaload, 1) := dk_46 (dk_at dksL_law_7 4 rfl rfl)
theorem dL_law_268 : decode cL_law 268 = .ok (.aload_n 0, 1) := dk_42 (dk_at dksL_law_7 5 rfl rfl)
theorem dL_law_269 : decode cL_law 269 = .ok (.iload 4, 2) := dk_21 4 (dk_at dksL_law_7 6 rfl rfl)
theorem dL_law_271 : decode cL_law 271 = .ok (.iconst 2, 1) := dk_5 (dk_at dksL_law_7 8 rfl rfl)
theorem dL_law_272 : decode cL_law 272 = .ok (.iadd, 1) := dk_96 (dk_at dksL_law_7 9 rfl rfl)
theorem dL_law_273 : decode cL_law 273 = .ok (.iaload, 1) := dk_46 (dk_at dksL_law_7 10 rfl rfl)
theorem dL_law_274 : decode cL_law 274 = .ok (.aload_n 0, 1) := dk_42 (dk_at dksL_law_7 11 rfl rfl)
theorem dL_law_275 : decode cL_law 275 = .ok (.iload 4, 2) := dk_21 4 (dk_at dksL_law_7 12 rfl rfl)
theorem dL_law_277 : decode cL_law 277 = .ok (.iconst 3, 1) := dk_6 (dk_at dksL_law_7 14 rfl rfl)
theorem dL_law_278 : decode cL_law 278 = .ok (.iadd, 1) := dk_96 (dk_at dksL_law_7 15 rfl rfl)
theorem dL_law_279 : decode cL_law 279 = .ok (.iaload, 1) := dk_46 (dk_at dksL_law_7 16 rfl rfl)
theorem dL_law_280 : decode cL_law 280 = .ok (.invokevirtual 101, 3) := dk_182 0 101 (dk_at dksL_law_7 17 rfl rfl)
theorem dL_law_283 : decode cL_law 283 = .ok (.istore 6, 2) := dk_54 6 (dk_at dksL_law_7 20 rfl rfl)
theorem dL_law_285 : decode cL_law 285 = .ok (.aload_n 2, 1) := dk_44 (dk_at dksL_law_7 22 rfl rfl)
theorem dL_law_286 : decode cL_law 286 = .ok (.invokevirtual 95, 3) := dk_182 0 95 (dk_at dksL_law_8 0 rfl rfl)
theorem dL_law_289 : decode cL_law 289 = .ok (.iload 5, 2) := dk_21 5 (dk_at dksL_law_8 3 rfl rfl)
theorem dL_law_291 : decode cL_law 291 = .ok (.if_icmp .eq 5, 3) := dk_159 0 5 (dk_at dksL_law_8 5 rfl rfl)
theorem dL_law_294 : decode cL_law 294 = .ok (.iconst 0, 1) := dk_3 (dk_at dksL_law_8 8 rfl rfl)
theorem dL_law_295 : decode cL_law 295 = .ok (.ireturn, 1) := dk_172 (dk_at dksL_law_8 9 rfl rfl)
theorem dL_law_296 : decode cL_law 296 = .ok (.iload 5, 2) := dk_21 5 (dk_at dksL_law_8 10 rfl rfl)
theorem dL_law_298 : decode cL_law 298 = .ok (.ifCond .ne 15, 3) := dk_154 0 15 (dk_at dksL_law_8 12 rfl rfl)
theorem dL_law_301 : decode cL_law 301 = .ok (.aload_n 3, 1) := dk_45 (dk_at dksL_law_8 15 rfl rfl)
theorem dL_law_302 : decode cL_law 302 = .ok (.iconst 0, 1) := dk_3 (dk_at dksL_law_8 16 rfl rfl)
theorem dL_law_303 : decode cL_law 303 = .ok (.laload, 1) := dk_47 (dk_at dksL_law_8 17 rfl rfl)
theorem dL_law_304 : decode cL_law 304 = .ok (.iload 6, 2) := dk_21 6 (dk_at dksL_law_8 18 rfl rfl)
theorem dL_law_306 : decode cL_law 306 = .ok (.i2l, 1) := dk_133 (dk_at dksL_law_8 20 rfl rfl)
theorem dL_law_307 : decode cL_law 307 = .ok (.lcmp, 1) := dk_148 (dk_at dksL_law_8 21 rfl rfl)
theorem dL_law_308 : decode cL_law 308 = .ok (.ifCond .eq 5, 3) := dk_153 0 5 (dk_at dksL_law_9 0 rfl rfl)
theorem dL_law_311 : decode cL_law 311 = .ok (.iconst 0, 1) := dk_3 (dk_at dksL_law_9 3 rfl rfl)
theorem dL_law_312 : decode cL_law 312 = .ok (.ireturn, 1) := dk_172 (dk_at dksL_law_9 4 rfl rfl)
theorem dL_law_313 : decode cL_law 313 = .ok (.goto 1323, 3) := dk_167 5 43 (dk_at dksL_law_9 5 rfl rfl)
theorem dL_law_316 : decode cL_law 316 = .ok (.aload_n 1, 1) := dk_43 (dk_at dksL_law_9 8 rfl rfl)
theorem dL_law_317 : decode cL_law 317 = .ok (.aload_n 0, 1) := dk_42 (dk_at dksL_law_9 9 rfl rfl)
theorem dL_law_318 : decode cL_law 318 = .ok (.iload 4, 2) := dk_21 4 (dk_at dksL_law_9 10 rfl rfl)
theorem dL_law_320 : decode cL_law 320 = .ok (.iconst 1, 1) := dk_4 (dk_at dksL_law_9 12 rfl rfl)
theorem dL_law_321 : decode cL_law 321 = .ok (.iadd, 1) := dk_96 (dk_at dksL_law_9 13 rfl rfl)
theorem dL_law_322 : decode cL_law 322 = .ok (.iaload, 1) := dk_46 (dk_at dksL_law_9 14 rfl rfl)
theorem dL_law_323 : decode cL_law 323 = .ok (.aload_n 3, 1) := dk_45 (dk_at dksL_law_9 15 rfl rfl)
theorem dL_law_324 : decode cL_law 324 = .ok (.invokestatic 102, 3) := dk_184 0 102 (dk_at dksL_law_9 16 rfl rfl)
theorem dL_law_327 : decode cL_law 327 = .ok (.istore 5, 2) := dk_54 5 (dk_at dksL_law_9 19 rfl rfl)
theorem dL_law_329 : decode cL_law 329 = .ok (.aload_n 2, 1) := dk_44 (dk_at dksL_law_9 21 rfl rfl)
theorem dL_law_330 : decode cL_law 330 = .ok (.aload_n 0, 1) := dk_42 (dk_at dksL_law_9 22 rfl rfl)
theorem dL_law_331 : decode cL_law 331 = .ok (.iload 4, 2) := dk_21 4 (dk_at dksL_law_10 0 rfl rfl)
theorem dL_law_333 : decode cL_law 333 = .ok (.iconst 1, 1) := dk_4 (dk_at dksL_law_10 2 rfl rfl)
theorem dL_law_334 : decode cL_law 334 = .ok (.iadd, 1) := dk_96 (dk_at dksL_law_10 3 rfl rfl)
theorem dL_law_335 : decode cL_law 335 = .ok (.iaload, 1) := dk_46 (dk_at dksL_law_10 4 rfl rfl)
theorem dL_law_336 : decode cL_law 336 = .ok (.invokevirtual 105, 3) := dk_182 0 105 (dk_at dksL_law_10 5 rfl rfl)
theorem dL_law_339 : decode cL_law 339 = .ok (.istore 6, 2) := dk_54 6 (dk_at dksL_law_10 8 rfl rfl)
theorem dL_law_341 : decode cL_law 341 = .ok (.aload_n 2, 1) := dk_44 (dk_at dksL_law_10 10 rfl rfl)
theorem dL_law_342 : decode cL_law 342 = .ok (.invokevirtual 95, 3) := dk_182 0 95 (dk_at dksL_law_10 11 rfl rfl)
theorem dL_law_345 : decode cL_law 345 = .ok (.iload 5, 2) := dk_21 5 (dk_at dksL_law_10 14 rfl rfl)
theorem dL_law_347 : decode cL_law 347 = .ok (.if_icmp .eq 5, 3) := dk_159 0 5 (dk_at dksL_law_10 16 rfl rfl)
theorem dL_law_350 : decode cL_law 350 = .ok (.iconst 0, 1) := dk_3 (dk_at dksL_law_10 19 rfl rfl)
theorem dL_law_351 : decode cL_law 351 = .ok (.ireturn, 1) := dk_172 (dk_at dksL_law_10 20 rfl rfl)
theorem dL_law_352 : decode cL_law 352 = .ok (.iload 5, 2) := dk_21 5 (dk_at dksL_law_10 21 rfl rfl)
theorem dL_law_354 : decode cL_law 354 = .ok (.ifCond .ne 15, 3) := dk_154 0 15 (dk_at dksL_law_11 0 rfl rfl)
theorem dL_law_357 : decode cL_law 357 = .ok (.aload_n 3, 1) := dk_45 (dk_at dksL_law_11 3 rfl rfl)
theorem dL_law_358 : decode cL_law 358 = .ok (.iconst 0, 1) := dk_3 (dk_at dksL_law_11 4 rfl rfl)
theorem dL_law_359 : decode cL_law 359 = .ok (.laload, 1) := dk_47 (dk_at dksL_law_11 5 rfl rfl)
theorem dL_law_360 : decode cL_law 360 = .ok (.iload 6, 2) := dk_21 6 (dk_at dksL_law_11 6 rfl rfl)
theorem dL_law_362 : decode cL_law 362 = .ok (.i2l, 1) := dk_133 (dk_at dksL_law_11 8 rfl rfl)
theorem dL_law_363 : decode cL_law 363 = .ok (.lcmp, 1) := dk_148 (dk_at dksL_law_11 9 rfl rfl)
theorem dL_law_364 : decode cL_law 364 = .ok (.ifCond .eq 5, 3) := dk_153 0 5 (dk_at dksL_law_11 10 rfl rfl)
theorem dL_law_367 : decode cL_law 367 = .ok (.iconst 0, 1) := dk_3 (dk_at dksL_law_11 13 rfl rfl)
theorem dL_law_368 : decode cL_law 368 = .ok (.ireturn, 1) := dk_172 (dk_at dksL_law_11 14 rfl rfl)
theorem dL_law_369 : decode cL_law 369 = .ok (.goto 1267, 3) := dk_167 4 243 (dk_at dksL_law_11 15 rfl rfl)
theorem dL_law_372 : decode cL_law 372 = .ok (.aload_n 1, 1) := dk_43 (dk_at dksL_law_11 18 rfl rfl)
theorem dL_law_373 : decode cL_law 373 = .ok (.aload_n 0, 1) := dk_42 (dk_at dksL_law_11 19 rfl rfl)
theorem dL_law_374 : decode cL_law 374 = .ok (.iload 4, 2) := dk_21 4 (dk_at dksL_law_11 20 rfl rfl)
theorem dL_law_376 : decode cL_law 376 = .ok (.iconst 1, 1) := dk_4 (dk_at dksL_law_11 22 rfl rfl)
theorem dL_law_377 : decode cL_law 377 = .ok (.iadd, 1) := dk_96 (dk_at dksL_law_11 23 rfl rfl)
theorem dL_law_378 : decode cL_law 378 = .ok (.iaload, 1) := dk_46 (dk_at dksL_law_12 0 rfl rfl)
theorem dL_law_379 : decode cL_law 379 = .ok (.aload_n 0, 1) := dk_42 (dk_at dksL_law_12 1 rfl rfl)
theorem dL_law_380 : decode cL_law 380 = .ok (.iload 4, 2) := dk_21 4 (dk_at dksL_law_12 2 rfl rfl)
theorem dL_law_382 : decode cL_law 382 = .ok (.iconst 2, 1) := dk_5 (dk_at dksL_law_12 4 rfl rfl)
theorem dL_law_383 : decode cL_law 383 = .ok (.iadd, 1) := dk_96 (dk_at dksL_law_12 5 rfl rfl)
theorem dL_law_384 : decode cL_law 384 = .ok (.iaload, 1) := dk_46 (dk_at dksL_law_12 6 rfl rfl)
theorem dL_law_385 : decode cL_law 385 = .ok (.aload_n 0, 1) := dk_42 (dk_at dksL_law_12 7 rfl rfl)
theorem dL_law_386 : decode cL_law 386 = .ok (.iload 4, 2) := dk_21 4 (dk_at dksL_law_12 8 rfl rfl)
theorem dL_law_388 : decode cL_law 388 = .ok (.iconst 3, 1) := dk_6 (dk_at dksL_law_12 10 rfl rfl)
theorem dL_law_389 : decode cL_law 389 = .ok (.iadd, 1) := dk_96 (dk_at dksL_law_12 11 rfl rfl)
theorem dL_law_390 : decode cL_law 390 = .ok (.iaload, 1) := dk_46 (dk_at dksL_law_12 12 rfl rfl)
theorem dL_law_391 : decode cL_law 391 = .ok (.aload_n 3, 1) := dk_45 (dk_at dksL_law_12 13 rfl rfl)
theorem dL_law_392 : decode cL_law 392 = .ok (.invokestatic 106, 3) := dk_184 0 106 (dk_at dksL_law_12 14 rfl rfl)
theorem dL_law_395 : decode cL_law 395 = .ok (.istore 5, 2) := dk_54 5 (dk_at dksL_law_12 17 rfl rfl)
theorem dL_law_397 : decode cL_law 397 = .ok (.aload_n 2, 1) := dk_44 (dk_at dksL_law_12 19 rfl rfl)
theorem dL_law_398 : decode cL_law 398 = .ok (.aload_n 0, 1) := dk_42 (dk_at dksL_law_12 20 rfl rfl)
theorem dL_law_399 : decode cL_law 399 = .ok (.iload 4, 2) := dk_21 4 (dk_at dksL_law_12 21 rfl rfl)
theorem dL_law_401 : decode cL_law 401 = .ok (.iconst 1, 1) := dk_4 (dk_at dksL_law_12 23 rfl rfl)
theorem dL_law_402 : decode cL_law 402 = .ok (.iadd, 1) := dk_96 (dk_at dksL_law_13 0 rfl rfl)
theorem dL_law_403 : decode cL_law 403 = .ok (.iaload, 1) := dk_46 (dk_at dksL_law_13 1 rfl rfl)
theorem dL_law_404 : decode cL_law 404 = .ok (.aload_n 0, 1) := dk_42 (dk_at dksL_law_13 2 rfl rfl)
theorem dL_law_405 : decode cL_law 405 = .ok (.iload 4, 2) := dk_21 4 (dk_at dksL_law_13 3 rfl rfl)
theorem dL_law_407 : decode cL_law 407 = .ok (.iconst 2, 1) := dk_5 (dk_at dksL_law_13 5 rfl rfl)
theorem dL_law_408 : decode cL_law 408 = .ok (.iadd, 1) := dk_96 (dk_at dksL_law_13 6 rfl rfl)
theorem dL_law_409 : decode cL_law 409 = .ok (.iaload, 1) := dk_46 (dk_at dksL_law_13 7 rfl rfl)
theorem dL_law_410 : decode cL_law 410 = .ok (.aload_n 0, 1) := dk_42 (dk_at dksL_law_13 8 rfl rfl)
theorem dL_law_411 : decode cL_law 411 = .ok (.iload 4, 2) := dk_21 4 (dk_at dksL_law_13 9 rfl rfl)
theorem dL_law_413 : decode cL_law 413 = .ok (.iconst 3, 1) := dk_6 (dk_at dksL_law_13 11 rfl rfl)
theorem dL_law_414 : decode cL_law 414 = .ok (.iadd, 1) := dk_96 (dk_at dksL_law_13 12 rfl rfl)
theorem dL_law_415 : decode cL_law 415 = .ok (.iaload, 1) := dk_46 (dk_at dksL_law_13 13 rfl rfl)
theorem dL_law_416 : decode cL_law 416 = .ok (.invokevirtual 108, 3) := dk_182 0 108 (dk_at dksL_law_13 14 rfl rfl)
theorem dL_law_419 : decode cL_law 419 = .ok (.istore 6, 2) := dk_54 6 (dk_at dksL_law_13 17 rfl rfl)
theorem dL_law_421 : decode cL_law 421 = .ok (.aload_n 2, 1) := dk_44 (dk_at dksL_law_13 19 rfl rfl)
theorem dL_law_422 : decode cL_law 422 = .ok (.invokevirtual 95, 3) := dk_182 0 95 (dk_at dksL_law_13 20 rfl rfl)
theorem dL_law_425 : decode cL_law 425 = .ok (.iload 5, 2) := dk_21 5 (dk_at dksL_law_14 0 rfl rfl)
theorem dL_law_427 : decode cL_law 427 = .ok (.if_icmp .eq 5, 3) := dk_159 0 5 (dk_at dksL_law_14 2 rfl rfl)
theorem dL_law_430 : decode cL_law 430 = .ok (.iconst 0, 1) := dk_3 (dk_at dksL_law_14 5 rfl rfl)
theorem dL_law_431 : decode cL_law 431 = .ok (.ireturn, 1) := dk_172 (dk_at dksL_law_14 6 rfl rfl)
theorem dL_law_432 : decode cL_law 432 = .ok (.iload 5, 2) := dk_21 5 (dk_at dksL_law_14 7 rfl rfl)
theorem dL_law_434 : decode cL_law 434 = .ok (.ifCond .ne 15, 3) := dk_154 0 15 (dk_at dksL_law_14 9 rfl rfl)
theorem dL_law_437 : decode cL_law 437 = .ok (.aload_n 3, 1) := dk_45 (dk_at dksL_law_14 12 rfl rfl)
theorem dL_law_438 : decode cL_law 438 = .ok (.iconst 0, 1) := dk_3 (dk_at dksL_law_14 13 rfl rfl)
theorem dL_law_439 : decode cL_law 439 = .ok (.laload, 1) := dk_47 (dk_at dksL_law_14 14 rfl rfl)
theorem dL_law_440 : decode cL_law 440 = .ok (.iload 6, 2) := dk_21 6 (dk_at dksL_law_14 15 rfl rfl)
theorem dL_law_442 : decode cL_law 442 = .ok (.i2l, 1) := dk_133 (dk_at dksL_law_14 17 rfl rfl)
theorem dL_law_443 : decode cL_law 443 = .ok (.lcmp, 1) := dk_148 (dk_at dksL_law_14 18 rfl rfl)
theorem dL_law_444 : decode cL_law 444 = .ok (.ifCond .eq 5, 3) := dk_153 0 5 (dk_at dksL_law_14 19 rfl rfl)
theorem dL_law_447 : decode cL_law 447 = .ok (.iconst 0, 1) := dk_3 (dk_at dksL_law_14 22 rfl rfl)
theorem dL_law_448 : decode cL_law 448 = .ok (.ireturn, 1) := dk_172 (dk_at dksL_law_14 23 rfl rfl)
theorem dL_law_449 : decode cL_law 449 = .ok (.goto 1187, 3) := dk_167 4 163 (dk_at dksL_law_15 0 rfl rfl)
theorem dL_law_452 : decode cL_law 452 = .ok (.aload_n 1, 1) := dk_43 (dk_at dksL_law_15 3 rfl rfl)
theorem dL_law_453 : decode cL_law 453 = .ok (.invokevirtual 109, 3) := dk_182 0 109 (dk_at dksL_law_15 4 rfl rfl)
theorem dL_law_456 : decode cL_law 456 = .ok (.aload_n 2, 1) := dk_44 (dk_at dksL_law_15 7 rfl rfl)
theorem dL_law_457 : decode cL_law 457 = .ok (.invokevirtual 112, 3) := dk_182 0 112 (dk_at dksL_law_15 8 rfl rfl)
theorem dL_law_460 : decode cL_law 460 = .ok (.if_icmp .eq 1176, 3) := dk_159 4 152 (dk_at dksL_law_15 11 rfl rfl)
theorem dL_law_463 : decode cL_law 463 = .ok (.iconst 0, 1) := dk_3 (dk_at dksL_law_15 14 rfl rfl)
theorem dL_law_464 : decode cL_law 464 = .ok (.ireturn, 1) := dk_172 (dk_at dksL_law_15 15 rfl rfl)
theorem dL_law_465 : decode cL_law 465 = .ok (.aload_n 1, 1) := dk_43 (dk_at dksL_law_15 16 rfl rfl)
theorem dL_law_466 : decode cL_law 466 = .ok (.aload_n 0, 1) := dk_42 (dk_at dksL_law_15 17 rfl rfl)
theorem dL_law_467 : decode cL_law 467 = .ok (.iload 4, 2) := dk_21 4 (dk_at dksL_law_15 18 rfl rfl)
theorem dL_law_469 : decode cL_law 469 = .ok (.iconst 1, 1) := dk_4 (dk_at dksL_law_15 20 rfl rfl)
theorem dL_law_470 : decode cL_law 470 = .ok (.iadd, 1) := dk_96 (dk_at dksL_law_15 21 rfl rfl)
theorem dL_law_471 : decode cL_law 471 = .ok (.iaload, 1) := dk_46 (dk_at dksL_law_15 22 rfl rfl)
theorem dL_law_472 : decode cL_law 472 = .ok (.aload_n 0, 1) := dk_42 (dk_at dksL_law_15 23 rfl rfl)
theorem dL_law_473 : decode cL_law 473 = .ok (.iload 4, 2) := dk_21 4 (dk_at dksL_law_16 0 rfl rfl)
theorem dL_law_475 : decode cL_law 475 = .ok (.iconst 2, 1) := dk_5 (dk_at dksL_law_16 2 rfl rfl)
theorem dL_law_476 : decode cL_law 476 = .ok (.iadd, 1) := dk_96 (dk_at dksL_law_16 3 rfl rfl)
theorem dL_law_477 : decode cL_law 477 = .ok (.iaload, 1) := dk_46 (dk_at dksL_law_16 4 rfl rfl)
theorem dL_law_478 : decode cL_law 478 = .ok (.aload_n 0, 1) := dk_42 (dk_at dksL_law_16 5 rfl rfl)
theorem dL_law_479 : decode cL_law 479 = .ok (.iload 4, 2) := dk_21 4 (dk_at dksL_law_16 6 rfl rfl)
theorem dL_law_481 : decode cL_law 481 = .ok (.iconst 3, 1) := dk_6 (dk_at dksL_law_16 8 rfl rfl)
theorem dL_law_482 : decode cL_law 482 = .ok (.iadd, 1) := dk_96 (dk_at dksL_law_16 9 rfl rfl)
theorem dL_law_483 : decode cL_law 483 = .ok (.iaload, 1) := dk_46 (dk_at dksL_law_16 10 rfl rfl)
theorem dL_law_484 : decode cL_law 484 = .ok (.aload_n 3, 1) := dk_45 (dk_at dksL_law_16 11 rfl rfl)
theorem dL_law_485 : decode cL_law 485 = .ok (.invokestatic 113, 3) := dk_184 0 113 (dk_at dksL_law_16 12 rfl rfl)
theorem dL_law_488 : decode cL_law 488 = .ok (.istore 5, 2) := dk_54 5 (dk_at dksL_law_16 15 rfl rfl)
theorem dL_law_490 : decode cL_law 490 = .ok (.aload_n 2, 1) := dk_44 (dk_at dksL_law_16 17 rfl rfl)
theorem dL_law_491 : decode cL_law 491 = .ok (.aload_n 0, 1) := dk_42 (dk_at dksL_law_16 18 rfl rfl)
theorem dL_law_492 : decode cL_law 492 = .ok (.iload 4, 2) := dk_21 4 (dk_at dksL_law_16 19 rfl rfl)
theorem dL_law_494 : decode cL_law 494 = .ok (.iconst 1, 1) := dk_4 (dk_at dksL_law_16 21 rfl rfl)
theorem dL_law_495 : decode cL_law 495 = .ok (.iadd, 1) := dk_96 (dk_at dksL_law_16 22 rfl rfl)
theorem dL_law_496 : decode cL_law 496 = .ok (.iaload, 1) := dk_46 (dk_at dksL_law_16 23 rfl rfl)
theorem dL_law_497 : decode cL_law 497 = .ok (.aload_n 0, 1) := dk_42 (dk_at dksL_law_17 0 rfl rfl)
theorem dL_law_498 : decode cL_law 498 = .ok (.iload 4, 2) := dk_21 4 (dk_at dksL_law_17 1 rfl rfl)
theorem dL_law_500 : decode cL_law 500 = .ok (.iconst 2, 1) := dk_5 (dk_at dksL_law_17 3 rfl rfl)
theorem dL_law_501 : decode cL_law 501 = .ok (.iadd, 1) := dk_96 (dk_at dksL_law_17 4 rfl rfl)
theorem dL_law_502 : decode cL_law 502 = .ok (.iaload, 1) := dk_46 (dk_at dksL_law_17 5 rfl rfl)
theorem dL_law_503 : decode cL_law 503 = .ok (.aload_n 0, 1) := dk_42 (dk_at dksL_law_17 6 rfl rfl)
theorem dL_law_504 : decode cL_law 504 = .ok (.iload 4, 2) := dk_21 4 (dk_at dksL_law_17 7 rfl rfl)
theorem dL_law_506 : decode cL_law 506 = .ok (.iconst 3, 1) := dk_6 (dk_at dksL_law_17 9 rfl rfl)
theorem dL_law_507 : decode cL_law 507 = .ok (.iadd, 1) := dk_96 (dk_at dksL_law_17 10 rfl rfl)
theorem dL_law_508 : decode cL_law 508 = .ok (.iaload, 1) := dk_46 (dk_at dksL_law_17 11 rfl rfl)
theorem dL_law_509 : decode cL_law 509 = .ok (.invokevirtual 115, 3) := dk_182 0 115 (dk_at dksL_law_17 12 rfl rfl)
theorem dL_law_512 : decode cL_law 512 = .ok (.istore 6, 2) := dk_54 6 (dk_at dksL_law_17 15 rfl rfl)
theorem dL_law_514 : decode cL_law 514 = .ok (.aload_n 2, 1) := dk_44 (dk_at dksL_law_17 17 rfl rfl)
theorem dL_law_515 : decode cL_law 515 = .ok (.invokevirtual 95, 3) := dk_182 0 95 (dk_at dksL_law_17 18 rfl rfl)
theorem dL_law_518 : decode cL_law 518 = .ok (.iload 5, 2) := dk_21 5 (dk_at dksL_law_17 21 rfl rfl)
theorem dL_law_520 : decode cL_law 520 = .ok (.if_icmp .eq 5, 3) := dk_159 0 5 (dk_at dksL_law_18 0 rfl rfl)
theorem dL_law_523 : decode cL_law 523 = .ok (.iconst 0, 1) := dk_3 (dk_at dksL_law_18 3 rfl rfl)
theorem dL_law_524 : decode cL_law 524 = .ok (.ireturn, 1) := dk_172 (dk_at dksL_law_18 4 rfl rfl)
theorem dL_law_525 : decode cL_law 525 = .ok (.iload 5, 2) := dk_21 5 (dk_at dksL_law_18 5 rfl rfl)
theorem dL_law_527 : decode cL_law 527 = .ok (.ifCond .ne 15, 3) := dk_154 0 15 (dk_at dksL_law_18 7 rfl rfl)
theorem dL_law_530 : decode cL_law 530 = .ok (.aload_n 3, 1) := dk_45 (dk_at dksL_law_18 10 rfl rfl)
theorem dL_law_531 : decode cL_law 531 = .ok (.iconst 0, 1) := dk_3 (dk_at dksL_law_18 11 rfl rfl)
theorem dL_law_532 : decode cL_law 532 = .ok (.laload, 1) := dk_47 (dk_at dksL_law_18 12 rfl rfl)
theorem dL_law_533 : decode cL_law 533 = .ok (.iload 6, 2) := dk_21 6 (dk_at dksL_law_18 13 rfl rfl)
theorem dL_law_535 : decode cL_law 535 = .ok (.i2l, 1) := dk_133 (dk_at dksL_law_18 15 rfl rfl)
theorem dL_law_536 : decode cL_law 536 = .ok (.lcmp, 1) := dk_148 (dk_at dksL_law_18 16 rfl rfl)
theorem dL_law_537 : decode cL_law 537 = .ok (.ifCond .eq 5, 3) := dk_153 0 5 (dk_at dksL_law_18 17 rfl rfl)
theorem dL_law_540 : decode cL_law 540 = .ok (.iconst 0, 1) := dk_3 (dk_at dksL_law_18 20 rfl rfl)
theorem dL_law_541 : decode cL_law 541 = .ok (.ireturn, 1) := dk_172 (dk_at dksL_law_18 21 rfl rfl)
theorem dL_law_542 : decode cL_law 542 = .ok (.goto 1094, 3) := dk_167 4 70 (dk_at dksL_law_19 0 rfl rfl)
theorem dL_law_545 : decode cL_law 545 = .ok (.aload_n 1, 1) := dk_43 (dk_at dksL_law_19 3 rfl rfl)
theorem dL_law_546 : decode cL_law 546 = .ok (.aload_n 0, 1) := dk_42 (dk_at dksL_law_19 4 rfl rfl)
theorem dL_law_547 : decode cL_law 547 = .ok (.iload 4, 2) := dk_21 4 (dk_at dksL_law_19 5 rfl rfl)
theorem dL_law_549 : decode cL_law 549 = .ok (.iconst 1, 1) := dk_4 (dk_at dksL_law_19 7 rfl rfl)
theorem dL_law_550 : decode cL_law 550 = .ok (.iadd, 1) := dk_96 (dk_at dksL_law_19 8 rfl rfl)
theorem dL_law_551 : decode cL_law 551 = .ok (.iaload, 1) := dk_46 (dk_at dksL_law_19 9 rfl rfl)
theorem dL_law_552 : decode cL_law 552 = .ok (.aload_n 0, 1) := dk_42 (dk_at dksL_law_19 10 rfl rfl)
theorem dL_law_553 : decode cL_law 553 = .ok (.iload 4, 2) := dk_21 4 (dk_at dksL_law_19 11 rfl rfl)
theorem dL_law_555 : decode cL_law 555 = .ok (.iconst 2, 1) := dk_5 (dk_at dksL_law_19 13 rfl rfl)
theorem dL_law_556 : decode cL_law 556 = .ok (.iadd, 1) := dk_96 (dk_at dksL_law_19 14 rfl rfl)
theorem dL_law_557 : decode cL_law 557 = .ok (.iaload, 1) := dk_46 (dk_at dksL_law_19 15 rfl rfl)
theorem dL_law_558 : decode cL_law 558 = .ok (.aload_n 3, 1) := dk_45 (dk_at dksL_law_19 16 rfl rfl)
theorem dL_law_559 : decode cL_law 559 = .ok (.invokestatic 116, 3) := dk_184 0 116 (dk_at dksL_law_19 17 rfl rfl)
theorem dL_law_562 : decode cL_law 562 = .ok (.istore 5, 2) := dk_54 5 (dk_at dksL_law_19 20 rfl rfl)
theorem dL_law_564 : decode cL_law 564 = .ok (.aload_n 2, 1) := dk_44 (dk_at dksL_law_19 22 rfl rfl)
theorem dL_law_565 : decode cL_law 565 = .ok (.aload_n 0, 1) := dk_42 (dk_at dksL_law_19 23 rfl rfl)
theorem dL_law_566 : decode cL_law 566 = .ok (.iload 4, 2) := dk_21 4 (dk_at dksL_law_20 0 rfl rfl)
theorem dL_law_568 : decode cL_law 568 = .ok (.iconst 1, 1) := dk_4 (dk_at dksL_law_20 2 rfl rfl)
theorem dL_law_569 : decode cL_law 569 = .ok (.iadd, 1) := dk_96 (dk_at dksL_law_20 3 rfl rfl)
theorem dL_law_570 : decode cL_law 570 = .ok (.iaload, 1) := dk_46 (dk_at dksL_law_20 4 rfl rfl)
theorem dL_law_571 : decode cL_law 571 = .ok (.aload_n 0, 1) := dk_42 (dk_at dksL_law_20 5 rfl rfl)
theorem dL_law_572 : decode cL_law 572 = .ok (.iload 4, 2) := dk_21 4 (dk_at dksL_law_20 6 rfl rfl)
theorem dL_law_574 : decode cL_law 574 = .ok (.iconst 2, 1) := dk_5 (dk_at dksL_law_20 8 rfl rfl)
theorem dL_law_575 : decode cL_law 575 = .ok (.iadd, 1) := dk_96 (dk_at dksL_law_20 9 rfl rfl)
theorem dL_law_576 : decode cL_law 576 = .ok (.iaload, 1) := dk_46 (dk_at dksL_law_20 10 rfl rfl)
theorem dL_law_577 : decode cL_law 577 = .ok (.invokevirtual 118, 3) := dk_182 0 118 (dk_at dksL_law_20 11 rfl rfl)
theorem dL_law_580 : decode cL_law 580 = .ok (.istore 6, 2) := dk_54 6 (dk_at dksL_law_20 14 rfl rfl)
theorem dL_law_582 : decode cL_law 582 = .ok (.aload_n 2, 1) := dk_44 (dk_at dksL_law_20 16 rfl rfl)
theorem dL_law_583 : decode cL_law 583 = .ok (.invokevirtual 95, 3) := dk_182 0 95 (dk_at dksL_law_20 17 rfl rfl)
theorem dL_law_586 : decode cL_law 586 = .ok (.iload 5, 2) := dk_21 5 (dk_at dksL_law_20 20 rfl rfl)
theorem dL_law_588 : decode cL_law 588 = .ok (.if_icmp .eq 5, 3) := dk_159 0 5 (dk_at dksL_law_21 0 rfl rfl)
theorem dL_law_591 : decode cL_law 591 = .ok (.iconst 0, 1) := dk_3 (dk_at dksL_law_21 3 rfl rfl)
theorem dL_law_592 : decode cL_law 592 = .ok (.ireturn, 1) := dk_172 (dk_at dksL_law_21 4 rfl rfl)
theorem dL_law_593 : decode cL_law 593 = .ok (.iload 5, 2) := dk_21 5 (dk_at dksL_law_21 5 rfl rfl)
theorem dL_law_595 : decode cL_law 595 = .ok (.ifCond .ne 15, 3) := dk_154 0 15 (dk_at dksL_law_21 7 rfl rfl)
theorem dL_law_598 : decode cL_law 598 = .ok (.aload_n 3, 1) := dk_45 (dk_at dksL_law_21 10 rfl rfl)
theorem dL_law_599 : decode cL_law 599 = .ok (.iconst 0, 1) := dk_3 (dk_at dksL_law_21 11 rfl rfl)
theorem dL_law_600 : decode cL_law 600 = .ok (.laload, 1) := dk_47 (dk_at dksL_law_21 12 rfl rfl)
theorem dL_law_601 : decode cL_law 601 = .ok (.iload 6, 2) := dk_21 6 (dk_at dksL_law_21 13 rfl rfl)
theorem dL_law_603 : decode cL_law 603 = .ok (.i2l, 1) := dk_133 (dk_at dksL_law_21 15 rfl rfl)
theorem dL_law_604 : decode cL_law 604 = .ok (.lcmp, 1) := dk_148 (dk_at dksL_law_21 16 rfl rfl)
theorem dL_law_605 : decode cL_law 605 = .ok (.ifCond .eq 5, 3) := dk_153 0 5 (dk_at dksL_law_21 17 rfl rfl)
theorem dL_law_608 : decode cL_law 608 = .ok (.iconst 0, 1) := dk_3 (dk_at dksL_law_21 20 rfl rfl)
theorem dL_law_609 : decode cL_law 609 = .ok (.ireturn, 1) := dk_172 (dk_at dksL_law_21 21 rfl rfl)
theorem dL_law_610 : decode cL_law 610 = .ok (.goto 1026, 3) := dk_167 4 2 (dk_at dksL_law_22 0 rfl rfl)
theorem dL_law_613 : decode cL_law 613 = .ok (.aload_n 1, 1) := dk_43 (dk_at dksL_law_22 3 rfl rfl)
theorem dL_law_614 : decode cL_law 614 = .ok (.aload_n 0, 1) := dk_42 (dk_at dksL_law_22 4 rfl rfl)
theorem dL_law_615 : decode cL_law 615 = .ok (.iload 4, 2) := dk_21 4 (dk_at dksL_law_22 5 rfl rfl)
theorem dL_law_617 : decode cL_law 617 = .ok (.iconst 1, 1) := dk_4 (dk_at dksL_law_22 7 rfl rfl)
theorem dL_law_618 : decode cL_law 618 = .ok (.iadd, 1) := dk_96 (dk_at dksL_law_22 8 rfl rfl)
theorem dL_law_619 : decode cL_law 619 = .ok (.iaload, 1) := dk_46 (dk_at dksL_law_22 9 rfl rfl)
theorem dL_law_620 : decode cL_law 620 = .ok (.aload_n 3, 1) := dk_45 (dk_at dksL_law_22 10 rfl rfl)
theorem dL_law_621 : decode cL_law 621 = .ok (.invokestatic 119, 3) := dk_184 0 119 (dk_at dksL_law_22 11 rfl rfl)
theorem dL_law_624 : decode cL_law 624 = .ok (.istore 5, 2) := dk_54 5 (dk_at dksL_law_22 14 rfl rfl)
theorem dL_law_626 : decode cL_law 626 = .ok (.aload_n 2, 1) := dk_44 (dk_at dksL_law_22 16 rfl rfl)
theorem dL_law_627 : decode cL_law 627 = .ok (.aload_n 0, 1) := dk_42 (dk_at dksL_law_22 17 rfl rfl)
theorem dL_law_628 : decode cL_law 628 = .ok (.iload 4, 2) := dk_21 4 (dk_at dksL_law_22 18 rfl rfl)
theorem dL_law_630 : decode cL_law 630 = .ok (.iconst 1, 1) := dk_4 (dk_at dksL_law_22 20 rfl rfl)
theorem dL_law_631 : decode cL_law 631 = .ok (.iadd, 1) := dk_96 (dk_at dksL_law_22 21 rfl rfl)
theorem dL_law_632 : decode cL_law 632 = .ok (.iaload, 1) := dk_46 (dk_at dksL_law_22 22 rfl rfl)
theorem dL_law_633 : decode cL_law 633 = .ok (.invokevirtual 121, 3) := dk_182 0 121 (dk_at dksL_law_23 0 rfl rfl)
theorem dL_law_636 : decode cL_law 636 = .ok (.istore 6, 2) := dk_54 6 (dk_at dksL_law_23 3 rfl rfl)
theorem dL_law_638 : decode cL_law 638 = .ok (.aload_n 2, 1) := dk_44 (dk_at dksL_law_23 5 rfl rfl)
theorem dL_law_639 : decode cL_law 639 = .ok (.invokevirtual 95, 3) := dk_182 0 95 (dk_at dksL_law_23 6 rfl rfl)
theorem dL_law_642 : decode cL_law 642 = .ok (.iload 5, 2) := dk_21 5 (dk_at dksL_law_23 9 rfl rfl)
theorem dL_law_644 : decode cL_law 644 = .ok (.if_icmp .eq 5, 3) := dk_159 0 5 (dk_at dksL_law_23 11 rfl rfl)
theorem dL_law_647 : decode cL_law 647 = .ok (.iconst 0, 1) := dk_3 (dk_at dksL_law_23 14 rfl rfl)
theorem dL_law_648 : decode cL_law 648 = .ok (.ireturn, 1) := dk_172 (dk_at dksL_law_23 15 rfl rfl)
theorem dL_law_649 : decode cL_law 649 = .ok (.iload 5, 2) := dk_21 5 (dk_at dksL_law_23 16 rfl rfl)
theorem dL_law_651 : decode cL_law 651 = .ok (.ifCond .ne 15, 3) := dk_154 0 15 (dk_at dksL_law_23 18 rfl rfl)
theorem dL_law_654 : decode cL_law 654 = .ok (.aload_n 3, 1) := dk_45 (dk_at dksL_law_23 21 rfl rfl)
theorem dL_law_655 : decode cL_law 655 = .ok (.iconst 0, 1) := dk_3 (dk_at dksL_law_23 22 rfl rfl)
theorem dL_law_656 : decode cL_law 656 = .ok (.laload, 1) := dk_47 (dk_at dksL_law_23 23 rfl rfl)
theorem dL_law_657 : decode cL_law 657 = .ok (.iload 6, 2) := dk_21 6 (dk_at dksL_law_24 0 rfl rfl)
theorem dL_law_659 : decode cL_law 659 = .ok (.i2l, 1) := dk_133 (dk_at dksL_law_24 2 rfl rfl)
theorem dL_law_660 : decode cL_law 660 = .ok (.lcmp, 1) := dk_148 (dk_at dksL_law_24 3 rfl rfl)
theorem dL_law_661 : decode cL_law 661 = .ok (.ifCond .eq 5, 3) := dk_153 0 5 (dk_at dksL_law_24 4 rfl rfl)
theorem dL_law_664 : decode cL_law 664 = .ok (.iconst 0, 1) := dk_3 (dk_at dksL_law_24 7 rfl rfl)
theorem dL_law_665 : decode cL_law 665 = .ok (.ireturn, 1) := dk_172 (dk_at dksL_law_24 8 rfl rfl)
theorem dL_law_666 : decode cL_law 666 = .ok (.goto 970, 3) := dk_167 3 202 (dk_at dksL_law_24 9 rfl rfl)
theorem dL_law_669 : decode cL_law 669 = .ok (.aload_n 1, 1) := dk_43 (dk_at dksL_law_24 12 rfl rfl)
theorem dL_law_670 : decode cL_law 670 = .ok (.aload_n 0, 1) := dk_42 (dk_at dksL_law_24 13 rfl rfl)
theorem dL_law_671 : decode cL_law 671 = .ok (.iload 4, 2) := dk_21 4 (dk_at dksL_law_24 14 rfl rfl)
theorem dL_law_673 : decode cL_law 673 = .ok (.iconst 1, 1) := dk_4 (dk_at dksL_law_24 16 rfl rfl)
theorem dL_law_674 : decode cL_law 674 = .ok (.iadd, 1) := dk_96 (dk_at dksL_law_24 17 rfl rfl)
theorem dL_law_675 : decode cL_law 675 = .ok (.iaload, 1) := dk_46 (dk_at dksL_law_24 18 rfl rfl)
theorem dL_law_676 : decode cL_law 676 = .ok (.aload_n 0, 1) := dk_42 (dk_at dksL_law_24 19 rfl rfl)
theorem dL_law_677 : decode cL_law 677 = .ok (.iload 4, 2) := dk_21 4 (dk_at dksL_law_24 20 rfl rfl)
theorem dL_law_679 : decode cL_law 679 = .ok (.iconst 2, 1) := dk_5 (dk_at dksL_law_24 22 rfl rfl)
theorem dL_law_680 : decode cL_law 680 = .ok (.iadd, 1) := dk_96 (dk_at dksL_law_24 23 rfl rfl)
theorem dL_law_681 : decode cL_law 681 = .ok (.iaload, 1) := dk_46 (dk_at dksL_law_25 0 rfl rfl)
theorem dL_law_682 : decode cL_law 682 = .ok (.aload_n 3, 1) := dk_45 (dk_at dksL_law_25 1 rfl rfl)
theorem dL_law_683 : decode cL_law 683 = .ok (.invokestatic 122, 3) := dk_184 0 122 (dk_at dksL_law_25 2 rfl rfl)
theorem dL_law_686 : decode cL_law 686 = .ok (.istore 5, 2) := dk_54 5 (dk_at dksL_law_25 5 rfl rfl)
theorem dL_law_688 : decode cL_law 688 = .ok (.aload_n 2, 1) := dk_44 (dk_at dksL_law_25 7 rfl rfl)
theorem dL_law_689 : decode cL_law 689 = .ok (.aload_n 0, 1) := dk_42 (dk_at dksL_law_25 8 rfl rfl)
theorem dL_law_690 : decode cL_law 690 = .ok (.iload 4, 2) := dk_21 4 (dk_at dksL_law_25 9 rfl rfl)
theorem dL_law_692 : decode cL_law 692 = .ok (.iconst 1, 1) := dk_4 (dk_at dksL_law_25 11 rfl rfl)
theorem dL_law_693 : decode cL_law 693 = .ok (.iadd, 1) := dk_96 (dk_at dksL_law_25 12 rfl rfl)
theorem dL_law_694 : decode cL_law 694 = .ok (.iaload, 1) := dk_46 (dk_at dksL_law_25 13 rfl rfl)
theorem dL_law_695 : decode cL_law 695 = .ok (.aload_n 0, 1) := dk_42 (dk_at dksL_law_25 14 rfl rfl)
theorem dL_law_696 : decode cL_law 696 = .ok (.iload 4, 2) := dk_21 4 (dk_at dksL_law_25 15 rfl rfl)
theorem dL_law_698 : decode cL_law 698 = .ok (.iconst 2, 1) := dk_5 (dk_at dksL_law_25 17 rfl rfl)
theorem dL_law_699 : decode cL_law 699 = .ok (.iadd, 1) := dk_96 (dk_at dksL_law_25 18 rfl rfl)
theorem dL_law_700 : decode cL_law 700 = .ok (.iaload, 1) := dk_46 (dk_at dksL_law_25 19 rfl rfl)
theorem dL_law_701 : decode cL_law 701 = .ok (.invokevirtual 124, 3) := dk_182 0 124 (dk_at dksL_law_25 20 rfl rfl)
theorem dL_law_704 : decode cL_law 704 = .ok (.istore 6, 2) := dk_54 6 (dk_at dksL_law_26 0 rfl rfl)
theorem dL_law_706 : decode cL_law 706 = .ok (.aload_n 2, 1) := dk_44 (dk_at dksL_law_26 2 rfl rfl)
theorem dL_law_707 : decode cL_law 707 = .ok (.invokevirtual 95, 3) := dk_182 0 95 (dk_at dksL_law_26 3 rfl rfl)
theorem dL_law_710 : decode cL_law 710 = .ok (.iload 5, 2) := dk_21 5 (dk_at dksL_law_26 6 rfl rfl)
theorem dL_law_712 : decode cL_law 712 = .ok (.if_icmp .eq 5, 3) := dk_159 0 5 (dk_at dksL_law_26 8 rfl rfl)
theorem dL_law_715 : decode cL_law 715 = .ok (.iconst 0, 1) := dk_3 (dk_at dksL_law_26 11 rfl rfl)
theorem dL_law_716 : decode cL_law 716 = .ok (.ireturn, 1) := dk_172 (dk_at dksL_law_26 12 rfl rfl)
theorem dL_law_717 : decode cL_law 717 = .ok (.iload 5, 2) := dk_21 5 (dk_at dksL_law_26 13 rfl rfl)
theorem dL_law_719 : decode cL_law 719 = .ok (.ifCond .ne 15, 3) := dk_154 0 15 (dk_at dksL_law_26 15 rfl rfl)
theorem dL_law_722 : decode cL_law 722 = .ok (.aload_n 3, 1) := dk_45 (dk_at dksL_law_26 18 rfl rfl)
theorem dL_law_723 : decode cL_law 723 = .ok (.iconst 0, 1) := dk_3 (dk_at dksL_law_26 19 rfl rfl)
theorem dL_law_724 : decode cL_law 724 = .ok (.laload, 1) := dk_47 (dk_at dksL_law_26 20 rfl rfl)
theorem dL_law_725 : decode cL_law 725 = .ok (.iload 6, 2) := dk_21 6 (dk_at dksL_law_26 21 rfl rfl)
theorem dL_law_727 : decode cL_law 727 = .ok (.i2l, 1) := dk_133 (dk_at dksL_law_26 23 rfl rfl)
theorem dL_law_728 : decode cL_law 728 = .ok (.lcmp, 1) := dk_148 (dk_at dksL_law_27 0 rfl rfl)
theorem dL_law_729 : decode cL_law 729 = .ok (.ifCond .eq 5, 3) := dk_153 0 5 (dk_at dksL_law_27 1 rfl rfl)
theorem dL_law_732 : decode cL_law 732 = .ok (.iconst 0, 1) := dk_3 (dk_at dksL_law_27 4 rfl rfl)
theorem dL_law_733 : decode cL_law 733 = .ok (.ireturn, 1) := dk_172 (dk_at dksL_law_27 5 rfl rfl)
theorem dL_law_734 : decode cL_law 734 = .ok (.goto 902, 3) := dk_167 3 134 (dk_at dksL_law_27 6 rfl rfl)
theorem dL_law_737 : decode cL_law 737 = .ok (.aload_n 1, 1) := dk_43 (dk_at dksL_law_27 9 rfl rfl)
theorem dL_law_738 : decode cL_law 738 = .ok (.aload_n 0, 1) := dk_42 (dk_at dksL_law_27 10 rfl rfl)
theorem dL_law_739 : decode cL_law 739 = .ok (.iload 4, 2) := dk_21 4 (dk_at dksL_law_27 11 rfl rfl)
theorem dL_law_741 : decode cL_law 741 = .ok (.iconst 1, 1) := dk_4 (dk_at dksL_law_27 13 rfl rfl)
theorem dL_law_742 : decode cL_law 742 = .ok (.iadd, 1) := dk_96 (dk_at dksL_law_27 14 rfl rfl)
theorem dL_law_743 : decode cL_law 743 = .ok (.iaload, 1) := dk_46 (dk_at dksL_law_27 15 rfl rfl)
theorem dL_law_744 : decode cL_law 744 = .ok (.aload_n 3, 1) := dk_45 (dk_at dksL_law_27 16 rfl rfl)
theorem dL_law_745 : decode cL_law 745 = .ok (.invokestatic 125, 3) := dk_184 0 125 (dk_at dksL_law_27 17 rfl rfl)
theorem dL_law_748 : decode cL_law 748 = .ok (.istore 5, 2) := dk_54 5 (dk_at dksL_law_27 20 rfl rfl)
theorem dL_law_750 : decode cL_law 750 = .ok (.aload_n 2, 1) := dk_44 (dk_at dksL_law_27 22 rfl rfl)
theorem dL_law_751 : decode cL_law 751 = .ok (.aload_n 0, 1) := dk_42 (dk_at dksL_law_27 23 rfl rfl)
theorem dL_law_752 : decode cL_law 752 = .ok (.iload 4, 2) := dk_21 4 (dk_at dksL_law_28 0 rfl rfl)
theorem dL_law_754 : decode cL_law 754 = .ok (.iconst 1, 1) := dk_4 (dk_at dksL_law_28 2 rfl rfl)
theorem dL_law_755 : decode cL_law 755 = .ok (.iadd, 1) := dk_96 (dk_at dksL_law_28 3 rfl rfl)
theorem dL_law_756 : decode cL_law 756 = .ok (.iaload, 1) := dk_46 (dk_at dksL_law_28 4 rfl rfl)
theorem dL_law_757 : decode cL_law 757 = .ok (.invokevirtual 127, 3) := dk_182 0 127 (dk_at dksL_law_28 5 rfl rfl)
theorem dL_law_760 : decode cL_law 760 = .ok (.istore 6, 2) := dk_54 6 (dk_at dksL_law_28 8 rfl rfl)
theorem dL_law_762 : decode cL_law 762 = .ok (.aload_n 2, 1) := dk_44 (dk_at dksL_law_28 10 rfl rfl)
theorem dL_law_763 : decode cL_law 763 = .ok (.invokevirtual 95, 3) := dk_182 0 95 (dk_at dksL_law_28 11 rfl rfl)
theorem dL_law_766 : decode cL_law 766 = .ok (.iload 5, 2) := dk_21 5 (dk_at dksL_law_28 14 rfl rfl)
theorem dL_law_768 : decode cL_law 768 = .ok (.if_icmp .eq 5, 3) := dk_159 0 5 (dk_at dksL_law_28 16 rfl rfl)
theorem dL_law_771 : decode cL_law 771 = .ok (.iconst 0, 1) := dk_3 (dk_at dksL_law_28 19 rfl rfl)
theorem dL_law_772 : decode cL_law 772 = .ok (.ireturn, 1) := dk_172 (dk_at dksL_law_28 20 rfl rfl)
theorem dL_law_773 : decode cL_law 773 = .ok (.iload 5, 2) := dk_21 5 (dk_at dksL_law_28 21 rfl rfl)
theorem dL_law_775 : decode cL_law 775 = .ok (.ifCond .ne 15, 3) := dk_154 0 15 (dk_at dksL_law_29 0 rfl rfl)
theorem dL_law_778 : decode cL_law 778 = .ok (.aload_n 3, 1) := dk_45 (dk_at dksL_law_29 3 rfl rfl)
theorem dL_law_779 : decode cL_law 779 = .ok (.iconst 0, 1) := dk_3 (dk_at dksL_law_29 4 rfl rfl)
theorem dL_law_780 : decode cL_law 780 = .ok (.laload, 1) := dk_47 (dk_at dksL_law_29 5 rfl rfl)
theorem dL_law_781 : decode cL_law 781 = .ok (.iload 6, 2) := dk_21 6 (dk_at dksL_law_29 6 rfl rfl)
theorem dL_law_783 : decode cL_law 783 = .ok (.i2l, 1) := dk_133 (dk_at dksL_law_29 8 rfl rfl)
theorem dL_law_784 : decode cL_law 784 = .ok (.lcmp, 1) := dk_148 (dk_at dksL_law_29 9 rfl rfl)
theorem dL_law_785 : decode cL_law 785 = .ok (.ifCond .eq 5, 3) := dk_153 0 5 (dk_at dksL_law_29 10 rfl rfl)
theorem dL_law_788 : decode cL_law 788 = .ok (.iconst 0, 1) := dk_3 (dk_at dksL_law_29 13 rfl rfl)
theorem dL_law_789 : decode cL_law 789 = .ok (.ireturn, 1) := dk_172 (dk_at dksL_law_29 14 rfl rfl)
theorem dL_law_790 : decode cL_law 790 = .ok (.goto 846, 3) := dk_167 3 78 (dk_at dksL_law_29 15 rfl rfl)
theorem dL_law_793 : decode cL_law 793 = .ok (.aload_n 1, 1) := dk_43 (dk_at dksL_law_29 18 rfl rfl)
theorem dL_law_794 : decode cL_law 794 = .ok (.aload_n 0, 1) := dk_42 (dk_at dksL_law_29 19 rfl rfl)
theorem dL_law_795 : decode cL_law 795 = .ok (.iload 4, 2) := dk_21 4 (dk_at dksL_law_29 20 rfl rfl)
theorem dL_law_797 : decode cL_law 797 = .ok (.iconst 1, 1) := dk_4 (dk_at dksL_law_29 22 rfl rfl)
theorem dL_law_798 : decode cL_law 798 = .ok (.iadd, 1) := dk_96 (dk_at dksL_law_29 23 rfl rfl)
theorem dL_law_799 : decode cL_law 799 = .ok (.iaload, 1) := dk_46 (dk_at dksL_law_30 0 rfl rfl)
theorem dL_law_800 : decode cL_law 800 = .ok (.aload_n 3, 1) := dk_45 (dk_at dksL_law_30 1 rfl rfl)
theorem dL_law_801 : decode cL_law 801 = .ok (.invokestatic 128, 3) := dk_184 0 128 (dk_at dksL_law_30 2 rfl rfl)
theorem dL_law_804 : decode cL_law 804 = .ok (.istore 5, 2) := dk_54 5 (dk_at dksL_law_30 5 rfl rfl)
theorem dL_law_806 : decode cL_law 806 = .ok (.aload_n 2, 1) := dk_44 (dk_at dksL_law_30 7 rfl rfl)
theorem dL_law_807 : decode cL_law 807 = .ok (.aload_n 0, 1) := dk_42 (dk_at dksL_law_30 8 rfl rfl)
theorem dL_law_808 : decode cL_law 808 = .ok (.iload 4, 2) := dk_21 4 (dk_at dksL_law_30 9 rfl rfl)
theorem dL_law_810 : decode cL_law 810 = .ok (.iconst 1, 1) := dk_4 (dk_at dksL_law_30 11 rfl rfl)
theorem dL_law_811 : decode cL_law 811 = .ok (.iadd, 1) := dk_96 (dk_at dksL_law_30 12 rfl rfl)
theorem dL_law_812 : decode cL_law 812 = .ok (.iaload, 1) := dk_46 (dk_at dksL_law_30 13 rfl rfl)
theorem dL_law_813 : decode cL_law 813 = .ok (.invokevirtual 130, 3) := dk_182 0 130 (dk_at dksL_law_30 14 rfl rfl)
theorem dL_law_816 : decode cL_law 816 = .ok (.lstore 6, 2) := dk_55 6 (dk_at dksL_law_30 17 rfl rfl)
theorem dL_law_818 : decode cL_law 818 = .ok (.aload_n 2, 1) := dk_44 (dk_at dksL_law_30 19 rfl rfl)
theorem dL_law_819 : decode cL_law 819 = .ok (.invokevirtual 95, 3) := dk_182 0 95 (dk_at dksL_law_30 20 rfl rfl)
theorem dL_law_822 : decode cL_law 822 = .ok (.iload 5, 2) := dk_21 5 (dk_at dksL_law_31 0 rfl rfl)
theorem dL_law_824 : decode cL_law 824 = .ok (.if_icmp .eq 5, 3) := dk_159 0 5 (dk_at dksL_law_31 2 rfl rfl)
theorem dL_law_827 : decode cL_law 827 = .ok (.iconst 0, 1) := dk_3 (dk_at dksL_law_31 5 rfl rfl)
theorem dL_law_828 : decode cL_law 828 = .ok (.ireturn, 1) := dk_172 (dk_at dksL_law_31 6 rfl rfl)
theorem dL_law_829 : decode cL_law 829 = .ok (.iload 5, 2) := dk_21 5 (dk_at dksL_law_31 7 rfl rfl)
theorem dL_law_831 : decode cL_law 831 = .ok (.ifCond .ne 14, 3) := dk_154 0 14 (dk_at dksL_law_31 9 rfl rfl)
theorem dL_law_834 : decode cL_law 834 = .ok (.aload_n 3, 1) := dk_45 (dk_at dksL_law_31 12 rfl rfl)
theorem dL_law_835 : decode cL_law 835 = .ok (.iconst 0, 1) := dk_3 (dk_at dksL_law_31 13 rfl rfl)
theorem dL_law_836 : decode cL_law 836 = .ok (.laload, 1) := dk_47 (dk_at dksL_law_31 14 rfl rfl)
theorem dL_law_837 : decode cL_law 837 = .ok (.lload 6, 2) := dk_22 6 (dk_at dksL_law_31 15 rfl rfl)
theorem dL_law_839 : decode cL_law 839 = .ok (.lcmp, 1) := dk_148 (dk_at dksL_law_31 17 rfl rfl)
theorem dL_law_840 : decode cL_law 840 = .ok (.ifCond .eq 5, 3) := dk_153 0 5 (dk_at dksL_law_31 18 rfl rfl)
theorem dL_law_843 : decode cL_law 843 = .ok (.iconst 0, 1) := dk_3 (dk_at dksL_law_31 21 rfl rfl)
theorem dL_law_844 : decode cL_law 844 = .ok (.ireturn, 1) := dk_172 (dk_at dksL_law_31 22 rfl rfl)
theorem dL_law_845 : decode cL_law 845 = .ok (.goto 791, 3) := dk_167 3 23 (dk_at dksL_law_32 0 rfl rfl)
theorem dL_law_848 : decode cL_law 848 = .ok (.aload_n 1, 1) := dk_43 (dk_at dksL_law_32 3 rfl rfl)
theorem dL_law_849 : decode cL_law 849 = .ok (.aload_n 0, 1) := dk_42 (dk_at dksL_law_32 4 rfl rfl)
theorem dL_law_850 : decode cL_law 850 = .ok (.iload 4, 2) := dk_21 4 (dk_at dksL_law_32 5 rfl rfl)
theorem dL_law_852 : decode cL_law 852 = .ok (.iconst 1, 1) := dk_4 (dk_at dksL_law_32 7 rfl rfl)
theorem dL_law_853 : decode cL_law 853 = .ok (.iadd, 1) := dk_96 (dk_at dksL_law_32 8 rfl rfl)
theorem dL_law_854 : decode cL_law 854 = .ok (.iaload, 1) := dk_46 (dk_at dksL_law_32 9 rfl rfl)
theorem dL_law_855 : decode cL_law 855 = .ok (.aload_n 3, 1) := dk_45 (dk_at dksL_law_32 10 rfl rfl)
theorem dL_law_856 : decode cL_law 856 = .ok (.invokestatic 131, 3) := dk_184 0 131 (dk_at dksL_law_32 11 rfl rfl)
theorem dL_law_859 : decode cL_law 859 = .ok (.istore 5, 2) := dk_54 5 (dk_at dksL_law_32 14 rfl rfl)
theorem dL_law_861 : decode cL_law 861 = .ok (.aload_n 2, 1) := dk_44 (dk_at dksL_law_32 16 rfl rfl)
theorem dL_law_862 : decode cL_law 862 = .ok (.aload_n 0, 1) := dk_42 (dk_at dksL_law_32 17 rfl rfl)
theorem dL_law_863 : decode cL_law 863 = .ok (.iload 4, 2) := dk_21 4 (dk_at dksL_law_32 18 rfl rfl)
theorem dL_law_865 : decode cL_law 865 = .ok (.iconst 1, 1) := dk_4 (dk_at dksL_law_32 20 rfl rfl)
theorem dL_law_866 : decode cL_law 866 = .ok (.iadd, 1) := dk_96 (dk_at dksL_law_32 21 rfl rfl)
theorem dL_law_867 : decode cL_law 867 = .ok (.iaload, 1) := dk_46 (dk_at dksL_law_32 22 rfl rfl)
theorem dL_law_868 : decode cL_law 868 = .ok (.invokevirtual 133, 3) := dk_182 0 133 (dk_at dksL_law_33 0 rfl rfl)
theorem dL_law_871 : decode cL_law 871 = .ok (.istore 6, 2) := dk_54 6 (dk_at dksL_law_33 3 rfl rfl)
theorem dL_law_873 : decode cL_law 873 = .ok (.aload_n 2, 1) := dk_44 (dk_at dksL_law_33 5 rfl rfl)
theorem dL_law_874 : decode cL_law 874 = .ok (.invokevirtual 95, 3) := dk_182 0 95 (dk_at dksL_law_33 6 rfl rfl)
theorem dL_law_877 : decode cL_law 877 = .ok (.iload 5, 2) := dk_21 5 (dk_at dksL_law_33 9 rfl rfl)
theorem dL_law_879 : decode cL_law 879 = .ok (.if_icmp .eq 5, 3) := dk_159 0 5 (dk_at dksL_law_33 11 rfl rfl)
theorem dL_law_882 : decode cL_law 882 = .ok (.iconst 0, 1) := dk_3 (dk_at dksL_law_33 14 rfl rfl)
theorem dL_law_883 : decode cL_law 883 = .ok (.ireturn, 1) := dk_172 (dk_at dksL_law_33 15 rfl rfl)
theorem dL_law_884 : decode cL_law 884 = .ok (.iload 5, 2) := dk_21 5 (dk_at dksL_law_33 16 rfl rfl)
theorem dL_law_886 : decode cL_law 886 = .ok (.ifCond .ne 15, 3) := dk_154 0 15 (dk_at dksL_law_33 18 rfl rfl)
theorem dL_law_889 : decode cL_law 889 = .ok (.aload_n 3, 1) := dk_45 (dk_at dksL_law_33 21 rfl rfl)
theorem dL_law_890 : decode cL_law 890 = .ok (.iconst 0, 1) := dk_3 (dk_at dksL_law_33 22 rfl rfl)
theorem dL_law_891 : decode cL_law 891 = .ok (.laload, 1) := dk_47 (dk_at dksL_law_33 23 rfl rfl)
theorem dL_law_892 : decode cL_law 892 = .ok (.iload 6, 2) := dk_21 6 (dk_at dksL_law_34 0 rfl rfl)
theorem dL_law_894 : decode cL_law 894 = .ok (.i2l, 1) := dk_133 (dk_at dksL_law_34 2 rfl rfl)
theorem dL_law_895 : decode cL_law 895 = .ok (.lcmp, 1) := dk_148 (dk_at dksL_law_34 3 rfl rfl)
theorem dL_law_896 : decode cL_law 896 = .ok (.ifCond .eq 5, 3) := dk_153 0 5 (dk_at dksL_law_34 4 rfl rfl)
theorem dL_law_899 : decode cL_law 899 = .ok (.iconst 0, 1) := dk_3 (dk_at dksL_law_34 7 rfl rfl)
theorem dL_law_900 : decode cL_law 900 = .ok (.ireturn, 1) := dk_172 (dk_at dksL_law_34 8 rfl rfl)
theorem dL_law_901 : decode cL_law 901 = .ok (.goto 735, 3) := dk_167 2 223 (dk_at dksL_law_34 9 rfl rfl)
theorem dL_law_904 : decode cL_law 904 = .ok (.aload_n 1, 1) := dk_43 (dk_at dksL_law_34 12 rfl rfl)
theorem dL_law_905 : decode cL_law 905 = .ok (.aload_n 0, 1) := dk_42 (dk_at dksL_law_34 13 rfl rfl)
theorem dL_law_906 : decode cL_law 906 = .ok (.iload 4, 2) := dk_21 4 (dk_at dksL_law_34 14 rfl rfl)
theorem dL_law_908 : decode cL_law 908 = .ok (.iconst 1, 1) := dk_4 (dk_at dksL_law_34 16 rfl rfl)
theorem dL_law_909 : decode cL_law 909 = .ok (.iadd, 1) := dk_96 (dk_at dksL_law_34 17 rfl rfl)
theorem dL_law_910 : decode cL_law 910 = .ok (.iaload, 1) := dk_46 (dk_at dksL_law_34 18 rfl rfl)
theorem dL_law_911 : decode cL_law 911 = .ok (.aload_n 3, 1) := dk_45 (dk_at dksL_law_34 19 rfl rfl)
theorem dL_law_912 : decode cL_law 912 = .ok (.invokestatic 134, 3) := dk_184 0 134 (dk_at dksL_law_34 20 rfl rfl)
theorem dL_law_915 : decode cL_law 915 = .ok (.istore 5, 2) := dk_54 5 (dk_at dksL_law_35 0 rfl rfl)
theorem dL_law_917 : decode cL_law 917 = .ok (.aload_n 2, 1) := dk_44 (dk_at dksL_law_35 2 rfl rfl)
theorem dL_law_918 : decode cL_law 918 = .ok (.aload_n 0, 1) := dk_42 (dk_at dksL_law_35 3 rfl rfl)
theorem dL_law_919 : decode cL_law 919 = .ok (.iload 4, 2) := dk_21 4 (dk_at dksL_law_35 4 rfl rfl)
theorem dL_law_921 : decode cL_law 921 = .ok (.iconst 1, 1) := dk_4 (dk_at dksL_law_35 6 rfl rfl)
theorem dL_law_922 : decode cL_law 922 = .ok (.iadd, 1) := dk_96 (dk_at dksL_law_35 7 rfl rfl)
theorem dL_law_923 : decode cL_law 923 = .ok (.iaload, 1) := dk_46 (dk_at dksL_law_35 8 rfl rfl)
theorem dL_law_924 : decode cL_law 924 = .ok (.invokevirtual 136, 3) := dk_182 0 136 (dk_at dksL_law_35 9 rfl rfl)
theorem dL_law_927 : decode cL_law 927 = .ok (.lstore 6, 2) := dk_55 6 (dk_at dksL_law_35 12 rfl rfl)
theorem dL_law_929 : decode cL_law 929 = .ok (.aload_n 2, 1) := dk_44 (dk_at dksL_law_35 14 rfl rfl)
theorem dL_law_930 : decode cL_law 930 = .ok (.invokevirtual 95, 3) := dk_182 0 95 (dk_at dksL_law_35 15 rfl rfl)
theorem dL_law_933 : decode cL_law 933 = .ok (.iload 5, 2) := dk_21 5 (dk_at dksL_law_35 18 rfl rfl)
theorem dL_law_935 : decode cL_law 935 = .ok (.if_icmp .eq 5, 3) := dk_159 0 5 (dk_at dksL_law_35 20 rfl rfl)
theorem dL_law_938 : decode cL_law 938 = .ok (.iconst 0, 1) := dk_3 (dk_at dksL_law_35 23 rfl rfl)
theorem dL_law_939 : decode cL_law 939 = .ok (.ireturn, 1) := dk_172 (dk_at dksL_law_36 0 rfl rfl)
theorem dL_law_940 : decode cL_law 940 = .ok (.iload 5, 2) := dk_21 5 (dk_at dksL_law_36 1 rfl rfl)
theorem dL_law_942 : decode cL_law 942 = .ok (.ifCond .ne 14, 3) := dk_154 0 14 (dk_at dksL_law_36 3 rfl rfl)
theorem dL_law_945 : decode cL_law 945 = .ok (.aload_n 3, 1) := dk_45 (dk_at dksL_law_36 6 rfl rfl)
theorem dL_law_946 : decode cL_law 946 = .ok (.iconst 0, 1) := dk_3 (dk_at dksL_law_36 7 rfl rfl)
theorem dL_law_947 : decode cL_law 947 = .ok (.laload, 1) := dk_47 (dk_at dksL_law_36 8 rfl rfl)
theorem dL_law_948 : decode cL_law 948 = .ok (.lload 6, 2) := dk_22 6 (dk_at dksL_law_36 9 rfl rfl)
theorem dL_law_950 : decode cL_law 950 = .ok (.lcmp, 1) := dk_148 (dk_at dksL_law_36 11 rfl rfl)
theorem dL_law_951 : decode cL_law 951 = .ok (.ifCond .eq 5, 3) := dk_153 0 5 (dk_at dksL_law_36 12 rfl rfl)
theorem dL_law_954 : decode cL_law 954 = .ok (.iconst 0, 1) := dk_3 (dk_at dksL_law_36 15 rfl rfl)
theorem dL_law_955 : decode cL_law 955 = .ok (.ireturn, 1) := dk_172 (dk_at dksL_law_36 16 rfl rfl)
theorem dL_law_956 : decode cL_law 956 = .ok (.goto 680, 3) := dk_167 2 168 (dk_at dksL_law_36 17 rfl rfl)
theorem dL_law_959 : decode cL_law 959 = .ok (.aload_n 1, 1) := dk_43 (dk_at dksL_law_36 20 rfl rfl)
theorem dL_law_960 : decode cL_law 960 = .ok (.aload_n 0, 1) := dk_42 (dk_at dksL_law_36 21 rfl rfl)
theorem dL_law_961 : decode cL_law 961 = .ok (.iload 4, 2) := dk_21 4 (dk_at dksL_law_36 22 rfl rfl)
theorem dL_law_963 : decode cL_law 963 = .ok (.iconst 1, 1) := dk_4 (dk_at dksL_law_37 0 rfl rfl)
theorem dL_law_964 : decode cL_law 964 = .ok (.iadd, 1) := dk_96 (dk_at dksL_law_37 1 rfl rfl)
theorem dL_law_965 : decode cL_law 965 = .ok (.iaload, 1) := dk_46 (dk_at dksL_law_37 2 rfl rfl)
theorem dL_law_966 : decode cL_law 966 = .ok (.aload_n 0, 1) := dk_42 (dk_at dksL_law_37 3 rfl rfl)
theorem dL_law_967 : decode cL_law 967 = .ok (.iload 4, 2) := dk_21 4 (dk_at dksL_law_37 4 rfl rfl)
theorem dL_law_969 : decode cL_law 969 = .ok (.iconst 2, 1) := dk_5 (dk_at dksL_law_37 6 rfl rfl)
theorem dL_law_970 : decode cL_law 970 = .ok (.iadd, 1) := dk_96 (dk_at dksL_law_37 7 rfl rfl)
theorem dL_law_971 : decode cL_law 971 = .ok (.iaload, 1) := dk_46 (dk_at dksL_law_37 8 rfl rfl)
theorem dL_law_972 : decode cL_law 972 = .ok (.aload_n 0, 1) := dk_42 (dk_at dksL_law_37 9 rfl rfl)
theorem dL_law_973 : decode cL_law 973 = .ok (.iload 4, 2) := dk_21 4 (dk_at dksL_law_37 10 rfl rfl)
theorem dL_law_975 : decode cL_law 975 = .ok (.iconst 3, 1) := dk_6 (dk_at dksL_law_37 12 rfl rfl)
theorem dL_law_976 : decode cL_law 976 = .ok (.iadd, 1) := dk_96 (dk_at dksL_law_37 13 rfl rfl)
theorem dL_law_977 : decode cL_law 977 = .ok (.iaload, 1) := dk_46 (dk_at dksL_law_37 14 rfl rfl)
theorem dL_law_978 : decode cL_law 978 = .ok (.ifCond .eq 7, 3) := dk_153 0 7 (dk_at dksL_law_37 15 rfl rfl)
theorem dL_law_981 : decode cL_law 981 = .ok (.iconst 1, 1) := dk_4 (dk_at dksL_law_37 18 rfl rfl)
theorem dL_law_982 : decode cL_law 982 = .ok (.goto 4, 3) := dk_167 0 4 (dk_at dksL_law_37 19 rfl rfl)
theorem dL_law_985 : decode cL_law 985 = .ok (.iconst 0, 1) := dk_3 (dk_at dksL_law_37 22 rfl rfl)
theorem dL_law_986 : decode cL_law 986 = .ok (.aload_n 3, 1) := dk_45 (dk_at dksL_law_37 23 rfl rfl)
theorem dL_law_987 : decode cL_law 987 = .ok (.invokestatic 137, 3) := dk_184 0 137 (dk_at dksL_law_38 0 rfl rfl)
theorem dL_law_990 : decode cL_law 990 = .ok (.istore 5, 2) := dk_54 5 (dk_at dksL_law_38 3 rfl rfl)
theorem dL_law_992 : decode cL_law 992 = .ok (.aload_n 2, 1) := dk_44 (dk_at dksL_law_38 5 rfl rfl)
theorem dL_law_993 : decode cL_law 993 = .ok (.aload_n 0, 1) := dk_42 (dk_at dksL_law_38 6 rfl rfl)
theorem dL_law_994 : decode cL_law 994 = .ok (.iload 4, 2) := dk_21 4 (dk_at dksL_law_38 7 rfl rfl)
theorem dL_law_996 : decode cL_law 996 = .ok (.iconst 1, 1) := dk_4 (dk_at dksL_law_38 9 rfl rfl)
theorem dL_law_997 : decode cL_law 997 = .ok (.iadd, 1) := dk_96 (dk_at dksL_law_38 10 rfl rfl)
theorem dL_law_998 : decode cL_law 998 = .ok (.iaload, 1) := dk_46 (dk_at dksL_law_38 11 rfl rfl)
theorem dL_law_999 : decode cL_law 999 = .ok (.aload_n 0, 1) := dk_42 (dk_at dksL_law_38 12 rfl rfl)
theorem dL_law_1000 : decode cL_law 1000 = .ok (.iload 4, 2) := dk_21 4 (dk_at dksL_law_38 13 rfl rfl)
theorem dL_law_1002 : decode cL_law 1002 = .ok (.iconst 2, 1) := dk_5 (dk_at dksL_law_38 15 rfl rfl)
theorem dL_law_1003 : decode cL_law 1003 = .ok (.iadd, 1) := dk_96 (dk_at dksL_law_38 16 rfl rfl)
theorem dL_law_1004 : decode cL_law 1004 = .ok (.iaload, 1) := dk_46 (dk_at dksL_law_38 17 rfl rfl)
theorem dL_law_1005 : decode cL_law 1005 = .ok (.aload_n 0, 1) := dk_42 (dk_at dksL_law_38 18 rfl rfl)
theorem dL_law_1006 : decode cL_law 1006 = .ok (.iload 4, 2) := dk_21 4 (dk_at dksL_law_38 19 rfl rfl)
theorem dL_law_1008 : decode cL_law 1008 = .ok (.iconst 3, 1) := dk_6 (dk_at dksL_law_38 21 rfl rfl)
theorem dL_law_1009 : decode cL_law 1009 = .ok (.iadd, 1) := dk_96 (dk_at dksL_law_38 22 rfl rfl)
theorem dL_law_1010 : decode cL_law 1010 = .ok (.iaload, 1) := dk_46 (dk_at dksL_law_38 23 rfl rfl)
theorem dL_law_1011 : decode cL_law 1011 = .ok (.ifCond .eq 7, 3) := dk_153 0 7 (dk_at dksL_law_39 0 rfl rfl)
theorem dL_law_1014 : decode cL_law 1014 = .ok (.iconst 1, 1) := dk_4 (dk_at dksL_law_39 3 rfl rfl)
theorem dL_law_1015 : decode cL_law 1015 = .ok (.goto 4, 3) := dk_167 0 4 (dk_at dksL_law_39 4 rfl rfl)
theorem dL_law_1018 : decode cL_law 1018 = .ok (.iconst 0, 1) := dk_3 (dk_at dksL_law_39 7 rfl rfl)
theorem dL_law_1019 : decode cL_law 1019 = .ok (.invokevirtual 140, 3) := dk_182 0 140 (dk_at dksL_law_39 8 rfl rfl)
theorem dL_law_1022 : decode cL_law 1022 = .ok (.lstore 6, 2) := dk_55 6 (dk_at dksL_law_39 11 rfl rfl)
theorem dL_law_1024 : decode cL_law 1024 = .ok (.aload_n 2, 1) := dk_44 (dk_at dksL_law_39 13 rfl rfl)
theorem dL_law_1025 : decode cL_law 1025 = .ok (.invokevirtual 95, 3) := dk_182 0 95 (dk_at dksL_law_39 14 rfl rfl)
theorem dL_law_1028 : decode cL_law 1028 = .ok (.iload 5, 2) := dk_21 5 (dk_at dksL_law_39 17 rfl rfl)
theorem dL_law_1030 : decode cL_law 1030 = .ok (.if_icmp .eq 5, 3) := dk_159 0 5 (dk_at dksL_law_39 19 rfl rfl)
theorem dL_law_1033 : decode cL_law 1033 = .ok (.iconst 0, 1) := dk_3 (dk_at dksL_law_39 22 rfl rfl)
theorem dL_law_1034 : decode cL_law 1034 = .ok (.ireturn, 1) := dk_172 (dk_at dksL_law_39 23 rfl rfl)
theorem dL_law_1035 : decode cL_law 1035 = .ok (.iload 5, 2) := dk_21 5 (dk_at dksL_law_40 0 rfl rfl)
theorem dL_law_1037 : decode cL_law 1037 = .ok (.ifCond .ne 14, 3) := dk_154 0 14 (dk_at dksL_law_40 2 rfl rfl)
theorem dL_law_1040 : decode cL_law 1040 = .ok (.aload_n 3, 1) := dk_45 (dk_at dksL_law_40 5 rfl rfl)
theorem dL_law_1041 : decode cL_law 1041 = .ok (.iconst 0, 1) := dk_3 (dk_at dksL_law_40 6 rfl rfl)
theorem dL_law_1042 : decode cL_law 1042 = .ok (.laload, 1) := dk_47 (dk_at dksL_law_40 7 rfl rfl)
theorem dL_law_1043 : decode cL_law 1043 = .ok (.lload 6, 2) := dk_22 6 (dk_at dksL_law_40 8 rfl rfl)
theorem dL_law_1045 : decode cL_law 1045 = .ok (.lcmp, 1) := dk_148 (dk_at dksL_law_40 10 rfl rfl)
theorem dL_law_1046 : decode cL_law 1046 = .ok (.ifCond .eq 5, 3) := dk_153 0 5 (dk_at dksL_law_40 11 rfl rfl)
theorem dL_law_1049 : decode cL_law 1049 = .ok (.iconst 0, 1) := dk_3 (dk_at dksL_law_40 14 rfl rfl)
theorem dL_law_1050 : decode cL_law 1050 = .ok (.ireturn, 1) := dk_172 (dk_at dksL_law_40 15 rfl rfl)
theorem dL_law_1051 : decode cL_law 1051 = .ok (.goto 585, 3) := dk_167 2 73 (dk_at dksL_law_40 16 rfl rfl)
theorem dL_law_1054 : decode cL_law 1054 = .ok (.aload_n 1, 1) := dk_43 (dk_at dksL_law_40 19 rfl rfl)
theorem dL_law_1055 : decode cL_law 1055 = .ok (.aload_n 0, 1) := dk_42 (dk_at dksL_law_40 20 rfl rfl)
theorem dL_law_1056 : decode cL_law 1056 = .ok (.iload 4, 2) := dk_21 4 (dk_at dksL_law_40 21 rfl rfl)
theorem dL_law_1058 : decode cL_law 1058 = .ok (.iconst 1, 1) := dk_4 (dk_at dksL_law_40 23 rfl rfl)
theorem dL_law_1059 : decode cL_law 1059 = .ok (.iadd, 1) := dk_96 (dk_at dksL_law_41 0 rfl rfl)
theorem dL_law_1060 : decode cL_law 1060 = .ok (.iaload, 1) := dk_46 (dk_at dksL_law_41 1 rfl rfl)
theorem dL_law_1061 : decode cL_law 1061 = .ok (.aload_n 3, 1) := dk_45 (dk_at dksL_law_41 2 rfl rfl)
theorem dL_law_1062 : decode cL_law 1062 = .ok (.invokestatic 141, 3) := dk_184 0 141 (dk_at dksL_law_41 3 rfl rfl)
theorem dL_law_1065 : decode cL_law 1065 = .ok (.istore 5, 2) := dk_54 5 (dk_at dksL_law_41 6 rfl rfl)
theorem dL_law_1067 : decode cL_law 1067 = .ok (.aload_n 2, 1) := dk_44 (dk_at dksL_law_41 8 rfl rfl)
theorem dL_law_1068 : decode cL_law 1068 = .ok (.aload_n 0, 1) := dk_42 (dk_at dksL_law_41 9 rfl rfl)
theorem dL_law_1069 : decode cL_law 1069 = .ok (.iload 4, 2) := dk_21 4 (dk_at dksL_law_41 10 rfl rfl)
theorem dL_law_1071 : decode cL_law 1071 = .ok (.iconst 1, 1) := dk_4 (dk_at dksL_law_41 12 rfl rfl)
theorem dL_law_1072 : decode cL_law 1072 = .ok (.iadd, 1) := dk_96 (dk_at dksL_law_41 13 rfl rfl)
theorem dL_law_1073 : decode cL_law 1073 = .ok (.iaload, 1) := dk_46 (dk_at dksL_law_41 14 rfl rfl)
theorem dL_law_1074 : decode cL_law 1074 = .ok (.invokevirtual 143, 3) := dk_182 0 143 (dk_at dksL_law_41 15 rfl rfl)
theorem dL_law_1077 : decode cL_law 1077 = .ok (.istore 6, 2) := dk_54 6 (dk_at dksL_law_41 18 rfl rfl)
theorem dL_law_1079 : decode cL_law 1079 = .ok (.aload_n 2, 1) := dk_44 (dk_at dksL_law_41 20 rfl rfl)
theorem dL_law_1080 : decode cL_law 1080 = .ok (.invokevirtual 95, 3) := dk_182 0 95 (dk_at dksL_law_41 21 rfl rfl)
theorem dL_law_1083 : decode cL_law 1083 = .ok (.iload 5, 2) := dk_21 5 (dk_at dksL_law_42 0 rfl rfl)
theorem dL_law_1085 : decode cL_law 1085 = .ok (.if_icmp .eq 5, 3) := dk_159 0 5 (dk_at dksL_law_42 2 rfl rfl)
theorem dL_law_1088 : decode cL_law 1088 = .ok (.iconst 0, 1) := dk_3 (dk_at dksL_law_42 5 rfl rfl)
theorem dL_law_1089 : decode cL_law 1089 = .ok (.ireturn, 1) := dk_172 (dk_at dksL_law_42 6 rfl rfl)
theorem dL_law_1090 : decode cL_law 1090 = .ok (.iload 5, 2) := dk_21 5 (dk_at dksL_law_42 7 rfl rfl)
theorem dL_law_1092 : decode cL_law 1092 = .ok (.ifCond .ne 15, 3) := dk_154 0 15 (dk_at dksL_law_42 9 rfl rfl)
theorem dL_law_1095 : decode cL_law 1095 = .ok (.aload_n 3, 1) := dk_45 (dk_at dksL_law_42 12 rfl rfl)
theorem dL_law_1096 : decode cL_law 1096 = .ok (.iconst 0, 1) := dk_3 (dk_at dksL_law_42 13 rfl rfl)
theorem dL_law_1097 : decode cL_law 1097 = .ok (.laload, 1) := dk_47 (dk_at dksL_law_42 14 rfl rfl)
theorem dL_law_1098 : decode cL_law 1098 = .ok (.iload 6, 2) := dk_21 6 (dk_at dksL_law_42 15 rfl rfl)
theorem dL_law_1100 : decode cL_law 1100 = .ok (.i2l, 1) := dk_133 (dk_at dksL_law_42 17 rfl rfl)
theorem dL_law_1101 : decode cL_law 1101 = .ok (.lcmp, 1) := dk_148 (dk_at dksL_law_42 18 rfl rfl)
theorem dL_law_1102 : decode cL_law 1102 = .ok (.ifCond .eq 5, 3) := dk_153 0 5 (dk_at dksL_law_42 19 rfl rfl)
theorem dL_law_1105 : decode cL_law 1105 = .ok (.iconst 0, 1) := dk_3 (dk_at dksL_law_42 22 rfl rfl)
theorem dL_law_1106 : decode cL_law 1106 = .ok (.ireturn, 1) := dk_172 (dk_at dksL_law_42 23 rfl rfl)
theorem dL_law_1107 : decode cL_law 1107 = .ok (.goto 529, 3) := dk_167 2 17 (dk_at dksL_law_43 0 rfl rfl)
theorem dL_law_1110 : decode cL_law 1110 = .ok (.aload_n 1, 1) := dk_43 (dk_at dksL_law_43 3 rfl rfl)
theorem dL_law_1111 : decode cL_law 1111 = .ok (.invokevirtual 144, 3) := dk_182 0 144 (dk_at dksL_law_43 4 rfl rfl)
theorem dL_law_1114 : decode cL_law 1114 = .ok (.aload_n 2, 1) := dk_44 (dk_at dksL_law_43 7 rfl rfl)
theorem dL_law_1115 : decode cL_law 1115 = .ok (.invokevirtual 147, 3) := dk_182 0 147 (dk_at dksL_law_43 8 rfl rfl)
theorem dL_law_1118 : decode cL_law 1118 = .ok (.if_icmp .eq 518, 3) := dk_159 2 6 (dk_at dksL_law_43 11 rfl rfl)
theorem dL_law_1121 : decode cL_law 1121 = .ok (.iconst 0, 1) := dk_3 (dk_at dksL_law_43 14 rfl rfl)
theorem dL_law_1122 : decode cL_law 1122 = .ok (.ireturn, 1) := dk_172 (dk_at dksL_law_43 15 rfl rfl)
theorem dL_law_1123 : decode cL_law 1123 = .ok (.aload_n 1, 1) := dk_43 (dk_at dksL_law_43 16 rfl rfl)
theorem dL_law_1124 : decode cL_law 1124 = .ok (.invokevirtual 148, 3) := dk_182 0 148 (dk_at dksL_law_43 17 rfl rfl)
theorem dL_law_1127 : decode cL_law 1127 = .ok (.aload_n 2, 1) := dk_44 (dk_at dksL_law_43 20 rfl rfl)
theorem dL_law_1128 : decode cL_law 1128 = .ok (.invokevirtual 151, 3) := dk_182 0 151 (dk_at dksL_law_43 21 rfl rfl)
theorem dL_law_1131 : decode cL_law 1131 = .ok (.if_icmp .eq 505, 3) := dk_159 1 249 (dk_at dksL_law_44 0 rfl rfl)
theorem dL_law_1134 : decode cL_law 1134 = .ok (.iconst 0, 1) := dk_3 (dk_at dksL_law_44 3 rfl rfl)
theorem dL_law_1135 : decode cL_law 1135 = .ok (.ireturn, 1) := dk_172 (dk_at dksL_law_44 4 rfl rfl)
theorem dL_law_1136 : decode cL_law 1136 = .ok (.aload_n 1, 1) := dk_43 (dk_at dksL_law_44 5 rfl rfl)
theorem dL_law_1137 : decode cL_law 1137 = .ok (.aload_n 0, 1) := dk_42 (dk_at dksL_law_44 6 rfl rfl)
theorem dL_law_1138 : decode cL_law 1138 = .ok (.iload 4, 2) := dk_21 4 (dk_at dksL_law_44 7 rfl rfl)
theorem dL_law_1140 : decode cL_law 1140 = .ok (.iconst 1, 1) := dk_4 (dk_at dksL_law_44 9 rfl rfl)
theorem dL_law_1141 : decode cL_law 1141 = .ok (.iadd, 1) := dk_96 (dk_at dksL_law_44 10 rfl rfl)
theorem dL_law_1142 : decode cL_law 1142 = .ok (.iaload, 1) := dk_46 (dk_at dksL_law_44 11 rfl rfl)
theorem dL_law_1143 : decode cL_law 1143 = .ok (.aload_n 3, 1) := dk_45 (dk_at dksL_law_44 12 rfl rfl)
theorem dL_law_1144 : decode cL_law 1144 = .ok (.invokestatic 152, 3) := dk_184 0 152 (dk_at dksL_law_44 13 rfl rfl)
theorem dL_law_1147 : decode cL_law 1147 = .ok (.istore 5, 2) := dk_54 5 (dk_at dksL_law_44 16 rfl rfl)
theorem dL_law_1149 : decode cL_law 1149 = .ok (.aload_n 2, 1) := dk_44 (dk_at dksL_law_44 18 rfl rfl)
theorem dL_law_1150 : decode cL_law 1150 = .ok (.aload_n 0, 1) := dk_42 (dk_at dksL_law_44 19 rfl rfl)
theorem dL_law_1151 : decode cL_law 1151 = .ok (.iload 4, 2) := dk_21 4 (dk_at dksL_law_44 20 rfl rfl)
theorem dL_law_1153 : decode cL_law 1153 = .ok (.iconst 1, 1) := dk_4 (dk_at dksL_law_44 22 rfl rfl)
theorem dL_law_1154 : decode cL_law 1154 = .ok (.iadd, 1) := dk_96 (dk_at dksL_law_44 23 rfl rfl)
theorem dL_law_1155 : decode cL_law 1155 = .ok (.iaload, 1) := dk_46 (dk_at dksL_law_45 0 rfl rfl)
theorem dL_law_1156 : decode cL_law 1156 = .ok (.invokevirtual 154, 3) := dk_182 0 154 (dk_at dksL_law_45 1 rfl rfl)
theorem dL_law_1159 : decode cL_law 1159 = .ok (.istore 6, 2) := dk_54 6 (dk_at dksL_law_45 4 rfl rfl)
theorem dL_law_1161 : decode cL_law 1161 = .ok (.aload_n 2, 1) := dk_44 (dk_at dksL_law_45 6 rfl rfl)
theorem dL_law_1162 : decode cL_law 1162 = .ok (.invokevirtual 95, 3) := dk_182 0 95 (dk_at dksL_law_45 7 rfl rfl)
theorem dL_law_1165 : decode cL_law 1165 = .ok (.iload 5, 2) := dk_21 5 (dk_at dksL_law_45 10 rfl rfl)
theorem dL_law_1167 : decode cL_law 1167 = .ok (.if_icmp .eq 5, 3) := dk_159 0 5 (dk_at dksL_law_45 12 rfl rfl)
theorem dL_law_1170 : decode cL_law 1170 = .ok (.iconst 0, 1) := dk_3 (dk_at dksL_law_45 15 rfl rfl)
theorem dL_law_1171 : decode cL_law 1171 = .ok (.ireturn, 1) := dk_172 (dk_at dksL_law_45 16 rfl rfl)
theorem dL_law_1172 : decode cL_law 1172 = .ok (.iload 5, 2) := dk_21 5 (dk_at dksL_law_45 17 rfl rfl)
theorem dL_law_1174 : decode cL_law 1174 = .ok (.ifCond .ne 15, 3) := dk_154 0 15 (dk_at dksL_law_45 19 rfl rfl)
theorem dL_law_1177 : decode cL_law 1177 = .ok (.aload_n 3, 1) := dk_45 (dk_at dksL_law_45 22 rfl rfl)
theorem dL_law_1178 : decode cL_law 1178 = .ok (.iconst 0, 1) := dk_3 (dk_at dksL_law_45 23 rfl rfl)
theorem dL_law_1179 : decode cL_law 1179 = .ok (.laload, 1) := dk_47 (dk_at dksL_law_46 0 rfl rfl)
theorem dL_law_1180 : decode cL_law 1180 = .ok (.iload 6, 2) := dk_21 6 (dk_at dksL_law_46 1 rfl rfl)
theorem dL_law_1182 : decode cL_law 1182 = .ok (.i2l, 1) := dk_133 (dk_at dksL_law_46 3 rfl rfl)
theorem dL_law_1183 : decode cL_law 1183 = .ok (.lcmp, 1) := dk_148 (dk_at dksL_law_46 4 rfl rfl)
theorem dL_law_1184 : decode cL_law 1184 = .ok (.ifCond .eq 5, 3) := dk_153 0 5 (dk_at dksL_law_46 5 rfl rfl)
theorem dL_law_1187 : decode cL_law 1187 = .ok (.iconst 0, 1) := dk_3 (dk_at dksL_law_46 8 rfl rfl)
theorem dL_law_1188 : decode cL_law 1188 = .ok (.ireturn, 1) := dk_172 (dk_at dksL_law_46 9 rfl rfl)
theorem dL_law_1189 : decode cL_law 1189 = .ok (.goto 447, 3) := dk_167 1 191 (dk_at dksL_law_46 10 rfl rfl)
theorem dL_law_1192 : decode cL_law 1192 = .ok (.aload_n 1, 1) := dk_43 (dk_at dksL_law_46 13 rfl rfl)
theorem dL_law_1193 : decode cL_law 1193 = .ok (.invokevirtual 155, 3) := dk_182 0 155 (dk_at dksL_law_46 14 rfl rfl)
theorem dL_law_1196 : decode cL_law 1196 = .ok (.aload_n 2, 1) := dk_44 (dk_at dksL_law_46 17 rfl rfl)
theorem dL_law_1197 : decode cL_law 1197 = .ok (.invokevirtual 158, 3) := dk_182 0 158 (dk_at dksL_law_46 18 rfl rfl)
theorem dL_law_1200 : decode cL_law 1200 = .ok (.if_icmp .eq 436, 3) := dk_159 1 180 (dk_at dksL_law_46 21 rfl rfl)
theorem dL_law_1203 : decode cL_law 1203 = .ok (.iconst 0, 1) := dk_3 (dk_at dksL_law_47 0 rfl rfl)
theorem dL_law_1204 : decode cL_law 1204 = .ok (.ireturn, 1) := dk_172 (dk_at dksL_law_47 1 rfl rfl)
theorem dL_law_1205 : decode cL_law 1205 = .ok (.aload_n 1, 1) := dk_43 (dk_at dksL_law_47 2 rfl rfl)
theorem dL_law_1206 : decode cL_law 1206 = .ok (.aload_n 0, 1) := dk_42 (dk_at dksL_law_47 3 rfl rfl)
theorem dL_law_1207 : decode cL_law 1207 = .ok (.iload 4, 2) := dk_21 4 (dk_at dksL_law_47 4 rfl rfl)
theorem dL_law_1209 : decode cL_law 1209 = .ok (.iconst 1, 1) := dk_4 (dk_at dksL_law_47 6 rfl rfl)
theorem dL_law_1210 : decode cL_law 1210 = .ok (.iadd, 1) := dk_96 (dk_at dksL_law_47 7 rfl rfl)
theorem dL_law_1211 : decode cL_law 1211 = .ok (.iaload, 1) := dk_46 (dk_at dksL_law_47 8 rfl rfl)
theorem dL_law_1212 : decode cL_law 1212 = .ok (.aload_n 0, 1) := dk_42 (dk_at dksL_law_47 9 rfl rfl)
theorem dL_law_1213 : decode cL_law 1213 = .ok (.iload 4, 2) := dk_21 4 (dk_at dksL_law_47 10 rfl rfl)
theorem dL_law_1215 : decode cL_law 1215 = .ok (.iconst 2, 1) := dk_5 (dk_at dksL_law_47 12 rfl rfl)
theorem dL_law_1216 : decode cL_law 1216 = .ok (.iadd, 1) := dk_96 (dk_at dksL_law_47 13 rfl rfl)
theorem dL_law_1217 : decode cL_law 1217 = .ok (.iaload, 1) := dk_46 (dk_at dksL_law_47 14 rfl rfl)
theorem dL_law_1218 : decode cL_law 1218 = .ok (.i2l, 1) := dk_133 (dk_at dksL_law_47 15 rfl rfl)
theorem dL_law_1219 : decode cL_law 1219 = .ok (.bipush 32, 2) := dk_16 32 (dk_at dksL_law_47 16 rfl rfl)
theorem dL_law_1221 : decode cL_law 1221 = .ok (.lshl, 1) := dk_121 (dk_at dksL_law_47 18 rfl rfl)
theorem dL_law_1222 : decode cL_law 1222 = .ok (.aload_n 0, 1) := dk_42 (dk_at dksL_law_47 19 rfl rfl)
theorem dL_law_1223 : decode cL_law 1223 = .ok (.iload 4, 2) := dk_21 4 (dk_at dksL_law_47 20 rfl rfl)
theorem dL_law_1225 : decode cL_law 1225 = .ok (.iconst 3, 1) := dk_6 (dk_at dksL_law_47 22 rfl rfl)
theorem dL_law_1226 : decode cL_law 1226 = .ok (.iadd, 1) := dk_96 (dk_at dksL_law_47 23 rfl rfl)
theorem dL_law_1227 : decode cL_law 1227 = .ok (.iaload, 1) := dk_46 (dk_at dksL_law_48 0 rfl rfl)
theorem dL_law_1228 : decode cL_law 1228 = .ok (.i2l, 1) := dk_133 (dk_at dksL_law_48 1 rfl rfl)
theorem dL_law_1229 : decode cL_law 1229 = .ok (.ldc2_w 159, 3) := dk_20 0 159 (dk_at dksL_law_48 2 rfl rfl)
theorem dL_law_1232 : decode cL_law 1232 = .ok (.land, 1) := dk_127 (dk_at dksL_law_48 5 rfl rfl)
theorem dL_law_1233 : decode cL_law 1233 = .ok (.lor, 1) := dk_129 (dk_at dksL_law_48 6 rfl rfl)
theorem dL_law_1234 : decode cL_law 1234 = .ok (.aload_n 3, 1) := dk_45 (dk_at dksL_law_48 7 rfl rfl)
theorem dL_law_1235 : decode cL_law 1235 = .ok (.invokestatic 161, 3) := dk_184 0 161 (dk_at dksL_law_48 8 rfl rfl)
theorem dL_law_1238 : decode cL_law 1238 = .ok (.istore 5, 2) := dk_54 5 (dk_at dksL_law_48 11 rfl rfl)
theorem dL_law_1240 : decode cL_law 1240 = .ok (.aload_n 2, 1) := dk_44 (dk_at dksL_law_48 13 rfl rfl)
theorem dL_law_1241 : decode cL_law 1241 = .ok (.aload_n 0, 1) := dk_42 (dk_at dksL_law_48 14 rfl rfl)
theorem dL_law_1242 : decode cL_law 1242 = .ok (.iload 4, 2) := dk_21 4 (dk_at dksL_law_48 15 rfl rfl)
theorem dL_law_1244 : decode cL_law 1244 = .ok (.iconst 1, 1) := dk_4 (dk_at dksL_law_48 17 rfl rfl)
theorem dL_law_1245 : decode cL_law 1245 = .ok (.iadd, 1) := dk_96 (dk_at dksL_law_48 18 rfl rfl)
theorem dL_law_1246 : decode cL_law 1246 = .ok (.iaload, 1) := dk_46 (dk_at dksL_law_48 19 rfl rfl)
theorem dL_law_1247 : decode cL_law 1247 = .ok (.aload_n 0, 1) := dk_42 (dk_at dksL_law_48 20 rfl rfl)
theorem dL_law_1248 : decode cL_law 1248 = .ok (.iload 4, 2) := dk_21 4 (dk_at dksL_law_48 21 rfl rfl)
theorem dL_law_1250 : decode cL_law 1250 = .ok (.iconst 2, 1) := dk_5 (dk_at dksL_law_48 23 rfl rfl)
theorem dL_law_1251 : decode cL_law 1251 = .ok (.iadd, 1) := dk_96 (dk_at dksL_law_49 0 rfl rfl)
theorem dL_law_1252 : decode cL_law 1252 = .ok (.iaload, 1) := dk_46 (dk_at dksL_law_49 1 rfl rfl)
theorem dL_law_1253 : decode cL_law 1253 = .ok (.i2l, 1) := dk_133 (dk_at dksL_law_49 2 rfl rfl)
theorem dL_law_1254 : decode cL_law 1254 = .ok (.bipush 32, 2) := dk_16 32 (dk_at dksL_law_49 3 rfl rfl)
theorem dL_law_1256 : decode cL_law 1256 = .ok (.lshl, 1) := dk_121 (dk_at dksL_law_49 5 rfl rfl)
theorem dL_law_1257 : decode cL_law 1257 = .ok (.aload_n 0, 1) := dk_42 (dk_at dksL_law_49 6 rfl rfl)
theorem dL_law_1258 : decode cL_law 1258 = .ok (.iload 4, 2) := dk_21 4 (dk_at dksL_law_49 7 rfl rfl)
theorem dL_law_1260 : decode cL_law 1260 = .ok (.iconst 3, 1) := dk_6 (dk_at dksL_law_49 9 rfl rfl)
theorem dL_law_1261 : decode cL_law 1261 = .ok (.iadd, 1) := dk_96 (dk_at dksL_law_49 10 rfl rfl)
theorem dL_law_1262 : decode cL_law 1262 = .ok (.iaload, 1) := dk_46 (dk_at dksL_law_49 11 rfl rfl)
theorem dL_law_1263 : decode cL_law 1263 = .ok (.i2l, 1) := dk_133 (dk_at dksL_law_49 12 rfl rfl)
theorem dL_law_1264 : decode cL_law 1264 = .ok (.ldc2_w 159, 3) := dk_20 0 159 (dk_at dksL_law_49 13 rfl rfl)
theorem dL_law_1267 : decode cL_law 1267 = .ok (.land, 1) := dk_127 (dk_at dksL_law_49 16 rfl rfl)
theorem dL_law_1268 : decode cL_law 1268 = .ok (.lor, 1) := dk_129 (dk_at dksL_law_49 17 rfl rfl)
theorem dL_law_1269 : decode cL_law 1269 = .ok (.invokevirtual 164, 3) := dk_182 0 164 (dk_at dksL_law_49 18 rfl rfl)
theorem dL_law_1272 : decode cL_law 1272 = .ok (.lstore 6, 2) := dk_55 6 (dk_at dksL_law_49 21 rfl rfl)
theorem dL_law_1274 : decode cL_law 1274 = .ok (.aload_n 2, 1) := dk_44 (dk_at dksL_law_49 23 rfl rfl)
theorem dL_law_1275 : decode cL_law 1275 = .ok (.invokevirtual 95, 3) := dk_182 0 95 (dk_at dksL_law_50 0 rfl rfl)
theorem dL_law_1278 : decode cL_law 1278 = .ok (.iload 5, 2) := dk_21 5 (dk_at dksL_law_50 3 rfl rfl)
theorem dL_law_1280 : decode cL_law 1280 = .ok (.if_icmp .eq 5, 3) := dk_159 0 5 (dk_at dksL_law_50 5 rfl rfl)
theorem dL_law_1283 : decode cL_law 1283 = .ok (.iconst 0, 1) := dk_3 (dk_at dksL_law_50 8 rfl rfl)
theorem dL_law_1284 : decode cL_law 1284 = .ok (.ireturn, 1) := dk_172 (dk_at dksL_law_50 9 rfl rfl)
theorem dL_law_1285 : decode cL_law 1285 = .ok (.iload 5, 2) := dk_21 5 (dk_at dksL_law_50 10 rfl rfl)
theorem dL_law_1287 : decode cL_law 1287 = .ok (.ifCond .ne 14, 3) := dk_154 0 14 (dk_at dksL_law_50 12 rfl rfl)
theorem dL_law_1290 : decode cL_law 1290 = .ok (.aload_n 3, 1) := dk_45 (dk_at dksL_law_50 15 rfl rfl)
theorem dL_law_1291 : decode cL_law 1291 = .ok (.iconst 0, 1) := dk_3 (dk_at dksL_law_50 16 rfl rfl)
theorem dL_law_1292 : decode cL_law 1292 = .ok (.laload, 1) := dk_47 (dk_at dksL_law_50 17 rfl rfl)
theorem dL_law_1293 : decode cL_law 1293 = .ok (.lload 6, 2) := dk_22 6 (dk_at dksL_law_50 18 rfl rfl)
theorem dL_law_1295 : decode cL_law 1295 = .ok (.lcmp, 1) := dk_148 (dk_at dksL_law_50 20 rfl rfl)
theorem dL_law_1296 : decode cL_law 1296 = .ok (.ifCond .eq 5, 3) := dk_153 0 5 (dk_at dksL_law_50 21 rfl rfl)
theorem dL_law_1299 : decode cL_law 1299 = .ok (.iconst 0, 1) := dk_3 (dk_at dksL_law_51 0 rfl rfl)
theorem dL_law_1300 : decode cL_law 1300 = .ok (.ireturn, 1) := dk_172 (dk_at dksL_law_51 1 rfl rfl)
theorem dL_law_1301 : decode cL_law 1301 = .ok (.goto 335, 3) := dk_167 1 79 (dk_at dksL_law_51 2 rfl rfl)
theorem dL_law_1304 : decode cL_law 1304 = .ok (.aload_n 1, 1) := dk_43 (dk_at dksL_law_51 5 rfl rfl)
theorem dL_law_1305 : decode cL_law 1305 = .ok (.aload_n 0, 1) := dk_42 (dk_at dksL_law_51 6 rfl rfl)
theorem dL_law_1306 : decode cL_law 1306 = .ok (.iload 4, 2) := dk_21 4 (dk_at dksL_law_51 7 rfl rfl)
theorem dL_law_1308 : decode cL_law 1308 = .ok (.iconst 1, 1) := dk_4 (dk_at dksL_law_51 9 rfl rfl)
theorem dL_law_1309 : decode cL_law 1309 = .ok (.iadd, 1) := dk_96 (dk_at dksL_law_51 10 rfl rfl)
theorem dL_law_1310 : decode cL_law 1310 = .ok (.iaload, 1) := dk_46 (dk_at dksL_law_51 11 rfl rfl)
theorem dL_law_1311 : decode cL_law 1311 = .ok (.aload_n 3, 1) := dk_45 (dk_at dksL_law_51 12 rfl rfl)
theorem dL_law_1312 : decode cL_law 1312 = .ok (.invokestatic 165, 3) := dk_184 0 165 (dk_at dksL_law_51 13 rfl rfl)
theorem dL_law_1315 : decode cL_law 1315 = .ok (.istore 5, 2) := dk_54 5 (dk_at dksL_law_51 16 rfl rfl)
theorem dL_law_1317 : decode cL_law 1317 = .ok (.aload_n 2, 1) := dk_44 (dk_at dksL_law_51 18 rfl rfl)
theorem dL_law_1318 : decode cL_law 1318 = .ok (.aload_n 0, 1) := dk_42 (dk_at dksL_law_51 19 rfl rfl)
theorem dL_law_1319 : decode cL_law 1319 = .ok (.iload 4, 2) := dk_21 4 (dk_at dksL_law_51 20 rfl rfl)
theorem dL_law_1321 : decode cL_law 1321 = .ok (.iconst 1, 1) := dk_4 (dk_at dksL_law_51 22 rfl rfl)
theorem dL_law_1322 : decode cL_law 1322 = .ok (.iadd, 1) := dk_96 (dk_at dksL_law_51 23 rfl rfl)
theorem dL_law_1323 : decode cL_law 1323 = .ok (.iaload, 1) := dk_46 (dk_at dksL_law_52 0 rfl rfl)
theorem dL_law_1324 : decode cL_law 1324 = .ok (.invokevirtual 167, 3) := dk_182 0 167 (dk_at dksL_law_52 1 rfl rfl)
theorem dL_law_1327 : decode cL_law 1327 = .ok (.lstore 6, 2) := dk_55 6 (dk_at dksL_law_52 4 rfl rfl)
theorem dL_law_1329 : decode cL_law 1329 = .ok (.aload_n 2, 1) := dk_44 (dk_at dksL_law_52 6 rfl rfl)
theorem dL_law_1330 : decode cL_law 1330 = .ok (.invokevirtual 95, 3) := dk_182 0 95 (dk_at dksL_law_52 7 rfl rfl)
theorem dL_law_1333 : decode cL_law 1333 = .ok (.iload 5, 2) := dk_21 5 (dk_at dksL_law_52 10 rfl rfl)
theorem dL_law_1335 : decode cL_law 1335 = .ok (.if_icmp .eq 5, 3) := dk_159 0 5 (dk_at dksL_law_52 12 rfl rfl)
theorem dL_law_1338 : decode cL_law 1338 = .ok (.iconst 0, 1) := dk_3 (dk_at dksL_law_52 15 rfl rfl)
theorem dL_law_1339 : decode cL_law 1339 = .ok (.ireturn, 1) := dk_172 (dk_at dksL_law_52 16 rfl rfl)
theorem dL_law_1340 : decode cL_law 1340 = .ok (.iload 5, 2) := dk_21 5 (dk_at dksL_law_52 17 rfl rfl)
theorem dL_law_1342 : decode cL_law 1342 = .ok (.ifCond .ne 14, 3) := dk_154 0 14 (dk_at dksL_law_52 19 rfl rfl)
theorem dL_law_1345 : decode cL_law 1345 = .ok (.aload_n 3, 1) := dk_45 (dk_at dksL_law_52 22 rfl rfl)
theorem dL_law_1346 : decode cL_law 1346 = .ok (.iconst 0, 1) := dk_3 (dk_at dksL_law_52 23 rfl rfl)
theorem dL_law_1347 : decode cL_law 1347 = .ok (.laload, 1) := dk_47 (dk_at dksL_law_53 0 rfl rfl)
theorem dL_law_1348 : decode cL_law 1348 = .ok (.lload 6, 2) := dk_22 6 (dk_at dksL_law_53 1 rfl rfl)
theorem dL_law_1350 : decode cL_law 1350 = .ok (.lcmp, 1) := dk_148 (dk_at dksL_law_53 3 rfl rfl)
theorem dL_law_1351 : decode cL_law 1351 = .ok (.ifCond .eq 5, 3) := dk_153 0 5 (dk_at dksL_law_53 4 rfl rfl)
theorem dL_law_1354 : decode cL_law 1354 = .ok (.iconst 0, 1) := dk_3 (dk_at dksL_law_53 7 rfl rfl)
theorem dL_law_1355 : decode cL_law 1355 = .ok (.ireturn, 1) := dk_172 (dk_at dksL_law_53 8 rfl rfl)
theorem dL_law_1356 : decode cL_law 1356 = .ok (.goto 280, 3) := dk_167 1 24 (dk_at dksL_law_53 9 rfl rfl)
theorem dL_law_1359 : decode cL_law 1359 = .ok (.aload_n 1, 1) := dk_43 (dk_at dksL_law_53 12 rfl rfl)
theorem dL_law_1360 : decode cL_law 1360 = .ok (.aload_n 0, 1) := dk_42 (dk_at dksL_law_53 13 rfl rfl)
theorem dL_law_1361 : decode cL_law 1361 = .ok (.iload 4, 2) := dk_21 4 (dk_at dksL_law_53 14 rfl rfl)
theorem dL_law_1363 : decode cL_law 1363 = .ok (.iconst 1, 1) := dk_4 (dk_at dksL_law_53 16 rfl rfl)
theorem dL_law_1364 : decode cL_law 1364 = .ok (.iadd, 1) := dk_96 (dk_at dksL_law_53 17 rfl rfl)
theorem dL_law_1365 : decode cL_law 1365 = .ok (.iaload, 1) := dk_46 (dk_at dksL_law_53 18 rfl rfl)
theorem dL_law_1366 : decode cL_law 1366 = .ok (.aload_n 3, 1) := dk_45 (dk_at dksL_law_53 19 rfl rfl)
theorem dL_law_1367 : decode cL_law 1367 = .ok (.invokestatic 168, 3) := dk_184 0 168 (dk_at dksL_law_53 20 rfl rfl)
theorem dL_law_1370 : decode cL_law 1370 = .ok (.istore 5, 2) := dk_54 5 (dk_at dksL_law_54 0 rfl rfl)
theorem dL_law_1372 : decode cL_law 1372 = .ok (.aload_n 2, 1) := dk_44 (dk_at dksL_law_54 2 rfl rfl)
theorem dL_law_1373 : decode cL_law 1373 = .ok (.aload_n 0, 1) := dk_42 (dk_at dksL_law_54 3 rfl rfl)
theorem dL_law_1374 : decode cL_law 1374 = .ok (.iload 4, 2) := dk_21 4 (dk_at dksL_law_54 4 rfl rfl)
theorem dL_law_1376 : decode cL_law 1376 = .ok (.iconst 1, 1) := dk_4 (dk_at dksL_law_54 6 rfl rfl)
theorem dL_law_1377 : decode cL_law 1377 = .ok (.iadd, 1) := dk_96 (dk_at dksL_law_54 7 rfl rfl)
theorem dL_law_1378 : decode cL_law 1378 = .ok (.iaload, 1) := dk_46 (dk_at dksL_law_54 8 rfl rfl)
theorem dL_law_1379 : decode cL_law 1379 = .ok (.invokevirtual 170, 3) := dk_182 0 170 (dk_at dksL_law_54 9 rfl rfl)
theorem dL_law_1382 : decode cL_law 1382 = .ok (.istore 6, 2) := dk_54 6 (dk_at dksL_law_54 12 rfl rfl)
theorem dL_law_1384 : decode cL_law 1384 = .ok (.aload_n 2, 1) := dk_44 (dk_at dksL_law_54 14 rfl rfl)
theorem dL_law_1385 : decode cL_law 1385 = .ok (.invokevirtual 95, 3) := dk_182 0 95 (dk_at dksL_law_54 15 rfl rfl)
theorem dL_law_1388 : decode cL_law 1388 = .ok (.iload 5, 2) := dk_21 5 (dk_at dksL_law_54 18 rfl rfl)
theorem dL_law_1390 : decode cL_law 1390 = .ok (.if_icmp .eq 5, 3) := dk_159 0 5 (dk_at dksL_law_54 20 rfl rfl)
theorem dL_law_1393 : decode cL_law 1393 = .ok (.iconst 0, 1) := dk_3 (dk_at dksL_law_54 23 rfl rfl)
theorem dL_law_1394 : decode cL_law 1394 = .ok (.ireturn, 1) := dk_172 (dk_at dksL_law_55 0 rfl rfl)
theorem dL_law_1395 : decode cL_law 1395 = .ok (.iload 5, 2) := dk_21 5 (dk_at dksL_law_55 1 rfl rfl)
theorem dL_law_1397 : decode cL_law 1397 = .ok (.ifCond .ne 15, 3) := dk_154 0 15 (dk_at dksL_law_55 3 rfl rfl)
theorem dL_law_1400 : decode cL_law 1400 = .ok (.aload_n 3, 1) := dk_45 (dk_at dksL_law_55 6 rfl rfl)
theorem dL_law_1401 : decode cL_law 1401 = .ok (.iconst 0, 1) := dk_3 (dk_at dksL_law_55 7 rfl rfl)
theorem dL_law_1402 : decode cL_law 1402 = .ok (.laload, 1) := dk_47 (dk_at dksL_law_55 8 rfl rfl)
theorem dL_law_1403 : decode cL_law 1403 = .ok (.iload 6, 2) := dk_21 6 (dk_at dksL_law_55 9 rfl rfl)
theorem dL_law_1405 : decode cL_law 1405 = .ok (.i2l, 1) := dk_133 (dk_at dksL_law_55 11 rfl rfl)
theorem dL_law_1406 : decode cL_law 1406 = .ok (.lcmp, 1) := dk_148 (dk_at dksL_law_55 12 rfl rfl)
theorem dL_law_1407 : decode cL_law 1407 = .ok (.ifCond .eq 5, 3) := dk_153 0 5 (dk_at dksL_law_55 13 rfl rfl)
theorem dL_law_1410 : decode cL_law 1410 = .ok (.iconst 0, 1) := dk_3 (dk_at dksL_law_55 16 rfl rfl)
theorem dL_law_1411 : decode cL_law 1411 = .ok (.ireturn, 1) := dk_172 (dk_at dksL_law_55 17 rfl rfl)
theorem dL_law_1412 : decode cL_law 1412 = .ok (.goto 224, 3) := dk_167 0 224 (dk_at dksL_law_55 18 rfl rfl)
theorem dL_law_1415 : decode cL_law 1415 = .ok (.aload_n 1, 1) := dk_43 (dk_at dksL_law_55 21 rfl rfl)
theorem dL_law_1416 : decode cL_law 1416 = .ok (.aload_n 0, 1) := dk_42 (dk_at dksL_law_55 22 rfl rfl)
theorem dL_law_1417 : decode cL_law 1417 = .ok (.iload 4, 2) := dk_21 4 (dk_at dksL_law_56 0 rfl rfl)
theorem dL_law_1419 : decode cL_law 1419 = .ok (.iconst 1, 1) := dk_4 (dk_at dksL_law_56 2 rfl rfl)
theorem dL_law_1420 : decode cL_law 1420 = .ok (.iadd, 1) := dk_96 (dk_at dksL_law_56 3 rfl rfl)
theorem dL_law_1421 : decode cL_law 1421 = .ok (.iaload, 1) := dk_46 (dk_at dksL_law_56 4 rfl rfl)
theorem dL_law_1422 : decode cL_law 1422 = .ok (.aload_n 0, 1) := dk_42 (dk_at dksL_law_56 5 rfl rfl)
theorem dL_law_1423 : decode cL_law 1423 = .ok (.iload 4, 2) := dk_21 4 (dk_at dksL_law_56 6 rfl rfl)
theorem dL_law_1425 : decode cL_law 1425 = .ok (.iconst 2, 1) := dk_5 (dk_at dksL_law_56 8 rfl rfl)
theorem dL_law_1426 : decode cL_law 1426 = .ok (.iadd, 1) := dk_96 (dk_at dksL_law_56 9 rfl rfl)
theorem dL_law_1427 : decode cL_law 1427 = .ok (.iaload, 1) := dk_46 (dk_at dksL_law_56 10 rfl rfl)
theorem dL_law_1428 : decode cL_law 1428 = .ok (.aload_n 3, 1) := dk_45 (dk_at dksL_law_56 11 rfl rfl)
theorem dL_law_1429 : decode cL_law 1429 = .ok (.invokestatic 171, 3) := dk_184 0 171 (dk_at dksL_law_56 12 rfl rfl)
theorem dL_law_1432 : decode cL_law 1432 = .ok (.istore 5, 2) := dk_54 5 (dk_at dksL_law_56 15 rfl rfl)
theorem dL_law_1434 : decode cL_law 1434 = .ok (.aload_n 2, 1) := dk_44 (dk_at dksL_law_56 17 rfl rfl)
theorem dL_law_1435 : decode cL_law 1435 = .ok (.aload_n 0, 1) := dk_42 (dk_at dksL_law_56 18 rfl rfl)
theorem dL_law_1436 : decode cL_law 1436 = .ok (.iload 4, 2) := dk_21 4 (dk_at dksL_law_56 19 rfl rfl)
theorem dL_law_1438 : decode cL_law 1438 = .ok (.iconst 1, 1) := dk_4 (dk_at dksL_law_56 21 rfl rfl)
theorem dL_law_1439 : decode cL_law 1439 = .ok (.iadd, 1) := dk_96 (dk_at dksL_law_56 22 rfl rfl)
theorem dL_law_1440 : decode cL_law 1440 = .ok (.iaload, 1) := dk_46 (dk_at dksL_law_56 23 rfl rfl)
theorem dL_law_1441 : decode cL_law 1441 = .ok (.aload_n 0, 1) := dk_42 (dk_at dksL_law_57 0 rfl rfl)
theorem dL_law_1442 : decode cL_law 1442 = .ok (.iload 4, 2) := dk_21 4 (dk_at dksL_law_57 1 rfl rfl)
theorem dL_law_1444 : decode cL_law 1444 = .ok (.iconst 2, 1) := dk_5 (dk_at dksL_law_57 3 rfl rfl)
theorem dL_law_1445 : decode cL_law 1445 = .ok (.iadd, 1) := dk_96 (dk_at dksL_law_57 4 rfl rfl)
theorem dL_law_1446 : decode cL_law 1446 = .ok (.iaload, 1) := dk_46 (dk_at dksL_law_57 5 rfl rfl)
theorem dL_law_1447 : decode cL_law 1447 = .ok (.invokevirtual 173, 3) := dk_182 0 173 (dk_at dksL_law_57 6 rfl rfl)
theorem dL_law_1450 : decode cL_law 1450 = .ok (.istore 6, 2) := dk_54 6 (dk_at dksL_law_57 9 rfl rfl)
theorem dL_law_1452 : decode cL_law 1452 = .ok (.aload_n 2, 1) := dk_44 (dk_at dksL_law_57 11 rfl rfl)
theorem dL_law_1453 : decode cL_law 1453 = .ok (.invokevirtual 95, 3) := dk_182 0 95 (dk_at dksL_law_57 12 rfl rfl)
theorem dL_law_1456 : decode cL_law 1456 = .ok (.iload 5, 2) := dk_21 5 (dk_at dksL_law_57 15 rfl rfl)
theorem dL_law_1458 : decode cL_law 1458 = .ok (.if_icmp .eq 5, 3) := dk_159 0 5 (dk_at dksL_law_57 17 rfl rfl)
theorem dL_law_1461 : decode cL_law 1461 = .ok (.iconst 0, 1) := dk_3 (dk_at dksL_law_57 20 rfl rfl)
theorem dL_law_1462 : decode cL_law 1462 = .ok (.ireturn, 1) := dk_172 (dk_at dksL_law_57 21 rfl rfl)
theorem dL_law_1463 : decode cL_law 1463 = .ok (.iload 5, 2) := dk_21 5 (dk_at dksL_law_57 22 rfl rfl)
theorem dL_law_1465 : decode cL_law 1465 = .ok (.ifCond .ne 15, 3) := dk_154 0 15 (dk_at dksL_law_58 0 rfl rfl)
theorem dL_law_1468 : decode cL_law 1468 = .ok (.aload_n 3, 1) := dk_45 (dk_at dksL_law_58 3 rfl rfl)
theorem dL_law_1469 : decode cL_law 1469 = .ok (.iconst 0, 1) := dk_3 (dk_at dksL_law_58 4 rfl rfl)
theorem dL_law_1470 : decode cL_law 1470 = .ok (.laload, 1) := dk_47 (dk_at dksL_law_58 5 rfl rfl)
theorem dL_law_1471 : decode cL_law 1471 = .ok (.iload 6, 2) := dk_21 6 (dk_at dksL_law_58 6 rfl rfl)
theorem dL_law_1473 : decode cL_law 1473 = .ok (.i2l, 1) := dk_133 (dk_at dksL_law_58 8 rfl rfl)
theorem dL_law_1474 : decode cL_law 1474 = .ok (.lcmp, 1) := dk_148 (dk_at dksL_law_58 9 rfl rfl)
theorem dL_law_1475 : decode cL_law 1475 = .ok (.ifCond .eq 5, 3) := dk_153 0 5 (dk_at dksL_law_58 10 rfl rfl)
theorem dL_law_1478 : decode cL_law 1478 = .ok (.iconst 0, 1) := dk_3 (dk_at dksL_law_58 13 rfl rfl)
theorem dL_law_1479 : decode cL_law 1479 = .ok (.ireturn, 1) := dk_172 (dk_at dksL_law_58 14 rfl rfl)
theorem dL_law_1480 : decode cL_law 1480 = .ok (.goto 156, 3) := dk_167 0 156 (dk_at dksL_law_58 15 rfl rfl)
theorem dL_law_1483 : decode cL_law 1483 = .ok (.aload_n 1, 1) := dk_43 (dk_at dksL_law_58 18 rfl rfl)
theorem dL_law_1484 : decode cL_law 1484 = .ok (.invokevirtual 174, 3) := dk_182 0 174 (dk_at dksL_law_58 19 rfl rfl)
theorem dL_law_1487 : decode cL_law 1487 = .ok (.aload_n 2, 1) := dk_44 (dk_at dksL_law_58 22 rfl rfl)
theorem dL_law_1488 : decode cL_law 1488 = .ok (.invokevirtual 177, 3) := dk_182 0 177 (dk_at dksL_law_59 0 rfl rfl)
theorem dL_law_1491 : decode cL_law 1491 = .ok (.if_icmp .eq 145, 3) := dk_159 0 145 (dk_at dksL_law_59 3 rfl rfl)
theorem dL_law_1494 : decode cL_law 1494 = .ok (.iconst 0, 1) := dk_3 (dk_at dksL_law_59 6 rfl rfl)
theorem dL_law_1495 : decode cL_law 1495 = .ok (.ireturn, 1) := dk_172 (dk_at dksL_law_59 7 rfl rfl)
theorem dL_law_1496 : decode cL_law 1496 = .ok (.aload_n 1, 1) := dk_43 (dk_at dksL_law_59 8 rfl rfl)
theorem dL_law_1497 : decode cL_law 1497 = .ok (.aload_n 0, 1) := dk_42 (dk_at dksL_law_59 9 rfl rfl)
theorem dL_law_1498 : decode cL_law 1498 = .ok (.iload 4, 2) := dk_21 4 (dk_at dksL_law_59 10 rfl rfl)
theorem dL_law_1500 : decode cL_law 1500 = .ok (.iconst 1, 1) := dk_4 (dk_at dksL_law_59 12 rfl rfl)
theorem dL_law_1501 : decode cL_law 1501 = .ok (.iadd, 1) := dk_96 (dk_at dksL_law_59 13 rfl rfl)
theorem dL_law_1502 : decode cL_law 1502 = .ok (.iaload, 1) := dk_46 (dk_at dksL_law_59 14 rfl rfl)
theorem dL_law_1503 : decode cL_law 1503 = .ok (.aload_n 3, 1) := dk_45 (dk_at dksL_law_59 15 rfl rfl)
theorem dL_law_1504 : decode cL_law 1504 = .ok (.invokestatic 178, 3) := dk_184 0 178 (dk_at dksL_law_59 16 rfl rfl)
theorem dL_law_1507 : decode cL_law 1507 = .ok (.istore 5, 2) := dk_54 5 (dk_at dksL_law_59 19 rfl rfl)
theorem dL_law_1509 : decode cL_law 1509 = .ok (.aload_n 2, 1) := dk_44 (dk_at dksL_law_59 21 rfl rfl)
theorem dL_law_1510 : decode cL_law 1510 = .ok (.aload_n 0, 1) := dk_42 (dk_at dksL_law_59 22 rfl rfl)
theorem dL_law_1511 : decode cL_law 1511 = .ok (.iload 4, 2) := dk_21 4 (dk_at dksL_law_60 0 rfl rfl)
theorem dL_law_1513 : decode cL_law 1513 = .ok (.iconst 1, 1) := dk_4 (dk_at dksL_law_60 2 rfl rfl)
theorem dL_law_1514 : decode cL_law 1514 = .ok (.iadd, 1) := dk_96 (dk_at dksL_law_60 3 rfl rfl)
theorem dL_law_1515 : decode cL_law 1515 = .ok (.iaload, 1) := dk_46 (dk_at dksL_law_60 4 rfl rfl)
theorem dL_law_1516 : decode cL_law 1516 = .ok (.invokevirtual 180, 3) := dk_182 0 180 (dk_at dksL_law_60 5 rfl rfl)
theorem dL_law_1519 : decode cL_law 1519 = .ok (.istore 6, 2) := dk_54 6 (dk_at dksL_law_60 8 rfl rfl)
theorem dL_law_1521 : decode cL_law 1521 = .ok (.aload_n 2, 1) := dk_44 (dk_at dksL_law_60 10 rfl rfl)
theorem dL_law_1522 : decode cL_law 1522 = .ok (.invokevirtual 95, 3) := dk_182 0 95 (dk_at dksL_law_60 11 rfl rfl)
theorem dL_law_1525 : decode cL_law 1525 = .ok (.iload 5, 2) := dk_21 5 (dk_at dksL_law_60 14 rfl rfl)
theorem dL_law_1527 : decode cL_law 1527 = .ok (.if_icmp .eq 5, 3) := dk_159 0 5 (dk_at dksL_law_60 16 rfl rfl)
theorem dL_law_1530 : decode cL_law 1530 = .ok (.iconst 0, 1) := dk_3 (dk_at dksL_law_60 19 rfl rfl)
theorem dL_law_1531 : decode cL_law 1531 = .ok (.ireturn, 1) := dk_172 (dk_at dksL_law_60 20 rfl rfl)
theorem dL_law_1532 : decode cL_law 1532 = .ok (.iload 5, 2) := dk_21 5 (dk_at dksL_law_60 21 rfl rfl)
theorem dL_law_1534 : decode cL_law 1534 = .ok (.ifCond .ne 15, 3) := dk_154 0 15 (dk_at dksL_law_61 0 rfl rfl)
theorem dL_law_1537 : decode cL_law 1537 = .ok (.aload_n 3, 1) := dk_45 (dk_at dksL_law_61 3 rfl rfl)
theorem dL_law_1538 : decode cL_law 1538 = .ok (.iconst 0, 1) := dk_3 (dk_at dksL_law_61 4 rfl rfl)
theorem dL_law_1539 : decode cL_law 1539 = .ok (.laload, 1) := dk_47 (dk_at dksL_law_61 5 rfl rfl)
theorem dL_law_1540 : decode cL_law 1540 = .ok (.iload 6, 2) := dk_21 6 (dk_at dksL_law_61 6 rfl rfl)
theorem dL_law_1542 : decode cL_law 1542 = .ok (.i2l, 1) := dk_133 (dk_at dksL_law_61 8 rfl rfl)
theorem dL_law_1543 : decode cL_law 1543 = .ok (.lcmp, 1) := dk_148 (dk_at dksL_law_61 9 rfl rfl)
theorem dL_law_1544 : decode cL_law 1544 = .ok (.ifCond .eq 5, 3) := dk_153 0 5 (dk_at dksL_law_61 10 rfl rfl)
theorem dL_law_1547 : decode cL_law 1547 = .ok (.iconst 0, 1) := dk_3 (dk_at dksL_law_61 13 rfl rfl)
theorem dL_law_1548 : decode cL_law 1548 = .ok (.ireturn, 1) := dk_172 (dk_at dksL_law_61 14 rfl rfl)
theorem dL_law_1549 : decode cL_law 1549 = .ok (.goto 87, 3) := dk_167 0 87 (dk_at dksL_law_61 15 rfl rfl)
theorem dL_law_1552 : decode cL_law 1552 = .ok (.aload_n 1, 1) := dk_43 (dk_at dksL_law_61 18 rfl rfl)
theorem dL_law_1553 : decode cL_law 1553 = .ok (.invokevirtual 181, 3) := dk_182 0 181 (dk_at dksL_law_61 19 rfl rfl)
theorem dL_law_1556 : decode cL_law 1556 = .ok (.aload_n 2, 1) := dk_44 (dk_at dksL_law_61 22 rfl rfl)
theorem dL_law_1557 : decode cL_law 1557 = .ok (.invokevirtual 184, 3) := dk_182 0 184 (dk_at dksL_law_62 0 rfl rfl)
theorem dL_law_1560 : decode cL_law 1560 = .ok (.if_icmp .eq 76, 3) := dk_159 0 76 (dk_at dksL_law_62 3 rfl rfl)
theorem dL_law_1563 : decode cL_law 1563 = .ok (.iconst 0, 1) := dk_3 (dk_at dksL_law_62 6 rfl rfl)
theorem dL_law_1564 : decode cL_law 1564 = .ok (.ireturn, 1) := dk_172 (dk_at dksL_law_62 7 rfl rfl)
theorem dL_law_1565 : decode cL_law 1565 = .ok (.aload_n 1, 1) := dk_43 (dk_at dksL_law_62 8 rfl rfl)
theorem dL_law_1566 : decode cL_law 1566 = .ok (.invokevirtual 185, 3) := dk_182 0 185 (dk_at dksL_law_62 9 rfl rfl)
theorem dL_law_1569 : decode cL_law 1569 = .ok (.aload_n 2, 1) := dk_44 (dk_at dksL_law_62 12 rfl rfl)
theorem dL_law_1570 : decode cL_law 1570 = .ok (.invokevirtual 188, 3) := dk_182 0 188 (dk_at dksL_law_62 13 rfl rfl)
theorem dL_law_1573 : decode cL_law 1573 = .ok (.if_icmp .eq 63, 3) := dk_159 0 63 (dk_at dksL_law_62 16 rfl rfl)
theorem dL_law_1576 : decode cL_law 1576 = .ok (.iconst 0, 1) := dk_3 (dk_at dksL_law_62 19 rfl rfl)
theorem dL_law_1577 : decode cL_law 1577 = .ok (.ireturn, 1) := dk_172 (dk_at dksL_law_62 20 rfl rfl)
theorem dL_law_1578 : decode cL_law 1578 = .ok (.aload_n 1, 1) := dk_43 (dk_at dksL_law_62 21 rfl rfl)
theorem dL_law_1579 : decode cL_law 1579 = .ok (.aload_n 3, 1) := dk_45 (dk_at dksL_law_62 22 rfl rfl)
theorem dL_law_1580 : decode cL_law 1580 = .ok (.invokestatic 189, 3) := dk_184 0 189 (dk_at dksL_law_63 0 rfl rfl)
theorem dL_law_1583 : decode cL_law 1583 = .ok (.istore 5, 2) := dk_54 5 (dk_at dksL_law_63 3 rfl rfl)
theorem dL_law_1585 : decode cL_law 1585 = .ok (.aload_n 2, 1) := dk_44 (dk_at dksL_law_63 5 rfl rfl)
theorem dL_law_1586 : decode cL_law 1586 = .ok (.invokevirtual 192, 3) := dk_182 0 192 (dk_at dksL_law_63 6 rfl rfl)
theorem dL_law_1589 : decode cL_law 1589 = .ok (.istore 6, 2) := dk_54 6 (dk_at dksL_law_63 9 rfl rfl)
theorem dL_law_1591 : decode cL_law 1591 = .ok (.aload_n 2, 1) := dk_44 (dk_at dksL_law_63 11 rfl rfl)
theorem dL_law_1592 : decode cL_law 1592 = .ok (.invokevirtual 95, 3) := dk_182 0 95 (dk_at dksL_law_63 12 rfl rfl)
theorem dL_law_1595 : decode cL_law 1595 = .ok (.iload 5, 2) := dk_21 5 (dk_at dksL_law_63 15 rfl rfl)
theorem dL_law_1597 : decode cL_law 1597 = .ok (.if_icmp .eq 5, 3) := dk_159 0 5 (dk_at dksL_law_63 17 rfl rfl)
theorem dL_law_1600 : decode cL_law 1600 = .ok (.iconst 0, 1) := dk_3 (dk_at dksL_law_63 20 rfl rfl)
theorem dL_law_1601 : decode cL_law 1601 = .ok (.ireturn, 1) := dk_172 (dk_at dksL_law_63 21 rfl rfl)
theorem dL_law_1602 : decode cL_law 1602 = .ok (.iload 5, 2) := dk_21 5 (dk_at dksL_law_63 22 rfl rfl)
theorem dL_law_1604 : decode cL_law 1604 = .ok (.ifCond .ne 15, 3) := dk_154 0 15 (dk_at dksL_law_64 0 rfl rfl)
theorem dL_law_1607 : decode cL_law 1607 = .ok (.aload_n 3, 1) := dk_45 (dk_at dksL_law_64 3 rfl rfl)
theorem dL_law_1608 : decode cL_law 1608 = .ok (.iconst 0, 1) := dk_3 (dk_at dksL_law_64 4 rfl rfl)
theorem dL_law_1609 : decode cL_law 1609 = .ok (.laload, 1) := dk_47 (dk_at dksL_law_64 5 rfl rfl)
theorem dL_law_1610 : decode cL_law 1610 = .ok (.iload 6, 2) := dk_21 6 (dk_at dksL_law_64 6 rfl rfl)
theorem dL_law_1612 : decode cL_law 1612 = .ok (.i2l, 1) := dk_133 (dk_at dksL_law_64 8 rfl rfl)
theorem dL_law_1613 : decode cL_law 1613 = .ok (.lcmp, 1) := dk_148 (dk_at dksL_law_64 9 rfl rfl)
theorem dL_law_1614 : decode cL_law 1614 = .ok (.ifCond .eq 5, 3) := dk_153 0 5 (dk_at dksL_law_64 10 rfl rfl)
theorem dL_law_1617 : decode cL_law 1617 = .ok (.iconst 0, 1) := dk_3 (dk_at dksL_law_64 13 rfl rfl)
theorem dL_law_1618 : decode cL_law 1618 = .ok (.ireturn, 1) := dk_172 (dk_at dksL_law_64 14 rfl rfl)
theorem dL_law_1619 : decode cL_law 1619 = .ok (.goto 17, 3) := dk_167 0 17 (dk_at dksL_law_64 15 rfl rfl)
theorem dL_law_1622 : decode cL_law 1622 = .ok (.aload_n 1, 1) := dk_43 (dk_at dksL_law_64 18 rfl rfl)
theorem dL_law_1623 : decode cL_law 1623 = .ok (.invokevirtual 193, 3) := dk_182 0 193 (dk_at dksL_law_64 19 rfl rfl)
theorem dL_law_1626 : decode cL_law 1626 = .ok (.aload_n 2, 1) := dk_44 (dk_at dksL_law_64 22 rfl rfl)
theorem dL_law_1627 : decode cL_law 1627 = .ok (.invokevirtual 197, 3) := dk_182 0 197 (dk_at dksL_law_65 0 rfl rfl)
theorem dL_law_1630 : decode cL_law 1630 = .ok (.lcmp, 1) := dk_148 (dk_at dksL_law_65 3 rfl rfl)
theorem dL_law_1631 : decode cL_law 1631 = .ok (.ifCond .eq 5, 3) := dk_153 0 5 (dk_at dksL_law_65 4 rfl rfl)
theorem dL_law_1634 : decode cL_law 1634 = .ok (.iconst 0, 1) := dk_3 (dk_at dksL_law_65 7 rfl rfl)
theorem dL_law_1635 : decode cL_law 1635 = .ok (.ireturn, 1) := dk_172 (dk_at dksL_law_65 8 rfl rfl)
theorem dL_law_1636 : decode cL_law 1636 = .ok (.iinc 4 4, 3) := dk_132 4 4 (dk_at dksL_law_65 9 rfl rfl)
theorem dL_law_1639 : decode cL_law 1639 = .ok (.goto (-1616), 3) := dk_167 249 176 (dk_at dksL_law_65 12 rfl rfl)
theorem dL_law_1642 : decode cL_law 1642 = .ok (.iconst 1, 1) := dk_4 (dk_at dksL_law_65 15 rfl rfl)
theorem dL_law_1643 : decode cL_law 1643 = .ok (.ireturn, 1) := dk_172 (dk_at dksL_law_65 16 rfl rfl)

