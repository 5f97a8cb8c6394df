/-! TwelveChainModel -/
set_option maxRecDepth 100000
def RX3 : String := "TwelveChainModel"
def TX3 : u_T := fun k => match k with
  | 0 => ("TwelveChainModel", "w", "[I", true)
  | 1 => ("TwelveChainModel", "kept", "[I", true)
  | 2 => ("TwelveChainModel", "back", "[I", true)
  | 3 => ("TwelveChainModel", "lying", "[I", true)
  | 4 => ("TwelveChainModel", "backMany", "I", false)
  | 5 => ("TwelveChainModel", "hasImage", "Z", false)
  | 6 => ("TwelveChainModel", "freshLine", "[I", true)
  | 7 => ("TwelveChainModel", "freshStep", "[I", true)
  | 8 => ("TwelveChainModel", "freshRow", "[I", true)
  | 9 => ("TwelveChainModel", "tape", "[I", true)
  | 10 => ("TwelveChainModel", "pile", "[I", true)
  | 11 => ("TwelveChainModel", "facts", "[I", true)
  | 12 => ("TwelveChainModel", "reading", "I", false)
  | 13 => ("TwelveChainModel", "lines", "I", false)
  | 14 => ("TwelveChainModel", "steps", "I", false)
  | 15 => ("TwelveChainModel", "rows", "I", false)
  | 16 => ("TwelveChainModel", "taped", "I", false)
  | 17 => ("TwelveChainModel", "at", "I", false)
  | 18 => ("TwelveChainModel", "token", "I", false)
  | 19 => ("TwelveChainModel", "tokenAt", "I", false)
  | 20 => ("TwelveChainModel", "value", "I", false)
  | 21 => ("TwelveChainModel", "wrong", "I", false)
  | 22 => ("TwelveChainModel", "wrongAt", "I", false)
  | 23 => ("TwelveChainModel", "faultKind", "I", false)
  | 24 => ("TwelveChainModel", "depth", "I", false)
  | 25 => ("TwelveChainModel", "faultPlace", "I", false)
  | 26 => ("TwelveChainModel", "isTrue", "Z", false)
  | _ => ("TwelveChainModel", "done", "[I", true)
def tyX3 : Nat → FieldType := fun k => match k with
  | 0 => .array .int
  | 1 => .array .int
  | 2 => .array .int
  | 3 => .array .int
  | 4 => .int
  | 5 => .boolean
  | 6 => .array .int
  | 7 => .array .int
  | 8 => .array .int
  | 9 => .array .int
  | 10 => .array .int
  | 11 => .array .int
  | 12 => .int
  | 13 => .int
  | 14 => .int
  | 15 => .int
  | 16 => .int
  | 17 => .int
  | 18 => .int
  | 19 => .int
  | 20 => .int
  | 21 => .int
  | 22 => .int
  | 23 => .int
  | 24 => .int
  | 25 => .int
  | 26 => .boolean
  | _ => .array .int
abbrev wsX30 : List Cond := u_ws RX3 TX3 28
set_option maxRecDepth 100000 in
theorem nmX3 : ∀ a, a < 28 → ∀ b, b < 28 → a ≠ b → (TX3 a).2.1 ≠ (TX3 b).2.1 := by decide +kernel
set_option maxRecDepth 100000 in
theorem tyX3_ok : ∀ k, k < 28 → parseFieldDescriptor (TX3 k).2.2.1 = some (tyX3 k) := by decide +kernel
abbrev cX3_init : ByteArray := prog_17_method_1_code
def yX3_init : MethodName := ⟨RX3, "<init>", "()V"⟩
def dkwX3_init_4 : List UInt8 := [181, 0, 40, 42, 17, 16, 0, 188, 10, 181, 0, 44, 177]
abbrev dktX3_init_4 : List UInt8 := dkwX3_init_4 ++ []
def dkwX3_init_3 : List UInt8 := [181, 0, 31, 42, 17, 1, 164, 188, 10, 181, 0, 34, 42, 16, 10, 188, 10, 181, 0, 37, 42, 2]
abbrev dktX3_init_3 : List UInt8 := dkwX3_init_3 ++ dktX3_init_4
def dkwX3_init_2 : List UInt8 := [42, 17, 3, 52, 188, 10, 181, 0, 25, 42, 16, 80, 188, 10, 181, 0, 28, 42, 17, 1, 144, 188, 10]
abbrev dktX3_init_2 : List UInt8 := dkwX3_init_2 ++ dktX3_init_3
def dkwX3_init_1 : List UInt8 := [17, 2, 16, 188, 10, 181, 0, 16, 42, 16, 88, 188, 10, 181, 0, 19, 42, 16, 64, 188, 10, 181, 0, 22]
abbrev dktX3_init_1 : List UInt8 := dkwX3_init_1 ++ dktX3_init_2
def dkwX3_init_0 : List UInt8 := [42, 183, 0, 1, 42, 17, 6, 189, 188, 10, 181, 0, 7, 42, 17, 6, 189, 188, 10, 181, 0, 13, 42]
abbrev dktX3_init_0 : List UInt8 := dkwX3_init_0 ++ dktX3_init_1
theorem dksX3_init_0 : cX3_init.data.toList.drop 0 = dktX3_init_0 := by decide +kernel
theorem dksX3_init_1 : cX3_init.data.toList.drop 23 = dktX3_init_1 := dk_seg dksX3_init_0 23 rfl rfl
theorem dksX3_init_2 : cX3_init.data.toList.drop 47 = dktX3_init_2 := dk_seg dksX3_init_1 24 rfl rfl
theorem dksX3_init_3 : cX3_init.data.toList.drop 70 = dktX3_init_3 := dk_seg dksX3_init_2 23 rfl rfl
theorem dksX3_init_4 : cX3_init.data.toList.drop 92 = dktX3_init_4 := dk_seg dksX3_init_3 22 rfl rfl
theorem dX3_init_0 : decode cX3_init 0 = .ok (.aload_n 0, 1) := dk_42 (dk_at dksX3_init_0 0 rfl rfl)
theorem dX3_init_1 : decode cX3_init 1 = .ok (.invokespecial 1, 3) := dk_183 0 1 (dk_at dksX3_init_0 1 rfl rfl)
theorem dX3_init_4 : decode cX3_init 4 = .ok (.aload_n 0, 1) := dk_42 (dk_at dksX3_init_0 4 rfl rfl)
theorem dX3_init_5 : decode cX3_init 5 = .ok (.sipush 1725, 3) := dk_17 6 189 (dk_at dksX3_init_0 5 rfl rfl)
theorem dX3_init_8 : decode cX3_init 8 = .ok (.newarray .int, 2) := dk_188_10 (dk_at dksX3_init_0 8 rfl rfl)
theorem dX3_init_10 : decode cX3_init 10 = .ok (.putfield 7, 3) := dk_181 0 7 (dk_at dksX3_init_0 10 rfl rfl)
theorem dX3_init_13 : decode cX3_init 13 = .ok (.aload_n 0, 1) := dk_42 (dk_at dksX3_init_0 13 rfl rfl)
theorem dX3_init_14 : decode cX3_init 14 = .ok (.sipush 1725, 3) := dk_17 6 189 (dk_at dksX3_init_0 14 rfl rfl)
theorem dX3_init_17 : decode cX3_init 17 = .ok (.newarray .int, 2) := dk_188_10 (dk_at dksX3_init_0 17 rfl rfl)
theorem dX3_init_19 : decode cX3_init 19 = .ok (.putfield 13, 3) := dk_181 0 13 (dk_at dksX3_init_0 19 rfl rfl)
theorem dX3_init_22 : decode cX3_init 22 = .ok (.aload_n 0, 1) := dk_42 (dk_at dksX3_init_0 22 rfl rfl)
theorem dX3_init_23 : decode cX3_init 23 = .ok (.sipush 528, 3) := dk_17 2 16 (dk_at dksX3_init_1 0 rfl rfl)
theorem dX3_init_26 : decode cX3_init 26 = .ok (.newarray .int, 2) := dk_188_10 (dk_at dksX3_init_1 3 rfl rfl)
theorem dX3_init_28 : decode cX3_init 28 = .ok (.putfield 16, 3) := dk_181 0 16 (dk_at dksX3_init_1 5 rfl rfl)
theorem dX3_init_31 : decode cX3_init 31 = .ok (.aload_n 0, 1) := dk_42 (dk_at dksX3_init_1 8 rfl rfl)
theorem dX3_init_32 : decode cX3_init 32 = .ok (.bipush 88, 2) := dk_16 88 (dk_at dksX3_init_1 9 rfl rfl)
theorem dX3_init_34 : decode cX3_init 34 = .ok (.newarray .int, 2) := dk_188_10 (dk_at dksX3_init_1 11 rfl rfl)
theorem dX3_init_36 : decode cX3_init 36 = .ok (.putfield 19, 3) := dk_181 0 19 (dk_at dksX3_init_1 13 rfl rfl)
theorem dX3_init_39 : decode cX3_init 39 = .ok (.aload_n 0, 1) := dk_42 (dk_at dksX3_init_1 16 rfl rfl)
theorem dX3_init_40 : decode cX3_init 40 = .ok (.bipush 64, 2) := dk_16 64 (dk_at dksX3_init_1 17 rfl rfl)
theorem dX3_init_42 : decode cX3_init 42 = .ok (.newarray .int, 2) := dk_188_10 (dk_at dksX3_init_1 19 rfl rfl)
theorem dX3_init_44 : decode cX3_init 44 = .ok (.putfield 22, 3) := dk_181 0 22 (dk_at dksX3_init_1 21 rfl rfl)
theorem dX3_init_47 : decode cX3_init 47 = .ok (.aload_n 0, 1) := dk_42 (dk_at dksX3_init_2 0 rfl rfl)
theorem dX3_init_48 : decode cX3_init 48 = .ok (.sipush 820, 3) := dk_17 3 52 (dk_at dksX3_init_2 1 rfl rfl)
theorem dX3_init_51 : decode cX3_init 51 = .ok (.newarray .int, 2) := dk_188_10 (dk_at dksX3_init_2 4 rfl rfl)
theorem dX3_init_53 : decode cX3_init 53 = .ok (.putfield 25, 3) := dk_181 0 25 (dk_at dksX3_init_2 6 rfl rfl)
theorem dX3_init_56 : decode cX3_init 56 = .ok (.aload_n 0, 1) := dk_42 (dk_at dksX3_init_2 9 rfl rfl)
theorem dX3_init_57 : decode cX3_init 57 = .ok (.bipush 80, 2) := dk_16 80 (dk_at dksX3_init_2 10 rfl rfl)
theorem dX3_init_59 : decode cX3_init 59 = .ok (.newarray .int, 2) := dk_188_10 (dk_at dksX3_init_2 12 rfl rfl)
theorem dX3_init_61 : decode cX3_init 61 = .ok (.putfield 28, 3) := dk_181 0 28 (dk_at dksX3_init_2 14 rfl rfl)
theorem dX3_init_64 : decode cX3_init 64 = .ok (.aload_n 0, 1) := dk_42 (dk_at dksX3_init_2 17 rfl rfl)
theorem dX3_init_65 : decode cX3_init 65 = .ok (.sipush 400, 3) := dk_17 1 144 (dk_at dksX3_init_2 18 rfl rfl)
theorem dX3_init_68 : decode cX3_init 68 = .ok (.newarray .int, 2) := dk_188_10 (dk_at dksX3_init_2 21 rfl rfl)
theorem dX3_init_70 : decode cX3_init 70 = .ok (.putfield 31, 3) := dk_181 0 31 (dk_at dksX3_init_3 0 rfl rfl)
theorem dX3_init_73 : decode cX3_init 73 = .ok (.aload_n 0, 1) := dk_42 (dk_at dksX3_init_3 3 rfl rfl)
theorem dX3_init_74 : decode cX3_init 74 = .ok (.sipush 420, 3) := dk_17 1 164 (dk_at dksX3_init_3 4 rfl rfl)
theorem dX3_init_77 : decode cX3_init 77 = .ok (.newarray .int, 2) := dk_188_10 (dk_at dksX3_init_3 7 rfl rfl)
theorem dX3_init_79 : decode cX3_init 79 = .ok (.putfield 34, 3) := dk_181 0 34 (dk_at dksX3_init_3 9 rfl rfl)
theorem dX3_init_82 : decode cX3_init 82 = .ok (.aload_n 0, 1) := dk_42 (dk_at dksX3_init_3 12 rfl rfl)
theorem dX3_init_83 : decode cX3_init 83 = .ok (.bipush 10, 2) := dk_16 10 (dk_at dksX3_init_3 13 rfl rfl)
theorem dX3_init_85 : decode cX3_init 85 = .ok (.newarray .int, 2) := dk_188_10 (dk_at dksX3_init_3 15 rfl rfl)
theorem dX3_init_87 : decode cX3_init 87 = .ok (.putfield 37, 3) := dk_181 0 37 (dk_at dksX3_init_3 17 rfl rfl)
theorem dX3_init_90 : decode cX3_init 90 = .ok (.aload_n 0, 1) := dk_42 (dk_at dksX3_init_3 20 rfl rfl)
theorem dX3_init_91 : decode cX3_init 91 = .ok (.iconst (-1), 1) := dk_2 (dk_at dksX3_init_3 21 rfl rfl)
theorem dX3_init_92 : decode cX3_init 92 = .ok (.putfield 40, 3) := dk_181 0 40 (dk_at dksX3_init_4 0 rfl rfl)
theorem dX3_init_95 : decode cX3_init 95 = .ok (.aload_n 0, 1) := dk_42 (dk_at dksX3_init_4 3 rfl rfl)
theorem dX3_init_96 : decode cX3_init 96 = .ok (.sipush 4096, 3) := dk_17 16 0 (dk_at dksX3_init_4 4 rfl rfl)
theorem dX3_init_99 : decode cX3_init 99 = .ok (.newarray .int, 2) := dk_188_10 (dk_at dksX3_init_4 7 rfl rfl)
theorem dX3_init_101 : decode cX3_init 101 = .ok (.putfield 44, 3) := dk_181 0 44 (dk_at dksX3_init_4 9 rfl rfl)
theorem dX3_init_104 : decode cX3_init 104 = .ok (.return_, 1) := dk_177 (dk_at dksX3_init_4 12 rfl rfl)
abbrev cX3_state : ByteArray := prog_17_method_14_code
def yX3_state : MethodName := ⟨RX3, "state", "(I)I"⟩
def dkwX3_state_0 : List UInt8 := [42, 180, 0, 7, 5, 46, 61, 42, 180, 0, 7, 5, 27, 79, 42, 182, 0, 71, 28, 172]
abbrev dktX3_state_0 : List UInt8 := dkwX3_state_0 ++ []
theorem dksX3_state_0 : cX3_state.data.toList.drop 0 = dktX3_state_0 := by decide +kernel
theorem dX3_state_0 : decode cX3_state 0 = .ok (.aload_n 0, 1) := dk_42 (dk_at dksX3_state_0 0 rfl rfl)
theorem dX3_state_1 : decode cX3_state 1 = .ok (.getfield 7, 3) := dk_180 0 7 (dk_at dksX3_state_0 1 rfl rfl)
theorem dX3_state_4 : decode cX3_state 4 = .ok (.iconst 2, 1) := dk_5 (dk_at dksX3_state_0 4 rfl rfl)
theorem dX3_state_5 : decode cX3_state 5 = .ok (.iaload, 1) := dk_46 (dk_at dksX3_state_0 5 rfl rfl)
theorem dX3_state_6 : decode cX3_state 6 = .ok (.istore_n 2, 1) := dk_61 (dk_at dksX3_state_0 6 rfl rfl)
theorem dX3_state_7 : decode cX3_state 7 = .ok (.aload_n 0, 1) := dk_42 (dk_at dksX3_state_0 7 rfl rfl)
theorem dX3_state_8 : decode cX3_state 8 = .ok (.getfield 7, 3) := dk_180 0 7 (dk_at dksX3_state_0 8 rfl rfl)
theorem dX3_state_11 : decode cX3_state 11 = .ok (.iconst 2, 1) := dk_5 (dk_at dksX3_state_0 11 rfl rfl)
theorem dX3_state_12 : decode cX3_state 12 = .ok (.iload_n 1, 1) := dk_27 (dk_at dksX3_state_0 12 rfl rfl)
theorem dX3_state_13 : decode cX3_state 13 = .ok (.iastore, 1) := dk_79 (dk_at dksX3_state_0 13 rfl rfl)
theorem dX3_state_14 : decode cX3_state 14 = .ok (.aload_n 0, 1) := dk_42 (dk_at dksX3_state_0 14 rfl rfl)
theorem dX3_state_15 : decode cX3_state 15 = .ok (.invokevirtual 71, 3) := dk_182 0 71 (dk_at dksX3_state_0 15 rfl rfl)
theorem dX3_state_18 : decode cX3_state 18 = .ok (.iload_n 2, 1) := dk_28 (dk_at dksX3_state_0 18 rfl rfl)
theorem dX3_state_19 : decode cX3_state 19 = .ok (.ireturn, 1) := dk_172 (dk_at dksX3_state_0 19 rfl rfl)
abbrev cX3_forgets : ByteArray := prog_17_method_13_code
def yX3_forgets : MethodName := ⟨RX3, "forgets", "()V"⟩
def dkwX3_forgets_0 : List UInt8 := [42, 3, 181, 0, 68, 177]
abbrev dktX3_forgets_0 : List UInt8 := dkwX3_forgets_0 ++ []
theorem dksX3_forgets_0 : cX3_forgets.data.toList.drop 0 = dktX3_forgets_0 := by decide +kernel
theorem dX3_forgets_0 : decode cX3_forgets 0 = .ok (.aload_n 0, 1) := dk_42 (dk_at dksX3_forgets_0 0 rfl rfl)
theorem dX3_forgets_1 : decode cX3_forgets 1 = .ok (.iconst 0, 1) := dk_3 (dk_at dksX3_forgets_0 1 rfl rfl)
theorem dX3_forgets_2 : decode cX3_forgets 2 = .ok (.putfield 68, 3) := dk_181 0 68 (dk_at dksX3_forgets_0 2 rfl rfl)
theorem dX3_forgets_5 : decode cX3_forgets 5 = .ok (.return_, 1) := dk_177 (dk_at dksX3_forgets_0 5 rfl rfl)
abbrev cX3_link : ByteArray := prog_17_method_16_code
def yX3_link : MethodName := ⟨RX3, "link", "(IIII)I"⟩
def dkwX3_link_8 : List UInt8 := [180, 0, 7, 16, 88, 92, 46, 4, 96, 79, 42, 182, 0, 71, 21, 5, 172]
abbrev dktX3_link_8 : List UInt8 := dkwX3_link_8 ++ []
def dkwX3_link_7 : List UInt8 := [21, 5, 104, 96, 3, 79, 42, 180, 0, 7, 16, 105, 5, 21, 5, 104, 96, 4, 96, 17, 0, 240, 79, 42]
abbrev dktX3_link_7 : List UInt8 := dkwX3_link_7 ++ dktX3_link_8
def dkwX3_link_6 : List UInt8 := [21, 5, 96, 3, 79, 42, 180, 0, 7, 16, 76, 21, 5, 96, 2, 79, 42, 180, 0, 7, 16, 105, 5]
abbrev dktX3_link_6 : List UInt8 := dkwX3_link_6 ++ dktX3_link_7
def dkwX3_link_5 : List UInt8 := [16, 40, 21, 5, 96, 3, 79, 42, 180, 0, 7, 16, 52, 21, 5, 96, 3, 79, 42, 180, 0, 7, 16, 64]
abbrev dktX3_link_5 : List UInt8 := dkwX3_link_5 ++ dktX3_link_6
def dkwX3_link_4 : List UInt8 := [16, 28, 21, 5, 96, 29, 79, 42, 180, 0, 7, 16, 93, 21, 5, 96, 21, 4, 79, 42, 180, 0, 7]
abbrev dktX3_link_4 : List UInt8 := dkwX3_link_4 ++ dktX3_link_5
def dkwX3_link_3 : List UInt8 := [180, 0, 7, 7, 21, 5, 96, 27, 79, 42, 180, 0, 7, 16, 16, 21, 5, 96, 28, 79, 42, 180, 0, 7]
abbrev dktX3_link_3 : List UInt8 := dkwX3_link_3 ++ dktX3_link_4
def dkwX3_link_2 : List UInt8 := [42, 180, 0, 7, 16, 88, 46, 16, 12, 160, 0, 5, 2, 172, 42, 180, 0, 7, 16, 88, 46, 54, 5, 42]
abbrev dktX3_link_2 : List UInt8 := dkwX3_link_2 ++ dktX3_link_3
def dkwX3_link_1 : List UInt8 := [29, 17, 252, 25, 17, 3, 231, 184, 0, 54, 153, 0, 26, 21, 4, 3, 16, 9, 184, 0, 54, 153, 0, 15]
abbrev dktX3_link_1 : List UInt8 := dkwX3_link_1 ++ dktX3_link_2
def dkwX3_link_0 : List UInt8 := [27, 4, 17, 3, 231, 184, 0, 54, 153, 0, 52, 28, 17, 216, 241, 17, 39, 15, 184, 0, 54, 153, 0, 39]
abbrev dktX3_link_0 : List UInt8 := dkwX3_link_0 ++ dktX3_link_1
theorem dksX3_link_0 : cX3_link.data.toList.drop 0 = dktX3_link_0 := by decide +kernel
theorem dksX3_link_1 : cX3_link.data.toList.drop 24 = dktX3_link_1 := dk_seg dksX3_link_0 24 rfl rfl
theorem dksX3_link_2 : cX3_link.data.toList.drop 48 = dktX3_link_2 := dk_seg dksX3_link_1 24 rfl rfl
theorem dksX3_link_3 : cX3_link.data.toList.drop 72 = dktX3_link_3 := dk_seg dksX3_link_2 24 rfl rfl
theorem dksX3_link_4 : cX3_link.data.toList.drop 96 = dktX3_link_4 := dk_seg dksX3_link_3 24 rfl rfl
theorem dksX3_link_5 : cX3_link.data.toList.drop 119 = dktX3_link_5 := dk_seg dksX3_link_4 23 rfl rfl
theorem dksX3_link_6 : cX3_link.data.toList.drop 143 = dktX3_link_6 := dk_seg dksX3_link_5 24 rfl rfl
theorem dksX3_link_7 : cX3_link.data.toList.drop 166 = dktX3_link_7 := dk_seg dksX3_link_6 23 rfl rfl
theorem dksX3_link_8 : cX3_link.data.toList.drop 190 = dktX3_link_8 := dk_seg dksX3_link_7 24 rfl rfl
theorem dX3_link_0 : decode cX3_link 0 = .ok (.iload_n 1, 1) := dk_27 (dk_at dksX3_link_0 0 rfl rfl)
theorem dX3_link_1 : decode cX3_link 1 = .ok (.iconst 1, 1) := dk_4 (dk_at dksX3_link_0 1 rfl rfl)
theorem dX3_link_2 : decode cX3_link 2 = .ok (.sipush 999, 3) := dk_17 3 231 (dk_at dksX3_link_0 2 rfl rfl)
theorem dX3_link_5 : decode cX3_link 5 = .ok (.invokestatic 54, 3) := dk_184 0 54 (dk_at dksX3_link_0 5 rfl rfl)
theorem dX3_link_8 : decode cX3_link 8 = .ok (.ifCond .eq 52, 3) := dk_153 0 52 (dk_at dksX3_link_0 8 rfl rfl)
theorem dX3_link_11 : decode cX3_link 11 = .ok (.iload_n 2, 1) := dk_28 (dk_at dksX3_link_0 11 rfl rfl)
theorem dX3_link_12 : decode cX3_link 12 = .ok (.sipush (-9999), 3) := dk_17 216 241 (dk_at dksX3_link_0 12 rfl rfl)
theorem dX3_link_15 : decode cX3_link 15 = .ok (.sipush 9999, 3) := dk_17 39 15 (dk_at dksX3_link_0 15 rfl rfl)
theorem dX3_link_18 : decode cX3_link 18 = .ok (.invokestatic 54, 3) := dk_184 0 54 (dk_at dksX3_link_0 18 rfl rfl)
theorem dX3_link_21 : decode cX3_link 21 = .ok (.ifCond .eq 39, 3) := dk_153 0 39 (dk_at dksX3_link_0 21 rfl rfl)
theorem dX3_link_24 : decode cX3_link 24 = .ok (.iload_n 3, 1) := dk_29 (dk_at dksX3_link_1 0 rfl rfl)
theorem dX3_link_25 : decode cX3_link 25 = .ok (.sipush (-999), 3) := dk_17 252 25 (dk_at dksX3_link_1 1 rfl rfl)
theorem dX3_link_28 : decode cX3_link 28 = .ok (.sipush 999, 3) := dk_17 3 231 (dk_at dksX3_link_1 4 rfl rfl)
theorem dX3_link_31 : decode cX3_link 31 = .ok (.invokestatic 54, 3) := dk_184 0 54 (dk_at dksX3_link_1 7 rfl rfl)
theorem dX3_link_34 : decode cX3_link 34 = .ok (.ifCond .eq 26, 3) := dk_153 0 26 (dk_at dksX3_link_1 10 rfl rfl)
theorem dX3_link_37 : decode cX3_link 37 = .ok (.iload 4, 2) := dk_21 4 (dk_at dksX3_link_1 13 rfl rfl)
theorem dX3_link_39 : decode cX3_link 39 = .ok (.iconst 0, 1) := dk_3 (dk_at dksX3_link_1 15 rfl rfl)
theorem dX3_link_40 : decode cX3_link 40 = .ok (.bipush 9, 2) := dk_16 9 (dk_at dksX3_link_1 16 rfl rfl)
theorem dX3_link_42 : decode cX3_link 42 = .ok (.invokestatic 54, 3) := dk_184 0 54 (dk_at dksX3_link_1 18 rfl rfl)
theorem dX3_link_45 : decode cX3_link 45 = .ok (.ifCond .eq 15, 3) := dk_153 0 15 (dk_at dksX3_link_1 21 rfl rfl)
theorem dX3_link_48 : decode cX3_link 48 = .ok (.aload_n 0, 1) := dk_42 (dk_at dksX3_link_2 0 rfl rfl)
theorem dX3_link_49 : decode cX3_link 49 = .ok (.getfield 7, 3) := dk_180 0 7 (dk_at dksX3_link_2 1 rfl rfl)
theorem dX3_link_52 : decode cX3_link 52 = .ok (.bipush 88, 2) := dk_16 88 (dk_at dksX3_link_2 4 rfl rfl)
theorem dX3_link_54 : decode cX3_link 54 = .ok (.iaload, 1) := dk_46 (dk_at dksX3_link_2 6 rfl rfl)
theorem dX3_link_55 : decode cX3_link 55 = .ok (.bipush 12, 2) := dk_16 12 (dk_at dksX3_link_2 7 rfl rfl)
theorem dX3_link_57 : decode cX3_link 57 = .ok (.if_icmp .ne 5, 3) := dk_160 0 5 (dk_at dksX3_link_2 9 rfl rfl)
theorem dX3_link_60 : decode cX3_link 60 = .ok (.iconst (-1), 1) := dk_2 (dk_at dksX3_link_2 12 rfl rfl)
theorem dX3_link_61 : decode cX3_link 61 = .ok (.ireturn, 1) := dk_172 (dk_at dksX3_link_2 13 rfl rfl)
theorem dX3_link_62 : decode cX3_link 62 = .ok (.aload_n 0, 1) := dk_42 (dk_at dksX3_link_2 14 rfl rfl)
theorem dX3_link_63 : decode cX3_link 63 = .ok (.getfield 7, 3) := dk_180 0 7 (dk_at dksX3_link_2 15 rfl rfl)
theorem dX3_link_66 : decode cX3_link 66 = .ok (.bipush 88, 2) := dk_16 88 (dk_at dksX3_link_2 18 rfl rfl)
theorem dX3_link_68 : decode cX3_link 68 = .ok (.iaload, 1) := dk_46 (dk_at dksX3_link_2 20 rfl rfl)
theorem dX3_link_69 : decode cX3_link 69 = .ok (.istore 5, 2) := dk_54 5 (dk_at dksX3_link_2 21 rfl rfl)
theorem dX3_link_71 : decode cX3_link 71 = .ok (.aload_n 0, 1) := dk_42 (dk_at dksX3_link_2 23 rfl rfl)
theorem dX3_link_72 : decode cX3_link 72 = .ok (.getfield 7, 3) := dk_180 0 7 (dk_at dksX3_link_3 0 rfl rfl)
theorem dX3_link_75 : decode cX3_link 75 = .ok (.iconst 4, 1) := dk_7 (dk_at dksX3_link_3 3 rfl rfl)
theorem dX3_link_76 : decode cX3_link 76 = .ok (.iload 5, 2) := dk_21 5 (dk_at dksX3_link_3 4 rfl rfl)
theorem dX3_link_78 : decode cX3_link 78 = .ok (.iadd, 1) := dk_96 (dk_at dksX3_link_3 6 rfl rfl)
theorem dX3_link_79 : decode cX3_link 79 = .ok (.iload_n 1, 1) := dk_27 (dk_at dksX3_link_3 7 rfl rfl)
theorem dX3_link_80 : decode cX3_link 80 = .ok (.iastore, 1) := dk_79 (dk_at dksX3_link_3 8 rfl rfl)
theorem dX3_link_81 : decode cX3_link 81 = .ok (.aload_n 0, 1) := dk_42 (dk_at dksX3_link_3 9 rfl rfl)
theorem dX3_link_82 : decode cX3_link 82 = .ok (.getfield 7, 3) := dk_180 0 7 (dk_at dksX3_link_3 10 rfl rfl)
theorem dX3_link_85 : decode cX3_link 85 = .ok (.bipush 16, 2) := dk_16 16 (dk_at dksX3_link_3 13 rfl rfl)
theorem dX3_link_87 : decode cX3_link 87 = .ok (.iload 5, 2) := dk_21 5 (dk_at dksX3_link_3 15 rfl rfl)
theorem dX3_link_89 : decode cX3_link 89 = .ok (.iadd, 1) := dk_96 (dk_at dksX3_link_3 17 rfl rfl)
theorem dX3_link_90 : decode cX3_link 90 = .ok (.iload_n 2, 1) := dk_28 (dk_at dksX3_link_3 18 rfl rfl)
theorem dX3_link_91 : decode cX3_link 91 = .ok (.iastore, 1) := dk_79 (dk_at dksX3_link_3 19 rfl rfl)
theorem dX3_link_92 : decode cX3_link 92 = .ok (.aload_n 0, 1) := dk_42 (dk_at dksX3_link_3 20 rfl rfl)
theorem dX3_link_93 : decode cX3_link 93 = .ok (.getfield 7, 3) := dk_180 0 7 (dk_at dksX3_link_3 21 rfl rfl)
theorem dX3_link_96 : decode cX3_link 96 = .ok (.bipush 28, 2) := dk_16 28 (dk_at dksX3_link_4 0 rfl rfl)
theorem dX3_link_98 : decode cX3_link 98 = .ok (.iload 5, 2) := dk_21 5 (dk_at dksX3_link_4 2 rfl rfl)
theorem dX3_link_100 : decode cX3_link 100 = .ok (.iadd, 1) := dk_96 (dk_at dksX3_link_4 4 rfl rfl)
theorem dX3_link_101 : decode cX3_link 101 = .ok (.iload_n 3, 1) := dk_29 (dk_at dksX3_link_4 5 rfl rfl)
theorem dX3_link_102 : decode cX3_link 102 = .ok (.iastore, 1) := dk_79 (dk_at dksX3_link_4 6 rfl rfl)
theorem dX3_link_103 : decode cX3_link 103 = .ok (.aload_n 0, 1) := dk_42 (dk_at dksX3_link_4 7 rfl rfl)
theorem dX3_link_104 : decode cX3_link 104 = .ok (.getfield 7, 3) := dk_180 0 7 (dk_at dksX3_link_4 8 rfl rfl)
theorem dX3_link_107 : decode cX3_link 107 = .ok (.bipush 93, 2) := dk_16 93 (dk_at dksX3_link_4 11 rfl rfl)
theorem dX3_link_109 : decode cX3_link 109 = .ok (.iload 5, 2) := dk_21 5 (dk_at dksX3_link_4 13 rfl rfl)
theorem dX3_link_111 : decode cX3_link 111 = .ok (.iadd, 1) := dk_96 (dk_at dksX3_link_4 15 rfl rfl)
theorem dX3_link_112 : decode cX3_link 112 = .ok (.iload 4, 2) := dk_21 4 (dk_at dksX3_link_4 16 rfl rfl)
theorem dX3_link_114 : decode cX3_link 114 = .ok (.iastore, 1) := dk_79 (dk_at dksX3_link_4 18 rfl rfl)
theorem dX3_link_115 : decode cX3_link 115 = .ok (.aload_n 0, 1) := dk_42 (dk_at dksX3_link_4 19 rfl rfl)
theorem dX3_link_116 : decode cX3_link 116 = .ok (.getfield 7, 3) := dk_180 0 7 (dk_at dksX3_link_4 20 rfl rfl)
theorem dX3_link_119 : decode cX3_link 119 = .ok (.bipush 40, 2) := dk_16 40 (dk_at dksX3_link_5 0 rfl rfl)
theorem dX3_link_121 : decode cX3_link 121 = .ok (.iload 5, 2) := dk_21 5 (dk_at dksX3_link_5 2 rfl rfl)
theorem dX3_link_123 : decode cX3_link 123 = .ok (.iadd, 1) := dk_96 (dk_at dksX3_link_5 4 rfl rfl)
theorem dX3_link_124 : decode cX3_link 124 = .ok (.iconst 0, 1) := dk_3 (dk_at dksX3_link_5 5 rfl rfl)
theorem dX3_link_125 : decode cX3_link 125 = .ok (.iastore, 1) := dk_79 (dk_at dksX3_link_5 6 rfl rfl)
theorem dX3_link_126 : decode cX3_link 126 = .ok (.aload_n 0, 1) := dk_42 (dk_at dksX3_link_5 7 rfl rfl)
theorem dX3_link_127 : decode cX3_link 127 = .ok (.getfield 7, 3) := dk_180 0 7 (dk_at dksX3_link_5 8 rfl rfl)
theorem dX3_link_130 : decode cX3_link 130 = .ok (.bipush 52, 2) := dk_16 52 (dk_at dksX3_link_5 11 rfl rfl)
theorem dX3_link_132 : decode cX3_link 132 = .ok (.iload 5, 2) := dk_21 5 (dk_at dksX3_link_5 13 rfl rfl)
theorem dX3_link_134 : decode cX3_link 134 = .ok (.iadd, 1) := dk_96 (dk_at dksX3_link_5 15 rfl rfl)
theorem dX3_link_135 : decode cX3_link 135 = .ok (.iconst 0, 1) := dk_3 (dk_at dksX3_link_5 16 rfl rfl)
theorem dX3_link_136 : decode cX3_link 136 = .ok (.iastore, 1) := dk_79 (dk_at dksX3_link_5 17 rfl rfl)
theorem dX3_link_137 : decode cX3_link 137 = .ok (.aload_n 0, 1) := dk_42 (dk_at dksX3_link_5 18 rfl rfl)
theorem dX3_link_138 : decode cX3_link 138 = .ok (.getfield 7, 3) := dk_180 0 7 (dk_at dksX3_link_5 19 rfl rfl)
theorem dX3_link_141 : decode cX3_link 141 = .ok (.bipush 64, 2) := dk_16 64 (dk_at dksX3_link_5 22 rfl rfl)
theorem dX3_link_143 : decode cX3_link 143 = .ok (.iload 5, 2) := dk_21 5 (dk_at dksX3_link_6 0 rfl rfl)
theorem dX3_link_145 : decode cX3_link 145 = .ok (.iadd, 1) := dk_96 (dk_at dksX3_link_6 2 rfl rfl)
theorem dX3_link_146 : decode cX3_link 146 = .ok (.iconst 0, 1) := dk_3 (dk_at dksX3_link_6 3 rfl rfl)
theorem dX3_link_147 : decode cX3_link 147 = .ok (.iastore, 1) := dk_79 (dk_at dksX3_link_6 4 rfl rfl)
theorem dX3_link_148 : decode cX3_link 148 = .ok (.aload_n 0, 1) := dk_42 (dk_at dksX3_link_6 5 rfl rfl)
theorem dX3_link_149 : decode cX3_link 149 = .ok (.getfield 7, 3) := dk_180 0 7 (dk_at dksX3_link_6 6 rfl rfl)
theorem dX3_link_152 : decode cX3_link 152 = .ok (.bipush 76, 2) := dk_16 76 (dk_at dksX3_link_6 9 rfl rfl)
theorem dX3_link_154 : decode cX3_link 154 = .ok (.iload 5, 2) := dk_21 5 (dk_at dksX3_link_6 11 rfl rfl)
theorem dX3_link_156 : decode cX3_link 156 = .ok (.iadd, 1) := dk_96 (dk_at dksX3_link_6 13 rfl rfl)
theorem dX3_link_157 : decode cX3_link 157 = .ok (.iconst (-1), 1) := dk_2 (dk_at dksX3_link_6 14 rfl rfl)
theorem dX3_link_158 : decode cX3_link 158 = .ok (.iastore, 1) := dk_79 (dk_at dksX3_link_6 15 rfl rfl)
theorem dX3_link_159 : decode cX3_link 159 = .ok (.aload_n 0, 1) := dk_42 (dk_at dksX3_link_6 16 rfl rfl)
theorem dX3_link_160 : decode cX3_link 160 = .ok (.getfield 7, 3) := dk_180 0 7 (dk_at dksX3_link_6 17 rfl rfl)
theorem dX3_link_163 : decode cX3_link 163 = .ok (.bipush 105, 2) := dk_16 105 (dk_at dksX3_link_6 20 rfl rfl)
theorem dX3_link_165 : decode cX3_link 165 = .ok (.iconst 2, 1) := dk_5 (dk_at dksX3_link_6 22 rfl rfl)
theorem dX3_link_166 : decode cX3_link 166 = .ok (.iload 5, 2) := dk_21 5 (dk_at dksX3_link_7 0 rfl rfl)
theorem dX3_link_168 : decode cX3_link 168 = .ok (.imul, 1) := dk_104 (dk_at dksX3_link_7 2 rfl rfl)
theorem dX3_link_169 : decode cX3_link 169 = .ok (.iadd, 1) := dk_96 (dk_at dksX3_link_7 3 rfl rfl)
theorem dX3_link_170 : decode cX3_link 170 = .ok (.iconst 0, 1) := dk_3 (dk_at dksX3_link_7 4 rfl rfl)
theorem dX3_link_171 : decode cX3_link 171 = .ok (.iastore, 1) := dk_79 (dk_at dksX3_link_7 5 rfl rfl)
theorem dX3_link_172 : decode cX3_link 172 = .ok (.aload_n 0, 1) := dk_42 (dk_at dksX3_link_7 6 rfl rfl)
theorem dX3_link_173 : decode cX3_link 173 = .ok (.getfield 7, 3) := dk_180 0 7 (dk_at dksX3_link_7 7 rfl rfl)
theorem dX3_link_176 : decode cX3_link 176 = .ok (.bipush 105, 2) := dk_16 105 (dk_at dksX3_link_7 10 rfl rfl)
theorem dX3_link_178 : decode cX3_link 178 = .ok (.iconst 2, 1) := dk_5 (dk_at dksX3_link_7 12 rfl rfl)
theorem dX3_link_179 : decode cX3_link 179 = .ok (.iload 5, 2) := dk_21 5 (dk_at dksX3_link_7 13 rfl rfl)
theorem dX3_link_181 : decode cX3_link 181 = .ok (.imul, 1) := dk_104 (dk_at dksX3_link_7 15 rfl rfl)
theorem dX3_link_182 : decode cX3_link 182 = .ok (.iadd, 1) := dk_96 (dk_at dksX3_link_7 16 rfl rfl)
theorem dX3_link_183 : decode cX3_link 183 = .ok (.iconst 1, 1) := dk_4 (dk_at dksX3_link_7 17 rfl rfl)
theorem dX3_link_184 : decode cX3_link 184 = .ok (.iadd, 1) := dk_96 (dk_at dksX3_link_7 18 rfl rfl)
theorem dX3_link_185 : decode cX3_link 185 = .ok (.sipush 240, 3) := dk_17 0 240 (dk_at dksX3_link_7 19 rfl rfl)
theorem dX3_link_188 : decode cX3_link 188 = .ok (.iastore, 1) := dk_79 (dk_at dksX3_link_7 22 rfl rfl)
theorem dX3_link_189 : decode cX3_link 189 = .ok (.aload_n 0, 1) := dk_42 (dk_at dksX3_link_7 23 rfl rfl)
theorem dX3_link_190 : decode cX3_link 190 = .ok (.getfield 7, 3) := dk_180 0 7 (dk_at dksX3_link_8 0 rfl rfl)
theorem dX3_link_193 : decode cX3_link 193 = .ok (.bipush 88, 2) := dk_16 88 (dk_at dksX3_link_8 3 rfl rfl)
theorem dX3_link_195 : decode cX3_link 195 = .ok (.dup2, 1) := dk_92 (dk_at dksX3_link_8 5 rfl rfl)
theorem dX3_link_196 : decode cX3_link 196 = .ok (.iaload, 1) := dk_46 (dk_at dksX3_link_8 6 rfl rfl)
theorem dX3_link_197 : decode cX3_link 197 = .ok (.iconst 1, 1) := dk_4 (dk_at dksX3_link_8 7 rfl rfl)
theorem dX3_link_198 : decode cX3_link 198 = .ok (.iadd, 1) := dk_96 (dk_at dksX3_link_8 8 rfl rfl)
theorem dX3_link_199 : decode cX3_link 199 = .ok (.iastore, 1) := dk_79 (dk_at dksX3_link_8 9 rfl rfl)
theorem dX3_link_200 : decode cX3_link 200 = .ok (.aload_n 0, 1) := dk_42 (dk_at dksX3_link_8 10 rfl rfl)
theorem dX3_link_201 : decode cX3_link 201 = .ok (.invokevirtual 71, 3) := dk_182 0 71 (dk_at dksX3_link_8 11 rfl rfl)
theorem dX3_link_204 : decode cX3_link 204 = .ok (.iload 5, 2) := dk_21 5 (dk_at dksX3_link_8 14 rfl rfl)
theorem dX3_link_206 : decode cX3_link 206 = .ok (.ireturn, 1) := dk_172 (dk_at dksX3_link_8 16 rfl rfl)
abbrev cX3_isIn : ByteArray := prog_17_method_2_code
def yX3_isIn : MethodName := ⟨RX3, "isIn", "(III)Z"⟩
def dkwX3_isIn_0 : List UInt8 := [26, 27, 161, 0, 12, 26, 28, 163, 0, 7, 4, 167, 0, 4, 3, 172]
abbrev dktX3_isIn_0 : List UInt8 := dkwX3_isIn_0 ++ []
theorem dksX3_isIn_0 : cX3_isIn.data.toList.drop 0 = dktX3_isIn_0 := by decide +kernel
theorem dX3_isIn_0 : decode cX3_isIn 0 = .ok (.iload_n 0, 1) := dk_26 (dk_at dksX3_isIn_0 0 rfl rfl)
theorem dX3_isIn_1 : decode cX3_isIn 1 = .ok (.iload_n 1, 1) := dk_27 (dk_at dksX3_isIn_0 1 rfl rfl)
theorem dX3_isIn_2 : decode cX3_isIn 2 = .ok (.if_icmp .lt 12, 3) := dk_161 0 12 (dk_at dksX3_isIn_0 2 rfl rfl)
theorem dX3_isIn_5 : decode cX3_isIn 5 = .ok (.iload_n 0, 1) := dk_26 (dk_at dksX3_isIn_0 5 rfl rfl)
theorem dX3_isIn_6 : decode cX3_isIn 6 = .ok (.iload_n 2, 1) := dk_28 (dk_at dksX3_isIn_0 6 rfl rfl)
theorem dX3_isIn_7 : decode cX3_isIn 7 = .ok (.if_icmp .gt 7, 3) := dk_163 0 7 (dk_at dksX3_isIn_0 7 rfl rfl)
theorem dX3_isIn_10 : decode cX3_isIn 10 = .ok (.iconst 1, 1) := dk_4 (dk_at dksX3_isIn_0 10 rfl rfl)
theorem dX3_isIn_11 : decode cX3_isIn 11 = .ok (.goto 4, 3) := dk_167 0 4 (dk_at dksX3_isIn_0 11 rfl rfl)
theorem dX3_isIn_14 : decode cX3_isIn 14 = .ok (.iconst 0, 1) := dk_3 (dk_at dksX3_isIn_0 14 rfl rfl)
theorem dX3_isIn_15 : decode cX3_isIn 15 = .ok (.ireturn, 1) := dk_172 (dk_at dksX3_isIn_0 15 rfl rfl)
abbrev cX3_set : ByteArray := prog_17_method_18_code
def yX3_set : MethodName := ⟨RX3, "set", "(III)Z"⟩
def dkwX3_set_3 : List UInt8 := [172]
abbrev dktX3_set_3 : List UInt8 := dkwX3_set_3 ++ []
def dkwX3_set_2 : List UInt8 := [167, 0, 15, 27, 6, 160, 0, 8, 16, 93, 167, 0, 5, 16, 40, 28, 96, 29, 79, 42, 182, 0, 71, 4]
abbrev dktX3_set_2 : List UInt8 := dkwX3_set_2 ++ dktX3_set_3
def dkwX3_set_1 : List UInt8 := [154, 0, 7, 7, 167, 0, 35, 27, 4, 160, 0, 8, 16, 16, 167, 0, 25, 27, 5, 160, 0, 8, 16, 28]
abbrev dktX3_set_1 : List UInt8 := dkwX3_set_1 ++ dktX3_set_2
def dkwX3_set_0 : List UInt8 := [42, 28, 182, 0, 58, 153, 0, 11, 27, 29, 184, 0, 76, 154, 0, 5, 3, 172, 42, 180, 0, 7, 27]
abbrev dktX3_set_0 : List UInt8 := dkwX3_set_0 ++ dktX3_set_1
theorem dksX3_set_0 : cX3_set.data.toList.drop 0 = dktX3_set_0 := by decide +kernel
theorem dksX3_set_1 : cX3_set.data.toList.drop 23 = dktX3_set_1 := dk_seg dksX3_set_0 23 rfl rfl
theorem dksX3_set_2 : cX3_set.data.toList.drop 47 = dktX3_set_2 := dk_seg dksX3_set_1 24 rfl rfl
theorem dksX3_set_3 : cX3_set.data.toList.drop 71 = dktX3_set_3 := dk_seg dksX3_set_2 24 rfl rfl
theorem dX3_set_0 : decode cX3_set 0 = .ok (.aload_n 0, 1) := dk_42 (dk_at dksX3_set_0 0 rfl rfl)
theorem dX3_set_1 : decode cX3_set 1 = .ok (.iload_n 2, 1) := dk_28 (dk_at dksX3_set_0 1 rfl rfl)
theorem dX3_set_2 : decode cX3_set 2 = .ok (.invokevirtual 58, 3) := dk_182 0 58 (dk_at dksX3_set_0 2 rfl rfl)
theorem dX3_set_5 : decode cX3_set 5 = .ok (.ifCond .eq 11, 3) := dk_153 0 11 (dk_at dksX3_set_0 5 rfl rfl)
theorem dX3_set_8 : decode cX3_set 8 = .ok (.iload_n 1, 1) := dk_27 (dk_at dksX3_set_0 8 rfl rfl)
theorem dX3_set_9 : decode cX3_set 9 = .ok (.iload_n 3, 1) := dk_29 (dk_at dksX3_set_0 9 rfl rfl)
theorem dX3_set_10 : decode cX3_set 10 = .ok (.invokestatic 76, 3) := dk_184 0 76 (dk_at dksX3_set_0 10 rfl rfl)
theorem dX3_set_13 : decode cX3_set 13 = .ok (.ifCond .ne 5, 3) := dk_154 0 5 (dk_at dksX3_set_0 13 rfl rfl)
theorem dX3_set_16 : decode cX3_set 16 = .ok (.iconst 0, 1) := dk_3 (dk_at dksX3_set_0 16 rfl rfl)
theorem dX3_set_17 : decode cX3_set 17 = .ok (.ireturn, 1) := dk_172 (dk_at dksX3_set_0 17 rfl rfl)
theorem dX3_set_18 : decode cX3_set 18 = .ok (.aload_n 0, 1) := dk_42 (dk_at dksX3_set_0 18 rfl rfl)
theorem dX3_set_19 : decode cX3_set 19 = .ok (.getfield 7, 3) := dk_180 0 7 (dk_at dksX3_set_0 19 rfl rfl)
theorem dX3_set_22 : decode cX3_set 22 = .ok (.iload_n 1, 1) := dk_27 (dk_at dksX3_set_0 22 rfl rfl)
theorem dX3_set_23 : decode cX3_set 23 = .ok (.ifCond .ne 7, 3) := dk_154 0 7 (dk_at dksX3_set_1 0 rfl rfl)
theorem dX3_set_26 : decode cX3_set 26 = .ok (.iconst 4, 1) := dk_7 (dk_at dksX3_set_1 3 rfl rfl)
theorem dX3_set_27 : decode cX3_set 27 = .ok (.goto 35, 3) := dk_167 0 35 (dk_at dksX3_set_1 4 rfl rfl)
theorem dX3_set_30 : decode cX3_set 30 = .ok (.iload_n 1, 1) := dk_27 (dk_at dksX3_set_1 7 rfl rfl)
theorem dX3_set_31 : decode cX3_set 31 = .ok (.iconst 1, 1) := dk_4 (dk_at dksX3_set_1 8 rfl rfl)
theorem dX3_set_32 : decode cX3_set 32 = .ok (.if_icmp .ne 8, 3) := dk_160 0 8 (dk_at dksX3_set_1 9 rfl rfl)
theorem dX3_set_35 : decode cX3_set 35 = .ok (.bipush 16, 2) := dk_16 16 (dk_at dksX3_set_1 12 rfl rfl)
theorem dX3_set_37 : decode cX3_set 37 = .ok (.goto 25, 3) := dk_167 0 25 (dk_at dksX3_set_1 14 rfl rfl)
theorem dX3_set_40 : decode cX3_set 40 = .ok (.iload_n 1, 1) := dk_27 (dk_at dksX3_set_1 17 rfl rfl)
theorem dX3_set_41 : decode cX3_set 41 = .ok (.iconst 2, 1) := dk_5 (dk_at dksX3_set_1 18 rfl rfl)
theorem dX3_set_42 : decode cX3_set 42 = .ok (.if_icmp .ne 8, 3) := dk_160 0 8 (dk_at dksX3_set_1 19 rfl rfl)
theorem dX3_set_45 : decode cX3_set 45 = .ok (.bipush 28, 2) := dk_16 28 (dk_at dksX3_set_1 22 rfl rfl)
theorem dX3_set_47 : decode cX3_set 47 = .ok (.goto 15, 3) := dk_167 0 15 (dk_at dksX3_set_2 0 rfl rfl)
theorem dX3_set_50 : decode cX3_set 50 = .ok (.iload_n 1, 1) := dk_27 (dk_at dksX3_set_2 3 rfl rfl)
theorem dX3_set_51 : decode cX3_set 51 = .ok (.iconst 3, 1) := dk_6 (dk_at dksX3_set_2 4 rfl rfl)
theorem dX3_set_52 : decode cX3_set 52 = .ok (.if_icmp .ne 8, 3) := dk_160 0 8 (dk_at dksX3_set_2 5 rfl rfl)
theorem dX3_set_55 : decode cX3_set 55 = .ok (.bipush 93, 2) := dk_16 93 (dk_at dksX3_set_2 8 rfl rfl)
theorem dX3_set_57 : decode cX3_set 57 = .ok (.goto 5, 3) := dk_167 0 5 (dk_at dksX3_set_2 10 rfl rfl)
theorem dX3_set_60 : decode cX3_set 60 = .ok (.bipush 40, 2) := dk_16 40 (dk_at dksX3_set_2 13 rfl rfl)
theorem dX3_set_62 : decode cX3_set 62 = .ok (.iload_n 2, 1) := dk_28 (dk_at dksX3_set_2 15 rfl rfl)
theorem dX3_set_63 : decode cX3_set 63 = .ok (.iadd, 1) := dk_96 (dk_at dksX3_set_2 16 rfl rfl)
theorem dX3_set_64 : decode cX3_set 64 = .ok (.iload_n 3, 1) := dk_29 (dk_at dksX3_set_2 17 rfl rfl)
theorem dX3_set_65 : decode cX3_set 65 = .ok (.iastore, 1) := dk_79 (dk_at dksX3_set_2 18 rfl rfl)
theorem dX3_set_66 : decode cX3_set 66 = .ok (.aload_n 0, 1) := dk_42 (dk_at dksX3_set_2 19 rfl rfl)
theorem dX3_set_67 : decode cX3_set 67 = .ok (.invokevirtual 71, 3) := dk_182 0 71 (dk_at dksX3_set_2 20 rfl rfl)
theorem dX3_set_70 : decode cX3_set 70 = .ok (.iconst 1, 1) := dk_4 (dk_at dksX3_set_2 23 rfl rfl)
theorem dX3_set_71 : decode cX3_set 71 = .ok (.ireturn, 1) := dk_172 (dk_at dksX3_set_3 0 rfl rfl)
abbrev cX3_isLink : ByteArray := prog_17_method_6_code
def yX3_isLink : MethodName := ⟨RX3, "isLink", "(I)Z"⟩
def dkwX3_isLink_0 : List UInt8 := [27, 3, 42, 180, 0, 7, 16, 88, 46, 4, 100, 184, 0, 54, 172]
abbrev dktX3_isLink_0 : List UInt8 := dkwX3_isLink_0 ++ []
theorem dksX3_isLink_0 : cX3_isLink.data.toList.drop 0 = dktX3_isLink_0 := by decide +kernel
theorem dX3_isLink_0 : decode cX3_isLink 0 = .ok (.iload_n 1, 1) := dk_27 (dk_at dksX3_isLink_0 0 rfl rfl)
theorem dX3_isLink_1 : decode cX3_isLink 1 = .ok (.iconst 0, 1) := dk_3 (dk_at dksX3_isLink_0 1 rfl rfl)
theorem dX3_isLink_2 : decode cX3_isLink 2 = .ok (.aload_n 0, 1) := dk_42 (dk_at dksX3_isLink_0 2 rfl rfl)
theorem dX3_isLink_3 : decode cX3_isLink 3 = .ok (.getfield 7, 3) := dk_180 0 7 (dk_at dksX3_isLink_0 3 rfl rfl)
theorem dX3_isLink_6 : decode cX3_isLink 6 = .ok (.bipush 88, 2) := dk_16 88 (dk_at dksX3_isLink_0 6 rfl rfl)
theorem dX3_isLink_8 : decode cX3_isLink 8 = .ok (.iaload, 1) := dk_46 (dk_at dksX3_isLink_0 8 rfl rfl)
theorem dX3_isLink_9 : decode cX3_isLink 9 = .ok (.iconst 1, 1) := dk_4 (dk_at dksX3_isLink_0 9 rfl rfl)
theorem dX3_isLink_10 : decode cX3_isLink 10 = .ok (.isub, 1) := dk_100 (dk_at dksX3_isLink_0 10 rfl rfl)
theorem dX3_isLink_11 : decode cX3_isLink 11 = .ok (.invokestatic 54, 3) := dk_184 0 54 (dk_at dksX3_isLink_0 11 rfl rfl)
theorem dX3_isLink_14 : decode cX3_isLink 14 = .ok (.ireturn, 1) := dk_172 (dk_at dksX3_isLink_0 14 rfl rfl)
abbrev cX3_canBe : ByteArray := prog_17_method_17_code
def yX3_canBe : MethodName := ⟨RX3, "canBe", "(II)Z"⟩
def dkwX3_canBe_3 : List UInt8 := [17, 3, 231, 184, 0, 54, 172, 27, 3, 16, 9, 184, 0, 54, 172, 27, 3, 4, 184, 0, 54, 172, 3, 172]
abbrev dktX3_canBe_3 : List UInt8 := dkwX3_canBe_3 ++ []
def dkwX3_canBe_2 : List UInt8 := [27, 4, 17, 3, 231, 184, 0, 54, 172, 27, 17, 216, 241, 17, 39, 15, 184, 0, 54, 172, 27, 17, 252, 25]
abbrev dktX3_canBe_2 : List UInt8 := dkwX3_canBe_2 ++ dktX3_canBe_3
def dkwX3_canBe_1 : List UInt8 := [170, 0, 0, 0, 0, 0, 81, 0, 0, 0, 0, 0, 0, 0, 4, 0, 0, 0, 35, 0, 0, 0, 44, 0, 0, 0, 55, 0, 0, 0, 66, 0, 0, 0, 74]
abbrev dktX3_canBe_1 : List UInt8 := dkwX3_canBe_1 ++ dktX3_canBe_2
def dkwX3_canBe_0 : List UInt8 := [26]
abbrev dktX3_canBe_0 : List UInt8 := dkwX3_canBe_0 ++ dktX3_canBe_1
theorem dksX3_canBe_0 : cX3_canBe.data.toList.drop 0 = dktX3_canBe_0 := by decide +kernel
theorem dksX3_canBe_1 : cX3_canBe.data.toList.drop 1 = dktX3_canBe_1 := dk_seg dksX3_canBe_0 1 rfl rfl
theorem dksX3_canBe_2 : cX3_canBe.data.toList.drop 36 = dktX3_canBe_2 := dk_seg dksX3_canBe_1 35 rfl rfl
theorem dksX3_canBe_3 : cX3_canBe.data.toList.drop 60 = dktX3_canBe_3 := dk_seg dksX3_canBe_2 24 rfl rfl
theorem dX3_canBe_0 : decode cX3_canBe 0 = .ok (.iload_n 0, 1) := dk_26 (dk_at dksX3_canBe_0 0 rfl rfl)
theorem dX3_canBe_1 : decode cX3_canBe 1 = .ok (.tableswitch 81 0 4 #[35, 44, 55, 66, 74], 35) := by decide +kernel
theorem dX3_canBe_36 : decode cX3_canBe 36 = .ok (.iload_n 1, 1) := dk_27 (dk_at dksX3_canBe_2 0 rfl rfl)
theorem dX3_canBe_37 : decode cX3_canBe 37 = .ok (.iconst 1, 1) := dk_4 (dk_at dksX3_canBe_2 1 rfl rfl)
theorem dX3_canBe_38 : decode cX3_canBe 38 = .ok (.sipush 999, 3) := dk_17 3 231 (dk_at dksX3_canBe_2 2 rfl rfl)
theorem dX3_canBe_41 : decode cX3_canBe 41 = .ok (.invokestatic 54, 3) := dk_184 0 54 (dk_at dksX3_canBe_2 5 rfl rfl)
theorem dX3_canBe_44 : decode cX3_canBe 44 = .ok (.ireturn, 1) := dk_172 (dk_at dksX3_canBe_2 8 rfl rfl)
theorem dX3_canBe_45 : decode cX3_canBe 45 = .ok (.iload_n 1, 1) := dk_27 (dk_at dksX3_canBe_2 9 rfl rfl)
theorem dX3_canBe_46 : decode cX3_canBe 46 = .ok (.sipush (-9999), 3) := dk_17 216 241 (dk_at dksX3_canBe_2 10 rfl rfl)
theorem dX3_canBe_49 : decode cX3_canBe 49 = .ok (.sipush 9999, 3) := dk_17 39 15 (dk_at dksX3_canBe_2 13 rfl rfl)
theorem dX3_canBe_52 : decode cX3_canBe 52 = .ok (.invokestatic 54, 3) := dk_184 0 54 (dk_at dksX3_canBe_2 16 rfl rfl)
theorem dX3_canBe_55 : decode cX3_canBe 55 = .ok (.ireturn, 1) := dk_172 (dk_at dksX3_canBe_2 19 rfl rfl)
theorem dX3_canBe_56 : decode cX3_canBe 56 = .ok (.iload_n 1, 1) := dk_27 (dk_at dksX3_canBe_2 20 rfl rfl)
theorem dX3_canBe_57 : decode cX3_canBe 57 = .ok (.sipush (-999), 3) := dk_17 252 25 (dk_at dksX3_canBe_2 21 rfl rfl)
theorem dX3_canBe_60 : decode cX3_canBe 60 = .ok (.sipush 999, 3) := dk_17 3 231 (dk_at dksX3_canBe_3 0 rfl rfl)
theorem dX3_canBe_63 : decode cX3_canBe 63 = .ok (.invokestatic 54, 3) := dk_184 0 54 (dk_at dksX3_canBe_3 3 rfl rfl)
theorem dX3_canBe_66 : decode cX3_canBe 66 = .ok (.ireturn, 1) := dk_172 (dk_at dksX3_canBe_3 6 rfl rfl)
theorem dX3_canBe_67 : decode cX3_canBe 67 = .ok (.iload_n 1, 1) := dk_27 (dk_at dksX3_canBe_3 7 rfl rfl)
theorem dX3_canBe_68 : decode cX3_canBe 68 = .ok (.iconst 0, 1) := dk_3 (dk_at dksX3_canBe_3 8 rfl rfl)
theorem dX3_canBe_69 : decode cX3_canBe 69 = .ok (.bipush 9, 2) := dk_16 9 (dk_at dksX3_canBe_3 9 rfl rfl)
theorem dX3_canBe_71 : decode cX3_canBe 71 = .ok (.invokestatic 54, 3) := dk_184 0 54 (dk_at dksX3_canBe_3 11 rfl rfl)
theorem dX3_canBe_74 : decode cX3_canBe 74 = .ok (.ireturn, 1) := dk_172 (dk_at dksX3_canBe_3 14 rfl rfl)
theorem dX3_canBe_75 : decode cX3_canBe 75 = .ok (.iload_n 1, 1) := dk_27 (dk_at dksX3_canBe_3 15 rfl rfl)
theorem dX3_canBe_76 : decode cX3_canBe 76 = .ok (.iconst 0, 1) := dk_3 (dk_at dksX3_canBe_3 16 rfl rfl)
theorem dX3_canBe_77 : decode cX3_canBe 77 = .ok (.iconst 1, 1) := dk_4 (dk_at dksX3_canBe_3 17 rfl rfl)
theorem dX3_canBe_78 : decode cX3_canBe 78 = .ok (.invokestatic 54, 3) := dk_184 0 54 (dk_at dksX3_canBe_3 18 rfl rfl)
theorem dX3_canBe_81 : decode cX3_canBe 81 = .ok (.ireturn, 1) := dk_172 (dk_at dksX3_canBe_3 21 rfl rfl)
theorem dX3_canBe_82 : decode cX3_canBe 82 = .ok (.iconst 0, 1) := dk_3 (dk_at dksX3_canBe_3 22 rfl rfl)
theorem dX3_canBe_83 : decode cX3_canBe 83 = .ok (.ireturn, 1) := dk_172 (dk_at dksX3_canBe_3 23 rfl rfl)
abbrev cX3_feed : ByteArray := prog_17_method_19_code
def yX3_feed : MethodName := ⟨RX3, "feed", "(IIIII)I"⟩
def dkwX3_feed_5 : List UInt8 := [180, 0, 80, 172]
abbrev dktX3_feed_5 : List UInt8 := dkwX3_feed_5 ++ []
def dkwX3_feed_4 : List UInt8 := [122, 17, 0, 255, 126, 79, 42, 89, 180, 0, 80, 4, 96, 181, 0, 80, 132, 6, 1, 167, 255, 162, 42]
abbrev dktX3_feed_4 : List UInt8 := dkwX3_feed_4 ++ dktX3_feed_5
def dkwX3_feed_3 : List UInt8 := [21, 5, 54, 7, 42, 180, 0, 31, 42, 180, 0, 80, 21, 7, 16, 24, 16, 8, 21, 6, 7, 112, 104, 100]
abbrev dktX3_feed_3 : List UInt8 := dkwX3_feed_3 ++ dktX3_feed_4
def dkwX3_feed_2 : List UInt8 := [21, 6, 16, 12, 162, 0, 7, 29, 167, 0, 17, 21, 6, 16, 16, 162, 0, 8, 21, 4, 167, 0, 5]
abbrev dktX3_feed_2 : List UInt8 := dkwX3_feed_2 ++ dktX3_feed_3
def dkwX3_feed_1 : List UInt8 := [162, 0, 93, 21, 6, 7, 162, 0, 7, 27, 167, 0, 39, 21, 6, 16, 8, 162, 0, 7, 28, 167, 0, 28]
abbrev dktX3_feed_1 : List UInt8 := dkwX3_feed_1 ++ dktX3_feed_2
def dkwX3_feed_0 : List UInt8 := [42, 180, 0, 80, 16, 20, 96, 17, 1, 144, 164, 0, 5, 2, 172, 3, 54, 6, 21, 6, 16, 20]
abbrev dktX3_feed_0 : List UInt8 := dkwX3_feed_0 ++ dktX3_feed_1
theorem dksX3_feed_0 : cX3_feed.data.toList.drop 0 = dktX3_feed_0 := by decide +kernel
theorem dksX3_feed_1 : cX3_feed.data.toList.drop 22 = dktX3_feed_1 := dk_seg dksX3_feed_0 22 rfl rfl
theorem dksX3_feed_2 : cX3_feed.data.toList.drop 46 = dktX3_feed_2 := dk_seg dksX3_feed_1 24 rfl rfl
theorem dksX3_feed_3 : cX3_feed.data.toList.drop 69 = dktX3_feed_3 := dk_seg dksX3_feed_2 23 rfl rfl
theorem dksX3_feed_4 : cX3_feed.data.toList.drop 93 = dktX3_feed_4 := dk_seg dksX3_feed_3 24 rfl rfl
theorem dksX3_feed_5 : cX3_feed.data.toList.drop 116 = dktX3_feed_5 := dk_seg dksX3_feed_4 23 rfl rfl
theorem dX3_feed_0 : decode cX3_feed 0 = .ok (.aload_n 0, 1) := dk_42 (dk_at dksX3_feed_0 0 rfl rfl)
theorem dX3_feed_1 : decode cX3_feed 1 = .ok (.getfield 80, 3) := dk_180 0 80 (dk_at dksX3_feed_0 1 rfl rfl)
theorem dX3_feed_4 : decode cX3_feed 4 = .ok (.bipush 20, 2) := dk_16 20 (dk_at dksX3_feed_0 4 rfl rfl)
theorem dX3_feed_6 : decode cX3_feed 6 = .ok (.iadd, 1) := dk_96 (dk_at dksX3_feed_0 6 rfl rfl)
theorem dX3_feed_7 : decode cX3_feed 7 = .ok (.sipush 400, 3) := dk_17 1 144 (dk_at dksX3_feed_0 7 rfl rfl)
theorem dX3_feed_10 : decode cX3_feed 10 = .ok (.if_icmp .le 5, 3) := dk_164 0 5 (dk_at dksX3_feed_0 10 rfl rfl)
theorem dX3_feed_13 : decode cX3_feed 13 = .ok (.iconst (-1), 1) := dk_2 (dk_at dksX3_feed_0 13 rfl rfl)
theorem dX3_feed_14 : decode cX3_feed 14 = .ok (.ireturn, 1) := dk_172 (dk_at dksX3_feed_0 14 rfl rfl)
theorem dX3_feed_15 : decode cX3_feed 15 = .ok (.iconst 0, 1) := dk_3 (dk_at dksX3_feed_0 15 rfl rfl)
theorem dX3_feed_16 : decode cX3_feed 16 = .ok (.istore 6, 2) := dk_54 6 (dk_at dksX3_feed_0 16 rfl rfl)
theorem dX3_feed_18 : decode cX3_feed 18 = .ok (.iload 6, 2) := dk_21 6 (dk_at dksX3_feed_0 18 rfl rfl)
theorem dX3_feed_20 : decode cX3_feed 20 = .ok (.bipush 20, 2) := dk_16 20 (dk_at dksX3_feed_0 20 rfl rfl)
theorem dX3_feed_22 : decode cX3_feed 22 = .ok (.if_icmp .ge 93, 3) := dk_162 0 93 (dk_at dksX3_feed_1 0 rfl rfl)
theorem dX3_feed_25 : decode cX3_feed 25 = .ok (.iload 6, 2) := dk_21 6 (dk_at dksX3_feed_1 3 rfl rfl)
theorem dX3_feed_27 : decode cX3_feed 27 = .ok (.iconst 4, 1) := dk_7 (dk_at dksX3_feed_1 5 rfl rfl)
theorem dX3_feed_28 : decode cX3_feed 28 = .ok (.if_icmp .ge 7, 3) := dk_162 0 7 (dk_at dksX3_feed_1 6 rfl rfl)
theorem dX3_feed_31 : decode cX3_feed 31 = .ok (.iload_n 1, 1) := dk_27 (dk_at dksX3_feed_1 9 rfl rfl)
theorem dX3_feed_32 : decode cX3_feed 32 = .ok (.goto 39, 3) := dk_167 0 39 (dk_at dksX3_feed_1 10 rfl rfl)
theorem dX3_feed_35 : decode cX3_feed 35 = .ok (.iload 6, 2) := dk_21 6 (dk_at dksX3_feed_1 13 rfl rfl)
theorem dX3_feed_37 : decode cX3_feed 37 = .ok (.bipush 8, 2) := dk_16 8 (dk_at dksX3_feed_1 15 rfl rfl)
theorem dX3_feed_39 : decode cX3_feed 39 = .ok (.if_icmp .ge 7, 3) := dk_162 0 7 (dk_at dksX3_feed_1 17 rfl rfl)
theorem dX3_feed_42 : decode cX3_feed 42 = .ok (.iload_n 2, 1) := dk_28 (dk_at dksX3_feed_1 20 rfl rfl)
theorem dX3_feed_43 : decode cX3_feed 43 = .ok (.goto 28, 3) := dk_167 0 28 (dk_at dksX3_feed_1 21 rfl rfl)
theorem dX3_feed_46 : decode cX3_feed 46 = .ok (.iload 6, 2) := dk_21 6 (dk_at dksX3_feed_2 0 rfl rfl)
theorem dX3_feed_48 : decode cX3_feed 48 = .ok (.bipush 12, 2) := dk_16 12 (dk_at dksX3_feed_2 2 rfl rfl)
theorem dX3_feed_50 : decode cX3_feed 50 = .ok (.if_icmp .ge 7, 3) := dk_162 0 7 (dk_at dksX3_feed_2 4 rfl rfl)
theorem dX3_feed_53 : decode cX3_feed 53 = .ok (.iload_n 3, 1) := dk_29 (dk_at dksX3_feed_2 7 rfl rfl)
theorem dX3_feed_54 : decode cX3_feed 54 = .ok (.goto 17, 3) := dk_167 0 17 (dk_at dksX3_feed_2 8 rfl rfl)
theorem dX3_feed_57 : decode cX3_feed 57 = .ok (.iload 6, 2) := dk_21 6 (dk_at dksX3_feed_2 11 rfl rfl)
theorem dX3_feed_59 : decode cX3_feed 59 = .ok (.bipush 16, 2) := dk_16 16 (dk_at dksX3_feed_2 13 rfl rfl)
theorem dX3_feed_61 : decode cX3_feed 61 = .ok (.if_icmp .ge 8, 3) := dk_162 0 8 (dk_at dksX3_feed_2 15 rfl rfl)
theorem dX3_feed_64 : decode cX3_feed 64 = .ok (.iload 4, 2) := dk_21 4 (dk_at dksX3_feed_2 18 rfl rfl)
theorem dX3_feed_66 : decode cX3_feed 66 = .ok (.goto 5, 3) := dk_167 0 5 (dk_at dksX3_feed_2 20 rfl rfl)
theorem dX3_feed_69 : decode cX3_feed 69 = .ok (.iload 5, 2) := dk_21 5 (dk_at dksX3_feed_3 0 rfl rfl)
theorem dX3_feed_71 : decode cX3_feed 71 = .ok (.istore 7, 2) := dk_54 7 (dk_at dksX3_feed_3 2 rfl rfl)
theorem dX3_feed_73 : decode cX3_feed 73 = .ok (.aload_n 0, 1) := dk_42 (dk_at dksX3_feed_3 4 rfl rfl)
theorem dX3_feed_74 : decode cX3_feed 74 = .ok (.getfield 31, 3) := dk_180 0 31 (dk_at dksX3_feed_3 5 rfl rfl)
theorem dX3_feed_77 : decode cX3_feed 77 = .ok (.aload_n 0, 1) := dk_42 (dk_at dksX3_feed_3 8 rfl rfl)
theorem dX3_feed_78 : decode cX3_feed 78 = .ok (.getfield 80, 3) := dk_180 0 80 (dk_at dksX3_feed_3 9 rfl rfl)
theorem dX3_feed_81 : decode cX3_feed 81 = .ok (.iload 7, 2) := dk_21 7 (dk_at dksX3_feed_3 12 rfl rfl)
theorem dX3_feed_83 : decode cX3_feed 83 = .ok (.bipush 24, 2) := dk_16 24 (dk_at dksX3_feed_3 14 rfl rfl)
theorem dX3_feed_85 : decode cX3_feed 85 = .ok (.bipush 8, 2) := dk_16 8 (dk_at dksX3_feed_3 16 rfl rfl)
theorem dX3_feed_87 : decode cX3_feed 87 = .ok (.iload 6, 2) := dk_21 6 (dk_at dksX3_feed_3 18 rfl rfl)
theorem dX3_feed_89 : decode cX3_feed 89 = .ok (.iconst 4, 1) := dk_7 (dk_at dksX3_feed_3 20 rfl rfl)
theorem dX3_feed_90 : decode cX3_feed 90 = .ok (.irem, 1) := dk_112 (dk_at dksX3_feed_3 21 rfl rfl)
theorem dX3_feed_91 : decode cX3_feed 91 = .ok (.imul, 1) := dk_104 (dk_at dksX3_feed_3 22 rfl rfl)
theorem dX3_feed_92 : decode cX3_feed 92 = .ok (.isub, 1) := dk_100 (dk_at dksX3_feed_3 23 rfl rfl)
theorem dX3_feed_93 : decode cX3_feed 93 = .ok (.ishr, 1) := dk_122 (dk_at dksX3_feed_4 0 rfl rfl)
theorem dX3_feed_94 : decode cX3_feed 94 = .ok (.sipush 255, 3) := dk_17 0 255 (dk_at dksX3_feed_4 1 rfl rfl)
theorem dX3_feed_97 : decode cX3_feed 97 = .ok (.iand, 1) := dk_126 (dk_at dksX3_feed_4 4 rfl rfl)
theorem dX3_feed_98 : decode cX3_feed 98 = .ok (.iastore, 1) := dk_79 (dk_at dksX3_feed_4 5 rfl rfl)
theorem dX3_feed_99 : decode cX3_feed 99 = .ok (.aload_n 0, 1) := dk_42 (dk_at dksX3_feed_4 6 rfl rfl)
theorem dX3_feed_100 : decode cX3_feed 100 = .ok (.dup, 1) := dk_89 (dk_at dksX3_feed_4 7 rfl rfl)
theorem dX3_feed_101 : decode cX3_feed 101 = .ok (.getfield 80, 3) := dk_180 0 80 (dk_at dksX3_feed_4 8 rfl rfl)
theorem dX3_feed_104 : decode cX3_feed 104 = .ok (.iconst 1, 1) := dk_4 (dk_at dksX3_feed_4 11 rfl rfl)
theorem dX3_feed_105 : decode cX3_feed 105 = .ok (.iadd, 1) := dk_96 (dk_at dksX3_feed_4 12 rfl rfl)
theorem dX3_feed_106 : decode cX3_feed 106 = .ok (.putfield 80, 3) := dk_181 0 80 (dk_at dksX3_feed_4 13 rfl rfl)
theorem dX3_feed_109 : decode cX3_feed 109 = .ok (.iinc 6 1, 3) := dk_132 6 1 (dk_at dksX3_feed_4 16 rfl rfl)
theorem dX3_feed_112 : decode cX3_feed 112 = .ok (.goto (-94), 3) := dk_167 255 162 (dk_at dksX3_feed_4 19 rfl rfl)
theorem dX3_feed_115 : decode cX3_feed 115 = .ok (.aload_n 0, 1) := dk_42 (dk_at dksX3_feed_4 22 rfl rfl)
theorem dX3_feed_116 : decode cX3_feed 116 = .ok (.getfield 80, 3) := dk_180 0 80 (dk_at dksX3_feed_5 0 rfl rfl)
theorem dX3_feed_119 : decode cX3_feed 119 = .ok (.ireturn, 1) := dk_172 (dk_at dksX3_feed_5 3 rfl rfl)
abbrev cX3_end : ByteArray := prog_17_method_20_code
def yX3_end : MethodName := ⟨RX3, "end", "(I)Z"⟩
def dkwX3_end_0 : List UInt8 := [27, 3, 42, 180, 0, 80, 184, 0, 54, 154, 0, 5, 3, 172, 42, 27, 181, 0, 80, 4, 172]
abbrev dktX3_end_0 : List UInt8 := dkwX3_end_0 ++ []
theorem dksX3_end_0 : cX3_end.data.toList.drop 0 = dktX3_end_0 := by decide +kernel
theorem dX3_end_0 : decode cX3_end 0 = .ok (.iload_n 1, 1) := dk_27 (dk_at dksX3_end_0 0 rfl rfl)
theorem dX3_end_1 : decode cX3_end 1 = .ok (.iconst 0, 1) := dk_3 (dk_at dksX3_end_0 1 rfl rfl)
theorem dX3_end_2 : decode cX3_end 2 = .ok (.aload_n 0, 1) := dk_42 (dk_at dksX3_end_0 2 rfl rfl)
theorem dX3_end_3 : decode cX3_end 3 = .ok (.getfield 80, 3) := dk_180 0 80 (dk_at dksX3_end_0 3 rfl rfl)
theorem dX3_end_6 : decode cX3_end 6 = .ok (.invokestatic 54, 3) := dk_184 0 54 (dk_at dksX3_end_0 6 rfl rfl)
theorem dX3_end_9 : decode cX3_end 9 = .ok (.ifCond .ne 5, 3) := dk_154 0 5 (dk_at dksX3_end_0 9 rfl rfl)
theorem dX3_end_12 : decode cX3_end 12 = .ok (.iconst 0, 1) := dk_3 (dk_at dksX3_end_0 12 rfl rfl)
theorem dX3_end_13 : decode cX3_end 13 = .ok (.ireturn, 1) := dk_172 (dk_at dksX3_end_0 13 rfl rfl)
theorem dX3_end_14 : decode cX3_end 14 = .ok (.aload_n 0, 1) := dk_42 (dk_at dksX3_end_0 14 rfl rfl)
theorem dX3_end_15 : decode cX3_end 15 = .ok (.iload_n 1, 1) := dk_27 (dk_at dksX3_end_0 15 rfl rfl)
theorem dX3_end_16 : decode cX3_end 16 = .ok (.putfield 80, 3) := dk_181 0 80 (dk_at dksX3_end_0 16 rfl rfl)
theorem dX3_end_19 : decode cX3_end 19 = .ok (.iconst 1, 1) := dk_4 (dk_at dksX3_end_0 19 rfl rfl)
theorem dX3_end_20 : decode cX3_end 20 = .ok (.ireturn, 1) := dk_172 (dk_at dksX3_end_0 20 rfl rfl)
abbrev cX3_text : ByteArray := prog_17_method_54_code
def yX3_text : MethodName := ⟨RX3, "text", "(I)I"⟩
def dkwX3_text_3 : List UInt8 := [42, 27, 182, 1, 23, 172, 42, 42, 180, 0, 182, 181, 1, 14, 42, 42, 180, 0, 185, 181, 0, 40, 2, 172]
abbrev dktX3_text_3 : List UInt8 := dkwX3_text_3 ++ []
def dkwX3_text_2 : List UInt8 := [154, 0, 10, 42, 182, 1, 17, 167, 0, 7, 42, 182, 1, 20, 61, 42, 3, 181, 0, 80, 28, 153, 0, 9]
abbrev dktX3_text_2 : List UInt8 := dkwX3_text_2 ++ dktX3_text_3
def dkwX3_text_1 : List UInt8 := [2, 172, 42, 3, 181, 0, 182, 42, 3, 181, 0, 83, 42, 27, 181, 0, 150, 42, 182, 0, 191, 27]
abbrev dktX3_text_1 : List UInt8 := dkwX3_text_1 ++ dktX3_text_2
def dkwX3_text_0 : List UInt8 := [42, 3, 181, 1, 14, 42, 2, 181, 0, 40, 27, 3, 6, 184, 0, 54, 154, 0, 10, 42, 3, 181, 0, 80]
abbrev dktX3_text_0 : List UInt8 := dkwX3_text_0 ++ dktX3_text_1
theorem dksX3_text_0 : cX3_text.data.toList.drop 0 = dktX3_text_0 := by decide +kernel
theorem dksX3_text_1 : cX3_text.data.toList.drop 24 = dktX3_text_1 := dk_seg dksX3_text_0 24 rfl rfl
theorem dksX3_text_2 : cX3_text.data.toList.drop 46 = dktX3_text_2 := dk_seg dksX3_text_1 22 rfl rfl
theorem dksX3_text_3 : cX3_text.data.toList.drop 70 = dktX3_text_3 := dk_seg dksX3_text_2 24 rfl rfl
theorem dX3_text_0 : decode cX3_text 0 = .ok (.aload_n 0, 1) := dk_42 (dk_at dksX3_text_0 0 rfl rfl)
theorem dX3_text_1 : decode cX3_text 1 = .ok (.iconst 0, 1) := dk_3 (dk_at dksX3_text_0 1 rfl rfl)
theorem dX3_text_2 : decode cX3_text 2 = .ok (.putfield 270, 3) := dk_181 1 14 (dk_at dksX3_text_0 2 rfl rfl)
theorem dX3_text_5 : decode cX3_text 5 = .ok (.aload_n 0, 1) := dk_42 (dk_at dksX3_text_0 5 rfl rfl)
theorem dX3_text_6 : decode cX3_text 6 = .ok (.iconst (-1), 1) := dk_2 (dk_at dksX3_text_0 6 rfl rfl)
theorem dX3_text_7 : decode cX3_text 7 = .ok (.putfield 40, 3) := dk_181 0 40 (dk_at dksX3_text_0 7 rfl rfl)
theorem dX3_text_10 : decode cX3_text 10 = .ok (.iload_n 1, 1) := dk_27 (dk_at dksX3_text_0 10 rfl rfl)
theorem dX3_text_11 : decode cX3_text 11 = .ok (.iconst 0, 1) := dk_3 (dk_at dksX3_text_0 11 rfl rfl)
theorem dX3_text_12 : decode cX3_text 12 = .ok (.iconst 3, 1) := dk_6 (dk_at dksX3_text_0 12 rfl rfl)
theorem dX3_text_13 : decode cX3_text 13 = .ok (.invokestatic 54, 3) := dk_184 0 54 (dk_at dksX3_text_0 13 rfl rfl)
theorem dX3_text_16 : decode cX3_text 16 = .ok (.ifCond .ne 10, 3) := dk_154 0 10 (dk_at dksX3_text_0 16 rfl rfl)
theorem dX3_text_19 : decode cX3_text 19 = .ok (.aload_n 0, 1) := dk_42 (dk_at dksX3_text_0 19 rfl rfl)
theorem dX3_text_20 : decode cX3_text 20 = .ok (.iconst 0, 1) := dk_3 (dk_at dksX3_text_0 20 rfl rfl)
theorem dX3_text_21 : decode cX3_text 21 = .ok (.putfield 80, 3) := dk_181 0 80 (dk_at dksX3_text_0 21 rfl rfl)
theorem dX3_text_24 : decode cX3_text 24 = .ok (.iconst (-1), 1) := dk_2 (dk_at dksX3_text_1 0 rfl rfl)
theorem dX3_text_25 : decode cX3_text 25 = .ok (.ireturn, 1) := dk_172 (dk_at dksX3_text_1 1 rfl rfl)
theorem dX3_text_26 : decode cX3_text 26 = .ok (.aload_n 0, 1) := dk_42 (dk_at dksX3_text_1 2 rfl rfl)
theorem dX3_text_27 : decode cX3_text 27 = .ok (.iconst 0, 1) := dk_3 (dk_at dksX3_text_1 3 rfl rfl)
theorem dX3_text_28 : decode cX3_text 28 = .ok (.putfield 182, 3) := dk_181 0 182 (dk_at dksX3_text_1 4 rfl rfl)
theorem dX3_text_31 : decode cX3_text 31 = .ok (.aload_n 0, 1) := dk_42 (dk_at dksX3_text_1 7 rfl rfl)
theorem dX3_text_32 : decode cX3_text 32 = .ok (.iconst 0, 1) := dk_3 (dk_at dksX3_text_1 8 rfl rfl)
theorem dX3_text_33 : decode cX3_text 33 = .ok (.putfield 83, 3) := dk_181 0 83 (dk_at dksX3_text_1 9 rfl rfl)
theorem dX3_text_36 : decode cX3_text 36 = .ok (.aload_n 0, 1) := dk_42 (dk_at dksX3_text_1 12 rfl rfl)
theorem dX3_text_37 : decode cX3_text 37 = .ok (.iload_n 1, 1) := dk_27 (dk_at dksX3_text_1 13 rfl rfl)
theorem dX3_text_38 : decode cX3_text 38 = .ok (.putfield 150, 3) := dk_181 0 150 (dk_at dksX3_text_1 14 rfl rfl)
theorem dX3_text_41 : decode cX3_text 41 = .ok (.aload_n 0, 1) := dk_42 (dk_at dksX3_text_1 17 rfl rfl)
theorem dX3_text_42 : decode cX3_text 42 = .ok (.invokevirtual 191, 3) := dk_182 0 191 (dk_at dksX3_text_1 18 rfl rfl)
theorem dX3_text_45 : decode cX3_text 45 = .ok (.iload_n 1, 1) := dk_27 (dk_at dksX3_text_1 21 rfl rfl)
theorem dX3_text_46 : decode cX3_text 46 = .ok (.ifCond .ne 10, 3) := dk_154 0 10 (dk_at dksX3_text_2 0 rfl rfl)
theorem dX3_text_49 : decode cX3_text 49 = .ok (.aload_n 0, 1) := dk_42 (dk_at dksX3_text_2 3 rfl rfl)
theorem dX3_text_50 : decode cX3_text 50 = .ok (.invokevirtual 273, 3) := dk_182 1 17 (dk_at dksX3_text_2 4 rfl rfl)
theorem dX3_text_53 : decode cX3_text 53 = .ok (.goto 7, 3) := dk_167 0 7 (dk_at dksX3_text_2 7 rfl rfl)
theorem dX3_text_56 : decode cX3_text 56 = .ok (.aload_n 0, 1) := dk_42 (dk_at dksX3_text_2 10 rfl rfl)
theorem dX3_text_57 : decode cX3_text 57 = .ok (.invokevirtual 276, 3) := dk_182 1 20 (dk_at dksX3_text_2 11 rfl rfl)
theorem dX3_text_60 : decode cX3_text 60 = .ok (.istore_n 2, 1) := dk_61 (dk_at dksX3_text_2 14 rfl rfl)
theorem dX3_text_61 : decode cX3_text 61 = .ok (.aload_n 0, 1) := dk_42 (dk_at dksX3_text_2 15 rfl rfl)
theorem dX3_text_62 : decode cX3_text 62 = .ok (.iconst 0, 1) := dk_3 (dk_at dksX3_text_2 16 rfl rfl)
theorem dX3_text_63 : decode cX3_text 63 = .ok (.putfield 80, 3) := dk_181 0 80 (dk_at dksX3_text_2 17 rfl rfl)
theorem dX3_text_66 : decode cX3_text 66 = .ok (.iload_n 2, 1) := dk_28 (dk_at dksX3_text_2 20 rfl rfl)
theorem dX3_text_67 : decode cX3_text 67 = .ok (.ifCond .eq 9, 3) := dk_153 0 9 (dk_at dksX3_text_2 21 rfl rfl)
theorem dX3_text_70 : decode cX3_text 70 = .ok (.aload_n 0, 1) := dk_42 (dk_at dksX3_text_3 0 rfl rfl)
theorem dX3_text_71 : decode cX3_text 71 = .ok (.iload_n 1, 1) := dk_27 (dk_at dksX3_text_3 1 rfl rfl)
theorem dX3_text_72 : decode cX3_text 72 = .ok (.invokevirtual 279, 3) := dk_182 1 23 (dk_at dksX3_text_3 2 rfl rfl)
theorem dX3_text_75 : decode cX3_text 75 = .ok (.ireturn, 1) := dk_172 (dk_at dksX3_text_3 5 rfl rfl)
theorem dX3_text_76 : decode cX3_text 76 = .ok (.aload_n 0, 1) := dk_42 (dk_at dksX3_text_3 6 rfl rfl)
theorem dX3_text_77 : decode cX3_text 77 = .ok (.aload_n 0, 1) := dk_42 (dk_at dksX3_text_3 7 rfl rfl)
theorem dX3_text_78 : decode cX3_text 78 = .ok (.getfield 182, 3) := dk_180 0 182 (dk_at dksX3_text_3 8 rfl rfl)
theorem dX3_text_81 : decode cX3_text 81 = .ok (.putfield 270, 3) := dk_181 1 14 (dk_at dksX3_text_3 11 rfl rfl)
theorem dX3_text_84 : decode cX3_text 84 = .ok (.aload_n 0, 1) := dk_42 (dk_at dksX3_text_3 14 rfl rfl)
theorem dX3_text_85 : decode cX3_text 85 = .ok (.aload_n 0, 1) := dk_42 (dk_at dksX3_text_3 15 rfl rfl)
theorem dX3_text_86 : decode cX3_text 86 = .ok (.getfield 185, 3) := dk_180 0 185 (dk_at dksX3_text_3 16 rfl rfl)
theorem dX3_text_89 : decode cX3_text 89 = .ok (.putfield 40, 3) := dk_181 0 40 (dk_at dksX3_text_3 19 rfl rfl)
theorem dX3_text_92 : decode cX3_text 92 = .ok (.iconst (-1), 1) := dk_2 (dk_at dksX3_text_3 22 rfl rfl)
theorem dX3_text_93 : decode cX3_text 93 = .ok (.ireturn, 1) := dk_172 (dk_at dksX3_text_3 23 rfl rfl)
abbrev cX3_next0 : ByteArray := prog_17_method_29_code
def yX3_next0 : MethodName := ⟨RX3, "next0", "()V"⟩
def dkwX3_next0_13 : List UInt8 := [181, 0, 167, 177]
abbrev dktX3_next0_13 : List UInt8 := dkwX3_next0_13 ++ []
def dkwX3_next0_12 : List UInt8 := [16, 62, 160, 0, 7, 4, 167, 0, 4, 3, 61, 42, 28, 153, 0, 10, 16, 100, 27, 96, 167, 0, 4, 4]
abbrev dktX3_next0_12 : List UInt8 := dkwX3_next0_12 ++ dktX3_next0_13
def dkwX3_next0_11 : List UInt8 := [16, 40, 159, 0, 27, 27, 16, 41, 159, 0, 21, 27, 16, 60, 159, 0, 15, 27, 16, 61, 159, 0, 9, 27]
abbrev dktX3_next0_11 : List UInt8 := dkwX3_next0_11 ++ dktX3_next0_12
def dkwX3_next0_10 : List UInt8 := [16, 43, 159, 0, 51, 27, 16, 45, 159, 0, 45, 27, 16, 42, 159, 0, 39, 27, 16, 47, 159, 0, 33, 27]
abbrev dktX3_next0_10 : List UInt8 := dkwX3_next0_10 ++ dktX3_next0_11
def dkwX3_next0_9 : List UInt8 := [4, 181, 0, 167, 167, 0, 95, 42, 89, 180, 0, 83, 4, 96, 181, 0, 83, 27, 16, 59, 159, 0, 57, 27]
abbrev dktX3_next0_9 : List UInt8 := dkwX3_next0_9 ++ dktX3_next0_10
def dkwX3_next0_8 : List UInt8 := [181, 0, 83, 167, 255, 196, 42, 42, 180, 0, 83, 42, 180, 0, 86, 100, 8, 162, 0, 7, 5, 167, 0, 4]
abbrev dktX3_next0_8 : List UInt8 := dkwX3_next0_8 ++ dktX3_next0_9
def dkwX3_next0_7 : List UInt8 := [42, 42, 180, 0, 83, 182, 0, 163, 96, 16, 48, 100, 181, 0, 179, 42, 89, 180, 0, 83, 4, 96]
abbrev dktX3_next0_7 : List UInt8 := dkwX3_next0_7 ++ dktX3_next0_8
def dkwX3_next0_6 : List UInt8 := [153, 0, 52, 42, 180, 0, 83, 42, 180, 0, 86, 7, 96, 162, 0, 26, 42, 16, 10, 42, 180, 0, 179, 104]
abbrev dktX3_next0_6 : List UInt8 := dkwX3_next0_6 ++ dktX3_next0_7
def dkwX3_next0_5 : List UInt8 := [184, 0, 176, 153, 0, 96, 42, 3, 181, 0, 179, 42, 42, 180, 0, 83, 182, 0, 163, 184, 0, 176]
abbrev dktX3_next0_5 : List UInt8 := dkwX3_next0_5 ++ dktX3_next0_6
def dkwX3_next0_4 : List UInt8 := [180, 0, 83, 4, 96, 181, 0, 83, 167, 255, 232, 42, 42, 182, 0, 173, 181, 0, 167, 167, 0, 195, 27]
abbrev dktX3_next0_4 : List UInt8 := dkwX3_next0_4 ++ dktX3_next0_5
def dkwX3_next0_3 : List UInt8 := [184, 0, 170, 153, 0, 41, 42, 42, 180, 0, 83, 182, 0, 163, 184, 0, 170, 153, 0, 16, 42, 89]
abbrev dktX3_next0_3 : List UInt8 := dkwX3_next0_3 ++ dktX3_next0_4
def dkwX3_next0_2 : List UInt8 := [42, 42, 180, 0, 83, 182, 0, 163, 60, 27, 2, 160, 0, 11, 42, 3, 181, 0, 167, 167, 0, 240, 27]
abbrev dktX3_next0_2 : List UInt8 := dkwX3_next0_2 ++ dktX3_next0_3
def dkwX3_next0_1 : List UInt8 := [160, 0, 16, 42, 89, 180, 0, 83, 4, 96, 181, 0, 83, 167, 255, 220, 42, 42, 180, 0, 83, 181, 0, 86]
abbrev dktX3_next0_1 : List UInt8 := dkwX3_next0_1 ++ dktX3_next0_2
def dkwX3_next0_0 : List UInt8 := [42, 42, 180, 0, 83, 182, 0, 163, 16, 32, 159, 0, 16, 42, 42, 180, 0, 83, 182, 0, 163, 16, 10]
abbrev dktX3_next0_0 : List UInt8 := dkwX3_next0_0 ++ dktX3_next0_1
theorem dksX3_next0_0 : cX3_next0.data.toList.drop 0 = dktX3_next0_0 := by decide +kernel
theorem dksX3_next0_1 : cX3_next0.data.toList.drop 23 = dktX3_next0_1 := dk_seg dksX3_next0_0 23 rfl rfl
theorem dksX3_next0_2 : cX3_next0.data.toList.drop 47 = dktX3_next0_2 := dk_seg dksX3_next0_1 24 rfl rfl
theorem dksX3_next0_3 : cX3_next0.data.toList.drop 70 = dktX3_next0_3 := dk_seg dksX3_next0_2 23 rfl rfl
theorem dksX3_next0_4 : cX3_next0.data.toList.drop 92 = dktX3_next0_4 := dk_seg dksX3_next0_3 22 rfl rfl
theorem dksX3_next0_5 : cX3_next0.data.toList.drop 115 = dktX3_next0_5 := dk_seg dksX3_next0_4 23 rfl rfl
theorem dksX3_next0_6 : cX3_next0.data.toList.drop 137 = dktX3_next0_6 := dk_seg dksX3_next0_5 22 rfl rfl
theorem dksX3_next0_7 : cX3_next0.data.toList.drop 161 = dktX3_next0_7 := dk_seg dksX3_next0_6 24 rfl rfl
theorem dksX3_next0_8 : cX3_next0.data.toList.drop 183 = dktX3_next0_8 := dk_seg dksX3_next0_7 22 rfl rfl
theorem dksX3_next0_9 : cX3_next0.data.toList.drop 207 = dktX3_next0_9 := dk_seg dksX3_next0_8 24 rfl rfl
theorem dksX3_next0_10 : cX3_next0.data.toList.drop 231 = dktX3_next0_10 := dk_seg dksX3_next0_9 24 rfl rfl
theorem dksX3_next0_11 : cX3_next0.data.toList.drop 255 = dktX3_next0_11 := dk_seg dksX3_next0_10 24 rfl rfl
theorem dksX3_next0_12 : cX3_next0.data.toList.drop 279 = dktX3_next0_12 := dk_seg dksX3_next0_11 24 rfl rfl
theorem dksX3_next0_13 : cX3_next0.data.toList.drop 303 = dktX3_next0_13 := dk_seg dksX3_next0_12 24 rfl rfl
theorem dX3_next0_0 : decode cX3_next0 0 = .ok (.aload_n 0, 1) := dk_42 (dk_at dksX3_next0_0 0 rfl rfl)
theorem dX3_next0_1 : decode cX3_next0 1 = .ok (.aload_n 0, 1) := dk_42 (dk_at dksX3_next0_0 1 rfl rfl)
theorem dX3_next0_2 : decode cX3_next0 2 = .ok (.getfield 83, 3) := dk_180 0 83 (dk_at dksX3_next0_0 2 rfl rfl)
theorem dX3_next0_5 : decode cX3_next0 5 = .ok (.invokevirtual 163, 3) := dk_182 0 163 (dk_at dksX3_next0_0 5 rfl rfl)
theorem dX3_next0_8 : decode cX3_next0 8 = .ok (.bipush 32, 2) := dk_16 32 (dk_at dksX3_next0_0 8 rfl rfl)
theorem dX3_next0_10 : decode cX3_next0 10 = .ok (.if_icmp .eq 16, 3) := dk_159 0 16 (dk_at dksX3_next0_0 10 rfl rfl)
theorem dX3_next0_13 : decode cX3_next0 13 = .ok (.aload_n 0, 1) := dk_42 (dk_at dksX3_next0_0 13 rfl rfl)
theorem dX3_next0_14 : decode cX3_next0 14 = .ok (.aload_n 0, 1) := dk_42 (dk_at dksX3_next0_0 14 rfl rfl)
theorem dX3_next0_15 : decode cX3_next0 15 = .ok (.getfield 83, 3) := dk_180 0 83 (dk_at dksX3_next0_0 15 rfl rfl)
theorem dX3_next0_18 : decode cX3_next0 18 = .ok (.invokevirtual 163, 3) := dk_182 0 163 (dk_at dksX3_next0_0 18 rfl rfl)
theorem dX3_next0_21 : decode cX3_next0 21 = .ok (.bipush 10, 2) := dk_16 10 (dk_at dksX3_next0_0 21 rfl rfl)
theorem dX3_next0_23 : decode cX3_next0 23 = .ok (.if_icmp .ne 16, 3) := dk_160 0 16 (dk_at dksX3_next0_1 0 rfl rfl)
theorem dX3_next0_26 : decode cX3_next0 26 = .ok (.aload_n 0, 1) := dk_42 (dk_at dksX3_next0_1 3 rfl rfl)
theorem dX3_next0_27 : decode cX3_next0 27 = .ok (.dup, 1) := dk_89 (dk_at dksX3_next0_1 4 rfl rfl)
theorem dX3_next0_28 : decode cX3_next0 28 = .ok (.getfield 83, 3) := dk_180 0 83 (dk_at dksX3_next0_1 5 rfl rfl)
theorem dX3_next0_31 : decode cX3_next0 31 = .ok (.iconst 1, 1) := dk_4 (dk_at dksX3_next0_1 8 rfl rfl)
theorem dX3_next0_32 : decode cX3_next0 32 = .ok (.iadd, 1) := dk_96 (dk_at dksX3_next0_1 9 rfl rfl)
theorem dX3_next0_33 : decode cX3_next0 33 = .ok (.putfield 83, 3) := dk_181 0 83 (dk_at dksX3_next0_1 10 rfl rfl)
theorem dX3_next0_36 : decode cX3_next0 36 = .ok (.goto (-36), 3) := dk_167 255 220 (dk_at dksX3_next0_1 13 rfl rfl)
theorem dX3_next0_39 : decode cX3_next0 39 = .ok (.aload_n 0, 1) := dk_42 (dk_at dksX3_next0_1 16 rfl rfl)
theorem dX3_next0_40 : decode cX3_next0 40 = .ok (.aload_n 0, 1) := dk_42 (dk_at dksX3_next0_1 17 rfl rfl)
theorem dX3_next0_41 : decode cX3_next0 41 = .ok (.getfield 83, 3) := dk_180 0 83 (dk_at dksX3_next0_1 18 rfl rfl)
theorem dX3_next0_44 : decode cX3_next0 44 = .ok (.putfield 86, 3) := dk_181 0 86 (dk_at dksX3_next0_1 21 rfl rfl)
theorem dX3_next0_47 : decode cX3_next0 47 = .ok (.aload_n 0, 1) := dk_42 (dk_at dksX3_next0_2 0 rfl rfl)
theorem dX3_next0_48 : decode cX3_next0 48 = .ok (.aload_n 0, 1) := dk_42 (dk_at dksX3_next0_2 1 rfl rfl)
theorem dX3_next0_49 : decode cX3_next0 49 = .ok (.getfield 83, 3) := dk_180 0 83 (dk_at dksX3_next0_2 2 rfl rfl)
theorem dX3_next0_52 : decode cX3_next0 52 = .ok (.invokevirtual 163, 3) := dk_182 0 163 (dk_at dksX3_next0_2 5 rfl rfl)
theorem dX3_next0_55 : decode cX3_next0 55 = .ok (.istore_n 1, 1) := dk_60 (dk_at dksX3_next0_2 8 rfl rfl)
theorem dX3_next0_56 : decode cX3_next0 56 = .ok (.iload_n 1, 1) := dk_27 (dk_at dksX3_next0_2 9 rfl rfl)
theorem dX3_next0_57 : decode cX3_next0 57 = .ok (.iconst (-1), 1) := dk_2 (dk_at dksX3_next0_2 10 rfl rfl)
theorem dX3_next0_58 : decode cX3_next0 58 = .ok (.if_icmp .ne 11, 3) := dk_160 0 11 (dk_at dksX3_next0_2 11 rfl rfl)
theorem dX3_next0_61 : decode cX3_next0 61 = .ok (.aload_n 0, 1) := dk_42 (dk_at dksX3_next0_2 14 rfl rfl)
theorem dX3_next0_62 : decode cX3_next0 62 = .ok (.iconst 0, 1) := dk_3 (dk_at dksX3_next0_2 15 rfl rfl)
theorem dX3_next0_63 : decode cX3_next0 63 = .ok (.putfield 167, 3) := dk_181 0 167 (dk_at dksX3_next0_2 16 rfl rfl)
theorem dX3_next0_66 : decode cX3_next0 66 = .ok (.goto 240, 3) := dk_167 0 240 (dk_at dksX3_next0_2 19 rfl rfl)
theorem dX3_next0_69 : decode cX3_next0 69 = .ok (.iload_n 1, 1) := dk_27 (dk_at dksX3_next0_2 22 rfl rfl)
theorem dX3_next0_70 : decode cX3_next0 70 = .ok (.invokestatic 170, 3) := dk_184 0 170 (dk_at dksX3_next0_3 0 rfl rfl)
theorem dX3_next0_73 : decode cX3_next0 73 = .ok (.ifCond .eq 41, 3) := dk_153 0 41 (dk_at dksX3_next0_3 3 rfl rfl)
theorem dX3_next0_76 : decode cX3_next0 76 = .ok (.aload_n 0, 1) := dk_42 (dk_at dksX3_next0_3 6 rfl rfl)
theorem dX3_next0_77 : decode cX3_next0 77 = .ok (.aload_n 0, 1) := dk_42 (dk_at dksX3_next0_3 7 rfl rfl)
theorem dX3_next0_78 : decode cX3_next0 78 = .ok (.getfield 83, 3) := dk_180 0 83 (dk_at dksX3_next0_3 8 rfl rfl)
theorem dX3_next0_81 : decode cX3_next0 81 = .ok (.invokevirtual 163, 3) := dk_182 0 163 (dk_at dksX3_next0_3 11 rfl rfl)
theorem dX3_next0_84 : decode cX3_next0 84 = .ok (.invokestatic 170, 3) := dk_184 0 170 (dk_at dksX3_next0_3 14 rfl rfl)
theorem dX3_next0_87 : decode cX3_next0 87 = .ok (.ifCond .eq 16, 3) := dk_153 0 16 (dk_at dksX3_next0_3 17 rfl rfl)
theorem dX3_next0_90 : decode cX3_next0 90 = .ok (.aload_n 0, 1) := dk_42 (dk_at dksX3_next0_3 20 rfl rfl)
theorem dX3_next0_91 : decode cX3_next0 91 = .ok (.dup, 1) := dk_89 (dk_at dksX3_next0_3 21 rfl rfl)
theorem dX3_next0_92 : decode cX3_next0 92 = .ok (.getfield 83, 3) := dk_180 0 83 (dk_at dksX3_next0_4 0 rfl rfl)
theorem dX3_next0_95 : decode cX3_next0 95 = .ok (.iconst 1, 1) := dk_4 (dk_at dksX3_next0_4 3 rfl rfl)
theorem dX3_next0_96 : decode cX3_next0 96 = .ok (.iadd, 1) := dk_96 (dk_at dksX3_next0_4 4 rfl rfl)
theorem dX3_next0_97 : decode cX3_next0 97 = .ok (.putfield 83, 3) := dk_181 0 83 (dk_at dksX3_next0_4 5 rfl rfl)
theorem dX3_next0_100 : decode cX3_next0 100 = .ok (.goto (-24), 3) := dk_167 255 232 (dk_at dksX3_next0_4 8 rfl rfl)
theorem dX3_next0_103 : decode cX3_next0 103 = .ok (.aload_n 0, 1) := dk_42 (dk_at dksX3_next0_4 11 rfl rfl)
theorem dX3_next0_104 : decode cX3_next0 104 = .ok (.aload_n 0, 1) := dk_42 (dk_at dksX3_next0_4 12 rfl rfl)
theorem dX3_next0_105 : decode cX3_next0 105 = .ok (.invokevirtual 173, 3) := dk_182 0 173 (dk_at dksX3_next0_4 13 rfl rfl)
theorem dX3_next0_108 : decode cX3_next0 108 = .ok (.putfield 167, 3) := dk_181 0 167 (dk_at dksX3_next0_4 16 rfl rfl)
theorem dX3_next0_111 : decode cX3_next0 111 = .ok (.goto 195, 3) := dk_167 0 195 (dk_at dksX3_next0_4 19 rfl rfl)
theorem dX3_next0_114 : decode cX3_next0 114 = .ok (.iload_n 1, 1) := dk_27 (dk_at dksX3_next0_4 22 rfl rfl)
theorem dX3_next0_115 : decode cX3_next0 115 = .ok (.invokestatic 176, 3) := dk_184 0 176 (dk_at dksX3_next0_5 0 rfl rfl)
theorem dX3_next0_118 : decode cX3_next0 118 = .ok (.ifCond .eq 96, 3) := dk_153 0 96 (dk_at dksX3_next0_5 3 rfl rfl)
theorem dX3_next0_121 : decode cX3_next0 121 = .ok (.aload_n 0, 1) := dk_42 (dk_at dksX3_next0_5 6 rfl rfl)
theorem dX3_next0_122 : decode cX3_next0 122 = .ok (.iconst 0, 1) := dk_3 (dk_at dksX3_next0_5 7 rfl rfl)
theorem dX3_next0_123 : decode cX3_next0 123 = .ok (.putfield 179, 3) := dk_181 0 179 (dk_at dksX3_next0_5 8 rfl rfl)
theorem dX3_next0_126 : decode cX3_next0 126 = .ok (.aload_n 0, 1) := dk_42 (dk_at dksX3_next0_5 11 rfl rfl)
theorem dX3_next0_127 : decode cX3_next0 127 = .ok (.aload_n 0, 1) := dk_42 (dk_at dksX3_next0_5 12 rfl rfl)
theorem dX3_next0_128 : decode cX3_next0 128 = .ok (.getfield 83, 3) := dk_180 0 83 (dk_at dksX3_next0_5 13 rfl rfl)
theorem dX3_next0_131 : decode cX3_next0 131 = .ok (.invokevirtual 163, 3) := dk_182 0 163 (dk_at dksX3_next0_5 16 rfl rfl)
theorem dX3_next0_134 : decode cX3_next0 134 = .ok (.invokestatic 176, 3) := dk_184 0 176 (dk_at dksX3_next0_5 19 rfl rfl)
theorem dX3_next0_137 : decode cX3_next0 137 = .ok (.ifCond .eq 52, 3) := dk_153 0 52 (dk_at dksX3_next0_6 0 rfl rfl)
theorem dX3_next0_140 : decode cX3_next0 140 = .ok (.aload_n 0, 1) := dk_42 (dk_at dksX3_next0_6 3 rfl rfl)
theorem dX3_next0_141 : decode cX3_next0 141 = .ok (.getfield 83, 3) := dk_180 0 83 (dk_at dksX3_next0_6 4 rfl rfl)
theorem dX3_next0_144 : decode cX3_next0 144 = .ok (.aload_n 0, 1) := dk_42 (dk_at dksX3_next0_6 7 rfl rfl)
theorem dX3_next0_145 : decode cX3_next0 145 = .ok (.getfield 86, 3) := dk_180 0 86 (dk_at dksX3_next0_6 8 rfl rfl)
theorem dX3_next0_148 : decode cX3_next0 148 = .ok (.iconst 4, 1) := dk_7 (dk_at dksX3_next0_6 11 rfl rfl)
theorem dX3_next0_149 : decode cX3_next0 149 = .ok (.iadd, 1) := dk_96 (dk_at dksX3_next0_6 12 rfl rfl)
theorem dX3_next0_150 : decode cX3_next0 150 = .ok (.if_icmp .ge 26, 3) := dk_162 0 26 (dk_at dksX3_next0_6 13 rfl rfl)
theorem dX3_next0_153 : decode cX3_next0 153 = .ok (.aload_n 0, 1) := dk_42 (dk_at dksX3_next0_6 16 rfl rfl)
theorem dX3_next0_154 : decode cX3_next0 154 = .ok (.bipush 10, 2) := dk_16 10 (dk_at dksX3_next0_6 17 rfl rfl)
theorem dX3_next0_156 : decode cX3_next0 156 = .ok (.aload_n 0, 1) := dk_42 (dk_at dksX3_next0_6 19 rfl rfl)
theorem dX3_next0_157 : decode cX3_next0 157 = .ok (.getfield 179, 3) := dk_180 0 179 (dk_at dksX3_next0_6 20 rfl rfl)
theorem dX3_next0_160 : decode cX3_next0 160 = .ok (.imul, 1) := dk_104 (dk_at dksX3_next0_6 23 rfl rfl)
theorem dX3_next0_161 : decode cX3_next0 161 = .ok (.aload_n 0, 1) := dk_42 (dk_at dksX3_next0_7 0 rfl rfl)
theorem dX3_next0_162 : decode cX3_next0 162 = .ok (.aload_n 0, 1) := dk_42 (dk_at dksX3_next0_7 1 rfl rfl)
theorem dX3_next0_163 : decode cX3_next0 163 = .ok (.getfield 83, 3) := dk_180 0 83 (dk_at dksX3_next0_7 2 rfl rfl)
theorem dX3_next0_166 : decode cX3_next0 166 = .ok (.invokevirtual 163, 3) := dk_182 0 163 (dk_at dksX3_next0_7 5 rfl rfl)
theorem dX3_next0_169 : decode cX3_next0 169 = .ok (.iadd, 1) := dk_96 (dk_at dksX3_next0_7 8 rfl rfl)
theorem dX3_next0_170 : decode cX3_next0 170 = .ok (.bipush 48, 2) := dk_16 48 (dk_at dksX3_next0_7 9 rfl rfl)
theorem dX3_next0_172 : decode cX3_next0 172 = .ok (.isub, 1) := dk_100 (dk_at dksX3_next0_7 11 rfl rfl)
theorem dX3_next0_173 : decode cX3_next0 173 = .ok (.putfield 179, 3) := dk_181 0 179 (dk_at dksX3_next0_7 12 rfl rfl)
theorem dX3_next0_176 : decode cX3_next0 176 = .ok (.aload_n 0, 1) := dk_42 (dk_at dksX3_next0_7 15 rfl rfl)
theorem dX3_next0_177 : decode cX3_next0 177 = .ok (.dup, 1) := dk_89 (dk_at dksX3_next0_7 16 rfl rfl)
theorem dX3_next0_178 : decode cX3_next0 178 = .ok (.getfield 83, 3) := dk_180 0 83 (dk_at dksX3_next0_7 17 rfl rfl)
theorem dX3_next0_181 : decode cX3_next0 181 = .ok (.iconst 1, 1) := dk_4 (dk_at dksX3_next0_7 20 rfl rfl)
theorem dX3_next0_182 : decode cX3_next0 182 = .ok (.iadd, 1) := dk_96 (dk_at dksX3_next0_7 21 rfl rfl)
theorem dX3_next0_183 : decode cX3_next0 183 = .ok (.putfield 83, 3) := dk_181 0 83 (dk_at dksX3_next0_8 0 rfl rfl)
theorem dX3_next0_186 : decode cX3_next0 186 = .ok (.goto (-60), 3) := dk_167 255 196 (dk_at dksX3_next0_8 3 rfl rfl)
theorem dX3_next0_189 : decode cX3_next0 189 = .ok (.aload_n 0, 1) := dk_42 (dk_at dksX3_next0_8 6 rfl rfl)
theorem dX3_next0_190 : decode cX3_next0 190 = .ok (.aload_n 0, 1) := dk_42 (dk_at dksX3_next0_8 7 rfl rfl)
theorem dX3_next0_191 : decode cX3_next0 191 = .ok (.getfield 83, 3) := dk_180 0 83 (dk_at dksX3_next0_8 8 rfl rfl)
theorem dX3_next0_194 : decode cX3_next0 194 = .ok (.aload_n 0, 1) := dk_42 (dk_at dksX3_next0_8 11 rfl rfl)
theorem dX3_next0_195 : decode cX3_next0 195 = .ok (.getfield 86, 3) := dk_180 0 86 (dk_at dksX3_next0_8 12 rfl rfl)
theorem dX3_next0_198 : decode cX3_next0 198 = .ok (.isub, 1) := dk_100 (dk_at dksX3_next0_8 15 rfl rfl)
theorem dX3_next0_199 : decode cX3_next0 199 = .ok (.iconst 5, 1) := dk_8 (dk_at dksX3_next0_8 16 rfl rfl)
theorem dX3_next0_200 : decode cX3_next0 200 = .ok (.if_icmp .ge 7, 3) := dk_162 0 7 (dk_at dksX3_next0_8 17 rfl rfl)
theorem dX3_next0_203 : decode cX3_next0 203 = .ok (.iconst 2, 1) := dk_5 (dk_at dksX3_next0_8 20 rfl rfl)
theorem dX3_next0_204 : decode cX3_next0 204 = .ok (.goto 4, 3) := dk_167 0 4 (dk_at dksX3_next0_8 21 rfl rfl)
theorem dX3_next0_207 : decode cX3_next0 207 = .ok (.iconst 1, 1) := dk_4 (dk_at dksX3_next0_9 0 rfl rfl)
theorem dX3_next0_208 : decode cX3_next0 208 = .ok (.putfield 167, 3) := dk_181 0 167 (dk_at dksX3_next0_9 1 rfl rfl)
theorem dX3_next0_211 : decode cX3_next0 211 = .ok (.goto 95, 3) := dk_167 0 95 (dk_at dksX3_next0_9 4 rfl rfl)
theorem dX3_next0_214 : decode cX3_next0 214 = .ok (.aload_n 0, 1) := dk_42 (dk_at dksX3_next0_9 7 rfl rfl)
theorem dX3_next0_215 : decode cX3_next0 215 = .ok (.dup, 1) := dk_89 (dk_at dksX3_next0_9 8 rfl rfl)
theorem dX3_next0_216 : decode cX3_next0 216 = .ok (.getfield 83, 3) := dk_180 0 83 (dk_at dksX3_next0_9 9 rfl rfl)
theorem dX3_next0_219 : decode cX3_next0 219 = .ok (.iconst 1, 1) := dk_4 (dk_at dksX3_next0_9 12 rfl rfl)
theorem dX3_next0_220 : decode cX3_next0 220 = .ok (.iadd, 1) := dk_96 (dk_at dksX3_next0_9 13 rfl rfl)
theorem dX3_next0_221 : decode cX3_next0 221 = .ok (.putfield 83, 3) := dk_181 0 83 (dk_at dksX3_next0_9 14 rfl rfl)
theorem dX3_next0_224 : decode cX3_next0 224 = .ok (.iload_n 1, 1) := dk_27 (dk_at dksX3_next0_9 17 rfl rfl)
theorem dX3_next0_225 : decode cX3_next0 225 = .ok (.bipush 59, 2) := dk_16 59 (dk_at dksX3_next0_9 18 rfl rfl)
theorem dX3_next0_227 : decode cX3_next0 227 = .ok (.if_icmp .eq 57, 3) := dk_159 0 57 (dk_at dksX3_next0_9 20 rfl rfl)
theorem dX3_next0_230 : decode cX3_next0 230 = .ok (.iload_n 1, 1) := dk_27 (dk_at dksX3_next0_9 23 rfl rfl)
theorem dX3_next0_231 : decode cX3_next0 231 = .ok (.bipush 43, 2) := dk_16 43 (dk_at dksX3_next0_10 0 rfl rfl)
theorem dX3_next0_233 : decode cX3_next0 233 = .ok (.if_icmp .eq 51, 3) := dk_159 0 51 (dk_at dksX3_next0_10 2 rfl rfl)
theorem dX3_next0_236 : decode cX3_next0 236 = .ok (.iload_n 1, 1) := dk_27 (dk_at dksX3_next0_10 5 rfl rfl)
theorem dX3_next0_237 : decode cX3_next0 237 = .ok (.bipush 45, 2) := dk_16 45 (dk_at dksX3_next0_10 6 rfl rfl)
theorem dX3_next0_239 : decode cX3_next0 239 = .ok (.if_icmp .eq 45, 3) := dk_159 0 45 (dk_at dksX3_next0_10 8 rfl rfl)
theorem dX3_next0_242 : decode cX3_next0 242 = .ok (.iload_n 1, 1) := dk_27 (dk_at dksX3_next0_10 11 rfl rfl)
theorem dX3_next0_243 : decode cX3_next0 243 = .ok (.bipush 42, 2) := dk_16 42 (dk_at dksX3_next0_10 12 rfl rfl)
theorem dX3_next0_245 : decode cX3_next0 245 = .ok (.if_icmp .eq 39, 3) := dk_159 0 39 (dk_at dksX3_next0_10 14 rfl rfl)
theorem dX3_next0_248 : decode cX3_next0 248 = .ok (.iload_n 1, 1) := dk_27 (dk_at dksX3_next0_10 17 rfl rfl)
theorem dX3_next0_249 : decode cX3_next0 249 = .ok (.bipush 47, 2) := dk_16 47 (dk_at dksX3_next0_10 18 rfl rfl)
theorem dX3_next0_251 : decode cX3_next0 251 = .ok (.if_icmp .eq 33, 3) := dk_159 0 33 (dk_at dksX3_next0_10 20 rfl rfl)
theorem dX3_next0_254 : decode cX3_next0 254 = .ok (.iload_n 1, 1) := dk_27 (dk_at dksX3_next0_10 23 rfl rfl)
theorem dX3_next0_255 : decode cX3_next0 255 = .ok (.bipush 40, 2) := dk_16 40 (dk_at dksX3_next0_11 0 rfl rfl)
theorem dX3_next0_257 : decode cX3_next0 257 = .ok (.if_icmp .eq 27, 3) := dk_159 0 27 (dk_at dksX3_next0_11 2 rfl rfl)
theorem dX3_next0_260 : decode cX3_next0 260 = .ok (.iload_n 1, 1) := dk_27 (dk_at dksX3_next0_11 5 rfl rfl)
theorem dX3_next0_261 : decode cX3_next0 261 = .ok (.bipush 41, 2) := dk_16 41 (dk_at dksX3_next0_11 6 rfl rfl)
theorem dX3_next0_263 : decode cX3_next0 263 = .ok (.if_icmp .eq 21, 3) := dk_159 0 21 (dk_at dksX3_next0_11 8 rfl rfl)
theorem dX3_next0_266 : decode cX3_next0 266 = .ok (.iload_n 1, 1) := dk_27 (dk_at dksX3_next0_11 11 rfl rfl)
theorem dX3_next0_267 : decode cX3_next0 267 = .ok (.bipush 60, 2) := dk_16 60 (dk_at dksX3_next0_11 12 rfl rfl)
theorem dX3_next0_269 : decode cX3_next0 269 = .ok (.if_icmp .eq 15, 3) := dk_159 0 15 (dk_at dksX3_next0_11 14 rfl rfl)
theorem dX3_next0_272 : decode cX3_next0 272 = .ok (.iload_n 1, 1) := dk_27 (dk_at dksX3_next0_11 17 rfl rfl)
theorem dX3_next0_273 : decode cX3_next0 273 = .ok (.bipush 61, 2) := dk_16 61 (dk_at dksX3_next0_11 18 rfl rfl)
theorem dX3_next0_275 : decode cX3_next0 275 = .ok (.if_icmp .eq 9, 3) := dk_159 0 9 (dk_at dksX3_next0_11 20 rfl rfl)
theorem dX3_next0_278 : decode cX3_next0 278 = .ok (.iload_n 1, 1) := dk_27 (dk_at dksX3_next0_11 23 rfl rfl)
theorem dX3_next0_279 : decode cX3_next0 279 = .ok (.bipush 62, 2) := dk_16 62 (dk_at dksX3_next0_12 0 rfl rfl)
theorem dX3_next0_281 : decode cX3_next0 281 = .ok (.if_icmp .ne 7, 3) := dk_160 0 7 (dk_at dksX3_next0_12 2 rfl rfl)
theorem dX3_next0_284 : decode cX3_next0 284 = .ok (.iconst 1, 1) := dk_4 (dk_at dksX3_next0_12 5 rfl rfl)
theorem dX3_next0_285 : decode cX3_next0 285 = .ok (.goto 4, 3) := dk_167 0 4 (dk_at dksX3_next0_12 6 rfl rfl)
theorem dX3_next0_288 : decode cX3_next0 288 = .ok (.iconst 0, 1) := dk_3 (dk_at dksX3_next0_12 9 rfl rfl)
theorem dX3_next0_289 : decode cX3_next0 289 = .ok (.istore_n 2, 1) := dk_61 (dk_at dksX3_next0_12 10 rfl rfl)
theorem dX3_next0_290 : decode cX3_next0 290 = .ok (.aload_n 0, 1) := dk_42 (dk_at dksX3_next0_12 11 rfl rfl)
theorem dX3_next0_291 : decode cX3_next0 291 = .ok (.iload_n 2, 1) := dk_28 (dk_at dksX3_next0_12 12 rfl rfl)
theorem dX3_next0_292 : decode cX3_next0 292 = .ok (.ifCond .eq 10, 3) := dk_153 0 10 (dk_at dksX3_next0_12 13 rfl rfl)
theorem dX3_next0_295 : decode cX3_next0 295 = .ok (.bipush 100, 2) := dk_16 100 (dk_at dksX3_next0_12 16 rfl rfl)
theorem dX3_next0_297 : decode cX3_next0 297 = .ok (.iload_n 1, 1) := dk_27 (dk_at dksX3_next0_12 18 rfl rfl)
theorem dX3_next0_298 : decode cX3_next0 298 = .ok (.iadd, 1) := dk_96 (dk_at dksX3_next0_12 19 rfl rfl)
theorem dX3_next0_299 : decode cX3_next0 299 = .ok (.goto 4, 3) := dk_167 0 4 (dk_at dksX3_next0_12 20 rfl rfl)
theorem dX3_next0_302 : decode cX3_next0 302 = .ok (.iconst 1, 1) := dk_4 (dk_at dksX3_next0_12 23 rfl rfl)
theorem dX3_next0_303 : decode cX3_next0 303 = .ok (.putfield 167, 3) := dk_181 0 167 (dk_at dksX3_next0_13 0 rfl rfl)
theorem dX3_next0_306 : decode cX3_next0 306 = .ok (.return_, 1) := dk_177 (dk_at dksX3_next0_13 3 rfl rfl)
abbrev cX3_see : ByteArray := prog_17_method_21_code
def yX3_see : MethodName := ⟨RX3, "see", "(I)I"⟩
def dkwX3_see_0 : List UInt8 := [27, 42, 180, 0, 80, 162, 0, 12, 42, 180, 0, 31, 27, 46, 167, 0, 4, 2, 172]
abbrev dktX3_see_0 : List UInt8 := dkwX3_see_0 ++ []
theorem dksX3_see_0 : cX3_see.data.toList.drop 0 = dktX3_see_0 := by decide +kernel
theorem dX3_see_0 : decode cX3_see 0 = .ok (.iload_n 1, 1) := dk_27 (dk_at dksX3_see_0 0 rfl rfl)
theorem dX3_see_1 : decode cX3_see 1 = .ok (.aload_n 0, 1) := dk_42 (dk_at dksX3_see_0 1 rfl rfl)
theorem dX3_see_2 : decode cX3_see 2 = .ok (.getfield 80, 3) := dk_180 0 80 (dk_at dksX3_see_0 2 rfl rfl)
theorem dX3_see_5 : decode cX3_see 5 = .ok (.if_icmp .ge 12, 3) := dk_162 0 12 (dk_at dksX3_see_0 5 rfl rfl)
theorem dX3_see_8 : decode cX3_see 8 = .ok (.aload_n 0, 1) := dk_42 (dk_at dksX3_see_0 8 rfl rfl)
theorem dX3_see_9 : decode cX3_see 9 = .ok (.getfield 31, 3) := dk_180 0 31 (dk_at dksX3_see_0 9 rfl rfl)
theorem dX3_see_12 : decode cX3_see 12 = .ok (.iload_n 1, 1) := dk_27 (dk_at dksX3_see_0 12 rfl rfl)
theorem dX3_see_13 : decode cX3_see 13 = .ok (.iaload, 1) := dk_46 (dk_at dksX3_see_0 13 rfl rfl)
theorem dX3_see_14 : decode cX3_see 14 = .ok (.goto 4, 3) := dk_167 0 4 (dk_at dksX3_see_0 14 rfl rfl)
theorem dX3_see_17 : decode cX3_see 17 = .ok (.iconst (-1), 1) := dk_2 (dk_at dksX3_see_0 17 rfl rfl)
theorem dX3_see_18 : decode cX3_see 18 = .ok (.ireturn, 1) := dk_172 (dk_at dksX3_see_0 18 rfl rfl)
abbrev cX3_isLetter : ByteArray := prog_17_method_22_code
def yX3_isLetter : MethodName := ⟨RX3, "isLetter", "(I)Z"⟩
def dkwX3_isLetter_1 : List UInt8 := [167, 0, 4, 3, 172]
abbrev dktX3_isLetter_1 : List UInt8 := dkwX3_isLetter_1 ++ []
def dkwX3_isLetter_0 : List UInt8 := [26, 16, 97, 16, 122, 184, 0, 54, 154, 0, 14, 26, 16, 65, 16, 90, 184, 0, 54, 153, 0, 7, 4]
abbrev dktX3_isLetter_0 : List UInt8 := dkwX3_isLetter_0 ++ dktX3_isLetter_1
theorem dksX3_isLetter_0 : cX3_isLetter.data.toList.drop 0 = dktX3_isLetter_0 := by decide +kernel
theorem dksX3_isLetter_1 : cX3_isLetter.data.toList.drop 23 = dktX3_isLetter_1 := dk_seg dksX3_isLetter_0 23 rfl rfl
theorem dX3_isLetter_0 : decode cX3_isLetter 0 = .ok (.iload_n 0, 1) := dk_26 (dk_at dksX3_isLetter_0 0 rfl rfl)
theorem dX3_isLetter_1 : decode cX3_isLetter 1 = .ok (.bipush 97, 2) := dk_16 97 (dk_at dksX3_isLetter_0 1 rfl rfl)
theorem dX3_isLetter_3 : decode cX3_isLetter 3 = .ok (.bipush 122, 2) := dk_16 122 (dk_at dksX3_isLetter_0 3 rfl rfl)
theorem dX3_isLetter_5 : decode cX3_isLetter 5 = .ok (.invokestatic 54, 3) := dk_184 0 54 (dk_at dksX3_isLetter_0 5 rfl rfl)
theorem dX3_isLetter_8 : decode cX3_isLetter 8 = .ok (.ifCond .ne 14, 3) := dk_154 0 14 (dk_at dksX3_isLetter_0 8 rfl rfl)
theorem dX3_isLetter_11 : decode cX3_isLetter 11 = .ok (.iload_n 0, 1) := dk_26 (dk_at dksX3_isLetter_0 11 rfl rfl)
theorem dX3_isLetter_12 : decode cX3_isLetter 12 = .ok (.bipush 65, 2) := dk_16 65 (dk_at dksX3_isLetter_0 12 rfl rfl)
theorem dX3_isLetter_14 : decode cX3_isLetter 14 = .ok (.bipush 90, 2) := dk_16 90 (dk_at dksX3_isLetter_0 14 rfl rfl)
theorem dX3_isLetter_16 : decode cX3_isLetter 16 = .ok (.invokestatic 54, 3) := dk_184 0 54 (dk_at dksX3_isLetter_0 16 rfl rfl)
theorem dX3_isLetter_19 : decode cX3_isLetter 19 = .ok (.ifCond .eq 7, 3) := dk_153 0 7 (dk_at dksX3_isLetter_0 19 rfl rfl)
theorem dX3_isLetter_22 : decode cX3_isLetter 22 = .ok (.iconst 1, 1) := dk_4 (dk_at dksX3_isLetter_0 22 rfl rfl)
theorem dX3_isLetter_23 : decode cX3_isLetter 23 = .ok (.goto 4, 3) := dk_167 0 4 (dk_at dksX3_isLetter_1 0 rfl rfl)
theorem dX3_isLetter_26 : decode cX3_isLetter 26 = .ok (.iconst 0, 1) := dk_3 (dk_at dksX3_isLetter_1 3 rfl rfl)
theorem dX3_isLetter_27 : decode cX3_isLetter 27 = .ok (.ireturn, 1) := dk_172 (dk_at dksX3_isLetter_1 4 rfl rfl)
abbrev cX3_word : ByteArray := prog_17_method_28_code
def yX3_word : MethodName := ⟨RX3, "word", "()I"⟩
def dkwX3_word_5 : List UInt8 := [182, 0, 101, 153, 0, 8, 16, 12, 167, 0, 4, 4, 172]
abbrev dktX3_word_5 : List UInt8 := dkwX3_word_5 ++ []
def dkwX3_word_4 : List UInt8 := [16, 14, 167, 0, 4, 4, 172, 42, 18, 113, 182, 0, 101, 153, 0, 8, 16, 15, 167, 0, 18, 42, 18, 99]
abbrev dktX3_word_4 : List UInt8 := dkwX3_word_4 ++ dktX3_word_5
def dkwX3_word_3 : List UInt8 := [42, 18, 159, 182, 0, 101, 153, 0, 8, 16, 13, 167, 0, 18, 42, 18, 161, 182, 0, 101, 153, 0, 8]
abbrev dktX3_word_3 : List UInt8 := dkwX3_word_3 ++ dktX3_word_4
def dkwX3_word_2 : List UInt8 := [42, 182, 0, 153, 172, 42, 182, 0, 156, 172, 42, 18, 99, 182, 0, 101, 153, 0, 8, 16, 12, 167, 0, 32]
abbrev dktX3_word_2 : List UInt8 := dkwX3_word_2 ++ dktX3_word_3
def dkwX3_word_1 : List UInt8 := [170, 0, 0, 0, 0, 0, 0, 82, 0, 0, 0, 0, 0, 0, 0, 2, 0, 0, 0, 28, 0, 0, 0, 33, 0, 0, 0, 38]
abbrev dktX3_word_1 : List UInt8 := dkwX3_word_1 ++ dktX3_word_2
def dkwX3_word_0 : List UInt8 := [42, 180, 0, 150]
abbrev dktX3_word_0 : List UInt8 := dkwX3_word_0 ++ dktX3_word_1
theorem dksX3_word_0 : cX3_word.data.toList.drop 0 = dktX3_word_0 := by decide +kernel
theorem dksX3_word_1 : cX3_word.data.toList.drop 4 = dktX3_word_1 := dk_seg dksX3_word_0 4 rfl rfl
theorem dksX3_word_2 : cX3_word.data.toList.drop 32 = dktX3_word_2 := dk_seg dksX3_word_1 28 rfl rfl
theorem dksX3_word_3 : cX3_word.data.toList.drop 56 = dktX3_word_3 := dk_seg dksX3_word_2 24 rfl rfl
theorem dksX3_word_4 : cX3_word.data.toList.drop 79 = dktX3_word_4 := dk_seg dksX3_word_3 23 rfl rfl
theorem dksX3_word_5 : cX3_word.data.toList.drop 103 = dktX3_word_5 := dk_seg dksX3_word_4 24 rfl rfl
theorem dX3_word_0 : decode cX3_word 0 = .ok (.aload_n 0, 1) := dk_42 (dk_at dksX3_word_0 0 rfl rfl)
theorem dX3_word_1 : decode cX3_word 1 = .ok (.getfield 150, 3) := dk_180 0 150 (dk_at dksX3_word_0 1 rfl rfl)
theorem dX3_word_4 : decode cX3_word 4 = .ok (.tableswitch 82 0 2 #[28, 33, 38], 28) := by decide +kernel
theorem dX3_word_32 : decode cX3_word 32 = .ok (.aload_n 0, 1) := dk_42 (dk_at dksX3_word_2 0 rfl rfl)
theorem dX3_word_33 : decode cX3_word 33 = .ok (.invokevirtual 153, 3) := dk_182 0 153 (dk_at dksX3_word_2 1 rfl rfl)
theorem dX3_word_36 : decode cX3_word 36 = .ok (.ireturn, 1) := dk_172 (dk_at dksX3_word_2 4 rfl rfl)
theorem dX3_word_37 : decode cX3_word 37 = .ok (.aload_n 0, 1) := dk_42 (dk_at dksX3_word_2 5 rfl rfl)
theorem dX3_word_38 : decode cX3_word 38 = .ok (.invokevirtual 156, 3) := dk_182 0 156 (dk_at dksX3_word_2 6 rfl rfl)
theorem dX3_word_41 : decode cX3_word 41 = .ok (.ireturn, 1) := dk_172 (dk_at dksX3_word_2 9 rfl rfl)
theorem dX3_word_42 : decode cX3_word 42 = .ok (.aload_n 0, 1) := dk_42 (dk_at dksX3_word_2 10 rfl rfl)
theorem dX3_word_43 : decode cX3_word 43 = .ok (.ldc 99, 2) := dk_18 99 (dk_at dksX3_word_2 11 rfl rfl)
theorem dX3_word_45 : decode cX3_word 45 = .ok (.invokevirtual 101, 3) := dk_182 0 101 (dk_at dksX3_word_2 13 rfl rfl)
theorem dX3_word_48 : decode cX3_word 48 = .ok (.ifCond .eq 8, 3) := dk_153 0 8 (dk_at dksX3_word_2 16 rfl rfl)
theorem dX3_word_51 : decode cX3_word 51 = .ok (.bipush 12, 2) := dk_16 12 (dk_at dksX3_word_2 19 rfl rfl)
theorem dX3_word_53 : decode cX3_word 53 = .ok (.goto 32, 3) := dk_167 0 32 (dk_at dksX3_word_2 21 rfl rfl)
theorem dX3_word_56 : decode cX3_word 56 = .ok (.aload_n 0, 1) := dk_42 (dk_at dksX3_word_3 0 rfl rfl)
theorem dX3_word_57 : decode cX3_word 57 = .ok (.ldc 159, 2) := dk_18 159 (dk_at dksX3_word_3 1 rfl rfl)
theorem dX3_word_59 : decode cX3_word 59 = .ok (.invokevirtual 101, 3) := dk_182 0 101 (dk_at dksX3_word_3 3 rfl rfl)
theorem dX3_word_62 : decode cX3_word 62 = .ok (.ifCond .eq 8, 3) := dk_153 0 8 (dk_at dksX3_word_3 6 rfl rfl)
theorem dX3_word_65 : decode cX3_word 65 = .ok (.bipush 13, 2) := dk_16 13 (dk_at dksX3_word_3 9 rfl rfl)
theorem dX3_word_67 : decode cX3_word 67 = .ok (.goto 18, 3) := dk_167 0 18 (dk_at dksX3_word_3 11 rfl rfl)
theorem dX3_word_70 : decode cX3_word 70 = .ok (.aload_n 0, 1) := dk_42 (dk_at dksX3_word_3 14 rfl rfl)
theorem dX3_word_71 : decode cX3_word 71 = .ok (.ldc 161, 2) := dk_18 161 (dk_at dksX3_word_3 15 rfl rfl)
theorem dX3_word_73 : decode cX3_word 73 = .ok (.invokevirtual 101, 3) := dk_182 0 101 (dk_at dksX3_word_3 17 rfl rfl)
theorem dX3_word_76 : decode cX3_word 76 = .ok (.ifCond .eq 8, 3) := dk_153 0 8 (dk_at dksX3_word_3 20 rfl rfl)
theorem dX3_word_79 : decode cX3_word 79 = .ok (.bipush 14, 2) := dk_16 14 (dk_at dksX3_word_4 0 rfl rfl)
theorem dX3_word_81 : decode cX3_word 81 = .ok (.goto 4, 3) := dk_167 0 4 (dk_at dksX3_word_4 2 rfl rfl)
theorem dX3_word_84 : decode cX3_word 84 = .ok (.iconst 1, 1) := dk_4 (dk_at dksX3_word_4 5 rfl rfl)
theorem dX3_word_85 : decode cX3_word 85 = .ok (.ireturn, 1) := dk_172 (dk_at dksX3_word_4 6 rfl rfl)
theorem dX3_word_86 : decode cX3_word 86 = .ok (.aload_n 0, 1) := dk_42 (dk_at dksX3_word_4 7 rfl rfl)
theorem dX3_word_87 : decode cX3_word 87 = .ok (.ldc 113, 2) := dk_18 113 (dk_at dksX3_word_4 8 rfl rfl)
theorem dX3_word_89 : decode cX3_word 89 = .ok (.invokevirtual 101, 3) := dk_182 0 101 (dk_at dksX3_word_4 10 rfl rfl)
theorem dX3_word_92 : decode cX3_word 92 = .ok (.ifCond .eq 8, 3) := dk_153 0 8 (dk_at dksX3_word_4 13 rfl rfl)
theorem dX3_word_95 : decode cX3_word 95 = .ok (.bipush 15, 2) := dk_16 15 (dk_at dksX3_word_4 16 rfl rfl)
theorem dX3_word_97 : decode cX3_word 97 = .ok (.goto 18, 3) := dk_167 0 18 (dk_at dksX3_word_4 18 rfl rfl)
theorem dX3_word_100 : decode cX3_word 100 = .ok (.aload_n 0, 1) := dk_42 (dk_at dksX3_word_4 21 rfl rfl)
theorem dX3_word_101 : decode cX3_word 101 = .ok (.ldc 99, 2) := dk_18 99 (dk_at dksX3_word_4 22 rfl rfl)
theorem dX3_word_103 : decode cX3_word 103 = .ok (.invokevirtual 101, 3) := dk_182 0 101 (dk_at dksX3_word_5 0 rfl rfl)
theorem dX3_word_106 : decode cX3_word 106 = .ok (.ifCond .eq 8, 3) := dk_153 0 8 (dk_at dksX3_word_5 3 rfl rfl)
theorem dX3_word_109 : decode cX3_word 109 = .ok (.bipush 12, 2) := dk_16 12 (dk_at dksX3_word_5 6 rfl rfl)
theorem dX3_word_111 : decode cX3_word 111 = .ok (.goto 4, 3) := dk_167 0 4 (dk_at dksX3_word_5 8 rfl rfl)
theorem dX3_word_114 : decode cX3_word 114 = .ok (.iconst 1, 1) := dk_4 (dk_at dksX3_word_5 11 rfl rfl)
theorem dX3_word_115 : decode cX3_word 115 = .ok (.ireturn, 1) := dk_172 (dk_at dksX3_word_5 12 rfl rfl)
abbrev cX3_lawWord : ByteArray := prog_17_method_26_code
def yX3_lawWord : MethodName := ⟨RX3, "lawWord", "()I"⟩
def dkwX3_lawWord_4 : List UInt8 := [167, 0, 7, 42, 182, 0, 137, 172]
abbrev dktX3_lawWord_4 : List UInt8 := dkwX3_lawWord_4 ++ []
def dkwX3_lawWord_3 : List UInt8 := [18, 133, 182, 0, 101, 153, 0, 6, 16, 22, 172, 42, 18, 135, 182, 0, 101, 153, 0, 8, 16, 23]
abbrev dktX3_lawWord_3 : List UInt8 := dkwX3_lawWord_3 ++ dktX3_lawWord_4
def dkwX3_lawWord_2 : List UInt8 := [18, 129, 182, 0, 101, 153, 0, 6, 16, 20, 172, 42, 18, 131, 182, 0, 101, 153, 0, 6, 16, 21, 172, 42]
abbrev dktX3_lawWord_2 : List UInt8 := dkwX3_lawWord_2 ++ dktX3_lawWord_3
def dkwX3_lawWord_1 : List UInt8 := [18, 125, 182, 0, 101, 153, 0, 5, 8, 172, 42, 18, 127, 182, 0, 101, 153, 0, 6, 16, 6, 172, 42]
abbrev dktX3_lawWord_1 : List UInt8 := dkwX3_lawWord_1 ++ dktX3_lawWord_2
def dkwX3_lawWord_0 : List UInt8 := [42, 18, 121, 182, 0, 101, 153, 0, 5, 6, 172, 42, 18, 123, 182, 0, 101, 153, 0, 5, 7, 172, 42]
abbrev dktX3_lawWord_0 : List UInt8 := dkwX3_lawWord_0 ++ dktX3_lawWord_1
theorem dksX3_lawWord_0 : cX3_lawWord.data.toList.drop 0 = dktX3_lawWord_0 := by decide +kernel
theorem dksX3_lawWord_1 : cX3_lawWord.data.toList.drop 23 = dktX3_lawWord_1 := dk_seg dksX3_lawWord_0 23 rfl rfl
theorem dksX3_lawWord_2 : cX3_lawWord.data.toList.drop 46 = dktX3_lawWord_2 := dk_seg dksX3_lawWord_1 23 rfl rfl
theorem dksX3_lawWord_3 : cX3_lawWord.data.toList.drop 70 = dktX3_lawWord_3 := dk_seg dksX3_lawWord_2 24 rfl rfl
theorem dksX3_lawWord_4 : cX3_lawWord.data.toList.drop 92 = dktX3_lawWord_4 := dk_seg dksX3_lawWord_3 22 rfl rfl
theorem dX3_lawWord_0 : decode cX3_lawWord 0 = .ok (.aload_n 0, 1) := dk_42 (dk_at dksX3_lawWord_0 0 rfl rfl)
theorem dX3_lawWord_1 : decode cX3_lawWord 1 = .ok (.ldc 121, 2) := dk_18 121 (dk_at dksX3_lawWord_0 1 rfl rfl)
theorem dX3_lawWord_3 : decode cX3_lawWord 3 = .ok (.invokevirtual 101, 3) := dk_182 0 101 (dk_at dksX3_lawWord_0 3 rfl rfl)
theorem dX3_lawWord_6 : decode cX3_lawWord 6 = .ok (.ifCond .eq 5, 3) := dk_153 0 5 (dk_at dksX3_lawWord_0 6 rfl rfl)
theorem dX3_lawWord_9 : decode cX3_lawWord 9 = .ok (.iconst 3, 1) := dk_6 (dk_at dksX3_lawWord_0 9 rfl rfl)
theorem dX3_lawWord_10 : decode cX3_lawWord 10 = .ok (.ireturn, 1) := dk_172 (dk_at dksX3_lawWord_0 10 rfl rfl)
theorem dX3_lawWord_11 : decode cX3_lawWord 11 = .ok (.aload_n 0, 1) := dk_42 (dk_at dksX3_lawWord_0 11 rfl rfl)
theorem dX3_lawWord_12 : decode cX3_lawWord 12 = .ok (.ldc 123, 2) := dk_18 123 (dk_at dksX3_lawWord_0 12 rfl rfl)
theorem dX3_lawWord_14 : decode cX3_lawWord 14 = .ok (.invokevirtual 101, 3) := dk_182 0 101 (dk_at dksX3_lawWord_0 14 rfl rfl)
theorem dX3_lawWord_17 : decode cX3_lawWord 17 = .ok (.ifCond .eq 5, 3) := dk_153 0 5 (dk_at dksX3_lawWord_0 17 rfl rfl)
theorem dX3_lawWord_20 : decode cX3_lawWord 20 = .ok (.iconst 4, 1) := dk_7 (dk_at dksX3_lawWord_0 20 rfl rfl)
theorem dX3_lawWord_21 : decode cX3_lawWord 21 = .ok (.ireturn, 1) := dk_172 (dk_at dksX3_lawWord_0 21 rfl rfl)
theorem dX3_lawWord_22 : decode cX3_lawWord 22 = .ok (.aload_n 0, 1) := dk_42 (dk_at dksX3_lawWord_0 22 rfl rfl)
theorem dX3_lawWord_23 : decode cX3_lawWord 23 = .ok (.ldc 125, 2) := dk_18 125 (dk_at dksX3_lawWord_1 0 rfl rfl)
theorem dX3_lawWord_25 : decode cX3_lawWord 25 = .ok (.invokevirtual 101, 3) := dk_182 0 101 (dk_at dksX3_lawWord_1 2 rfl rfl)
theorem dX3_lawWord_28 : decode cX3_lawWord 28 = .ok (.ifCond .eq 5, 3) := dk_153 0 5 (dk_at dksX3_lawWord_1 5 rfl rfl)
theorem dX3_lawWord_31 : decode cX3_lawWord 31 = .ok (.iconst 5, 1) := dk_8 (dk_at dksX3_lawWord_1 8 rfl rfl)
theorem dX3_lawWord_32 : decode cX3_lawWord 32 = .ok (.ireturn, 1) := dk_172 (dk_at dksX3_lawWord_1 9 rfl rfl)
theorem dX3_lawWord_33 : decode cX3_lawWord 33 = .ok (.aload_n 0, 1) := dk_42 (dk_at dksX3_lawWord_1 10 rfl rfl)
theorem dX3_lawWord_34 : decode cX3_lawWord 34 = .ok (.ldc 127, 2) := dk_18 127 (dk_at dksX3_lawWord_1 11 rfl rfl)
theorem dX3_lawWord_36 : decode cX3_lawWord 36 = .ok (.invokevirtual 101, 3) := dk_182 0 101 (dk_at dksX3_lawWord_1 13 rfl rfl)
theorem dX3_lawWord_39 : decode cX3_lawWord 39 = .ok (.ifCond .eq 6, 3) := dk_153 0 6 (dk_at dksX3_lawWord_1 16 rfl rfl)
theorem dX3_lawWord_42 : decode cX3_lawWord 42 = .ok (.bipush 6, 2) := dk_16 6 (dk_at dksX3_lawWord_1 19 rfl rfl)
theorem dX3_lawWord_44 : decode cX3_lawWord 44 = .ok (.ireturn, 1) := dk_172 (dk_at dksX3_lawWord_1 21 rfl rfl)
theorem dX3_lawWord_45 : decode cX3_lawWord 45 = .ok (.aload_n 0, 1) := dk_42 (dk_at dksX3_lawWord_1 22 rfl rfl)
theorem dX3_lawWord_46 : decode cX3_lawWord 46 = .ok (.ldc 129, 2) := dk_18 129 (dk_at dksX3_lawWord_2 0 rfl rfl)
theorem dX3_lawWord_48 : decode cX3_lawWord 48 = .ok (.invokevirtual 101, 3) := dk_182 0 101 (dk_at dksX3_lawWord_2 2 rfl rfl)
theorem dX3_lawWord_51 : decode cX3_lawWord 51 = .ok (.ifCond .eq 6, 3) := dk_153 0 6 (dk_at dksX3_lawWord_2 5 rfl rfl)
theorem dX3_lawWord_54 : decode cX3_lawWord 54 = .ok (.bipush 20, 2) := dk_16 20 (dk_at dksX3_lawWord_2 8 rfl rfl)
theorem dX3_lawWord_56 : decode cX3_lawWord 56 = .ok (.ireturn, 1) := dk_172 (dk_at dksX3_lawWord_2 10 rfl rfl)
theorem dX3_lawWord_57 : decode cX3_lawWord 57 = .ok (.aload_n 0, 1) := dk_42 (dk_at dksX3_lawWord_2 11 rfl rfl)
theorem dX3_lawWord_58 : decode cX3_lawWord 58 = .ok (.ldc 131, 2) := dk_18 131 (dk_at dksX3_lawWord_2 12 rfl rfl)
theorem dX3_lawWord_60 : decode cX3_lawWord 60 = .ok (.invokevirtual 101, 3) := dk_182 0 101 (dk_at dksX3_lawWord_2 14 rfl rfl)
theorem dX3_lawWord_63 : decode cX3_lawWord 63 = .ok (.ifCond .eq 6, 3) := dk_153 0 6 (dk_at dksX3_lawWord_2 17 rfl rfl)
theorem dX3_lawWord_66 : decode cX3_lawWord 66 = .ok (.bipush 21, 2) := dk_16 21 (dk_at dksX3_lawWord_2 20 rfl rfl)
theorem dX3_lawWord_68 : decode cX3_lawWord 68 = .ok (.ireturn, 1) := dk_172 (dk_at dksX3_lawWord_2 22 rfl rfl)
theorem dX3_lawWord_69 : decode cX3_lawWord 69 = .ok (.aload_n 0, 1) := dk_42 (dk_at dksX3_lawWord_2 23 rfl rfl)
theorem dX3_lawWord_70 : decode cX3_lawWord 70 = .ok (.ldc 133, 2) := dk_18 133 (dk_at dksX3_lawWord_3 0 rfl rfl)
theorem dX3_lawWord_72 : decode cX3_lawWord 72 = .ok (.invokevirtual 101, 3) := dk_182 0 101 (dk_at dksX3_lawWord_3 2 rfl rfl)
theorem dX3_lawWord_75 : decode cX3_lawWord 75 = .ok (.ifCond .eq 6, 3) := dk_153 0 6 (dk_at dksX3_lawWord_3 5 rfl rfl)
theorem dX3_lawWord_78 : decode cX3_lawWord 78 = .ok (.bipush 22, 2) := dk_16 22 (dk_at dksX3_lawWord_3 8 rfl rfl)
theorem dX3_lawWord_80 : decode cX3_lawWord 80 = .ok (.ireturn, 1) := dk_172 (dk_at dksX3_lawWord_3 10 rfl rfl)
theorem dX3_lawWord_81 : decode cX3_lawWord 81 = .ok (.aload_n 0, 1) := dk_42 (dk_at dksX3_lawWord_3 11 rfl rfl)
theorem dX3_lawWord_82 : decode cX3_lawWord 82 = .ok (.ldc 135, 2) := dk_18 135 (dk_at dksX3_lawWord_3 12 rfl rfl)
theorem dX3_lawWord_84 : decode cX3_lawWord 84 = .ok (.invokevirtual 101, 3) := dk_182 0 101 (dk_at dksX3_lawWord_3 14 rfl rfl)
theorem dX3_lawWord_87 : decode cX3_lawWord 87 = .ok (.ifCond .eq 8, 3) := dk_153 0 8 (dk_at dksX3_lawWord_3 17 rfl rfl)
theorem dX3_lawWord_90 : decode cX3_lawWord 90 = .ok (.bipush 23, 2) := dk_16 23 (dk_at dksX3_lawWord_3 20 rfl rfl)
theorem dX3_lawWord_92 : decode cX3_lawWord 92 = .ok (.goto 7, 3) := dk_167 0 7 (dk_at dksX3_lawWord_4 0 rfl rfl)
theorem dX3_lawWord_95 : decode cX3_lawWord 95 = .ok (.aload_n 0, 1) := dk_42 (dk_at dksX3_lawWord_4 3 rfl rfl)
theorem dX3_lawWord_96 : decode cX3_lawWord 96 = .ok (.invokevirtual 137, 3) := dk_182 0 137 (dk_at dksX3_lawWord_4 4 rfl rfl)
theorem dX3_lawWord_99 : decode cX3_lawWord 99 = .ok (.ireturn, 1) := dk_172 (dk_at dksX3_lawWord_4 7 rfl rfl)
abbrev cX3_is : ByteArray := prog_17_method_24_code
def yX3_is : MethodName := ⟨RX3, "is", "(Ljava/lang/String;)Z"⟩
def dkwX3_is_2 : List UInt8 := [29, 182, 0, 95, 160, 0, 7, 4, 167, 0, 4, 3, 61, 132, 3, 1, 167, 255, 216, 28, 172]
abbrev dktX3_is_2 : List UInt8 := dkwX3_is_2 ++ []
def dkwX3_is_1 : List UInt8 := [29, 43, 182, 0, 89, 162, 0, 38, 28, 153, 0, 34, 42, 180, 0, 31, 42, 180, 0, 86, 29, 96, 46, 43]
abbrev dktX3_is_1 : List UInt8 := dkwX3_is_1 ++ dktX3_is_2
def dkwX3_is_0 : List UInt8 := [42, 180, 0, 83, 42, 180, 0, 86, 100, 43, 182, 0, 89, 160, 0, 7, 4, 167, 0, 4, 3, 61, 3, 62]
abbrev dktX3_is_0 : List UInt8 := dkwX3_is_0 ++ dktX3_is_1
theorem dksX3_is_0 : cX3_is.data.toList.drop 0 = dktX3_is_0 := by decide +kernel
theorem dksX3_is_1 : cX3_is.data.toList.drop 24 = dktX3_is_1 := dk_seg dksX3_is_0 24 rfl rfl
theorem dksX3_is_2 : cX3_is.data.toList.drop 48 = dktX3_is_2 := dk_seg dksX3_is_1 24 rfl rfl
theorem dX3_is_0 : decode cX3_is 0 = .ok (.aload_n 0, 1) := dk_42 (dk_at dksX3_is_0 0 rfl rfl)
theorem dX3_is_1 : decode cX3_is 1 = .ok (.getfield 83, 3) := dk_180 0 83 (dk_at dksX3_is_0 1 rfl rfl)
theorem dX3_is_4 : decode cX3_is 4 = .ok (.aload_n 0, 1) := dk_42 (dk_at dksX3_is_0 4 rfl rfl)
theorem dX3_is_5 : decode cX3_is 5 = .ok (.getfield 86, 3) := dk_180 0 86 (dk_at dksX3_is_0 5 rfl rfl)
theorem dX3_is_8 : decode cX3_is 8 = .ok (.isub, 1) := dk_100 (dk_at dksX3_is_0 8 rfl rfl)
theorem dX3_is_9 : decode cX3_is 9 = .ok (.aload_n 1, 1) := dk_43 (dk_at dksX3_is_0 9 rfl rfl)
theorem dX3_is_10 : decode cX3_is 10 = .ok (.invokevirtual 89, 3) := dk_182 0 89 (dk_at dksX3_is_0 10 rfl rfl)
theorem dX3_is_13 : decode cX3_is 13 = .ok (.if_icmp .ne 7, 3) := dk_160 0 7 (dk_at dksX3_is_0 13 rfl rfl)
theorem dX3_is_16 : decode cX3_is 16 = .ok (.iconst 1, 1) := dk_4 (dk_at dksX3_is_0 16 rfl rfl)
theorem dX3_is_17 : decode cX3_is 17 = .ok (.goto 4, 3) := dk_167 0 4 (dk_at dksX3_is_0 17 rfl rfl)
theorem dX3_is_20 : decode cX3_is 20 = .ok (.iconst 0, 1) := dk_3 (dk_at dksX3_is_0 20 rfl rfl)
theorem dX3_is_21 : decode cX3_is 21 = .ok (.istore_n 2, 1) := dk_61 (dk_at dksX3_is_0 21 rfl rfl)
theorem dX3_is_22 : decode cX3_is 22 = .ok (.iconst 0, 1) := dk_3 (dk_at dksX3_is_0 22 rfl rfl)
theorem dX3_is_23 : decode cX3_is 23 = .ok (.istore_n 3, 1) := dk_62 (dk_at dksX3_is_0 23 rfl rfl)
theorem dX3_is_24 : decode cX3_is 24 = .ok (.iload_n 3, 1) := dk_29 (dk_at dksX3_is_1 0 rfl rfl)
theorem dX3_is_25 : decode cX3_is 25 = .ok (.aload_n 1, 1) := dk_43 (dk_at dksX3_is_1 1 rfl rfl)
theorem dX3_is_26 : decode cX3_is 26 = .ok (.invokevirtual 89, 3) := dk_182 0 89 (dk_at dksX3_is_1 2 rfl rfl)
theorem dX3_is_29 : decode cX3_is 29 = .ok (.if_icmp .ge 38, 3) := dk_162 0 38 (dk_at dksX3_is_1 5 rfl rfl)
theorem dX3_is_32 : decode cX3_is 32 = .ok (.iload_n 2, 1) := dk_28 (dk_at dksX3_is_1 8 rfl rfl)
theorem dX3_is_33 : decode cX3_is 33 = .ok (.ifCond .eq 34, 3) := dk_153 0 34 (dk_at dksX3_is_1 9 rfl rfl)
theorem dX3_is_36 : decode cX3_is 36 = .ok (.aload_n 0, 1) := dk_42 (dk_at dksX3_is_1 12 rfl rfl)
theorem dX3_is_37 : decode cX3_is 37 = .ok (.getfield 31, 3) := dk_180 0 31 (dk_at dksX3_is_1 13 rfl rfl)
theorem dX3_is_40 : decode cX3_is 40 = .ok (.aload_n 0, 1) := dk_42 (dk_at dksX3_is_1 16 rfl rfl)
theorem dX3_is_41 : decode cX3_is 41 = .ok (.getfield 86, 3) := dk_180 0 86 (dk_at dksX3_is_1 17 rfl rfl)
theorem dX3_is_44 : decode cX3_is 44 = .ok (.iload_n 3, 1) := dk_29 (dk_at dksX3_is_1 20 rfl rfl)
theorem dX3_is_45 : decode cX3_is 45 = .ok (.iadd, 1) := dk_96 (dk_at dksX3_is_1 21 rfl rfl)
theorem dX3_is_46 : decode cX3_is 46 = .ok (.iaload, 1) := dk_46 (dk_at dksX3_is_1 22 rfl rfl)
theorem dX3_is_47 : decode cX3_is 47 = .ok (.aload_n 1, 1) := dk_43 (dk_at dksX3_is_1 23 rfl rfl)
theorem dX3_is_48 : decode cX3_is 48 = .ok (.iload_n 3, 1) := dk_29 (dk_at dksX3_is_2 0 rfl rfl)
theorem dX3_is_49 : decode cX3_is 49 = .ok (.invokevirtual 95, 3) := dk_182 0 95 (dk_at dksX3_is_2 1 rfl rfl)
theorem dX3_is_52 : decode cX3_is 52 = .ok (.if_icmp .ne 7, 3) := dk_160 0 7 (dk_at dksX3_is_2 4 rfl rfl)
theorem dX3_is_55 : decode cX3_is 55 = .ok (.iconst 1, 1) := dk_4 (dk_at dksX3_is_2 7 rfl rfl)
theorem dX3_is_56 : decode cX3_is 56 = .ok (.goto 4, 3) := dk_167 0 4 (dk_at dksX3_is_2 8 rfl rfl)
theorem dX3_is_59 : decode cX3_is 59 = .ok (.iconst 0, 1) := dk_3 (dk_at dksX3_is_2 11 rfl rfl)
theorem dX3_is_60 : decode cX3_is 60 = .ok (.istore_n 2, 1) := dk_61 (dk_at dksX3_is_2 12 rfl rfl)
theorem dX3_is_61 : decode cX3_is 61 = .ok (.iinc 3 1, 3) := dk_132 3 1 (dk_at dksX3_is_2 13 rfl rfl)
theorem dX3_is_64 : decode cX3_is 64 = .ok (.goto (-40), 3) := dk_167 255 216 (dk_at dksX3_is_2 16 rfl rfl)
theorem dX3_is_67 : decode cX3_is 67 = .ok (.iload_n 2, 1) := dk_28 (dk_at dksX3_is_2 19 rfl rfl)
theorem dX3_is_68 : decode cX3_is 68 = .ok (.ireturn, 1) := dk_172 (dk_at dksX3_is_2 20 rfl rfl)
abbrev cX3_asked : ByteArray := prog_17_method_25_code
def yX3_asked : MethodName := ⟨RX3, "asked", "()I"⟩
def dkwX3_asked_4 : List UInt8 := [42, 18, 119, 182, 0, 101, 153, 0, 8, 16, 49, 167, 0, 4, 4, 172]
abbrev dktX3_asked_4 : List UInt8 := dkwX3_asked_4 ++ []
def dkwX3_asked_3 : List UInt8 := [42, 18, 115, 182, 0, 101, 153, 0, 6, 16, 47, 172, 42, 18, 117, 182, 0, 101, 153, 0, 6, 16, 48, 172]
abbrev dktX3_asked_3 : List UInt8 := dkwX3_asked_3 ++ dktX3_asked_4
def dkwX3_asked_2 : List UInt8 := [42, 18, 111, 182, 0, 101, 153, 0, 6, 16, 45, 172, 42, 18, 113, 182, 0, 101, 153, 0, 6, 16, 46, 172]
abbrev dktX3_asked_2 : List UInt8 := dkwX3_asked_2 ++ dktX3_asked_3
def dkwX3_asked_1 : List UInt8 := [42, 18, 107, 182, 0, 101, 153, 0, 6, 16, 43, 172, 42, 18, 109, 182, 0, 101, 153, 0, 6, 16, 44, 172]
abbrev dktX3_asked_1 : List UInt8 := dkwX3_asked_1 ++ dktX3_asked_2
def dkwX3_asked_0 : List UInt8 := [42, 18, 99, 182, 0, 101, 153, 0, 6, 16, 41, 172, 42, 18, 105, 182, 0, 101, 153, 0, 6, 16, 42, 172]
abbrev dktX3_asked_0 : List UInt8 := dkwX3_asked_0 ++ dktX3_asked_1
theorem dksX3_asked_0 : cX3_asked.data.toList.drop 0 = dktX3_asked_0 := by decide +kernel
theorem dksX3_asked_1 : cX3_asked.data.toList.drop 24 = dktX3_asked_1 := dk_seg dksX3_asked_0 24 rfl rfl
theorem dksX3_asked_2 : cX3_asked.data.toList.drop 48 = dktX3_asked_2 := dk_seg dksX3_asked_1 24 rfl rfl
theorem dksX3_asked_3 : cX3_asked.data.toList.drop 72 = dktX3_asked_3 := dk_seg dksX3_asked_2 24 rfl rfl
theorem dksX3_asked_4 : cX3_asked.data.toList.drop 96 = dktX3_asked_4 := dk_seg dksX3_asked_3 24 rfl rfl
theorem dX3_asked_0 : decode cX3_asked 0 = .ok (.aload_n 0, 1) := dk_42 (dk_at dksX3_asked_0 0 rfl rfl)
theorem dX3_asked_1 : decode cX3_asked 1 = .ok (.ldc 99, 2) := dk_18 99 (dk_at dksX3_asked_0 1 rfl rfl)
theorem dX3_asked_3 : decode cX3_asked 3 = .ok (.invokevirtual 101, 3) := dk_182 0 101 (dk_at dksX3_asked_0 3 rfl rfl)
theorem dX3_asked_6 : decode cX3_asked 6 = .ok (.ifCond .eq 6, 3) := dk_153 0 6 (dk_at dksX3_asked_0 6 rfl rfl)
theorem dX3_asked_9 : decode cX3_asked 9 = .ok (.bipush 41, 2) := dk_16 41 (dk_at dksX3_asked_0 9 rfl rfl)
theorem dX3_asked_11 : decode cX3_asked 11 = .ok (.ireturn, 1) := dk_172 (dk_at dksX3_asked_0 11 rfl rfl)
theorem dX3_asked_12 : decode cX3_asked 12 = .ok (.aload_n 0, 1) := dk_42 (dk_at dksX3_asked_0 12 rfl rfl)
theorem dX3_asked_13 : decode cX3_asked 13 = .ok (.ldc 105, 2) := dk_18 105 (dk_at dksX3_asked_0 13 rfl rfl)
theorem dX3_asked_15 : decode cX3_asked 15 = .ok (.invokevirtual 101, 3) := dk_182 0 101 (dk_at dksX3_asked_0 15 rfl rfl)
theorem dX3_asked_18 : decode cX3_asked 18 = .ok (.ifCond .eq 6, 3) := dk_153 0 6 (dk_at dksX3_asked_0 18 rfl rfl)
theorem dX3_asked_21 : decode cX3_asked 21 = .ok (.bipush 42, 2) := dk_16 42 (dk_at dksX3_asked_0 21 rfl rfl)
theorem dX3_asked_23 : decode cX3_asked 23 = .ok (.ireturn, 1) := dk_172 (dk_at dksX3_asked_0 23 rfl rfl)
theorem dX3_asked_24 : decode cX3_asked 24 = .ok (.aload_n 0, 1) := dk_42 (dk_at dksX3_asked_1 0 rfl rfl)
theorem dX3_asked_25 : decode cX3_asked 25 = .ok (.ldc 107, 2) := dk_18 107 (dk_at dksX3_asked_1 1 rfl rfl)
theorem dX3_asked_27 : decode cX3_asked 27 = .ok (.invokevirtual 101, 3) := dk_182 0 101 (dk_at dksX3_asked_1 3 rfl rfl)
theorem dX3_asked_30 : decode cX3_asked 30 = .ok (.ifCond .eq 6, 3) := dk_153 0 6 (dk_at dksX3_asked_1 6 rfl rfl)
theorem dX3_asked_33 : decode cX3_asked 33 = .ok (.bipush 43, 2) := dk_16 43 (dk_at dksX3_asked_1 9 rfl rfl)
theorem dX3_asked_35 : decode cX3_asked 35 = .ok (.ireturn, 1) := dk_172 (dk_at dksX3_asked_1 11 rfl rfl)
theorem dX3_asked_36 : decode cX3_asked 36 = .ok (.aload_n 0, 1) := dk_42 (dk_at dksX3_asked_1 12 rfl rfl)
theorem dX3_asked_37 : decode cX3_asked 37 = .ok (.ldc 109, 2) := dk_18 109 (dk_at dksX3_asked_1 13 rfl rfl)
theorem dX3_asked_39 : decode cX3_asked 39 = .ok (.invokevirtual 101, 3) := dk_182 0 101 (dk_at dksX3_asked_1 15 rfl rfl)
theorem dX3_asked_42 : decode cX3_asked 42 = .ok (.ifCond .eq 6, 3) := dk_153 0 6 (dk_at dksX3_asked_1 18 rfl rfl)
theorem dX3_asked_45 : decode cX3_asked 45 = .ok (.bipush 44, 2) := dk_16 44 (dk_at dksX3_asked_1 21 rfl rfl)
theorem dX3_asked_47 : decode cX3_asked 47 = .ok (.ireturn, 1) := dk_172 (dk_at dksX3_asked_1 23 rfl rfl)
theorem dX3_asked_48 : decode cX3_asked 48 = .ok (.aload_n 0, 1) := dk_42 (dk_at dksX3_asked_2 0 rfl rfl)
theorem dX3_asked_49 : decode cX3_asked 49 = .ok (.ldc 111, 2) := dk_18 111 (dk_at dksX3_asked_2 1 rfl rfl)
theorem dX3_asked_51 : decode cX3_asked 51 = .ok (.invokevirtual 101, 3) := dk_182 0 101 (dk_at dksX3_asked_2 3 rfl rfl)
theorem dX3_asked_54 : decode cX3_asked 54 = .ok (.ifCond .eq 6, 3) := dk_153 0 6 (dk_at dksX3_asked_2 6 rfl rfl)
theorem dX3_asked_57 : decode cX3_asked 57 = .ok (.bipush 45, 2) := dk_16 45 (dk_at dksX3_asked_2 9 rfl rfl)
theorem dX3_asked_59 : decode cX3_asked 59 = .ok (.ireturn, 1) := dk_172 (dk_at dksX3_asked_2 11 rfl rfl)
theorem dX3_asked_60 : decode cX3_asked 60 = .ok (.aload_n 0, 1) := dk_42 (dk_at dksX3_asked_2 12 rfl rfl)
theorem dX3_asked_61 : decode cX3_asked 61 = .ok (.ldc 113, 2) := dk_18 113 (dk_at dksX3_asked_2 13 rfl rfl)
theorem dX3_asked_63 : decode cX3_asked 63 = .ok (.invokevirtual 101, 3) := dk_182 0 101 (dk_at dksX3_asked_2 15 rfl rfl)
theorem dX3_asked_66 : decode cX3_asked 66 = .ok (.ifCond .eq 6, 3) := dk_153 0 6 (dk_at dksX3_asked_2 18 rfl rfl)
theorem dX3_asked_69 : decode cX3_asked 69 = .ok (.bipush 46, 2) := dk_16 46 (dk_at dksX3_asked_2 21 rfl rfl)
theorem dX3_asked_71 : decode cX3_asked 71 = .ok (.ireturn, 1) := dk_172 (dk_at dksX3_asked_2 23 rfl rfl)
theorem dX3_asked_72 : decode cX3_asked 72 = .ok (.aload_n 0, 1) := dk_42 (dk_at dksX3_asked_3 0 rfl rfl)
theorem dX3_asked_73 : decode cX3_asked 73 = .ok (.ldc 115, 2) := dk_18 115 (dk_at dksX3_asked_3 1 rfl rfl)
theorem dX3_asked_75 : decode cX3_asked 75 = .ok (.invokevirtual 101, 3) := dk_182 0 101 (dk_at dksX3_asked_3 3 rfl rfl)
theorem dX3_asked_78 : decode cX3_asked 78 = .ok (.ifCond .eq 6, 3) := dk_153 0 6 (dk_at dksX3_asked_3 6 rfl rfl)
theorem dX3_asked_81 : decode cX3_asked 81 = .ok (.bipush 47, 2) := dk_16 47 (dk_at dksX3_asked_3 9 rfl rfl)
theorem dX3_asked_83 : decode cX3_asked 83 = .ok (.ireturn, 1) := dk_172 (dk_at dksX3_asked_3 11 rfl rfl)
theorem dX3_asked_84 : decode cX3_asked 84 = .ok (.aload_n 0, 1) := dk_42 (dk_at dksX3_asked_3 12 rfl rfl)
theorem dX3_asked_85 : decode cX3_asked 85 = .ok (.ldc 117, 2) := dk_18 117 (dk_at dksX3_asked_3 13 rfl rfl)
theorem dX3_asked_87 : decode cX3_asked 87 = .ok (.invokevirtual 101, 3) := dk_182 0 101 (dk_at dksX3_asked_3 15 rfl rfl)
theorem dX3_asked_90 : decode cX3_asked 90 = .ok (.ifCond .eq 6, 3) := dk_153 0 6 (dk_at dksX3_asked_3 18 rfl rfl)
theorem dX3_asked_93 : decode cX3_asked 93 = .ok (.bipush 48, 2) := dk_16 48 (dk_at dksX3_asked_3 21 rfl rfl)
theorem dX3_asked_95 : decode cX3_asked 95 = .ok (.ireturn, 1) := dk_172 (dk_at dksX3_asked_3 23 rfl rfl)
theorem dX3_asked_96 : decode cX3_asked 96 = .ok (.aload_n 0, 1) := dk_42 (dk_at dksX3_asked_4 0 rfl rfl)
theorem dX3_asked_97 : decode cX3_asked 97 = .ok (.ldc 119, 2) := dk_18 119 (dk_at dksX3_asked_4 1 rfl rfl)
theorem dX3_asked_99 : decode cX3_asked 99 = .ok (.invokevirtual 101, 3) := dk_182 0 101 (dk_at dksX3_asked_4 3 rfl rfl)
theorem dX3_asked_102 : decode cX3_asked 102 = .ok (.ifCond .eq 8, 3) := dk_153 0 8 (dk_at dksX3_asked_4 6 rfl rfl)
theorem dX3_asked_105 : decode cX3_asked 105 = .ok (.bipush 49, 2) := dk_16 49 (dk_at dksX3_asked_4 9 rfl rfl)
theorem dX3_asked_107 : decode cX3_asked 107 = .ok (.goto 4, 3) := dk_167 0 4 (dk_at dksX3_asked_4 11 rfl rfl)
theorem dX3_asked_110 : decode cX3_asked 110 = .ok (.iconst 1, 1) := dk_4 (dk_at dksX3_asked_4 14 rfl rfl)
theorem dX3_asked_111 : decode cX3_asked 111 = .ok (.ireturn, 1) := dk_172 (dk_at dksX3_asked_4 15 rfl rfl)
abbrev cX3_planWord : ByteArray := prog_17_method_27_code
def yX3_planWord : MethodName := ⟨RX3, "planWord", "()I"⟩
def dkwX3_planWord_2 : List UInt8 := [42, 18, 148, 182, 0, 101, 153, 0, 8, 16, 11, 167, 0, 4, 4, 172]
abbrev dktX3_planWord_2 : List UInt8 := dkwX3_planWord_2 ++ []
def dkwX3_planWord_1 : List UInt8 := [42, 18, 144, 182, 0, 101, 153, 0, 6, 16, 9, 172, 42, 18, 146, 182, 0, 101, 153, 0, 6, 16, 10, 172]
abbrev dktX3_planWord_1 : List UInt8 := dkwX3_planWord_1 ++ dktX3_planWord_2
def dkwX3_planWord_0 : List UInt8 := [42, 18, 140, 182, 0, 101, 153, 0, 6, 16, 7, 172, 42, 18, 142, 182, 0, 101, 153, 0, 6, 16, 8, 172]
abbrev dktX3_planWord_0 : List UInt8 := dkwX3_planWord_0 ++ dktX3_planWord_1
theorem dksX3_planWord_0 : cX3_planWord.data.toList.drop 0 = dktX3_planWord_0 := by decide +kernel
theorem dksX3_planWord_1 : cX3_planWord.data.toList.drop 24 = dktX3_planWord_1 := dk_seg dksX3_planWord_0 24 rfl rfl
theorem dksX3_planWord_2 : cX3_planWord.data.toList.drop 48 = dktX3_planWord_2 := dk_seg dksX3_planWord_1 24 rfl rfl
theorem dX3_planWord_0 : decode cX3_planWord 0 = .ok (.aload_n 0, 1) := dk_42 (dk_at dksX3_planWord_0 0 rfl rfl)
theorem dX3_planWord_1 : decode cX3_planWord 1 = .ok (.ldc 140, 2) := dk_18 140 (dk_at dksX3_planWord_0 1 rfl rfl)
theorem dX3_planWord_3 : decode cX3_planWord 3 = .ok (.invokevirtual 101, 3) := dk_182 0 101 (dk_at dksX3_planWord_0 3 rfl rfl)
theorem dX3_planWord_6 : decode cX3_planWord 6 = .ok (.ifCond .eq 6, 3) := dk_153 0 6 (dk_at dksX3_planWord_0 6 rfl rfl)
theorem dX3_planWord_9 : decode cX3_planWord 9 = .ok (.bipush 7, 2) := dk_16 7 (dk_at dksX3_planWord_0 9 rfl rfl)
theorem dX3_planWord_11 : decode cX3_planWord 11 = .ok (.ireturn, 1) := dk_172 (dk_at dksX3_planWord_0 11 rfl rfl)
theorem dX3_planWord_12 : decode cX3_planWord 12 = .ok (.aload_n 0, 1) := dk_42 (dk_at dksX3_planWord_0 12 rfl rfl)
theorem dX3_planWord_13 : decode cX3_planWord 13 = .ok (.ldc 142, 2) := dk_18 142 (dk_at dksX3_planWord_0 13 rfl rfl)
theorem dX3_planWord_15 : decode cX3_planWord 15 = .ok (.invokevirtual 101, 3) := dk_182 0 101 (dk_at dksX3_planWord_0 15 rfl rfl)
theorem dX3_planWord_18 : decode cX3_planWord 18 = .ok (.ifCond .eq 6, 3) := dk_153 0 6 (dk_at dksX3_planWord_0 18 rfl rfl)
theorem dX3_planWord_21 : decode cX3_planWord 21 = .ok (.bipush 8, 2) := dk_16 8 (dk_at dksX3_planWord_0 21 rfl rfl)
theorem dX3_planWord_23 : decode cX3_planWord 23 = .ok (.ireturn, 1) := dk_172 (dk_at dksX3_planWord_0 23 rfl rfl)
theorem dX3_planWord_24 : decode cX3_planWord 24 = .ok (.aload_n 0, 1) := dk_42 (dk_at dksX3_planWord_1 0 rfl rfl)
theorem dX3_planWord_25 : decode cX3_planWord 25 = .ok (.ldc 144, 2) := dk_18 144 (dk_at dksX3_planWord_1 1 rfl rfl)
theorem dX3_planWord_27 : decode cX3_planWord 27 = .ok (.invokevirtual 101, 3) := dk_182 0 101 (dk_at dksX3_planWord_1 3 rfl rfl)
theorem dX3_planWord_30 : decode cX3_planWord 30 = .ok (.ifCond .eq 6, 3) := dk_153 0 6 (dk_at dksX3_planWord_1 6 rfl rfl)
theorem dX3_planWord_33 : decode cX3_planWord 33 = .ok (.bipush 9, 2) := dk_16 9 (dk_at dksX3_planWord_1 9 rfl rfl)
theorem dX3_planWord_35 : decode cX3_planWord 35 = .ok (.ireturn, 1) := dk_172 (dk_at dksX3_planWord_1 11 rfl rfl)
theorem dX3_planWord_36 : decode cX3_planWord 36 = .ok (.aload_n 0, 1) := dk_42 (dk_at dksX3_planWord_1 12 rfl rfl)
theorem dX3_planWord_37 : decode cX3_planWord 37 = .ok (.ldc 146, 2) := dk_18 146 (dk_at dksX3_planWord_1 13 rfl rfl)
theorem dX3_planWord_39 : decode cX3_planWord 39 = .ok (.invokevirtual 101, 3) := dk_182 0 101 (dk_at dksX3_planWord_1 15 rfl rfl)
theorem dX3_planWord_42 : decode cX3_planWord 42 = .ok (.ifCond .eq 6, 3) := dk_153 0 6 (dk_at dksX3_planWord_1 18 rfl rfl)
theorem dX3_planWord_45 : decode cX3_planWord 45 = .ok (.bipush 10, 2) := dk_16 10 (dk_at dksX3_planWord_1 21 rfl rfl)
theorem dX3_planWord_47 : decode cX3_planWord 47 = .ok (.ireturn, 1) := dk_172 (dk_at dksX3_planWord_1 23 rfl rfl)
theorem dX3_planWord_48 : decode cX3_planWord 48 = .ok (.aload_n 0, 1) := dk_42 (dk_at dksX3_planWord_2 0 rfl rfl)
theorem dX3_planWord_49 : decode cX3_planWord 49 = .ok (.ldc 148, 2) := dk_18 148 (dk_at dksX3_planWord_2 1 rfl rfl)
theorem dX3_planWord_51 : decode cX3_planWord 51 = .ok (.invokevirtual 101, 3) := dk_182 0 101 (dk_at dksX3_planWord_2 3 rfl rfl)
theorem dX3_planWord_54 : decode cX3_planWord 54 = .ok (.ifCond .eq 8, 3) := dk_153 0 8 (dk_at dksX3_planWord_2 6 rfl rfl)
theorem dX3_planWord_57 : decode cX3_planWord 57 = .ok (.bipush 11, 2) := dk_16 11 (dk_at dksX3_planWord_2 9 rfl rfl)
theorem dX3_planWord_59 : decode cX3_planWord 59 = .ok (.goto 4, 3) := dk_167 0 4 (dk_at dksX3_planWord_2 11 rfl rfl)
theorem dX3_planWord_62 : decode cX3_planWord 62 = .ok (.iconst 1, 1) := dk_4 (dk_at dksX3_planWord_2 14 rfl rfl)
theorem dX3_planWord_63 : decode cX3_planWord 63 = .ok (.ireturn, 1) := dk_172 (dk_at dksX3_planWord_2 15 rfl rfl)
abbrev cX3_isDigit : ByteArray := prog_17_method_23_code
def yX3_isDigit : MethodName := ⟨RX3, "isDigit", "(I)Z"⟩
def dkwX3_isDigit_0 : List UInt8 := [26, 16, 48, 16, 57, 184, 0, 54, 172]
abbrev dktX3_isDigit_0 : List UInt8 := dkwX3_isDigit_0 ++ []
theorem dksX3_isDigit_0 : cX3_isDigit.data.toList.drop 0 = dktX3_isDigit_0 := by decide +kernel
theorem dX3_isDigit_0 : decode cX3_isDigit 0 = .ok (.iload_n 0, 1) := dk_26 (dk_at dksX3_isDigit_0 0 rfl rfl)
theorem dX3_isDigit_1 : decode cX3_isDigit 1 = .ok (.bipush 48, 2) := dk_16 48 (dk_at dksX3_isDigit_0 1 rfl rfl)
theorem dX3_isDigit_3 : decode cX3_isDigit 3 = .ok (.bipush 57, 2) := dk_16 57 (dk_at dksX3_isDigit_0 3 rfl rfl)
theorem dX3_isDigit_5 : decode cX3_isDigit 5 = .ok (.invokestatic 54, 3) := dk_184 0 54 (dk_at dksX3_isDigit_0 5 rfl rfl)
theorem dX3_isDigit_8 : decode cX3_isDigit 8 = .ok (.ireturn, 1) := dk_172 (dk_at dksX3_isDigit_0 8 rfl rfl)
abbrev cX3_readsLaw : ByteArray := prog_17_method_41_code
def yX3_readsLaw : MethodName := ⟨RX3, "readsLaw", "()Z"⟩
def dkwX3_readsLaw_2 : List UInt8 := [167, 255, 222, 27, 172]
abbrev dktX3_readsLaw_2 : List UInt8 := dkwX3_readsLaw_2 ++ []
def dkwX3_readsLaw_1 : List UInt8 := [182, 0, 232, 60, 42, 89, 180, 0, 229, 27, 153, 0, 7, 4, 167, 0, 4, 3, 96, 181, 0, 229]
abbrev dktX3_readsLaw_1 : List UInt8 := dkwX3_readsLaw_1 ++ dktX3_readsLaw_2
def dkwX3_readsLaw_0 : List UInt8 := [42, 3, 181, 0, 229, 42, 3, 181, 0, 194, 4, 60, 27, 153, 0, 36, 42, 180, 0, 167, 153, 0, 29, 42]
abbrev dktX3_readsLaw_0 : List UInt8 := dkwX3_readsLaw_0 ++ dktX3_readsLaw_1
theorem dksX3_readsLaw_0 : cX3_readsLaw.data.toList.drop 0 = dktX3_readsLaw_0 := by decide +kernel
theorem dksX3_readsLaw_1 : cX3_readsLaw.data.toList.drop 24 = dktX3_readsLaw_1 := dk_seg dksX3_readsLaw_0 24 rfl rfl
theorem dksX3_readsLaw_2 : cX3_readsLaw.data.toList.drop 46 = dktX3_readsLaw_2 := dk_seg dksX3_readsLaw_1 22 rfl rfl
theorem dX3_readsLaw_0 : decode cX3_readsLaw 0 = .ok (.aload_n 0, 1) := dk_42 (dk_at dksX3_readsLaw_0 0 rfl rfl)
theorem dX3_readsLaw_1 : decode cX3_readsLaw 1 = .ok (.iconst 0, 1) := dk_3 (dk_at dksX3_readsLaw_0 1 rfl rfl)
theorem dX3_readsLaw_2 : decode cX3_readsLaw 2 = .ok (.putfield 229, 3) := dk_181 0 229 (dk_at dksX3_readsLaw_0 2 rfl rfl)
theorem dX3_readsLaw_5 : decode cX3_readsLaw 5 = .ok (.aload_n 0, 1) := dk_42 (dk_at dksX3_readsLaw_0 5 rfl rfl)
theorem dX3_readsLaw_6 : decode cX3_readsLaw 6 = .ok (.iconst 0, 1) := dk_3 (dk_at dksX3_readsLaw_0 6 rfl rfl)
theorem dX3_readsLaw_7 : decode cX3_readsLaw 7 = .ok (.putfield 194, 3) := dk_181 0 194 (dk_at dksX3_readsLaw_0 7 rfl rfl)
theorem dX3_readsLaw_10 : decode cX3_readsLaw 10 = .ok (.iconst 1, 1) := dk_4 (dk_at dksX3_readsLaw_0 10 rfl rfl)
theorem dX3_readsLaw_11 : decode cX3_readsLaw 11 = .ok (.istore_n 1, 1) := dk_60 (dk_at dksX3_readsLaw_0 11 rfl rfl)
theorem dX3_readsLaw_12 : decode cX3_readsLaw 12 = .ok (.iload_n 1, 1) := dk_27 (dk_at dksX3_readsLaw_0 12 rfl rfl)
theorem dX3_readsLaw_13 : decode cX3_readsLaw 13 = .ok (.ifCond .eq 36, 3) := dk_153 0 36 (dk_at dksX3_readsLaw_0 13 rfl rfl)
theorem dX3_readsLaw_16 : decode cX3_readsLaw 16 = .ok (.aload_n 0, 1) := dk_42 (dk_at dksX3_readsLaw_0 16 rfl rfl)
theorem dX3_readsLaw_17 : decode cX3_readsLaw 17 = .ok (.getfield 167, 3) := dk_180 0 167 (dk_at dksX3_readsLaw_0 17 rfl rfl)
theorem dX3_readsLaw_20 : decode cX3_readsLaw 20 = .ok (.ifCond .eq 29, 3) := dk_153 0 29 (dk_at dksX3_readsLaw_0 20 rfl rfl)
theorem dX3_readsLaw_23 : decode cX3_readsLaw 23 = .ok (.aload_n 0, 1) := dk_42 (dk_at dksX3_readsLaw_0 23 rfl rfl)
theorem dX3_readsLaw_24 : decode cX3_readsLaw 24 = .ok (.invokevirtual 232, 3) := dk_182 0 232 (dk_at dksX3_readsLaw_1 0 rfl rfl)
theorem dX3_readsLaw_27 : decode cX3_readsLaw 27 = .ok (.istore_n 1, 1) := dk_60 (dk_at dksX3_readsLaw_1 3 rfl rfl)
theorem dX3_readsLaw_28 : decode cX3_readsLaw 28 = .ok (.aload_n 0, 1) := dk_42 (dk_at dksX3_readsLaw_1 4 rfl rfl)
theorem dX3_readsLaw_29 : decode cX3_readsLaw 29 = .ok (.dup, 1) := dk_89 (dk_at dksX3_readsLaw_1 5 rfl rfl)
theorem dX3_readsLaw_30 : decode cX3_readsLaw 30 = .ok (.getfield 229, 3) := dk_180 0 229 (dk_at dksX3_readsLaw_1 6 rfl rfl)
theorem dX3_readsLaw_33 : decode cX3_readsLaw 33 = .ok (.iload_n 1, 1) := dk_27 (dk_at dksX3_readsLaw_1 9 rfl rfl)
theorem dX3_readsLaw_34 : decode cX3_readsLaw 34 = .ok (.ifCond .eq 7, 3) := dk_153 0 7 (dk_at dksX3_readsLaw_1 10 rfl rfl)
theorem dX3_readsLaw_37 : decode cX3_readsLaw 37 = .ok (.iconst 1, 1) := dk_4 (dk_at dksX3_readsLaw_1 13 rfl rfl)
theorem dX3_readsLaw_38 : decode cX3_readsLaw 38 = .ok (.goto 4, 3) := dk_167 0 4 (dk_at dksX3_readsLaw_1 14 rfl rfl)
theorem dX3_readsLaw_41 : decode cX3_readsLaw 41 = .ok (.iconst 0, 1) := dk_3 (dk_at dksX3_readsLaw_1 17 rfl rfl)
theorem dX3_readsLaw_42 : decode cX3_readsLaw 42 = .ok (.iadd, 1) := dk_96 (dk_at dksX3_readsLaw_1 18 rfl rfl)
theorem dX3_readsLaw_43 : decode cX3_readsLaw 43 = .ok (.putfield 229, 3) := dk_181 0 229 (dk_at dksX3_readsLaw_1 19 rfl rfl)
theorem dX3_readsLaw_46 : decode cX3_readsLaw 46 = .ok (.goto (-34), 3) := dk_167 255 222 (dk_at dksX3_readsLaw_2 0 rfl rfl)
theorem dX3_readsLaw_49 : decode cX3_readsLaw 49 = .ok (.iload_n 1, 1) := dk_27 (dk_at dksX3_readsLaw_2 3 rfl rfl)
theorem dX3_readsLaw_50 : decode cX3_readsLaw 50 = .ok (.ireturn, 1) := dk_172 (dk_at dksX3_readsLaw_2 4 rfl rfl)
abbrev cX3_aLine : ByteArray := prog_17_method_40_code
def yX3_aLine : MethodName := ⟨RX3, "aLine", "()Z"⟩
def dkwX3_aLine_6 : List UInt8 := [17, 0, 159, 182, 0, 223, 172]
abbrev dktX3_aLine_6 : List UInt8 := dkwX3_aLine_6 ++ []
def dkwX3_aLine_5 : List UInt8 := [154, 0, 5, 3, 172, 42, 180, 0, 22, 7, 42, 180, 0, 229, 104, 5, 96, 42, 180, 0, 194, 79, 42]
abbrev dktX3_aLine_5 : List UInt8 := dkwX3_aLine_5 ++ dktX3_aLine_6
def dkwX3_aLine_4 : List UInt8 := [104, 4, 96, 42, 180, 0, 194, 79, 42, 180, 0, 167, 6, 160, 0, 16, 42, 182, 0, 191, 42, 182, 0, 220]
abbrev dktX3_aLine_4 : List UInt8 := dkwX3_aLine_4 ++ dktX3_aLine_5
def dkwX3_aLine_3 : List UInt8 := [104, 42, 180, 0, 194, 79, 42, 182, 0, 226, 154, 0, 5, 3, 172, 42, 180, 0, 22, 7, 42, 180, 0, 229]
abbrev dktX3_aLine_3 : List UInt8 := dkwX3_aLine_3 ++ dktX3_aLine_4
def dkwX3_aLine_2 : List UInt8 := [180, 0, 229, 104, 6, 96, 42, 180, 0, 167, 79, 42, 182, 0, 191, 42, 180, 0, 22, 7, 42, 180, 0, 229]
abbrev dktX3_aLine_2 : List UInt8 := dkwX3_aLine_2 ++ dktX3_aLine_3
def dkwX3_aLine_1 : List UInt8 := [16, 16, 160, 0, 9, 42, 6, 182, 0, 188, 172, 42, 3, 181, 0, 197, 42, 180, 0, 22, 7, 42]
abbrev dktX3_aLine_1 : List UInt8 := dkwX3_aLine_1 ++ dktX3_aLine_2
def dkwX3_aLine_0 : List UInt8 := [42, 180, 0, 167, 16, 20, 16, 23, 184, 0, 54, 154, 0, 9, 42, 4, 182, 0, 188, 172, 42, 180, 0, 229]
abbrev dktX3_aLine_0 : List UInt8 := dkwX3_aLine_0 ++ dktX3_aLine_1
theorem dksX3_aLine_0 : cX3_aLine.data.toList.drop 0 = dktX3_aLine_0 := by decide +kernel
theorem dksX3_aLine_1 : cX3_aLine.data.toList.drop 24 = dktX3_aLine_1 := dk_seg dksX3_aLine_0 24 rfl rfl
theorem dksX3_aLine_2 : cX3_aLine.data.toList.drop 46 = dktX3_aLine_2 := dk_seg dksX3_aLine_1 22 rfl rfl
theorem dksX3_aLine_3 : cX3_aLine.data.toList.drop 70 = dktX3_aLine_3 := dk_seg dksX3_aLine_2 24 rfl rfl
theorem dksX3_aLine_4 : cX3_aLine.data.toList.drop 94 = dktX3_aLine_4 := dk_seg dksX3_aLine_3 24 rfl rfl
theorem dksX3_aLine_5 : cX3_aLine.data.toList.drop 118 = dktX3_aLine_5 := dk_seg dksX3_aLine_4 24 rfl rfl
theorem dksX3_aLine_6 : cX3_aLine.data.toList.drop 141 = dktX3_aLine_6 := dk_seg dksX3_aLine_5 23 rfl rfl
theorem dX3_aLine_0 : decode cX3_aLine 0 = .ok (.aload_n 0, 1) := dk_42 (dk_at dksX3_aLine_0 0 rfl rfl)
theorem dX3_aLine_1 : decode cX3_aLine 1 = .ok (.getfield 167, 3) := dk_180 0 167 (dk_at dksX3_aLine_0 1 rfl rfl)
theorem dX3_aLine_4 : decode cX3_aLine 4 = .ok (.bipush 20, 2) := dk_16 20 (dk_at dksX3_aLine_0 4 rfl rfl)
theorem dX3_aLine_6 : decode cX3_aLine 6 = .ok (.bipush 23, 2) := dk_16 23 (dk_at dksX3_aLine_0 6 rfl rfl)
theorem dX3_aLine_8 : decode cX3_aLine 8 = .ok (.invokestatic 54, 3) := dk_184 0 54 (dk_at dksX3_aLine_0 8 rfl rfl)
theorem dX3_aLine_11 : decode cX3_aLine 11 = .ok (.ifCond .ne 9, 3) := dk_154 0 9 (dk_at dksX3_aLine_0 11 rfl rfl)
theorem dX3_aLine_14 : decode cX3_aLine 14 = .ok (.aload_n 0, 1) := dk_42 (dk_at dksX3_aLine_0 14 rfl rfl)
theorem dX3_aLine_15 : decode cX3_aLine 15 = .ok (.iconst 1, 1) := dk_4 (dk_at dksX3_aLine_0 15 rfl rfl)
theorem dX3_aLine_16 : decode cX3_aLine 16 = .ok (.invokevirtual 188, 3) := dk_182 0 188 (dk_at dksX3_aLine_0 16 rfl rfl)
theorem dX3_aLine_19 : decode cX3_aLine 19 = .ok (.ireturn, 1) := dk_172 (dk_at dksX3_aLine_0 19 rfl rfl)
theorem dX3_aLine_20 : decode cX3_aLine 20 = .ok (.aload_n 0, 1) := dk_42 (dk_at dksX3_aLine_0 20 rfl rfl)
theorem dX3_aLine_21 : decode cX3_aLine 21 = .ok (.getfield 229, 3) := dk_180 0 229 (dk_at dksX3_aLine_0 21 rfl rfl)
theorem dX3_aLine_24 : decode cX3_aLine 24 = .ok (.bipush 16, 2) := dk_16 16 (dk_at dksX3_aLine_1 0 rfl rfl)
theorem dX3_aLine_26 : decode cX3_aLine 26 = .ok (.if_icmp .ne 9, 3) := dk_160 0 9 (dk_at dksX3_aLine_1 2 rfl rfl)
theorem dX3_aLine_29 : decode cX3_aLine 29 = .ok (.aload_n 0, 1) := dk_42 (dk_at dksX3_aLine_1 5 rfl rfl)
theorem dX3_aLine_30 : decode cX3_aLine 30 = .ok (.iconst 3, 1) := dk_6 (dk_at dksX3_aLine_1 6 rfl rfl)
theorem dX3_aLine_31 : decode cX3_aLine 31 = .ok (.invokevirtual 188, 3) := dk_182 0 188 (dk_at dksX3_aLine_1 7 rfl rfl)
theorem dX3_aLine_34 : decode cX3_aLine 34 = .ok (.ireturn, 1) := dk_172 (dk_at dksX3_aLine_1 10 rfl rfl)
theorem dX3_aLine_35 : decode cX3_aLine 35 = .ok (.aload_n 0, 1) := dk_42 (dk_at dksX3_aLine_1 11 rfl rfl)
theorem dX3_aLine_36 : decode cX3_aLine 36 = .ok (.iconst 0, 1) := dk_3 (dk_at dksX3_aLine_1 12 rfl rfl)
theorem dX3_aLine_37 : decode cX3_aLine 37 = .ok (.putfield 197, 3) := dk_181 0 197 (dk_at dksX3_aLine_1 13 rfl rfl)
theorem dX3_aLine_40 : decode cX3_aLine 40 = .ok (.aload_n 0, 1) := dk_42 (dk_at dksX3_aLine_1 16 rfl rfl)
theorem dX3_aLine_41 : decode cX3_aLine 41 = .ok (.getfield 22, 3) := dk_180 0 22 (dk_at dksX3_aLine_1 17 rfl rfl)
theorem dX3_aLine_44 : decode cX3_aLine 44 = .ok (.iconst 4, 1) := dk_7 (dk_at dksX3_aLine_1 20 rfl rfl)
theorem dX3_aLine_45 : decode cX3_aLine 45 = .ok (.aload_n 0, 1) := dk_42 (dk_at dksX3_aLine_1 21 rfl rfl)
theorem dX3_aLine_46 : decode cX3_aLine 46 = .ok (.getfield 229, 3) := dk_180 0 229 (dk_at dksX3_aLine_2 0 rfl rfl)
theorem dX3_aLine_49 : decode cX3_aLine 49 = .ok (.imul, 1) := dk_104 (dk_at dksX3_aLine_2 3 rfl rfl)
theorem dX3_aLine_50 : decode cX3_aLine 50 = .ok (.iconst 3, 1) := dk_6 (dk_at dksX3_aLine_2 4 rfl rfl)
theorem dX3_aLine_51 : decode cX3_aLine 51 = .ok (.iadd, 1) := dk_96 (dk_at dksX3_aLine_2 5 rfl rfl)
theorem dX3_aLine_52 : decode cX3_aLine 52 = .ok (.aload_n 0, 1) := dk_42 (dk_at dksX3_aLine_2 6 rfl rfl)
theorem dX3_aLine_53 : decode cX3_aLine 53 = .ok (.getfield 167, 3) := dk_180 0 167 (dk_at dksX3_aLine_2 7 rfl rfl)
theorem dX3_aLine_56 : decode cX3_aLine 56 = .ok (.iastore, 1) := dk_79 (dk_at dksX3_aLine_2 10 rfl rfl)
theorem dX3_aLine_57 : decode cX3_aLine 57 = .ok (.aload_n 0, 1) := dk_42 (dk_at dksX3_aLine_2 11 rfl rfl)
theorem dX3_aLine_58 : decode cX3_aLine 58 = .ok (.invokevirtual 191, 3) := dk_182 0 191 (dk_at dksX3_aLine_2 12 rfl rfl)
theorem dX3_aLine_61 : decode cX3_aLine 61 = .ok (.aload_n 0, 1) := dk_42 (dk_at dksX3_aLine_2 15 rfl rfl)
theorem dX3_aLine_62 : decode cX3_aLine 62 = .ok (.getfield 22, 3) := dk_180 0 22 (dk_at dksX3_aLine_2 16 rfl rfl)
theorem dX3_aLine_65 : decode cX3_aLine 65 = .ok (.iconst 4, 1) := dk_7 (dk_at dksX3_aLine_2 19 rfl rfl)
theorem dX3_aLine_66 : decode cX3_aLine 66 = .ok (.aload_n 0, 1) := dk_42 (dk_at dksX3_aLine_2 20 rfl rfl)
theorem dX3_aLine_67 : decode cX3_aLine 67 = .ok (.getfield 229, 3) := dk_180 0 229 (dk_at dksX3_aLine_2 21 rfl rfl)
theorem dX3_aLine_70 : decode cX3_aLine 70 = .ok (.imul, 1) := dk_104 (dk_at dksX3_aLine_3 0 rfl rfl)
theorem dX3_aLine_71 : decode cX3_aLine 71 = .ok (.aload_n 0, 1) := dk_42 (dk_at dksX3_aLine_3 1 rfl rfl)
theorem dX3_aLine_72 : decode cX3_aLine 72 = .ok (.getfield 194, 3) := dk_180 0 194 (dk_at dksX3_aLine_3 2 rfl rfl)
theorem dX3_aLine_75 : decode cX3_aLine 75 = .ok (.iastore, 1) := dk_79 (dk_at dksX3_aLine_3 5 rfl rfl)
theorem dX3_aLine_76 : decode cX3_aLine 76 = .ok (.aload_n 0, 1) := dk_42 (dk_at dksX3_aLine_3 6 rfl rfl)
theorem dX3_aLine_77 : decode cX3_aLine 77 = .ok (.invokevirtual 226, 3) := dk_182 0 226 (dk_at dksX3_aLine_3 7 rfl rfl)
theorem dX3_aLine_80 : decode cX3_aLine 80 = .ok (.ifCond .ne 5, 3) := dk_154 0 5 (dk_at dksX3_aLine_3 10 rfl rfl)
theorem dX3_aLine_83 : decode cX3_aLine 83 = .ok (.iconst 0, 1) := dk_3 (dk_at dksX3_aLine_3 13 rfl rfl)
theorem dX3_aLine_84 : decode cX3_aLine 84 = .ok (.ireturn, 1) := dk_172 (dk_at dksX3_aLine_3 14 rfl rfl)
theorem dX3_aLine_85 : decode cX3_aLine 85 = .ok (.aload_n 0, 1) := dk_42 (dk_at dksX3_aLine_3 15 rfl rfl)
theorem dX3_aLine_86 : decode cX3_aLine 86 = .ok (.getfield 22, 3) := dk_180 0 22 (dk_at dksX3_aLine_3 16 rfl rfl)
theorem dX3_aLine_89 : decode cX3_aLine 89 = .ok (.iconst 4, 1) := dk_7 (dk_at dksX3_aLine_3 19 rfl rfl)
theorem dX3_aLine_90 : decode cX3_aLine 90 = .ok (.aload_n 0, 1) := dk_42 (dk_at dksX3_aLine_3 20 rfl rfl)
theorem dX3_aLine_91 : decode cX3_aLine 91 = .ok (.getfield 229, 3) := dk_180 0 229 (dk_at dksX3_aLine_3 21 rfl rfl)
theorem dX3_aLine_94 : decode cX3_aLine 94 = .ok (.imul, 1) := dk_104 (dk_at dksX3_aLine_4 0 rfl rfl)
theorem dX3_aLine_95 : decode cX3_aLine 95 = .ok (.iconst 1, 1) := dk_4 (dk_at dksX3_aLine_4 1 rfl rfl)
theorem dX3_aLine_96 : decode cX3_aLine 96 = .ok (.iadd, 1) := dk_96 (dk_at dksX3_aLine_4 2 rfl rfl)
theorem dX3_aLine_97 : decode cX3_aLine 97 = .ok (.aload_n 0, 1) := dk_42 (dk_at dksX3_aLine_4 3 rfl rfl)
theorem dX3_aLine_98 : decode cX3_aLine 98 = .ok (.getfield 194, 3) := dk_180 0 194 (dk_at dksX3_aLine_4 4 rfl rfl)
theorem dX3_aLine_101 : decode cX3_aLine 101 = .ok (.iastore, 1) := dk_79 (dk_at dksX3_aLine_4 7 rfl rfl)
theorem dX3_aLine_102 : decode cX3_aLine 102 = .ok (.aload_n 0, 1) := dk_42 (dk_at dksX3_aLine_4 8 rfl rfl)
theorem dX3_aLine_103 : decode cX3_aLine 103 = .ok (.getfield 167, 3) := dk_180 0 167 (dk_at dksX3_aLine_4 9 rfl rfl)
theorem dX3_aLine_106 : decode cX3_aLine 106 = .ok (.iconst 3, 1) := dk_6 (dk_at dksX3_aLine_4 12 rfl rfl)
theorem dX3_aLine_107 : decode cX3_aLine 107 = .ok (.if_icmp .ne 16, 3) := dk_160 0 16 (dk_at dksX3_aLine_4 13 rfl rfl)
theorem dX3_aLine_110 : decode cX3_aLine 110 = .ok (.aload_n 0, 1) := dk_42 (dk_at dksX3_aLine_4 16 rfl rfl)
theorem dX3_aLine_111 : decode cX3_aLine 111 = .ok (.invokevirtual 191, 3) := dk_182 0 191 (dk_at dksX3_aLine_4 17 rfl rfl)
theorem dX3_aLine_114 : decode cX3_aLine 114 = .ok (.aload_n 0, 1) := dk_42 (dk_at dksX3_aLine_4 20 rfl rfl)
theorem dX3_aLine_115 : decode cX3_aLine 115 = .ok (.invokevirtual 220, 3) := dk_182 0 220 (dk_at dksX3_aLine_4 21 rfl rfl)
theorem dX3_aLine_118 : decode cX3_aLine 118 = .ok (.ifCond .ne 5, 3) := dk_154 0 5 (dk_at dksX3_aLine_5 0 rfl rfl)
theorem dX3_aLine_121 : decode cX3_aLine 121 = .ok (.iconst 0, 1) := dk_3 (dk_at dksX3_aLine_5 3 rfl rfl)
theorem dX3_aLine_122 : decode cX3_aLine 122 = .ok (.ireturn, 1) := dk_172 (dk_at dksX3_aLine_5 4 rfl rfl)
theorem dX3_aLine_123 : decode cX3_aLine 123 = .ok (.aload_n 0, 1) := dk_42 (dk_at dksX3_aLine_5 5 rfl rfl)
theorem dX3_aLine_124 : decode cX3_aLine 124 = .ok (.getfield 22, 3) := dk_180 0 22 (dk_at dksX3_aLine_5 6 rfl rfl)
theorem dX3_aLine_127 : decode cX3_aLine 127 = .ok (.iconst 4, 1) := dk_7 (dk_at dksX3_aLine_5 9 rfl rfl)
theorem dX3_aLine_128 : decode cX3_aLine 128 = .ok (.aload_n 0, 1) := dk_42 (dk_at dksX3_aLine_5 10 rfl rfl)
theorem dX3_aLine_129 : decode cX3_aLine 129 = .ok (.getfield 229, 3) := dk_180 0 229 (dk_at dksX3_aLine_5 11 rfl rfl)
theorem dX3_aLine_132 : decode cX3_aLine 132 = .ok (.imul, 1) := dk_104 (dk_at dksX3_aLine_5 14 rfl rfl)
theorem dX3_aLine_133 : decode cX3_aLine 133 = .ok (.iconst 2, 1) := dk_5 (dk_at dksX3_aLine_5 15 rfl rfl)
theorem dX3_aLine_134 : decode cX3_aLine 134 = .ok (.iadd, 1) := dk_96 (dk_at dksX3_aLine_5 16 rfl rfl)
theorem dX3_aLine_135 : decode cX3_aLine 135 = .ok (.aload_n 0, 1) := dk_42 (dk_at dksX3_aLine_5 17 rfl rfl)
theorem dX3_aLine_136 : decode cX3_aLine 136 = .ok (.getfield 194, 3) := dk_180 0 194 (dk_at dksX3_aLine_5 18 rfl rfl)
theorem dX3_aLine_139 : decode cX3_aLine 139 = .ok (.iastore, 1) := dk_79 (dk_at dksX3_aLine_5 21 rfl rfl)
theorem dX3_aLine_140 : decode cX3_aLine 140 = .ok (.aload_n 0, 1) := dk_42 (dk_at dksX3_aLine_5 22 rfl rfl)
theorem dX3_aLine_141 : decode cX3_aLine 141 = .ok (.sipush 159, 3) := dk_17 0 159 (dk_at dksX3_aLine_6 0 rfl rfl)
theorem dX3_aLine_144 : decode cX3_aLine 144 = .ok (.invokevirtual 223, 3) := dk_182 0 223 (dk_at dksX3_aLine_6 3 rfl rfl)
theorem dX3_aLine_147 : decode cX3_aLine 147 = .ok (.ireturn, 1) := dk_172 (dk_at dksX3_aLine_6 6 rfl rfl)
abbrev cX3_bad : ByteArray := prog_17_method_30_code
def yX3_bad : MethodName := ⟨RX3, "bad", "(I)Z"⟩
def dkwX3_bad_0 : List UInt8 := [42, 27, 181, 0, 182, 42, 42, 180, 0, 86, 181, 0, 185, 3, 172]
abbrev dktX3_bad_0 : List UInt8 := dkwX3_bad_0 ++ []
theorem dksX3_bad_0 : cX3_bad.data.toList.drop 0 = dktX3_bad_0 := by decide +kernel
theorem dX3_bad_0 : decode cX3_bad 0 = .ok (.aload_n 0, 1) := dk_42 (dk_at dksX3_bad_0 0 rfl rfl)
theorem dX3_bad_1 : decode cX3_bad 1 = .ok (.iload_n 1, 1) := dk_27 (dk_at dksX3_bad_0 1 rfl rfl)
theorem dX3_bad_2 : decode cX3_bad 2 = .ok (.putfield 182, 3) := dk_181 0 182 (dk_at dksX3_bad_0 2 rfl rfl)
theorem dX3_bad_5 : decode cX3_bad 5 = .ok (.aload_n 0, 1) := dk_42 (dk_at dksX3_bad_0 5 rfl rfl)
theorem dX3_bad_6 : decode cX3_bad 6 = .ok (.aload_n 0, 1) := dk_42 (dk_at dksX3_bad_0 6 rfl rfl)
theorem dX3_bad_7 : decode cX3_bad 7 = .ok (.getfield 86, 3) := dk_180 0 86 (dk_at dksX3_bad_0 7 rfl rfl)
theorem dX3_bad_10 : decode cX3_bad 10 = .ok (.putfield 185, 3) := dk_181 0 185 (dk_at dksX3_bad_0 10 rfl rfl)
theorem dX3_bad_13 : decode cX3_bad 13 = .ok (.iconst 0, 1) := dk_3 (dk_at dksX3_bad_0 13 rfl rfl)
theorem dX3_bad_14 : decode cX3_bad 14 = .ok (.ireturn, 1) := dk_172 (dk_at dksX3_bad_0 14 rfl rfl)
abbrev cX3_sumUp : ByteArray := prog_17_method_34_code
def yX3_sumUp : MethodName := ⟨RX3, "sumUp", "()Z"⟩
def dkwX3_sumUp_2 : List UInt8 := [42, 182, 0, 191, 42, 182, 0, 200, 154, 0, 5, 3, 172, 42, 27, 3, 182, 0, 204, 167, 255, 199, 4, 172]
abbrev dktX3_sumUp_2 : List UInt8 := dkwX3_sumUp_2 ++ []
def dkwX3_sumUp_1 : List UInt8 := [17, 0, 145, 160, 0, 43, 42, 180, 0, 167, 17, 0, 143, 160, 0, 8, 16, 23, 167, 0, 5, 16, 24, 60]
abbrev dktX3_sumUp_1 : List UInt8 := dkwX3_sumUp_1 ++ dktX3_sumUp_2
def dkwX3_sumUp_0 : List UInt8 := [42, 182, 0, 200, 154, 0, 5, 3, 172, 42, 180, 0, 167, 17, 0, 143, 159, 0, 13, 42, 180, 0, 167]
abbrev dktX3_sumUp_0 : List UInt8 := dkwX3_sumUp_0 ++ dktX3_sumUp_1
theorem dksX3_sumUp_0 : cX3_sumUp.data.toList.drop 0 = dktX3_sumUp_0 := by decide +kernel
theorem dksX3_sumUp_1 : cX3_sumUp.data.toList.drop 23 = dktX3_sumUp_1 := dk_seg dksX3_sumUp_0 23 rfl rfl
theorem dksX3_sumUp_2 : cX3_sumUp.data.toList.drop 47 = dktX3_sumUp_2 := dk_seg dksX3_sumUp_1 24 rfl rfl
theorem dX3_sumUp_0 : decode cX3_sumUp 0 = .ok (.aload_n 0, 1) := dk_42 (dk_at dksX3_sumUp_0 0 rfl rfl)
theorem dX3_sumUp_1 : decode cX3_sumUp 1 = .ok (.invokevirtual 200, 3) := dk_182 0 200 (dk_at dksX3_sumUp_0 1 rfl rfl)
theorem dX3_sumUp_4 : decode cX3_sumUp 4 = .ok (.ifCond .ne 5, 3) := dk_154 0 5 (dk_at dksX3_sumUp_0 4 rfl rfl)
theorem dX3_sumUp_7 : decode cX3_sumUp 7 = .ok (.iconst 0, 1) := dk_3 (dk_at dksX3_sumUp_0 7 rfl rfl)
theorem dX3_sumUp_8 : decode cX3_sumUp 8 = .ok (.ireturn, 1) := dk_172 (dk_at dksX3_sumUp_0 8 rfl rfl)
theorem dX3_sumUp_9 : decode cX3_sumUp 9 = .ok (.aload_n 0, 1) := dk_42 (dk_at dksX3_sumUp_0 9 rfl rfl)
theorem dX3_sumUp_10 : decode cX3_sumUp 10 = .ok (.getfield 167, 3) := dk_180 0 167 (dk_at dksX3_sumUp_0 10 rfl rfl)
theorem dX3_sumUp_13 : decode cX3_sumUp 13 = .ok (.sipush 143, 3) := dk_17 0 143 (dk_at dksX3_sumUp_0 13 rfl rfl)
theorem dX3_sumUp_16 : decode cX3_sumUp 16 = .ok (.if_icmp .eq 13, 3) := dk_159 0 13 (dk_at dksX3_sumUp_0 16 rfl rfl)
theorem dX3_sumUp_19 : decode cX3_sumUp 19 = .ok (.aload_n 0, 1) := dk_42 (dk_at dksX3_sumUp_0 19 rfl rfl)
theorem dX3_sumUp_20 : decode cX3_sumUp 20 = .ok (.getfield 167, 3) := dk_180 0 167 (dk_at dksX3_sumUp_0 20 rfl rfl)
theorem dX3_sumUp_23 : decode cX3_sumUp 23 = .ok (.sipush 145, 3) := dk_17 0 145 (dk_at dksX3_sumUp_1 0 rfl rfl)
theorem dX3_sumUp_26 : decode cX3_sumUp 26 = .ok (.if_icmp .ne 43, 3) := dk_160 0 43 (dk_at dksX3_sumUp_1 3 rfl rfl)
theorem dX3_sumUp_29 : decode cX3_sumUp 29 = .ok (.aload_n 0, 1) := dk_42 (dk_at dksX3_sumUp_1 6 rfl rfl)
theorem dX3_sumUp_30 : decode cX3_sumUp 30 = .ok (.getfield 167, 3) := dk_180 0 167 (dk_at dksX3_sumUp_1 7 rfl rfl)
theorem dX3_sumUp_33 : decode cX3_sumUp 33 = .ok (.sipush 143, 3) := dk_17 0 143 (dk_at dksX3_sumUp_1 10 rfl rfl)
theorem dX3_sumUp_36 : decode cX3_sumUp 36 = .ok (.if_icmp .ne 8, 3) := dk_160 0 8 (dk_at dksX3_sumUp_1 13 rfl rfl)
theorem dX3_sumUp_39 : decode cX3_sumUp 39 = .ok (.bipush 23, 2) := dk_16 23 (dk_at dksX3_sumUp_1 16 rfl rfl)
theorem dX3_sumUp_41 : decode cX3_sumUp 41 = .ok (.goto 5, 3) := dk_167 0 5 (dk_at dksX3_sumUp_1 18 rfl rfl)
theorem dX3_sumUp_44 : decode cX3_sumUp 44 = .ok (.bipush 24, 2) := dk_16 24 (dk_at dksX3_sumUp_1 21 rfl rfl)
theorem dX3_sumUp_46 : decode cX3_sumUp 46 = .ok (.istore_n 1, 1) := dk_60 (dk_at dksX3_sumUp_1 23 rfl rfl)
theorem dX3_sumUp_47 : decode cX3_sumUp 47 = .ok (.aload_n 0, 1) := dk_42 (dk_at dksX3_sumUp_2 0 rfl rfl)
theorem dX3_sumUp_48 : decode cX3_sumUp 48 = .ok (.invokevirtual 191, 3) := dk_182 0 191 (dk_at dksX3_sumUp_2 1 rfl rfl)
theorem dX3_sumUp_51 : decode cX3_sumUp 51 = .ok (.aload_n 0, 1) := dk_42 (dk_at dksX3_sumUp_2 4 rfl rfl)
theorem dX3_sumUp_52 : decode cX3_sumUp 52 = .ok (.invokevirtual 200, 3) := dk_182 0 200 (dk_at dksX3_sumUp_2 5 rfl rfl)
theorem dX3_sumUp_55 : decode cX3_sumUp 55 = .ok (.ifCond .ne 5, 3) := dk_154 0 5 (dk_at dksX3_sumUp_2 8 rfl rfl)
theorem dX3_sumUp_58 : decode cX3_sumUp 58 = .ok (.iconst 0, 1) := dk_3 (dk_at dksX3_sumUp_2 11 rfl rfl)
theorem dX3_sumUp_59 : decode cX3_sumUp 59 = .ok (.ireturn, 1) := dk_172 (dk_at dksX3_sumUp_2 12 rfl rfl)
theorem dX3_sumUp_60 : decode cX3_sumUp 60 = .ok (.aload_n 0, 1) := dk_42 (dk_at dksX3_sumUp_2 13 rfl rfl)
theorem dX3_sumUp_61 : decode cX3_sumUp 61 = .ok (.iload_n 1, 1) := dk_27 (dk_at dksX3_sumUp_2 14 rfl rfl)
theorem dX3_sumUp_62 : decode cX3_sumUp 62 = .ok (.iconst 0, 1) := dk_3 (dk_at dksX3_sumUp_2 15 rfl rfl)
theorem dX3_sumUp_63 : decode cX3_sumUp 63 = .ok (.invokevirtual 204, 3) := dk_182 0 204 (dk_at dksX3_sumUp_2 16 rfl rfl)
theorem dX3_sumUp_66 : decode cX3_sumUp 66 = .ok (.goto (-57), 3) := dk_167 255 199 (dk_at dksX3_sumUp_2 19 rfl rfl)
theorem dX3_sumUp_69 : decode cX3_sumUp 69 = .ok (.iconst 1, 1) := dk_4 (dk_at dksX3_sumUp_2 22 rfl rfl)
theorem dX3_sumUp_70 : decode cX3_sumUp 70 = .ok (.ireturn, 1) := dk_172 (dk_at dksX3_sumUp_2 23 rfl rfl)
abbrev cX3_product : ByteArray := prog_17_method_35_code
def yX3_product : MethodName := ⟨RX3, "product", "()Z"⟩
def dkwX3_product_5 : List UInt8 := [167, 255, 153, 4, 172]
abbrev dktX3_product_5 : List UInt8 := dkwX3_product_5 ++ []
def dkwX3_product_4 : List UInt8 := [182, 0, 204, 167, 0, 19, 42, 182, 0, 208, 154, 0, 5, 3, 172, 42, 16, 25, 3, 182, 0, 204]
abbrev dktX3_product_4 : List UInt8 := dkwX3_product_4 ++ dktX3_product_5
def dkwX3_product_3 : List UInt8 := [182, 0, 188, 172, 28, 154, 0, 9, 42, 5, 182, 0, 188, 172, 42, 182, 0, 191, 42, 16, 26, 28]
abbrev dktX3_product_3 : List UInt8 := dkwX3_product_3 ++ dktX3_product_4
def dkwX3_product_2 : List UInt8 := [182, 0, 191, 27, 153, 0, 46, 42, 180, 0, 179, 61, 42, 180, 0, 167, 5, 159, 0, 9, 42, 4]
abbrev dktX3_product_2 : List UInt8 := dkwX3_product_2 ++ dktX3_product_3
def dkwX3_product_1 : List UInt8 := [17, 0, 147, 160, 0, 89, 42, 180, 0, 167, 17, 0, 147, 160, 0, 7, 4, 167, 0, 4, 3, 60, 42]
abbrev dktX3_product_1 : List UInt8 := dkwX3_product_1 ++ dktX3_product_2
def dkwX3_product_0 : List UInt8 := [42, 182, 0, 208, 154, 0, 5, 3, 172, 42, 180, 0, 167, 17, 0, 142, 159, 0, 13, 42, 180, 0, 167]
abbrev dktX3_product_0 : List UInt8 := dkwX3_product_0 ++ dktX3_product_1
theorem dksX3_product_0 : cX3_product.data.toList.drop 0 = dktX3_product_0 := by decide +kernel
theorem dksX3_product_1 : cX3_product.data.toList.drop 23 = dktX3_product_1 := dk_seg dksX3_product_0 23 rfl rfl
theorem dksX3_product_2 : cX3_product.data.toList.drop 46 = dktX3_product_2 := dk_seg dksX3_product_1 23 rfl rfl
theorem dksX3_product_3 : cX3_product.data.toList.drop 68 = dktX3_product_3 := dk_seg dksX3_product_2 22 rfl rfl
theorem dksX3_product_4 : cX3_product.data.toList.drop 90 = dktX3_product_4 := dk_seg dksX3_product_3 22 rfl rfl
theorem dksX3_product_5 : cX3_product.data.toList.drop 112 = dktX3_product_5 := dk_seg dksX3_product_4 22 rfl rfl
theorem dX3_product_0 : decode cX3_product 0 = .ok (.aload_n 0, 1) := dk_42 (dk_at dksX3_product_0 0 rfl rfl)
theorem dX3_product_1 : decode cX3_product 1 = .ok (.invokevirtual 208, 3) := dk_182 0 208 (dk_at dksX3_product_0 1 rfl rfl)
theorem dX3_product_4 : decode cX3_product 4 = .ok (.ifCond .ne 5, 3) := dk_154 0 5 (dk_at dksX3_product_0 4 rfl rfl)
theorem dX3_product_7 : decode cX3_product 7 = .ok (.iconst 0, 1) := dk_3 (dk_at dksX3_product_0 7 rfl rfl)
theorem dX3_product_8 : decode cX3_product 8 = .ok (.ireturn, 1) := dk_172 (dk_at dksX3_product_0 8 rfl rfl)
theorem dX3_product_9 : decode cX3_product 9 = .ok (.aload_n 0, 1) := dk_42 (dk_at dksX3_product_0 9 rfl rfl)
theorem dX3_product_10 : decode cX3_product 10 = .ok (.getfield 167, 3) := dk_180 0 167 (dk_at dksX3_product_0 10 rfl rfl)
theorem dX3_product_13 : decode cX3_product 13 = .ok (.sipush 142, 3) := dk_17 0 142 (dk_at dksX3_product_0 13 rfl rfl)
theorem dX3_product_16 : decode cX3_product 16 = .ok (.if_icmp .eq 13, 3) := dk_159 0 13 (dk_at dksX3_product_0 16 rfl rfl)
theorem dX3_product_19 : decode cX3_product 19 = .ok (.aload_n 0, 1) := dk_42 (dk_at dksX3_product_0 19 rfl rfl)
theorem dX3_product_20 : decode cX3_product 20 = .ok (.getfield 167, 3) := dk_180 0 167 (dk_at dksX3_product_0 20 rfl rfl)
theorem dX3_product_23 : decode cX3_product 23 = .ok (.sipush 147, 3) := dk_17 0 147 (dk_at dksX3_product_1 0 rfl rfl)
theorem dX3_product_26 : decode cX3_product 26 = .ok (.if_icmp .ne 89, 3) := dk_160 0 89 (dk_at dksX3_product_1 3 rfl rfl)
theorem dX3_product_29 : decode cX3_product 29 = .ok (.aload_n 0, 1) := dk_42 (dk_at dksX3_product_1 6 rfl rfl)
theorem dX3_product_30 : decode cX3_product 30 = .ok (.getfield 167, 3) := dk_180 0 167 (dk_at dksX3_product_1 7 rfl rfl)
theorem dX3_product_33 : decode cX3_product 33 = .ok (.sipush 147, 3) := dk_17 0 147 (dk_at dksX3_product_1 10 rfl rfl)
theorem dX3_product_36 : decode cX3_product 36 = .ok (.if_icmp .ne 7, 3) := dk_160 0 7 (dk_at dksX3_product_1 13 rfl rfl)
theorem dX3_product_39 : decode cX3_product 39 = .ok (.iconst 1, 1) := dk_4 (dk_at dksX3_product_1 16 rfl rfl)
theorem dX3_product_40 : decode cX3_product 40 = .ok (.goto 4, 3) := dk_167 0 4 (dk_at dksX3_product_1 17 rfl rfl)
theorem dX3_product_43 : decode cX3_product 43 = .ok (.iconst 0, 1) := dk_3 (dk_at dksX3_product_1 20 rfl rfl)
theorem dX3_product_44 : decode cX3_product 44 = .ok (.istore_n 1, 1) := dk_60 (dk_at dksX3_product_1 21 rfl rfl)
theorem dX3_product_45 : decode cX3_product 45 = .ok (.aload_n 0, 1) := dk_42 (dk_at dksX3_product_1 22 rfl rfl)
theorem dX3_product_46 : decode cX3_product 46 = .ok (.invokevirtual 191, 3) := dk_182 0 191 (dk_at dksX3_product_2 0 rfl rfl)
theorem dX3_product_49 : decode cX3_product 49 = .ok (.iload_n 1, 1) := dk_27 (dk_at dksX3_product_2 3 rfl rfl)
theorem dX3_product_50 : decode cX3_product 50 = .ok (.ifCond .eq 46, 3) := dk_153 0 46 (dk_at dksX3_product_2 4 rfl rfl)
theorem dX3_product_53 : decode cX3_product 53 = .ok (.aload_n 0, 1) := dk_42 (dk_at dksX3_product_2 7 rfl rfl)
theorem dX3_product_54 : decode cX3_product 54 = .ok (.getfield 179, 3) := dk_180 0 179 (dk_at dksX3_product_2 8 rfl rfl)
theorem dX3_product_57 : decode cX3_product 57 = .ok (.istore_n 2, 1) := dk_61 (dk_at dksX3_product_2 11 rfl rfl)
theorem dX3_product_58 : decode cX3_product 58 = .ok (.aload_n 0, 1) := dk_42 (dk_at dksX3_product_2 12 rfl rfl)
theorem dX3_product_59 : decode cX3_product 59 = .ok (.getfield 167, 3) := dk_180 0 167 (dk_at dksX3_product_2 13 rfl rfl)
theorem dX3_product_62 : decode cX3_product 62 = .ok (.iconst 2, 1) := dk_5 (dk_at dksX3_product_2 16 rfl rfl)
theorem dX3_product_63 : decode cX3_product 63 = .ok (.if_icmp .eq 9, 3) := dk_159 0 9 (dk_at dksX3_product_2 17 rfl rfl)
theorem dX3_product_66 : decode cX3_product 66 = .ok (.aload_n 0, 1) := dk_42 (dk_at dksX3_product_2 20 rfl rfl)
theorem dX3_product_67 : decode cX3_product 67 = .ok (.iconst 1, 1) := dk_4 (dk_at dksX3_product_2 21 rfl rfl)
theorem dX3_product_68 : decode cX3_product 68 = .ok (.invokevirtual 188, 3) := dk_182 0 188 (dk_at dksX3_product_3 0 rfl rfl)
theorem dX3_product_71 : decode cX3_product 71 = .ok (.ireturn, 1) := dk_172 (dk_at dksX3_product_3 3 rfl rfl)
theorem dX3_product_72 : decode cX3_product 72 = .ok (.iload_n 2, 1) := dk_28 (dk_at dksX3_product_3 4 rfl rfl)
theorem dX3_product_73 : decode cX3_product 73 = .ok (.ifCond .ne 9, 3) := dk_154 0 9 (dk_at dksX3_product_3 5 rfl rfl)
theorem dX3_product_76 : decode cX3_product 76 = .ok (.aload_n 0, 1) := dk_42 (dk_at dksX3_product_3 8 rfl rfl)
theorem dX3_product_77 : decode cX3_product 77 = .ok (.iconst 2, 1) := dk_5 (dk_at dksX3_product_3 9 rfl rfl)
theorem dX3_product_78 : decode cX3_product 78 = .ok (.invokevirtual 188, 3) := dk_182 0 188 (dk_at dksX3_product_3 10 rfl rfl)
theorem dX3_product_81 : decode cX3_product 81 = .ok (.ireturn, 1) := dk_172 (dk_at dksX3_product_3 13 rfl rfl)
theorem dX3_product_82 : decode cX3_product 82 = .ok (.aload_n 0, 1) := dk_42 (dk_at dksX3_product_3 14 rfl rfl)
theorem dX3_product_83 : decode cX3_product 83 = .ok (.invokevirtual 191, 3) := dk_182 0 191 (dk_at dksX3_product_3 15 rfl rfl)
theorem dX3_product_86 : decode cX3_product 86 = .ok (.aload_n 0, 1) := dk_42 (dk_at dksX3_product_3 18 rfl rfl)
theorem dX3_product_87 : decode cX3_product 87 = .ok (.bipush 26, 2) := dk_16 26 (dk_at dksX3_product_3 19 rfl rfl)
theorem dX3_product_89 : decode cX3_product 89 = .ok (.iload_n 2, 1) := dk_28 (dk_at dksX3_product_3 21 rfl rfl)
theorem dX3_product_90 : decode cX3_product 90 = .ok (.invokevirtual 204, 3) := dk_182 0 204 (dk_at dksX3_product_4 0 rfl rfl)
theorem dX3_product_93 : decode cX3_product 93 = .ok (.goto 19, 3) := dk_167 0 19 (dk_at dksX3_product_4 3 rfl rfl)
theorem dX3_product_96 : decode cX3_product 96 = .ok (.aload_n 0, 1) := dk_42 (dk_at dksX3_product_4 6 rfl rfl)
theorem dX3_product_97 : decode cX3_product 97 = .ok (.invokevirtual 208, 3) := dk_182 0 208 (dk_at dksX3_product_4 7 rfl rfl)
theorem dX3_product_100 : decode cX3_product 100 = .ok (.ifCond .ne 5, 3) := dk_154 0 5 (dk_at dksX3_product_4 10 rfl rfl)
theorem dX3_product_103 : decode cX3_product 103 = .ok (.iconst 0, 1) := dk_3 (dk_at dksX3_product_4 13 rfl rfl)
theorem dX3_product_104 : decode cX3_product 104 = .ok (.ireturn, 1) := dk_172 (dk_at dksX3_product_4 14 rfl rfl)
theorem dX3_product_105 : decode cX3_product 105 = .ok (.aload_n 0, 1) := dk_42 (dk_at dksX3_product_4 15 rfl rfl)
theorem dX3_product_106 : decode cX3_product 106 = .ok (.bipush 25, 2) := dk_16 25 (dk_at dksX3_product_4 16 rfl rfl)
theorem dX3_product_108 : decode cX3_product 108 = .ok (.iconst 0, 1) := dk_3 (dk_at dksX3_product_4 18 rfl rfl)
theorem dX3_product_109 : decode cX3_product 109 = .ok (.invokevirtual 204, 3) := dk_182 0 204 (dk_at dksX3_product_4 19 rfl rfl)
theorem dX3_product_112 : decode cX3_product 112 = .ok (.goto (-103), 3) := dk_167 255 153 (dk_at dksX3_product_5 0 rfl rfl)
theorem dX3_product_115 : decode cX3_product 115 = .ok (.iconst 1, 1) := dk_4 (dk_at dksX3_product_5 3 rfl rfl)
theorem dX3_product_116 : decode cX3_product 116 = .ok (.ireturn, 1) := dk_172 (dk_at dksX3_product_5 4 rfl rfl)
abbrev cX3_unit : ByteArray := prog_17_method_36_code
def yX3_unit : MethodName := ⟨RX3, "unit", "()Z"⟩
def dkwX3_unit_2 : List UInt8 := [180, 0, 179, 182, 0, 204, 42, 182, 0, 191, 4, 172]
abbrev dktX3_unit_2 : List UInt8 := dkwX3_unit_2 ++ []
def dkwX3_unit_1 : List UInt8 := [42, 4, 182, 0, 188, 172, 42, 27, 153, 0, 13, 42, 180, 0, 167, 16, 40, 100, 167, 0, 4, 3, 42]
abbrev dktX3_unit_1 : List UInt8 := dkwX3_unit_1 ++ dktX3_unit_2
def dkwX3_unit_0 : List UInt8 := [42, 180, 0, 167, 16, 41, 16, 49, 184, 0, 54, 60, 42, 180, 0, 167, 5, 159, 0, 13, 27, 154, 0, 9]
abbrev dktX3_unit_0 : List UInt8 := dkwX3_unit_0 ++ dktX3_unit_1
theorem dksX3_unit_0 : cX3_unit.data.toList.drop 0 = dktX3_unit_0 := by decide +kernel
theorem dksX3_unit_1 : cX3_unit.data.toList.drop 24 = dktX3_unit_1 := dk_seg dksX3_unit_0 24 rfl rfl
theorem dksX3_unit_2 : cX3_unit.data.toList.drop 47 = dktX3_unit_2 := dk_seg dksX3_unit_1 23 rfl rfl
theorem dX3_unit_0 : decode cX3_unit 0 = .ok (.aload_n 0, 1) := dk_42 (dk_at dksX3_unit_0 0 rfl rfl)
theorem dX3_unit_1 : decode cX3_unit 1 = .ok (.getfield 167, 3) := dk_180 0 167 (dk_at dksX3_unit_0 1 rfl rfl)
theorem dX3_unit_4 : decode cX3_unit 4 = .ok (.bipush 41, 2) := dk_16 41 (dk_at dksX3_unit_0 4 rfl rfl)
theorem dX3_unit_6 : decode cX3_unit 6 = .ok (.bipush 49, 2) := dk_16 49 (dk_at dksX3_unit_0 6 rfl rfl)
theorem dX3_unit_8 : decode cX3_unit 8 = .ok (.invokestatic 54, 3) := dk_184 0 54 (dk_at dksX3_unit_0 8 rfl rfl)
theorem dX3_unit_11 : decode cX3_unit 11 = .ok (.istore_n 1, 1) := dk_60 (dk_at dksX3_unit_0 11 rfl rfl)
theorem dX3_unit_12 : decode cX3_unit 12 = .ok (.aload_n 0, 1) := dk_42 (dk_at dksX3_unit_0 12 rfl rfl)
theorem dX3_unit_13 : decode cX3_unit 13 = .ok (.getfield 167, 3) := dk_180 0 167 (dk_at dksX3_unit_0 13 rfl rfl)
theorem dX3_unit_16 : decode cX3_unit 16 = .ok (.iconst 2, 1) := dk_5 (dk_at dksX3_unit_0 16 rfl rfl)
theorem dX3_unit_17 : decode cX3_unit 17 = .ok (.if_icmp .eq 13, 3) := dk_159 0 13 (dk_at dksX3_unit_0 17 rfl rfl)
theorem dX3_unit_20 : decode cX3_unit 20 = .ok (.iload_n 1, 1) := dk_27 (dk_at dksX3_unit_0 20 rfl rfl)
theorem dX3_unit_21 : decode cX3_unit 21 = .ok (.ifCond .ne 9, 3) := dk_154 0 9 (dk_at dksX3_unit_0 21 rfl rfl)
theorem dX3_unit_24 : decode cX3_unit 24 = .ok (.aload_n 0, 1) := dk_42 (dk_at dksX3_unit_1 0 rfl rfl)
theorem dX3_unit_25 : decode cX3_unit 25 = .ok (.iconst 1, 1) := dk_4 (dk_at dksX3_unit_1 1 rfl rfl)
theorem dX3_unit_26 : decode cX3_unit 26 = .ok (.invokevirtual 188, 3) := dk_182 0 188 (dk_at dksX3_unit_1 2 rfl rfl)
theorem dX3_unit_29 : decode cX3_unit 29 = .ok (.ireturn, 1) := dk_172 (dk_at dksX3_unit_1 5 rfl rfl)
theorem dX3_unit_30 : decode cX3_unit 30 = .ok (.aload_n 0, 1) := dk_42 (dk_at dksX3_unit_1 6 rfl rfl)
theorem dX3_unit_31 : decode cX3_unit 31 = .ok (.iload_n 1, 1) := dk_27 (dk_at dksX3_unit_1 7 rfl rfl)
theorem dX3_unit_32 : decode cX3_unit 32 = .ok (.ifCond .eq 13, 3) := dk_153 0 13 (dk_at dksX3_unit_1 8 rfl rfl)
theorem dX3_unit_35 : decode cX3_unit 35 = .ok (.aload_n 0, 1) := dk_42 (dk_at dksX3_unit_1 11 rfl rfl)
theorem dX3_unit_36 : decode cX3_unit 36 = .ok (.getfield 167, 3) := dk_180 0 167 (dk_at dksX3_unit_1 12 rfl rfl)
theorem dX3_unit_39 : decode cX3_unit 39 = .ok (.bipush 40, 2) := dk_16 40 (dk_at dksX3_unit_1 15 rfl rfl)
theorem dX3_unit_41 : decode cX3_unit 41 = .ok (.isub, 1) := dk_100 (dk_at dksX3_unit_1 17 rfl rfl)
theorem dX3_unit_42 : decode cX3_unit 42 = .ok (.goto 4, 3) := dk_167 0 4 (dk_at dksX3_unit_1 18 rfl rfl)
theorem dX3_unit_45 : decode cX3_unit 45 = .ok (.iconst 0, 1) := dk_3 (dk_at dksX3_unit_1 21 rfl rfl)
theorem dX3_unit_46 : decode cX3_unit 46 = .ok (.aload_n 0, 1) := dk_42 (dk_at dksX3_unit_1 22 rfl rfl)
theorem dX3_unit_47 : decode cX3_unit 47 = .ok (.getfield 179, 3) := dk_180 0 179 (dk_at dksX3_unit_2 0 rfl rfl)
theorem dX3_unit_50 : decode cX3_unit 50 = .ok (.invokevirtual 204, 3) := dk_182 0 204 (dk_at dksX3_unit_2 3 rfl rfl)
theorem dX3_unit_53 : decode cX3_unit 53 = .ok (.aload_n 0, 1) := dk_42 (dk_at dksX3_unit_2 6 rfl rfl)
theorem dX3_unit_54 : decode cX3_unit 54 = .ok (.invokevirtual 191, 3) := dk_182 0 191 (dk_at dksX3_unit_2 7 rfl rfl)
theorem dX3_unit_57 : decode cX3_unit 57 = .ok (.iconst 1, 1) := dk_4 (dk_at dksX3_unit_2 10 rfl rfl)
theorem dX3_unit_58 : decode cX3_unit 58 = .ok (.ireturn, 1) := dk_172 (dk_at dksX3_unit_2 11 rfl rfl)
abbrev cX3_lay : ByteArray := prog_17_method_32_code
def yX3_lay : MethodName := ⟨RX3, "lay", "(II)V"⟩
def dkwX3_lay_1 : List UInt8 := [28, 79, 42, 89, 180, 0, 194, 4, 96, 181, 0, 194, 177]
abbrev dktX3_lay_1 : List UInt8 := dkwX3_lay_1 ++ []
def dkwX3_lay_0 : List UInt8 := [42, 180, 0, 25, 5, 42, 180, 0, 194, 104, 27, 79, 42, 180, 0, 25, 5, 42, 180, 0, 194, 104, 4, 96]
abbrev dktX3_lay_0 : List UInt8 := dkwX3_lay_0 ++ dktX3_lay_1
theorem dksX3_lay_0 : cX3_lay.data.toList.drop 0 = dktX3_lay_0 := by decide +kernel
theorem dksX3_lay_1 : cX3_lay.data.toList.drop 24 = dktX3_lay_1 := dk_seg dksX3_lay_0 24 rfl rfl
theorem dX3_lay_0 : decode cX3_lay 0 = .ok (.aload_n 0, 1) := dk_42 (dk_at dksX3_lay_0 0 rfl rfl)
theorem dX3_lay_1 : decode cX3_lay 1 = .ok (.getfield 25, 3) := dk_180 0 25 (dk_at dksX3_lay_0 1 rfl rfl)
theorem dX3_lay_4 : decode cX3_lay 4 = .ok (.iconst 2, 1) := dk_5 (dk_at dksX3_lay_0 4 rfl rfl)
theorem dX3_lay_5 : decode cX3_lay 5 = .ok (.aload_n 0, 1) := dk_42 (dk_at dksX3_lay_0 5 rfl rfl)
theorem dX3_lay_6 : decode cX3_lay 6 = .ok (.getfield 194, 3) := dk_180 0 194 (dk_at dksX3_lay_0 6 rfl rfl)
theorem dX3_lay_9 : decode cX3_lay 9 = .ok (.imul, 1) := dk_104 (dk_at dksX3_lay_0 9 rfl rfl)
theorem dX3_lay_10 : decode cX3_lay 10 = .ok (.iload_n 1, 1) := dk_27 (dk_at dksX3_lay_0 10 rfl rfl)
theorem dX3_lay_11 : decode cX3_lay 11 = .ok (.iastore, 1) := dk_79 (dk_at dksX3_lay_0 11 rfl rfl)
theorem dX3_lay_12 : decode cX3_lay 12 = .ok (.aload_n 0, 1) := dk_42 (dk_at dksX3_lay_0 12 rfl rfl)
theorem dX3_lay_13 : decode cX3_lay 13 = .ok (.getfield 25, 3) := dk_180 0 25 (dk_at dksX3_lay_0 13 rfl rfl)
theorem dX3_lay_16 : decode cX3_lay 16 = .ok (.iconst 2, 1) := dk_5 (dk_at dksX3_lay_0 16 rfl rfl)
theorem dX3_lay_17 : decode cX3_lay 17 = .ok (.aload_n 0, 1) := dk_42 (dk_at dksX3_lay_0 17 rfl rfl)
theorem dX3_lay_18 : decode cX3_lay 18 = .ok (.getfield 194, 3) := dk_180 0 194 (dk_at dksX3_lay_0 18 rfl rfl)
theorem dX3_lay_21 : decode cX3_lay 21 = .ok (.imul, 1) := dk_104 (dk_at dksX3_lay_0 21 rfl rfl)
theorem dX3_lay_22 : decode cX3_lay 22 = .ok (.iconst 1, 1) := dk_4 (dk_at dksX3_lay_0 22 rfl rfl)
theorem dX3_lay_23 : decode cX3_lay 23 = .ok (.iadd, 1) := dk_96 (dk_at dksX3_lay_0 23 rfl rfl)
theorem dX3_lay_24 : decode cX3_lay 24 = .ok (.iload_n 2, 1) := dk_28 (dk_at dksX3_lay_1 0 rfl rfl)
theorem dX3_lay_25 : decode cX3_lay 25 = .ok (.iastore, 1) := dk_79 (dk_at dksX3_lay_1 1 rfl rfl)
theorem dX3_lay_26 : decode cX3_lay 26 = .ok (.aload_n 0, 1) := dk_42 (dk_at dksX3_lay_1 2 rfl rfl)
theorem dX3_lay_27 : decode cX3_lay 27 = .ok (.dup, 1) := dk_89 (dk_at dksX3_lay_1 3 rfl rfl)
theorem dX3_lay_28 : decode cX3_lay 28 = .ok (.getfield 194, 3) := dk_180 0 194 (dk_at dksX3_lay_1 4 rfl rfl)
theorem dX3_lay_31 : decode cX3_lay 31 = .ok (.iconst 1, 1) := dk_4 (dk_at dksX3_lay_1 7 rfl rfl)
theorem dX3_lay_32 : decode cX3_lay 32 = .ok (.iadd, 1) := dk_96 (dk_at dksX3_lay_1 8 rfl rfl)
theorem dX3_lay_33 : decode cX3_lay 33 = .ok (.putfield 194, 3) := dk_181 0 194 (dk_at dksX3_lay_1 9 rfl rfl)
theorem dX3_lay_36 : decode cX3_lay 36 = .ok (.return_, 1) := dk_177 (dk_at dksX3_lay_1 12 rfl rfl)
abbrev cX3_any : ByteArray := prog_17_method_37_code
def yX3_any : MethodName := ⟨RX3, "any", "()Z"⟩
def dkwX3_any_1 : List UInt8 := [182, 0, 211, 154, 0, 5, 3, 172, 42, 16, 32, 3, 182, 0, 204, 167, 255, 228, 4, 172]
abbrev dktX3_any_1 : List UInt8 := dkwX3_any_1 ++ []
def dkwX3_any_0 : List UInt8 := [42, 182, 0, 211, 154, 0, 5, 3, 172, 42, 180, 0, 167, 7, 160, 0, 26, 42, 182, 0, 191, 42]
abbrev dktX3_any_0 : List UInt8 := dkwX3_any_0 ++ dktX3_any_1
theorem dksX3_any_0 : cX3_any.data.toList.drop 0 = dktX3_any_0 := by decide +kernel
theorem dksX3_any_1 : cX3_any.data.toList.drop 22 = dktX3_any_1 := dk_seg dksX3_any_0 22 rfl rfl
theorem dX3_any_0 : decode cX3_any 0 = .ok (.aload_n 0, 1) := dk_42 (dk_at dksX3_any_0 0 rfl rfl)
theorem dX3_any_1 : decode cX3_any 1 = .ok (.invokevirtual 211, 3) := dk_182 0 211 (dk_at dksX3_any_0 1 rfl rfl)
theorem dX3_any_4 : decode cX3_any 4 = .ok (.ifCond .ne 5, 3) := dk_154 0 5 (dk_at dksX3_any_0 4 rfl rfl)
theorem dX3_any_7 : decode cX3_any 7 = .ok (.iconst 0, 1) := dk_3 (dk_at dksX3_any_0 7 rfl rfl)
theorem dX3_any_8 : decode cX3_any 8 = .ok (.ireturn, 1) := dk_172 (dk_at dksX3_any_0 8 rfl rfl)
theorem dX3_any_9 : decode cX3_any 9 = .ok (.aload_n 0, 1) := dk_42 (dk_at dksX3_any_0 9 rfl rfl)
theorem dX3_any_10 : decode cX3_any 10 = .ok (.getfield 167, 3) := dk_180 0 167 (dk_at dksX3_any_0 10 rfl rfl)
theorem dX3_any_13 : decode cX3_any 13 = .ok (.iconst 4, 1) := dk_7 (dk_at dksX3_any_0 13 rfl rfl)
theorem dX3_any_14 : decode cX3_any 14 = .ok (.if_icmp .ne 26, 3) := dk_160 0 26 (dk_at dksX3_any_0 14 rfl rfl)
theorem dX3_any_17 : decode cX3_any 17 = .ok (.aload_n 0, 1) := dk_42 (dk_at dksX3_any_0 17 rfl rfl)
theorem dX3_any_18 : decode cX3_any 18 = .ok (.invokevirtual 191, 3) := dk_182 0 191 (dk_at dksX3_any_0 18 rfl rfl)
theorem dX3_any_21 : decode cX3_any 21 = .ok (.aload_n 0, 1) := dk_42 (dk_at dksX3_any_0 21 rfl rfl)
theorem dX3_any_22 : decode cX3_any 22 = .ok (.invokevirtual 211, 3) := dk_182 0 211 (dk_at dksX3_any_1 0 rfl rfl)
theorem dX3_any_25 : decode cX3_any 25 = .ok (.ifCond .ne 5, 3) := dk_154 0 5 (dk_at dksX3_any_1 3 rfl rfl)
theorem dX3_any_28 : decode cX3_any 28 = .ok (.iconst 0, 1) := dk_3 (dk_at dksX3_any_1 6 rfl rfl)
theorem dX3_any_29 : decode cX3_any 29 = .ok (.ireturn, 1) := dk_172 (dk_at dksX3_any_1 7 rfl rfl)
theorem dX3_any_30 : decode cX3_any 30 = .ok (.aload_n 0, 1) := dk_42 (dk_at dksX3_any_1 8 rfl rfl)
theorem dX3_any_31 : decode cX3_any 31 = .ok (.bipush 32, 2) := dk_16 32 (dk_at dksX3_any_1 9 rfl rfl)
theorem dX3_any_33 : decode cX3_any 33 = .ok (.iconst 0, 1) := dk_3 (dk_at dksX3_any_1 11 rfl rfl)
theorem dX3_any_34 : decode cX3_any 34 = .ok (.invokevirtual 204, 3) := dk_182 0 204 (dk_at dksX3_any_1 12 rfl rfl)
theorem dX3_any_37 : decode cX3_any 37 = .ok (.goto (-28), 3) := dk_167 255 228 (dk_at dksX3_any_1 15 rfl rfl)
theorem dX3_any_40 : decode cX3_any 40 = .ok (.iconst 1, 1) := dk_4 (dk_at dksX3_any_1 18 rfl rfl)
theorem dX3_any_41 : decode cX3_any 41 = .ok (.ireturn, 1) := dk_172 (dk_at dksX3_any_1 19 rfl rfl)
abbrev cX3_every : ByteArray := prog_17_method_38_code
def yX3_every : MethodName := ⟨RX3, "every", "()Z"⟩
def dkwX3_every_1 : List UInt8 := [182, 0, 214, 154, 0, 5, 3, 172, 42, 16, 31, 3, 182, 0, 204, 167, 255, 228, 4, 172]
abbrev dktX3_every_1 : List UInt8 := dkwX3_every_1 ++ []
def dkwX3_every_0 : List UInt8 := [42, 182, 0, 214, 154, 0, 5, 3, 172, 42, 180, 0, 167, 8, 160, 0, 26, 42, 182, 0, 191, 42]
abbrev dktX3_every_0 : List UInt8 := dkwX3_every_0 ++ dktX3_every_1
theorem dksX3_every_0 : cX3_every.data.toList.drop 0 = dktX3_every_0 := by decide +kernel
theorem dksX3_every_1 : cX3_every.data.toList.drop 22 = dktX3_every_1 := dk_seg dksX3_every_0 22 rfl rfl
theorem dX3_every_0 : decode cX3_every 0 = .ok (.aload_n 0, 1) := dk_42 (dk_at dksX3_every_0 0 rfl rfl)
theorem dX3_every_1 : decode cX3_every 1 = .ok (.invokevirtual 214, 3) := dk_182 0 214 (dk_at dksX3_every_0 1 rfl rfl)
theorem dX3_every_4 : decode cX3_every 4 = .ok (.ifCond .ne 5, 3) := dk_154 0 5 (dk_at dksX3_every_0 4 rfl rfl)
theorem dX3_every_7 : decode cX3_every 7 = .ok (.iconst 0, 1) := dk_3 (dk_at dksX3_every_0 7 rfl rfl)
theorem dX3_every_8 : decode cX3_every 8 = .ok (.ireturn, 1) := dk_172 (dk_at dksX3_every_0 8 rfl rfl)
theorem dX3_every_9 : decode cX3_every 9 = .ok (.aload_n 0, 1) := dk_42 (dk_at dksX3_every_0 9 rfl rfl)
theorem dX3_every_10 : decode cX3_every 10 = .ok (.getfield 167, 3) := dk_180 0 167 (dk_at dksX3_every_0 10 rfl rfl)
theorem dX3_every_13 : decode cX3_every 13 = .ok (.iconst 5, 1) := dk_8 (dk_at dksX3_every_0 13 rfl rfl)
theorem dX3_every_14 : decode cX3_every 14 = .ok (.if_icmp .ne 26, 3) := dk_160 0 26 (dk_at dksX3_every_0 14 rfl rfl)
theorem dX3_every_17 : decode cX3_every 17 = .ok (.aload_n 0, 1) := dk_42 (dk_at dksX3_every_0 17 rfl rfl)
theorem dX3_every_18 : decode cX3_every 18 = .ok (.invokevirtual 191, 3) := dk_182 0 191 (dk_at dksX3_every_0 18 rfl rfl)
theorem dX3_every_21 : decode cX3_every 21 = .ok (.aload_n 0, 1) := dk_42 (dk_at dksX3_every_0 21 rfl rfl)
theorem dX3_every_22 : decode cX3_every 22 = .ok (.invokevirtual 214, 3) := dk_182 0 214 (dk_at dksX3_every_1 0 rfl rfl)
theorem dX3_every_25 : decode cX3_every 25 = .ok (.ifCond .ne 5, 3) := dk_154 0 5 (dk_at dksX3_every_1 3 rfl rfl)
theorem dX3_every_28 : decode cX3_every 28 = .ok (.iconst 0, 1) := dk_3 (dk_at dksX3_every_1 6 rfl rfl)
theorem dX3_every_29 : decode cX3_every 29 = .ok (.ireturn, 1) := dk_172 (dk_at dksX3_every_1 7 rfl rfl)
theorem dX3_every_30 : decode cX3_every 30 = .ok (.aload_n 0, 1) := dk_42 (dk_at dksX3_every_1 8 rfl rfl)
theorem dX3_every_31 : decode cX3_every 31 = .ok (.bipush 31, 2) := dk_16 31 (dk_at dksX3_every_1 9 rfl rfl)
theorem dX3_every_33 : decode cX3_every 33 = .ok (.iconst 0, 1) := dk_3 (dk_at dksX3_every_1 11 rfl rfl)
theorem dX3_every_34 : decode cX3_every 34 = .ok (.invokevirtual 204, 3) := dk_182 0 204 (dk_at dksX3_every_1 12 rfl rfl)
theorem dX3_every_37 : decode cX3_every 37 = .ok (.goto (-28), 3) := dk_167 255 228 (dk_at dksX3_every_1 15 rfl rfl)
theorem dX3_every_40 : decode cX3_every 40 = .ok (.iconst 1, 1) := dk_4 (dk_at dksX3_every_1 18 rfl rfl)
theorem dX3_every_41 : decode cX3_every 41 = .ok (.ireturn, 1) := dk_172 (dk_at dksX3_every_1 19 rfl rfl)
abbrev cX3_oneTest : ByteArray := prog_17_method_39_code
def yX3_oneTest : MethodName := ⟨RX3, "oneTest", "()Z"⟩
def dkwX3_oneTest_7 : List UInt8 := [154, 0, 5, 3, 172, 42, 27, 3, 182, 0, 204, 4, 172]
abbrev dktX3_oneTest_7 : List UInt8 := dkwX3_oneTest_7 ++ []
def dkwX3_oneTest_6 : List UInt8 := [167, 0, 4, 2, 60, 27, 2, 160, 0, 9, 42, 4, 182, 0, 188, 172, 42, 182, 0, 191, 42, 182, 0, 226]
abbrev dktX3_oneTest_6 : List UInt8 := dkwX3_oneTest_6 ++ dktX3_oneTest_7
def dkwX3_oneTest_5 : List UInt8 := [17, 0, 161, 160, 0, 8, 16, 28, 167, 0, 19, 42, 180, 0, 167, 17, 0, 162, 160, 0, 8, 16, 29]
abbrev dktX3_oneTest_5 : List UInt8 := dkwX3_oneTest_5 ++ dktX3_oneTest_6
def dkwX3_oneTest_4 : List UInt8 := [154, 0, 5, 3, 172, 42, 180, 0, 167, 17, 0, 160, 160, 0, 8, 16, 27, 167, 0, 34, 42, 180, 0, 167]
abbrev dktX3_oneTest_4 : List UInt8 := dkwX3_oneTest_4 ++ dktX3_oneTest_5
def dkwX3_oneTest_3 : List UInt8 := [182, 0, 223, 154, 0, 5, 3, 172, 42, 89, 180, 0, 197, 4, 100, 181, 0, 197, 4, 172, 42, 182, 0, 226]
abbrev dktX3_oneTest_3 : List UInt8 := dkwX3_oneTest_3 ++ dktX3_oneTest_4
def dkwX3_oneTest_2 : List UInt8 := [17, 0, 140, 160, 0, 41, 42, 182, 0, 217, 153, 0, 20, 42, 182, 0, 220, 153, 0, 13, 42, 17, 0, 141]
abbrev dktX3_oneTest_2 : List UInt8 := dkwX3_oneTest_2 ++ dktX3_oneTest_3
def dkwX3_oneTest_1 : List UInt8 := [172, 42, 89, 180, 0, 197, 4, 100, 181, 0, 197, 42, 16, 30, 3, 182, 0, 204, 4, 172, 42, 180, 0, 167]
abbrev dktX3_oneTest_1 : List UInt8 := dkwX3_oneTest_1 ++ dktX3_oneTest_2
def dkwX3_oneTest_0 : List UInt8 := [42, 180, 0, 167, 16, 6, 160, 0, 38, 42, 182, 0, 217, 153, 0, 10, 42, 182, 0, 214, 154, 0, 5, 3]
abbrev dktX3_oneTest_0 : List UInt8 := dkwX3_oneTest_0 ++ dktX3_oneTest_1
theorem dksX3_oneTest_0 : cX3_oneTest.data.toList.drop 0 = dktX3_oneTest_0 := by decide +kernel
theorem dksX3_oneTest_1 : cX3_oneTest.data.toList.drop 24 = dktX3_oneTest_1 := dk_seg dksX3_oneTest_0 24 rfl rfl
theorem dksX3_oneTest_2 : cX3_oneTest.data.toList.drop 48 = dktX3_oneTest_2 := dk_seg dksX3_oneTest_1 24 rfl rfl
theorem dksX3_oneTest_3 : cX3_oneTest.data.toList.drop 72 = dktX3_oneTest_3 := dk_seg dksX3_oneTest_2 24 rfl rfl
theorem dksX3_oneTest_4 : cX3_oneTest.data.toList.drop 96 = dktX3_oneTest_4 := dk_seg dksX3_oneTest_3 24 rfl rfl
theorem dksX3_oneTest_5 : cX3_oneTest.data.toList.drop 120 = dktX3_oneTest_5 := dk_seg dksX3_oneTest_4 24 rfl rfl
theorem dksX3_oneTest_6 : cX3_oneTest.data.toList.drop 143 = dktX3_oneTest_6 := dk_seg dksX3_oneTest_5 23 rfl rfl
theorem dksX3_oneTest_7 : cX3_oneTest.data.toList.drop 167 = dktX3_oneTest_7 := dk_seg dksX3_oneTest_6 24 rfl rfl
theorem dX3_oneTest_0 : decode cX3_oneTest 0 = .ok (.aload_n 0, 1) := dk_42 (dk_at dksX3_oneTest_0 0 rfl rfl)
theorem dX3_oneTest_1 : decode cX3_oneTest 1 = .ok (.getfield 167, 3) := dk_180 0 167 (dk_at dksX3_oneTest_0 1 rfl rfl)
theorem dX3_oneTest_4 : decode cX3_oneTest 4 = .ok (.bipush 6, 2) := dk_16 6 (dk_at dksX3_oneTest_0 4 rfl rfl)
theorem dX3_oneTest_6 : decode cX3_oneTest 6 = .ok (.if_icmp .ne 38, 3) := dk_160 0 38 (dk_at dksX3_oneTest_0 6 rfl rfl)
theorem dX3_oneTest_9 : decode cX3_oneTest 9 = .ok (.aload_n 0, 1) := dk_42 (dk_at dksX3_oneTest_0 9 rfl rfl)
theorem dX3_oneTest_10 : decode cX3_oneTest 10 = .ok (.invokevirtual 217, 3) := dk_182 0 217 (dk_at dksX3_oneTest_0 10 rfl rfl)
theorem dX3_oneTest_13 : decode cX3_oneTest 13 = .ok (.ifCond .eq 10, 3) := dk_153 0 10 (dk_at dksX3_oneTest_0 13 rfl rfl)
theorem dX3_oneTest_16 : decode cX3_oneTest 16 = .ok (.aload_n 0, 1) := dk_42 (dk_at dksX3_oneTest_0 16 rfl rfl)
theorem dX3_oneTest_17 : decode cX3_oneTest 17 = .ok (.invokevirtual 214, 3) := dk_182 0 214 (dk_at dksX3_oneTest_0 17 rfl rfl)
theorem dX3_oneTest_20 : decode cX3_oneTest 20 = .ok (.ifCond .ne 5, 3) := dk_154 0 5 (dk_at dksX3_oneTest_0 20 rfl rfl)
theorem dX3_oneTest_23 : decode cX3_oneTest 23 = .ok (.iconst 0, 1) := dk_3 (dk_at dksX3_oneTest_0 23 rfl rfl)
theorem dX3_oneTest_24 : decode cX3_oneTest 24 = .ok (.ireturn, 1) := dk_172 (dk_at dksX3_oneTest_1 0 rfl rfl)
theorem dX3_oneTest_25 : decode cX3_oneTest 25 = .ok (.aload_n 0, 1) := dk_42 (dk_at dksX3_oneTest_1 1 rfl rfl)
theorem dX3_oneTest_26 : decode cX3_oneTest 26 = .ok (.dup, 1) := dk_89 (dk_at dksX3_oneTest_1 2 rfl rfl)
theorem dX3_oneTest_27 : decode cX3_oneTest 27 = .ok (.getfield 197, 3) := dk_180 0 197 (dk_at dksX3_oneTest_1 3 rfl rfl)
theorem dX3_oneTest_30 : decode cX3_oneTest 30 = .ok (.iconst 1, 1) := dk_4 (dk_at dksX3_oneTest_1 6 rfl rfl)
theorem dX3_oneTest_31 : decode cX3_oneTest 31 = .ok (.isub, 1) := dk_100 (dk_at dksX3_oneTest_1 7 rfl rfl)
theorem dX3_oneTest_32 : decode cX3_oneTest 32 = .ok (.putfield 197, 3) := dk_181 0 197 (dk_at dksX3_oneTest_1 8 rfl rfl)
theorem dX3_oneTest_35 : decode cX3_oneTest 35 = .ok (.aload_n 0, 1) := dk_42 (dk_at dksX3_oneTest_1 11 rfl rfl)
theorem dX3_oneTest_36 : decode cX3_oneTest 36 = .ok (.bipush 30, 2) := dk_16 30 (dk_at dksX3_oneTest_1 12 rfl rfl)
theorem dX3_oneTest_38 : decode cX3_oneTest 38 = .ok (.iconst 0, 1) := dk_3 (dk_at dksX3_oneTest_1 14 rfl rfl)
theorem dX3_oneTest_39 : decode cX3_oneTest 39 = .ok (.invokevirtual 204, 3) := dk_182 0 204 (dk_at dksX3_oneTest_1 15 rfl rfl)
theorem dX3_oneTest_42 : decode cX3_oneTest 42 = .ok (.iconst 1, 1) := dk_4 (dk_at dksX3_oneTest_1 18 rfl rfl)
theorem dX3_oneTest_43 : decode cX3_oneTest 43 = .ok (.ireturn, 1) := dk_172 (dk_at dksX3_oneTest_1 19 rfl rfl)
theorem dX3_oneTest_44 : decode cX3_oneTest 44 = .ok (.aload_n 0, 1) := dk_42 (dk_at dksX3_oneTest_1 20 rfl rfl)
theorem dX3_oneTest_45 : decode cX3_oneTest 45 = .ok (.getfield 167, 3) := dk_180 0 167 (dk_at dksX3_oneTest_1 21 rfl rfl)
theorem dX3_oneTest_48 : decode cX3_oneTest 48 = .ok (.sipush 140, 3) := dk_17 0 140 (dk_at dksX3_oneTest_2 0 rfl rfl)
theorem dX3_oneTest_51 : decode cX3_oneTest 51 = .ok (.if_icmp .ne 41, 3) := dk_160 0 41 (dk_at dksX3_oneTest_2 3 rfl rfl)
theorem dX3_oneTest_54 : decode cX3_oneTest 54 = .ok (.aload_n 0, 1) := dk_42 (dk_at dksX3_oneTest_2 6 rfl rfl)
theorem dX3_oneTest_55 : decode cX3_oneTest 55 = .ok (.invokevirtual 217, 3) := dk_182 0 217 (dk_at dksX3_oneTest_2 7 rfl rfl)
theorem dX3_oneTest_58 : decode cX3_oneTest 58 = .ok (.ifCond .eq 20, 3) := dk_153 0 20 (dk_at dksX3_oneTest_2 10 rfl rfl)
theorem dX3_oneTest_61 : decode cX3_oneTest 61 = .ok (.aload_n 0, 1) := dk_42 (dk_at dksX3_oneTest_2 13 rfl rfl)
theorem dX3_oneTest_62 : decode cX3_oneTest 62 = .ok (.invokevirtual 220, 3) := dk_182 0 220 (dk_at dksX3_oneTest_2 14 rfl rfl)
theorem dX3_oneTest_65 : decode cX3_oneTest 65 = .ok (.ifCond .eq 13, 3) := dk_153 0 13 (dk_at dksX3_oneTest_2 17 rfl rfl)
theorem dX3_oneTest_68 : decode cX3_oneTest 68 = .ok (.aload_n 0, 1) := dk_42 (dk_at dksX3_oneTest_2 20 rfl rfl)
theorem dX3_oneTest_69 : decode cX3_oneTest 69 = .ok (.sipush 141, 3) := dk_17 0 141 (dk_at dksX3_oneTest_2 21 rfl rfl)
theorem dX3_oneTest_72 : decode cX3_oneTest 72 = .ok (.invokevirtual 223, 3) := dk_182 0 223 (dk_at dksX3_oneTest_3 0 rfl rfl)
theorem dX3_oneTest_75 : decode cX3_oneTest 75 = .ok (.ifCond .ne 5, 3) := dk_154 0 5 (dk_at dksX3_oneTest_3 3 rfl rfl)
theorem dX3_oneTest_78 : decode cX3_oneTest 78 = .ok (.iconst 0, 1) := dk_3 (dk_at dksX3_oneTest_3 6 rfl rfl)
theorem dX3_oneTest_79 : decode cX3_oneTest 79 = .ok (.ireturn, 1) := dk_172 (dk_at dksX3_oneTest_3 7 rfl rfl)
theorem dX3_oneTest_80 : decode cX3_oneTest 80 = .ok (.aload_n 0, 1) := dk_42 (dk_at dksX3_oneTest_3 8 rfl rfl)
theorem dX3_oneTest_81 : decode cX3_oneTest 81 = .ok (.dup, 1) := dk_89 (dk_at dksX3_oneTest_3 9 rfl rfl)
theorem dX3_oneTest_82 : decode cX3_oneTest 82 = .ok (.getfield 197, 3) := dk_180 0 197 (dk_at dksX3_oneTest_3 10 rfl rfl)
theorem dX3_oneTest_85 : decode cX3_oneTest 85 = .ok (.iconst 1, 1) := dk_4 (dk_at dksX3_oneTest_3 13 rfl rfl)
theorem dX3_oneTest_86 : decode cX3_oneTest 86 = .ok (.isub, 1) := dk_100 (dk_at dksX3_oneTest_3 14 rfl rfl)
theorem dX3_oneTest_87 : decode cX3_oneTest 87 = .ok (.putfield 197, 3) := dk_181 0 197 (dk_at dksX3_oneTest_3 15 rfl rfl)
theorem dX3_oneTest_90 : decode cX3_oneTest 90 = .ok (.iconst 1, 1) := dk_4 (dk_at dksX3_oneTest_3 18 rfl rfl)
theorem dX3_oneTest_91 : decode cX3_oneTest 91 = .ok (.ireturn, 1) := dk_172 (dk_at dksX3_oneTest_3 19 rfl rfl)
theorem dX3_oneTest_92 : decode cX3_oneTest 92 = .ok (.aload_n 0, 1) := dk_42 (dk_at dksX3_oneTest_3 20 rfl rfl)
theorem dX3_oneTest_93 : decode cX3_oneTest 93 = .ok (.invokevirtual 226, 3) := dk_182 0 226 (dk_at dksX3_oneTest_3 21 rfl rfl)
theorem dX3_oneTest_96 : decode cX3_oneTest 96 = .ok (.ifCond .ne 5, 3) := dk_154 0 5 (dk_at dksX3_oneTest_4 0 rfl rfl)
theorem dX3_oneTest_99 : decode cX3_oneTest 99 = .ok (.iconst 0, 1) := dk_3 (dk_at dksX3_oneTest_4 3 rfl rfl)
theorem dX3_oneTest_100 : decode cX3_oneTest 100 = .ok (.ireturn, 1) := dk_172 (dk_at dksX3_oneTest_4 4 rfl rfl)
theorem dX3_oneTest_101 : decode cX3_oneTest 101 = .ok (.aload_n 0, 1) := dk_42 (dk_at dksX3_oneTest_4 5 rfl rfl)
theorem dX3_oneTest_102 : decode cX3_oneTest 102 = .ok (.getfield 167, 3) := dk_180 0 167 (dk_at dksX3_oneTest_4 6 rfl rfl)
theorem dX3_oneTest_105 : decode cX3_oneTest 105 = .ok (.sipush 160, 3) := dk_17 0 160 (dk_at dksX3_oneTest_4 9 rfl rfl)
theorem dX3_oneTest_108 : decode cX3_oneTest 108 = .ok (.if_icmp .ne 8, 3) := dk_160 0 8 (dk_at dksX3_oneTest_4 12 rfl rfl)
theorem dX3_oneTest_111 : decode cX3_oneTest 111 = .ok (.bipush 27, 2) := dk_16 27 (dk_at dksX3_oneTest_4 15 rfl rfl)
theorem dX3_oneTest_113 : decode cX3_oneTest 113 = .ok (.goto 34, 3) := dk_167 0 34 (dk_at dksX3_oneTest_4 17 rfl rfl)
theorem dX3_oneTest_116 : decode cX3_oneTest 116 = .ok (.aload_n 0, 1) := dk_42 (dk_at dksX3_oneTest_4 20 rfl rfl)
theorem dX3_oneTest_117 : decode cX3_oneTest 117 = .ok (.getfield 167, 3) := dk_180 0 167 (dk_at dksX3_oneTest_4 21 rfl rfl)
theorem dX3_oneTest_120 : decode cX3_oneTest 120 = .ok (.sipush 161, 3) := dk_17 0 161 (dk_at dksX3_oneTest_5 0 rfl rfl)
theorem dX3_oneTest_123 : decode cX3_oneTest 123 = .ok (.if_icmp .ne 8, 3) := dk_160 0 8 (dk_at dksX3_oneTest_5 3 rfl rfl)
theorem dX3_oneTest_126 : decode cX3_oneTest 126 = .ok (.bipush 28, 2) := dk_16 28 (dk_at dksX3_oneTest_5 6 rfl rfl)
theorem dX3_oneTest_128 : decode cX3_oneTest 128 = .ok (.goto 19, 3) := dk_167 0 19 (dk_at dksX3_oneTest_5 8 rfl rfl)
theorem dX3_oneTest_131 : decode cX3_oneTest 131 = .ok (.aload_n 0, 1) := dk_42 (dk_at dksX3_oneTest_5 11 rfl rfl)
theorem dX3_oneTest_132 : decode cX3_oneTest 132 = .ok (.getfield 167, 3) := dk_180 0 167 (dk_at dksX3_oneTest_5 12 rfl rfl)
theorem dX3_oneTest_135 : decode cX3_oneTest 135 = .ok (.sipush 162, 3) := dk_17 0 162 (dk_at dksX3_oneTest_5 15 rfl rfl)
theorem dX3_oneTest_138 : decode cX3_oneTest 138 = .ok (.if_icmp .ne 8, 3) := dk_160 0 8 (dk_at dksX3_oneTest_5 18 rfl rfl)
theorem dX3_oneTest_141 : decode cX3_oneTest 141 = .ok (.bipush 29, 2) := dk_16 29 (dk_at dksX3_oneTest_5 21 rfl rfl)
theorem dX3_oneTest_143 : decode cX3_oneTest 143 = .ok (.goto 4, 3) := dk_167 0 4 (dk_at dksX3_oneTest_6 0 rfl rfl)
theorem dX3_oneTest_146 : decode cX3_oneTest 146 = .ok (.iconst (-1), 1) := dk_2 (dk_at dksX3_oneTest_6 3 rfl rfl)
theorem dX3_oneTest_147 : decode cX3_oneTest 147 = .ok (.istore_n 1, 1) := dk_60 (dk_at dksX3_oneTest_6 4 rfl rfl)
theorem dX3_oneTest_148 : decode cX3_oneTest 148 = .ok (.iload_n 1, 1) := dk_27 (dk_at dksX3_oneTest_6 5 rfl rfl)
theorem dX3_oneTest_149 : decode cX3_oneTest 149 = .ok (.iconst (-1), 1) := dk_2 (dk_at dksX3_oneTest_6 6 rfl rfl)
theorem dX3_oneTest_150 : decode cX3_oneTest 150 = .ok (.if_icmp .ne 9, 3) := dk_160 0 9 (dk_at dksX3_oneTest_6 7 rfl rfl)
theorem dX3_oneTest_153 : decode cX3_oneTest 153 = .ok (.aload_n 0, 1) := dk_42 (dk_at dksX3_oneTest_6 10 rfl rfl)
theorem dX3_oneTest_154 : decode cX3_oneTest 154 = .ok (.iconst 1, 1) := dk_4 (dk_at dksX3_oneTest_6 11 rfl rfl)
theorem dX3_oneTest_155 : decode cX3_oneTest 155 = .ok (.invokevirtual 188, 3) := dk_182 0 188 (dk_at dksX3_oneTest_6 12 rfl rfl)
theorem dX3_oneTest_158 : decode cX3_oneTest 158 = .ok (.ireturn, 1) := dk_172 (dk_at dksX3_oneTest_6 15 rfl rfl)
theorem dX3_oneTest_159 : decode cX3_oneTest 159 = .ok (.aload_n 0, 1) := dk_42 (dk_at dksX3_oneTest_6 16 rfl rfl)
theorem dX3_oneTest_160 : decode cX3_oneTest 160 = .ok (.invokevirtual 191, 3) := dk_182 0 191 (dk_at dksX3_oneTest_6 17 rfl rfl)
theorem dX3_oneTest_163 : decode cX3_oneTest 163 = .ok (.aload_n 0, 1) := dk_42 (dk_at dksX3_oneTest_6 20 rfl rfl)
theorem dX3_oneTest_164 : decode cX3_oneTest 164 = .ok (.invokevirtual 226, 3) := dk_182 0 226 (dk_at dksX3_oneTest_6 21 rfl rfl)
theorem dX3_oneTest_167 : decode cX3_oneTest 167 = .ok (.ifCond .ne 5, 3) := dk_154 0 5 (dk_at dksX3_oneTest_7 0 rfl rfl)
theorem dX3_oneTest_170 : decode cX3_oneTest 170 = .ok (.iconst 0, 1) := dk_3 (dk_at dksX3_oneTest_7 3 rfl rfl)
theorem dX3_oneTest_171 : decode cX3_oneTest 171 = .ok (.ireturn, 1) := dk_172 (dk_at dksX3_oneTest_7 4 rfl rfl)
theorem dX3_oneTest_172 : decode cX3_oneTest 172 = .ok (.aload_n 0, 1) := dk_42 (dk_at dksX3_oneTest_7 5 rfl rfl)
theorem dX3_oneTest_173 : decode cX3_oneTest 173 = .ok (.iload_n 1, 1) := dk_27 (dk_at dksX3_oneTest_7 6 rfl rfl)
theorem dX3_oneTest_174 : decode cX3_oneTest 174 = .ok (.iconst 0, 1) := dk_3 (dk_at dksX3_oneTest_7 7 rfl rfl)
theorem dX3_oneTest_175 : decode cX3_oneTest 175 = .ok (.invokevirtual 204, 3) := dk_182 0 204 (dk_at dksX3_oneTest_7 8 rfl rfl)
theorem dX3_oneTest_178 : decode cX3_oneTest 178 = .ok (.iconst 1, 1) := dk_4 (dk_at dksX3_oneTest_7 11 rfl rfl)
theorem dX3_oneTest_179 : decode cX3_oneTest 179 = .ok (.ireturn, 1) := dk_172 (dk_at dksX3_oneTest_7 12 rfl rfl)
abbrev cX3_opens : ByteArray := prog_17_method_33_code
def yX3_opens : MethodName := ⟨RX3, "opens", "()Z"⟩
def dkwX3_opens_1 : List UInt8 := [181, 0, 197, 42, 182, 0, 191, 4, 172]
abbrev dktX3_opens_1 : List UInt8 := dkwX3_opens_1 ++ []
def dkwX3_opens_0 : List UInt8 := [42, 180, 0, 197, 16, 8, 160, 0, 9, 42, 6, 182, 0, 188, 172, 42, 89, 180, 0, 197, 4, 96]
abbrev dktX3_opens_0 : List UInt8 := dkwX3_opens_0 ++ dktX3_opens_1
theorem dksX3_opens_0 : cX3_opens.data.toList.drop 0 = dktX3_opens_0 := by decide +kernel
theorem dksX3_opens_1 : cX3_opens.data.toList.drop 22 = dktX3_opens_1 := dk_seg dksX3_opens_0 22 rfl rfl
theorem dX3_opens_0 : decode cX3_opens 0 = .ok (.aload_n 0, 1) := dk_42 (dk_at dksX3_opens_0 0 rfl rfl)
theorem dX3_opens_1 : decode cX3_opens 1 = .ok (.getfield 197, 3) := dk_180 0 197 (dk_at dksX3_opens_0 1 rfl rfl)
theorem dX3_opens_4 : decode cX3_opens 4 = .ok (.bipush 8, 2) := dk_16 8 (dk_at dksX3_opens_0 4 rfl rfl)
theorem dX3_opens_6 : decode cX3_opens 6 = .ok (.if_icmp .ne 9, 3) := dk_160 0 9 (dk_at dksX3_opens_0 6 rfl rfl)
theorem dX3_opens_9 : decode cX3_opens 9 = .ok (.aload_n 0, 1) := dk_42 (dk_at dksX3_opens_0 9 rfl rfl)
theorem dX3_opens_10 : decode cX3_opens 10 = .ok (.iconst 3, 1) := dk_6 (dk_at dksX3_opens_0 10 rfl rfl)
theorem dX3_opens_11 : decode cX3_opens 11 = .ok (.invokevirtual 188, 3) := dk_182 0 188 (dk_at dksX3_opens_0 11 rfl rfl)
theorem dX3_opens_14 : decode cX3_opens 14 = .ok (.ireturn, 1) := dk_172 (dk_at dksX3_opens_0 14 rfl rfl)
theorem dX3_opens_15 : decode cX3_opens 15 = .ok (.aload_n 0, 1) := dk_42 (dk_at dksX3_opens_0 15 rfl rfl)
theorem dX3_opens_16 : decode cX3_opens 16 = .ok (.dup, 1) := dk_89 (dk_at dksX3_opens_0 16 rfl rfl)
theorem dX3_opens_17 : decode cX3_opens 17 = .ok (.getfield 197, 3) := dk_180 0 197 (dk_at dksX3_opens_0 17 rfl rfl)
theorem dX3_opens_20 : decode cX3_opens 20 = .ok (.iconst 1, 1) := dk_4 (dk_at dksX3_opens_0 20 rfl rfl)
theorem dX3_opens_21 : decode cX3_opens 21 = .ok (.iadd, 1) := dk_96 (dk_at dksX3_opens_0 21 rfl rfl)
theorem dX3_opens_22 : decode cX3_opens 22 = .ok (.putfield 197, 3) := dk_181 0 197 (dk_at dksX3_opens_1 0 rfl rfl)
theorem dX3_opens_25 : decode cX3_opens 25 = .ok (.aload_n 0, 1) := dk_42 (dk_at dksX3_opens_1 3 rfl rfl)
theorem dX3_opens_26 : decode cX3_opens 26 = .ok (.invokevirtual 191, 3) := dk_182 0 191 (dk_at dksX3_opens_1 4 rfl rfl)
theorem dX3_opens_29 : decode cX3_opens 29 = .ok (.iconst 1, 1) := dk_4 (dk_at dksX3_opens_1 7 rfl rfl)
theorem dX3_opens_30 : decode cX3_opens 30 = .ok (.ireturn, 1) := dk_172 (dk_at dksX3_opens_1 8 rfl rfl)
abbrev cX3_need : ByteArray := prog_17_method_31_code
def yX3_need : MethodName := ⟨RX3, "need", "(I)Z"⟩
def dkwX3_need_0 : List UInt8 := [42, 180, 0, 167, 27, 159, 0, 9, 42, 4, 182, 0, 188, 172, 42, 182, 0, 191, 4, 172]
abbrev dktX3_need_0 : List UInt8 := dkwX3_need_0 ++ []
theorem dksX3_need_0 : cX3_need.data.toList.drop 0 = dktX3_need_0 := by decide +kernel
theorem dX3_need_0 : decode cX3_need 0 = .ok (.aload_n 0, 1) := dk_42 (dk_at dksX3_need_0 0 rfl rfl)
theorem dX3_need_1 : decode cX3_need 1 = .ok (.getfield 167, 3) := dk_180 0 167 (dk_at dksX3_need_0 1 rfl rfl)
theorem dX3_need_4 : decode cX3_need 4 = .ok (.iload_n 1, 1) := dk_27 (dk_at dksX3_need_0 4 rfl rfl)
theorem dX3_need_5 : decode cX3_need 5 = .ok (.if_icmp .eq 9, 3) := dk_159 0 9 (dk_at dksX3_need_0 5 rfl rfl)
theorem dX3_need_8 : decode cX3_need 8 = .ok (.aload_n 0, 1) := dk_42 (dk_at dksX3_need_0 8 rfl rfl)
theorem dX3_need_9 : decode cX3_need 9 = .ok (.iconst 1, 1) := dk_4 (dk_at dksX3_need_0 9 rfl rfl)
theorem dX3_need_10 : decode cX3_need 10 = .ok (.invokevirtual 188, 3) := dk_182 0 188 (dk_at dksX3_need_0 10 rfl rfl)
theorem dX3_need_13 : decode cX3_need 13 = .ok (.ireturn, 1) := dk_172 (dk_at dksX3_need_0 13 rfl rfl)
theorem dX3_need_14 : decode cX3_need 14 = .ok (.aload_n 0, 1) := dk_42 (dk_at dksX3_need_0 14 rfl rfl)
theorem dX3_need_15 : decode cX3_need 15 = .ok (.invokevirtual 191, 3) := dk_182 0 191 (dk_at dksX3_need_0 15 rfl rfl)
theorem dX3_need_18 : decode cX3_need 18 = .ok (.iconst 1, 1) := dk_4 (dk_at dksX3_need_0 18 rfl rfl)
theorem dX3_need_19 : decode cX3_need 19 = .ok (.ireturn, 1) := dk_172 (dk_at dksX3_need_0 19 rfl rfl)
abbrev cX3_readsRows : ByteArray := prog_17_method_49_code
def yX3_readsRows : MethodName := ⟨RX3, "readsRows", "()Z"⟩
def dkwX3_readsRows_4 : List UInt8 := [96, 181, 0, 238, 167, 255, 193, 28, 172]
abbrev dktX3_readsRows_4 : List UInt8 := dkwX3_readsRows_4 ++ []
def dkwX3_readsRows_3 : List UInt8 := [6, 182, 0, 188, 172, 42, 182, 1, 1, 61, 42, 89, 180, 0, 238, 28, 153, 0, 7, 4, 167, 0, 4, 3]
abbrev dktX3_readsRows_3 : List UInt8 := dkwX3_readsRows_3 ++ dktX3_readsRows_4
def dkwX3_readsRows_2 : List UInt8 := [42, 180, 0, 167, 27, 159, 0, 9, 42, 4, 182, 0, 188, 172, 42, 180, 0, 238, 16, 16, 160, 0, 9, 42]
abbrev dktX3_readsRows_2 : List UInt8 := dkwX3_readsRows_2 ++ dktX3_readsRows_3
def dkwX3_readsRows_1 : List UInt8 := [160, 0, 8, 16, 12, 167, 0, 5, 16, 15, 60, 4, 61, 28, 153, 0, 65, 42, 180, 0, 167, 153, 0, 58]
abbrev dktX3_readsRows_1 : List UInt8 := dkwX3_readsRows_1 ++ dktX3_readsRows_2
def dkwX3_readsRows_0 : List UInt8 := [42, 3, 181, 0, 238, 42, 180, 0, 150, 4, 160, 0, 8, 16, 7, 167, 0, 18, 42, 180, 0, 150, 5]
abbrev dktX3_readsRows_0 : List UInt8 := dkwX3_readsRows_0 ++ dktX3_readsRows_1
theorem dksX3_readsRows_0 : cX3_readsRows.data.toList.drop 0 = dktX3_readsRows_0 := by decide +kernel
theorem dksX3_readsRows_1 : cX3_readsRows.data.toList.drop 23 = dktX3_readsRows_1 := dk_seg dksX3_readsRows_0 23 rfl rfl
theorem dksX3_readsRows_2 : cX3_readsRows.data.toList.drop 47 = dktX3_readsRows_2 := dk_seg dksX3_readsRows_1 24 rfl rfl
theorem dksX3_readsRows_3 : cX3_readsRows.data.toList.drop 71 = dktX3_readsRows_3 := dk_seg dksX3_readsRows_2 24 rfl rfl
theorem dksX3_readsRows_4 : cX3_readsRows.data.toList.drop 95 = dktX3_readsRows_4 := dk_seg dksX3_readsRows_3 24 rfl rfl
theorem dX3_readsRows_0 : decode cX3_readsRows 0 = .ok (.aload_n 0, 1) := dk_42 (dk_at dksX3_readsRows_0 0 rfl rfl)
theorem dX3_readsRows_1 : decode cX3_readsRows 1 = .ok (.iconst 0, 1) := dk_3 (dk_at dksX3_readsRows_0 1 rfl rfl)
theorem dX3_readsRows_2 : decode cX3_readsRows 2 = .ok (.putfield 238, 3) := dk_181 0 238 (dk_at dksX3_readsRows_0 2 rfl rfl)
theorem dX3_readsRows_5 : decode cX3_readsRows 5 = .ok (.aload_n 0, 1) := dk_42 (dk_at dksX3_readsRows_0 5 rfl rfl)
theorem dX3_readsRows_6 : decode cX3_readsRows 6 = .ok (.getfield 150, 3) := dk_180 0 150 (dk_at dksX3_readsRows_0 6 rfl rfl)
theorem dX3_readsRows_9 : decode cX3_readsRows 9 = .ok (.iconst 1, 1) := dk_4 (dk_at dksX3_readsRows_0 9 rfl rfl)
theorem dX3_readsRows_10 : decode cX3_readsRows 10 = .ok (.if_icmp .ne 8, 3) := dk_160 0 8 (dk_at dksX3_readsRows_0 10 rfl rfl)
theorem dX3_readsRows_13 : decode cX3_readsRows 13 = .ok (.bipush 7, 2) := dk_16 7 (dk_at dksX3_readsRows_0 13 rfl rfl)
theorem dX3_readsRows_15 : decode cX3_readsRows 15 = .ok (.goto 18, 3) := dk_167 0 18 (dk_at dksX3_readsRows_0 15 rfl rfl)
theorem dX3_readsRows_18 : decode cX3_readsRows 18 = .ok (.aload_n 0, 1) := dk_42 (dk_at dksX3_readsRows_0 18 rfl rfl)
theorem dX3_readsRows_19 : decode cX3_readsRows 19 = .ok (.getfield 150, 3) := dk_180 0 150 (dk_at dksX3_readsRows_0 19 rfl rfl)
theorem dX3_readsRows_22 : decode cX3_readsRows 22 = .ok (.iconst 2, 1) := dk_5 (dk_at dksX3_readsRows_0 22 rfl rfl)
theorem dX3_readsRows_23 : decode cX3_readsRows 23 = .ok (.if_icmp .ne 8, 3) := dk_160 0 8 (dk_at dksX3_readsRows_1 0 rfl rfl)
theorem dX3_readsRows_26 : decode cX3_readsRows 26 = .ok (.bipush 12, 2) := dk_16 12 (dk_at dksX3_readsRows_1 3 rfl rfl)
theorem dX3_readsRows_28 : decode cX3_readsRows 28 = .ok (.goto 5, 3) := dk_167 0 5 (dk_at dksX3_readsRows_1 5 rfl rfl)
theorem dX3_readsRows_31 : decode cX3_readsRows 31 = .ok (.bipush 15, 2) := dk_16 15 (dk_at dksX3_readsRows_1 8 rfl rfl)
theorem dX3_readsRows_33 : decode cX3_readsRows 33 = .ok (.istore_n 1, 1) := dk_60 (dk_at dksX3_readsRows_1 10 rfl rfl)
theorem dX3_readsRows_34 : decode cX3_readsRows 34 = .ok (.iconst 1, 1) := dk_4 (dk_at dksX3_readsRows_1 11 rfl rfl)
theorem dX3_readsRows_35 : decode cX3_readsRows 35 = .ok (.istore_n 2, 1) := dk_61 (dk_at dksX3_readsRows_1 12 rfl rfl)
theorem dX3_readsRows_36 : decode cX3_readsRows 36 = .ok (.iload_n 2, 1) := dk_28 (dk_at dksX3_readsRows_1 13 rfl rfl)
theorem dX3_readsRows_37 : decode cX3_readsRows 37 = .ok (.ifCond .eq 65, 3) := dk_153 0 65 (dk_at dksX3_readsRows_1 14 rfl rfl)
theorem dX3_readsRows_40 : decode cX3_readsRows 40 = .ok (.aload_n 0, 1) := dk_42 (dk_at dksX3_readsRows_1 17 rfl rfl)
theorem dX3_readsRows_41 : decode cX3_readsRows 41 = .ok (.getfield 167, 3) := dk_180 0 167 (dk_at dksX3_readsRows_1 18 rfl rfl)
theorem dX3_readsRows_44 : decode cX3_readsRows 44 = .ok (.ifCond .eq 58, 3) := dk_153 0 58 (dk_at dksX3_readsRows_1 21 rfl rfl)
theorem dX3_readsRows_47 : decode cX3_readsRows 47 = .ok (.aload_n 0, 1) := dk_42 (dk_at dksX3_readsRows_2 0 rfl rfl)
theorem dX3_readsRows_48 : decode cX3_readsRows 48 = .ok (.getfield 167, 3) := dk_180 0 167 (dk_at dksX3_readsRows_2 1 rfl rfl)
theorem dX3_readsRows_51 : decode cX3_readsRows 51 = .ok (.iload_n 1, 1) := dk_27 (dk_at dksX3_readsRows_2 4 rfl rfl)
theorem dX3_readsRows_52 : decode cX3_readsRows 52 = .ok (.if_icmp .eq 9, 3) := dk_159 0 9 (dk_at dksX3_readsRows_2 5 rfl rfl)
theorem dX3_readsRows_55 : decode cX3_readsRows 55 = .ok (.aload_n 0, 1) := dk_42 (dk_at dksX3_readsRows_2 8 rfl rfl)
theorem dX3_readsRows_56 : decode cX3_readsRows 56 = .ok (.iconst 1, 1) := dk_4 (dk_at dksX3_readsRows_2 9 rfl rfl)
theorem dX3_readsRows_57 : decode cX3_readsRows 57 = .ok (.invokevirtual 188, 3) := dk_182 0 188 (dk_at dksX3_readsRows_2 10 rfl rfl)
theorem dX3_readsRows_60 : decode cX3_readsRows 60 = .ok (.ireturn, 1) := dk_172 (dk_at dksX3_readsRows_2 13 rfl rfl)
theorem dX3_readsRows_61 : decode cX3_readsRows 61 = .ok (.aload_n 0, 1) := dk_42 (dk_at dksX3_readsRows_2 14 rfl rfl)
theorem dX3_readsRows_62 : decode cX3_readsRows 62 = .ok (.getfield 238, 3) := dk_180 0 238 (dk_at dksX3_readsRows_2 15 rfl rfl)
theorem dX3_readsRows_65 : decode cX3_readsRows 65 = .ok (.bipush 16, 2) := dk_16 16 (dk_at dksX3_readsRows_2 18 rfl rfl)
theorem dX3_readsRows_67 : decode cX3_readsRows 67 = .ok (.if_icmp .ne 9, 3) := dk_160 0 9 (dk_at dksX3_readsRows_2 20 rfl rfl)
theorem dX3_readsRows_70 : decode cX3_readsRows 70 = .ok (.aload_n 0, 1) := dk_42 (dk_at dksX3_readsRows_2 23 rfl rfl)
theorem dX3_readsRows_71 : decode cX3_readsRows 71 = .ok (.iconst 3, 1) := dk_6 (dk_at dksX3_readsRows_3 0 rfl rfl)
theorem dX3_readsRows_72 : decode cX3_readsRows 72 = .ok (.invokevirtual 188, 3) := dk_182 0 188 (dk_at dksX3_readsRows_3 1 rfl rfl)
theorem dX3_readsRows_75 : decode cX3_readsRows 75 = .ok (.ireturn, 1) := dk_172 (dk_at dksX3_readsRows_3 4 rfl rfl)
theorem dX3_readsRows_76 : decode cX3_readsRows 76 = .ok (.aload_n 0, 1) := dk_42 (dk_at dksX3_readsRows_3 5 rfl rfl)
theorem dX3_readsRows_77 : decode cX3_readsRows 77 = .ok (.invokevirtual 257, 3) := dk_182 1 1 (dk_at dksX3_readsRows_3 6 rfl rfl)
theorem dX3_readsRows_80 : decode cX3_readsRows 80 = .ok (.istore_n 2, 1) := dk_61 (dk_at dksX3_readsRows_3 9 rfl rfl)
theorem dX3_readsRows_81 : decode cX3_readsRows 81 = .ok (.aload_n 0, 1) := dk_42 (dk_at dksX3_readsRows_3 10 rfl rfl)
theorem dX3_readsRows_82 : decode cX3_readsRows 82 = .ok (.dup, 1) := dk_89 (dk_at dksX3_readsRows_3 11 rfl rfl)
theorem dX3_readsRows_83 : decode cX3_readsRows 83 = .ok (.getfield 238, 3) := dk_180 0 238 (dk_at dksX3_readsRows_3 12 rfl rfl)
theorem dX3_readsRows_86 : decode cX3_readsRows 86 = .ok (.iload_n 2, 1) := dk_28 (dk_at dksX3_readsRows_3 15 rfl rfl)
theorem dX3_readsRows_87 : decode cX3_readsRows 87 = .ok (.ifCond .eq 7, 3) := dk_153 0 7 (dk_at dksX3_readsRows_3 16 rfl rfl)
theorem dX3_readsRows_90 : decode cX3_readsRows 90 = .ok (.iconst 1, 1) := dk_4 (dk_at dksX3_readsRows_3 19 rfl rfl)
theorem dX3_readsRows_91 : decode cX3_readsRows 91 = .ok (.goto 4, 3) := dk_167 0 4 (dk_at dksX3_readsRows_3 20 rfl rfl)
theorem dX3_readsRows_94 : decode cX3_readsRows 94 = .ok (.iconst 0, 1) := dk_3 (dk_at dksX3_readsRows_3 23 rfl rfl)
theorem dX3_readsRows_95 : decode cX3_readsRows 95 = .ok (.iadd, 1) := dk_96 (dk_at dksX3_readsRows_4 0 rfl rfl)
theorem dX3_readsRows_96 : decode cX3_readsRows 96 = .ok (.putfield 238, 3) := dk_181 0 238 (dk_at dksX3_readsRows_4 1 rfl rfl)
theorem dX3_readsRows_99 : decode cX3_readsRows 99 = .ok (.goto (-63), 3) := dk_167 255 193 (dk_at dksX3_readsRows_4 4 rfl rfl)
theorem dX3_readsRows_102 : decode cX3_readsRows 102 = .ok (.iload_n 2, 1) := dk_28 (dk_at dksX3_readsRows_4 7 rfl rfl)
theorem dX3_readsRows_103 : decode cX3_readsRows 103 = .ok (.ireturn, 1) := dk_172 (dk_at dksX3_readsRows_4 8 rfl rfl)
abbrev cX3_aRow : ByteArray := prog_17_method_48_code
def yX3_aRow : MethodName := ⟨RX3, "aRow", "()Z"⟩
def dkwX3_aRow_2 : List UInt8 := [182, 0, 223, 153, 0, 7, 4, 167, 0, 4, 3, 172]
abbrev dktX3_aRow_2 : List UInt8 := dkwX3_aRow_2 ++ []
def dkwX3_aRow_1 : List UInt8 := [160, 0, 13, 42, 182, 0, 251, 153, 0, 27, 167, 0, 10, 42, 182, 0, 254, 153, 0, 17, 42, 17, 0, 159]
abbrev dktX3_aRow_1 : List UInt8 := dkwX3_aRow_1 ++ dktX3_aRow_2
def dkwX3_aRow_0 : List UInt8 := [42, 180, 0, 150, 4, 160, 0, 13, 42, 182, 0, 248, 153, 0, 45, 167, 0, 28, 42, 180, 0, 150, 5]
abbrev dktX3_aRow_0 : List UInt8 := dkwX3_aRow_0 ++ dktX3_aRow_1
theorem dksX3_aRow_0 : cX3_aRow.data.toList.drop 0 = dktX3_aRow_0 := by decide +kernel
theorem dksX3_aRow_1 : cX3_aRow.data.toList.drop 23 = dktX3_aRow_1 := dk_seg dksX3_aRow_0 23 rfl rfl
theorem dksX3_aRow_2 : cX3_aRow.data.toList.drop 47 = dktX3_aRow_2 := dk_seg dksX3_aRow_1 24 rfl rfl
theorem dX3_aRow_0 : decode cX3_aRow 0 = .ok (.aload_n 0, 1) := dk_42 (dk_at dksX3_aRow_0 0 rfl rfl)
theorem dX3_aRow_1 : decode cX3_aRow 1 = .ok (.getfield 150, 3) := dk_180 0 150 (dk_at dksX3_aRow_0 1 rfl rfl)
theorem dX3_aRow_4 : decode cX3_aRow 4 = .ok (.iconst 1, 1) := dk_4 (dk_at dksX3_aRow_0 4 rfl rfl)
theorem dX3_aRow_5 : decode cX3_aRow 5 = .ok (.if_icmp .ne 13, 3) := dk_160 0 13 (dk_at dksX3_aRow_0 5 rfl rfl)
theorem dX3_aRow_8 : decode cX3_aRow 8 = .ok (.aload_n 0, 1) := dk_42 (dk_at dksX3_aRow_0 8 rfl rfl)
theorem dX3_aRow_9 : decode cX3_aRow 9 = .ok (.invokevirtual 248, 3) := dk_182 0 248 (dk_at dksX3_aRow_0 9 rfl rfl)
theorem dX3_aRow_12 : decode cX3_aRow 12 = .ok (.ifCond .eq 45, 3) := dk_153 0 45 (dk_at dksX3_aRow_0 12 rfl rfl)
theorem dX3_aRow_15 : decode cX3_aRow 15 = .ok (.goto 28, 3) := dk_167 0 28 (dk_at dksX3_aRow_0 15 rfl rfl)
theorem dX3_aRow_18 : decode cX3_aRow 18 = .ok (.aload_n 0, 1) := dk_42 (dk_at dksX3_aRow_0 18 rfl rfl)
theorem dX3_aRow_19 : decode cX3_aRow 19 = .ok (.getfield 150, 3) := dk_180 0 150 (dk_at dksX3_aRow_0 19 rfl rfl)
theorem dX3_aRow_22 : decode cX3_aRow 22 = .ok (.iconst 2, 1) := dk_5 (dk_at dksX3_aRow_0 22 rfl rfl)
theorem dX3_aRow_23 : decode cX3_aRow 23 = .ok (.if_icmp .ne 13, 3) := dk_160 0 13 (dk_at dksX3_aRow_1 0 rfl rfl)
theorem dX3_aRow_26 : decode cX3_aRow 26 = .ok (.aload_n 0, 1) := dk_42 (dk_at dksX3_aRow_1 3 rfl rfl)
theorem dX3_aRow_27 : decode cX3_aRow 27 = .ok (.invokevirtual 251, 3) := dk_182 0 251 (dk_at dksX3_aRow_1 4 rfl rfl)
theorem dX3_aRow_30 : decode cX3_aRow 30 = .ok (.ifCond .eq 27, 3) := dk_153 0 27 (dk_at dksX3_aRow_1 7 rfl rfl)
theorem dX3_aRow_33 : decode cX3_aRow 33 = .ok (.goto 10, 3) := dk_167 0 10 (dk_at dksX3_aRow_1 10 rfl rfl)
theorem dX3_aRow_36 : decode cX3_aRow 36 = .ok (.aload_n 0, 1) := dk_42 (dk_at dksX3_aRow_1 13 rfl rfl)
theorem dX3_aRow_37 : decode cX3_aRow 37 = .ok (.invokevirtual 254, 3) := dk_182 0 254 (dk_at dksX3_aRow_1 14 rfl rfl)
theorem dX3_aRow_40 : decode cX3_aRow 40 = .ok (.ifCond .eq 17, 3) := dk_153 0 17 (dk_at dksX3_aRow_1 17 rfl rfl)
theorem dX3_aRow_43 : decode cX3_aRow 43 = .ok (.aload_n 0, 1) := dk_42 (dk_at dksX3_aRow_1 20 rfl rfl)
theorem dX3_aRow_44 : decode cX3_aRow 44 = .ok (.sipush 159, 3) := dk_17 0 159 (dk_at dksX3_aRow_1 21 rfl rfl)
theorem dX3_aRow_47 : decode cX3_aRow 47 = .ok (.invokevirtual 223, 3) := dk_182 0 223 (dk_at dksX3_aRow_2 0 rfl rfl)
theorem dX3_aRow_50 : decode cX3_aRow 50 = .ok (.ifCond .eq 7, 3) := dk_153 0 7 (dk_at dksX3_aRow_2 3 rfl rfl)
theorem dX3_aRow_53 : decode cX3_aRow 53 = .ok (.iconst 1, 1) := dk_4 (dk_at dksX3_aRow_2 6 rfl rfl)
theorem dX3_aRow_54 : decode cX3_aRow 54 = .ok (.goto 4, 3) := dk_167 0 4 (dk_at dksX3_aRow_2 7 rfl rfl)
theorem dX3_aRow_57 : decode cX3_aRow 57 = .ok (.iconst 0, 1) := dk_3 (dk_at dksX3_aRow_2 10 rfl rfl)
theorem dX3_aRow_58 : decode cX3_aRow 58 = .ok (.ireturn, 1) := dk_172 (dk_at dksX3_aRow_2 11 rfl rfl)
abbrev cX3_aPlan : ByteArray := prog_17_method_45_code
def yX3_aPlan : MethodName := ⟨RX3, "aPlan", "()Z"⟩
def dkwX3_aPlan_7 : List UInt8 := [182, 0, 235, 153, 0, 7, 4, 167, 0, 4, 3, 172]
abbrev dktX3_aPlan_7 : List UInt8 := dkwX3_aPlan_7 ++ []
def dkwX3_aPlan_6 : List UInt8 := [154, 0, 5, 3, 172, 28, 16, 9, 159, 0, 22, 28, 16, 11, 159, 0, 16, 42, 27, 7, 96, 4, 16, 99]
abbrev dktX3_aPlan_6 : List UInt8 := dkwX3_aPlan_6 ++ dktX3_aPlan_7
def dkwX3_aPlan_5 : List UInt8 := [160, 0, 9, 42, 5, 182, 0, 188, 172, 28, 16, 10, 160, 0, 15, 42, 27, 6, 96, 182, 0, 245]
abbrev dktX3_aPlan_5 : List UInt8 := dkwX3_aPlan_5 ++ dktX3_aPlan_6
def dkwX3_aPlan_4 : List UInt8 := [160, 0, 32, 42, 180, 0, 167, 5, 160, 0, 24, 42, 180, 0, 179, 42, 180, 0, 28, 27, 5, 96, 46]
abbrev dktX3_aPlan_4 : List UInt8 := dkwX3_aPlan_4 ++ dktX3_aPlan_5
def dkwX3_aPlan_3 : List UInt8 := [96, 3, 79, 42, 182, 0, 191, 42, 27, 5, 96, 182, 0, 245, 154, 0, 5, 3, 172, 28, 16, 10]
abbrev dktX3_aPlan_3 : List UInt8 := dkwX3_aPlan_3 ++ dktX3_aPlan_4
def dkwX3_aPlan_2 : List UInt8 := [42, 180, 0, 28, 27, 4, 96, 28, 79, 42, 180, 0, 28, 27, 6, 96, 3, 79, 42, 180, 0, 28, 27, 7]
abbrev dktX3_aPlan_2 : List UInt8 := dkwX3_aPlan_2 ++ dktX3_aPlan_3
def dkwX3_aPlan_1 : List UInt8 := [180, 0, 167, 16, 8, 16, 11, 184, 0, 54, 154, 0, 9, 42, 4, 182, 0, 188, 172, 42, 180, 0, 167, 61]
abbrev dktX3_aPlan_1 : List UInt8 := dkwX3_aPlan_1 ++ dktX3_aPlan_2
def dkwX3_aPlan_0 : List UInt8 := [8, 42, 180, 0, 238, 104, 60, 42, 27, 16, 7, 3, 17, 3, 231, 182, 0, 241, 154, 0, 5, 3, 172, 42]
abbrev dktX3_aPlan_0 : List UInt8 := dkwX3_aPlan_0 ++ dktX3_aPlan_1
theorem dksX3_aPlan_0 : cX3_aPlan.data.toList.drop 0 = dktX3_aPlan_0 := by decide +kernel
theorem dksX3_aPlan_1 : cX3_aPlan.data.toList.drop 24 = dktX3_aPlan_1 := dk_seg dksX3_aPlan_0 24 rfl rfl
theorem dksX3_aPlan_2 : cX3_aPlan.data.toList.drop 48 = dktX3_aPlan_2 := dk_seg dksX3_aPlan_1 24 rfl rfl
theorem dksX3_aPlan_3 : cX3_aPlan.data.toList.drop 72 = dktX3_aPlan_3 := dk_seg dksX3_aPlan_2 24 rfl rfl
theorem dksX3_aPlan_4 : cX3_aPlan.data.toList.drop 94 = dktX3_aPlan_4 := dk_seg dksX3_aPlan_3 22 rfl rfl
theorem dksX3_aPlan_5 : cX3_aPlan.data.toList.drop 117 = dktX3_aPlan_5 := dk_seg dksX3_aPlan_4 23 rfl rfl
theorem dksX3_aPlan_6 : cX3_aPlan.data.toList.drop 139 = dktX3_aPlan_6 := dk_seg dksX3_aPlan_5 22 rfl rfl
theorem dksX3_aPlan_7 : cX3_aPlan.data.toList.drop 163 = dktX3_aPlan_7 := dk_seg dksX3_aPlan_6 24 rfl rfl
theorem dX3_aPlan_0 : decode cX3_aPlan 0 = .ok (.iconst 5, 1) := dk_8 (dk_at dksX3_aPlan_0 0 rfl rfl)
theorem dX3_aPlan_1 : decode cX3_aPlan 1 = .ok (.aload_n 0, 1) := dk_42 (dk_at dksX3_aPlan_0 1 rfl rfl)
theorem dX3_aPlan_2 : decode cX3_aPlan 2 = .ok (.getfield 238, 3) := dk_180 0 238 (dk_at dksX3_aPlan_0 2 rfl rfl)
theorem dX3_aPlan_5 : decode cX3_aPlan 5 = .ok (.imul, 1) := dk_104 (dk_at dksX3_aPlan_0 5 rfl rfl)
theorem dX3_aPlan_6 : decode cX3_aPlan 6 = .ok (.istore_n 1, 1) := dk_60 (dk_at dksX3_aPlan_0 6 rfl rfl)
theorem dX3_aPlan_7 : decode cX3_aPlan 7 = .ok (.aload_n 0, 1) := dk_42 (dk_at dksX3_aPlan_0 7 rfl rfl)
theorem dX3_aPlan_8 : decode cX3_aPlan 8 = .ok (.iload_n 1, 1) := dk_27 (dk_at dksX3_aPlan_0 8 rfl rfl)
theorem dX3_aPlan_9 : decode cX3_aPlan 9 = .ok (.bipush 7, 2) := dk_16 7 (dk_at dksX3_aPlan_0 9 rfl rfl)
theorem dX3_aPlan_11 : decode cX3_aPlan 11 = .ok (.iconst 0, 1) := dk_3 (dk_at dksX3_aPlan_0 11 rfl rfl)
theorem dX3_aPlan_12 : decode cX3_aPlan 12 = .ok (.sipush 999, 3) := dk_17 3 231 (dk_at dksX3_aPlan_0 12 rfl rfl)
theorem dX3_aPlan_15 : decode cX3_aPlan 15 = .ok (.invokevirtual 241, 3) := dk_182 0 241 (dk_at dksX3_aPlan_0 15 rfl rfl)
theorem dX3_aPlan_18 : decode cX3_aPlan 18 = .ok (.ifCond .ne 5, 3) := dk_154 0 5 (dk_at dksX3_aPlan_0 18 rfl rfl)
theorem dX3_aPlan_21 : decode cX3_aPlan 21 = .ok (.iconst 0, 1) := dk_3 (dk_at dksX3_aPlan_0 21 rfl rfl)
theorem dX3_aPlan_22 : decode cX3_aPlan 22 = .ok (.ireturn, 1) := dk_172 (dk_at dksX3_aPlan_0 22 rfl rfl)
theorem dX3_aPlan_23 : decode cX3_aPlan 23 = .ok (.aload_n 0, 1) := dk_42 (dk_at dksX3_aPlan_0 23 rfl rfl)
theorem dX3_aPlan_24 : decode cX3_aPlan 24 = .ok (.getfield 167, 3) := dk_180 0 167 (dk_at dksX3_aPlan_1 0 rfl rfl)
theorem dX3_aPlan_27 : decode cX3_aPlan 27 = .ok (.bipush 8, 2) := dk_16 8 (dk_at dksX3_aPlan_1 3 rfl rfl)
theorem dX3_aPlan_29 : decode cX3_aPlan 29 = .ok (.bipush 11, 2) := dk_16 11 (dk_at dksX3_aPlan_1 5 rfl rfl)
theorem dX3_aPlan_31 : decode cX3_aPlan 31 = .ok (.invokestatic 54, 3) := dk_184 0 54 (dk_at dksX3_aPlan_1 7 rfl rfl)
theorem dX3_aPlan_34 : decode cX3_aPlan 34 = .ok (.ifCond .ne 9, 3) := dk_154 0 9 (dk_at dksX3_aPlan_1 10 rfl rfl)
theorem dX3_aPlan_37 : decode cX3_aPlan 37 = .ok (.aload_n 0, 1) := dk_42 (dk_at dksX3_aPlan_1 13 rfl rfl)
theorem dX3_aPlan_38 : decode cX3_aPlan 38 = .ok (.iconst 1, 1) := dk_4 (dk_at dksX3_aPlan_1 14 rfl rfl)
theorem dX3_aPlan_39 : decode cX3_aPlan 39 = .ok (.invokevirtual 188, 3) := dk_182 0 188 (dk_at dksX3_aPlan_1 15 rfl rfl)
theorem dX3_aPlan_42 : decode cX3_aPlan 42 = .ok (.ireturn, 1) := dk_172 (dk_at dksX3_aPlan_1 18 rfl rfl)
theorem dX3_aPlan_43 : decode cX3_aPlan 43 = .ok (.aload_n 0, 1) := dk_42 (dk_at dksX3_aPlan_1 19 rfl rfl)
theorem dX3_aPlan_44 : decode cX3_aPlan 44 = .ok (.getfield 167, 3) := dk_180 0 167 (dk_at dksX3_aPlan_1 20 rfl rfl)
theorem dX3_aPlan_47 : decode cX3_aPlan 47 = .ok (.istore_n 2, 1) := dk_61 (dk_at dksX3_aPlan_1 23 rfl rfl)
theorem dX3_aPlan_48 : decode cX3_aPlan 48 = .ok (.aload_n 0, 1) := dk_42 (dk_at dksX3_aPlan_2 0 rfl rfl)
theorem dX3_aPlan_49 : decode cX3_aPlan 49 = .ok (.getfield 28, 3) := dk_180 0 28 (dk_at dksX3_aPlan_2 1 rfl rfl)
theorem dX3_aPlan_52 : decode cX3_aPlan 52 = .ok (.iload_n 1, 1) := dk_27 (dk_at dksX3_aPlan_2 4 rfl rfl)
theorem dX3_aPlan_53 : decode cX3_aPlan 53 = .ok (.iconst 1, 1) := dk_4 (dk_at dksX3_aPlan_2 5 rfl rfl)
theorem dX3_aPlan_54 : decode cX3_aPlan 54 = .ok (.iadd, 1) := dk_96 (dk_at dksX3_aPlan_2 6 rfl rfl)
theorem dX3_aPlan_55 : decode cX3_aPlan 55 = .ok (.iload_n 2, 1) := dk_28 (dk_at dksX3_aPlan_2 7 rfl rfl)
theorem dX3_aPlan_56 : decode cX3_aPlan 56 = .ok (.iastore, 1) := dk_79 (dk_at dksX3_aPlan_2 8 rfl rfl)
theorem dX3_aPlan_57 : decode cX3_aPlan 57 = .ok (.aload_n 0, 1) := dk_42 (dk_at dksX3_aPlan_2 9 rfl rfl)
theorem dX3_aPlan_58 : decode cX3_aPlan 58 = .ok (.getfield 28, 3) := dk_180 0 28 (dk_at dksX3_aPlan_2 10 rfl rfl)
theorem dX3_aPlan_61 : decode cX3_aPlan 61 = .ok (.iload_n 1, 1) := dk_27 (dk_at dksX3_aPlan_2 13 rfl rfl)
theorem dX3_aPlan_62 : decode cX3_aPlan 62 = .ok (.iconst 3, 1) := dk_6 (dk_at dksX3_aPlan_2 14 rfl rfl)
theorem dX3_aPlan_63 : decode cX3_aPlan 63 = .ok (.iadd, 1) := dk_96 (dk_at dksX3_aPlan_2 15 rfl rfl)
theorem dX3_aPlan_64 : decode cX3_aPlan 64 = .ok (.iconst 0, 1) := dk_3 (dk_at dksX3_aPlan_2 16 rfl rfl)
theorem dX3_aPlan_65 : decode cX3_aPlan 65 = .ok (.iastore, 1) := dk_79 (dk_at dksX3_aPlan_2 17 rfl rfl)
theorem dX3_aPlan_66 : decode cX3_aPlan 66 = .ok (.aload_n 0, 1) := dk_42 (dk_at dksX3_aPlan_2 18 rfl rfl)
theorem dX3_aPlan_67 : decode cX3_aPlan 67 = .ok (.getfield 28, 3) := dk_180 0 28 (dk_at dksX3_aPlan_2 19 rfl rfl)
theorem dX3_aPlan_70 : decode cX3_aPlan 70 = .ok (.iload_n 1, 1) := dk_27 (dk_at dksX3_aPlan_2 22 rfl rfl)
theorem dX3_aPlan_71 : decode cX3_aPlan 71 = .ok (.iconst 4, 1) := dk_7 (dk_at dksX3_aPlan_2 23 rfl rfl)
theorem dX3_aPlan_72 : decode cX3_aPlan 72 = .ok (.iadd, 1) := dk_96 (dk_at dksX3_aPlan_3 0 rfl rfl)
theorem dX3_aPlan_73 : decode cX3_aPlan 73 = .ok (.iconst 0, 1) := dk_3 (dk_at dksX3_aPlan_3 1 rfl rfl)
theorem dX3_aPlan_74 : decode cX3_aPlan 74 = .ok (.iastore, 1) := dk_79 (dk_at dksX3_aPlan_3 2 rfl rfl)
theorem dX3_aPlan_75 : decode cX3_aPlan 75 = .ok (.aload_n 0, 1) := dk_42 (dk_at dksX3_aPlan_3 3 rfl rfl)
theorem dX3_aPlan_76 : decode cX3_aPlan 76 = .ok (.invokevirtual 191, 3) := dk_182 0 191 (dk_at dksX3_aPlan_3 4 rfl rfl)
theorem dX3_aPlan_79 : decode cX3_aPlan 79 = .ok (.aload_n 0, 1) := dk_42 (dk_at dksX3_aPlan_3 7 rfl rfl)
theorem dX3_aPlan_80 : decode cX3_aPlan 80 = .ok (.iload_n 1, 1) := dk_27 (dk_at dksX3_aPlan_3 8 rfl rfl)
theorem dX3_aPlan_81 : decode cX3_aPlan 81 = .ok (.iconst 2, 1) := dk_5 (dk_at dksX3_aPlan_3 9 rfl rfl)
theorem dX3_aPlan_82 : decode cX3_aPlan 82 = .ok (.iadd, 1) := dk_96 (dk_at dksX3_aPlan_3 10 rfl rfl)
theorem dX3_aPlan_83 : decode cX3_aPlan 83 = .ok (.invokevirtual 245, 3) := dk_182 0 245 (dk_at dksX3_aPlan_3 11 rfl rfl)
theorem dX3_aPlan_86 : decode cX3_aPlan 86 = .ok (.ifCond .ne 5, 3) := dk_154 0 5 (dk_at dksX3_aPlan_3 14 rfl rfl)
theorem dX3_aPlan_89 : decode cX3_aPlan 89 = .ok (.iconst 0, 1) := dk_3 (dk_at dksX3_aPlan_3 17 rfl rfl)
theorem dX3_aPlan_90 : decode cX3_aPlan 90 = .ok (.ireturn, 1) := dk_172 (dk_at dksX3_aPlan_3 18 rfl rfl)
theorem dX3_aPlan_91 : decode cX3_aPlan 91 = .ok (.iload_n 2, 1) := dk_28 (dk_at dksX3_aPlan_3 19 rfl rfl)
theorem dX3_aPlan_92 : decode cX3_aPlan 92 = .ok (.bipush 10, 2) := dk_16 10 (dk_at dksX3_aPlan_3 20 rfl rfl)
theorem dX3_aPlan_94 : decode cX3_aPlan 94 = .ok (.if_icmp .ne 32, 3) := dk_160 0 32 (dk_at dksX3_aPlan_4 0 rfl rfl)
theorem dX3_aPlan_97 : decode cX3_aPlan 97 = .ok (.aload_n 0, 1) := dk_42 (dk_at dksX3_aPlan_4 3 rfl rfl)
theorem dX3_aPlan_98 : decode cX3_aPlan 98 = .ok (.getfield 167, 3) := dk_180 0 167 (dk_at dksX3_aPlan_4 4 rfl rfl)
theorem dX3_aPlan_101 : decode cX3_aPlan 101 = .ok (.iconst 2, 1) := dk_5 (dk_at dksX3_aPlan_4 7 rfl rfl)
theorem dX3_aPlan_102 : decode cX3_aPlan 102 = .ok (.if_icmp .ne 24, 3) := dk_160 0 24 (dk_at dksX3_aPlan_4 8 rfl rfl)
theorem dX3_aPlan_105 : decode cX3_aPlan 105 = .ok (.aload_n 0, 1) := dk_42 (dk_at dksX3_aPlan_4 11 rfl rfl)
theorem dX3_aPlan_106 : decode cX3_aPlan 106 = .ok (.getfield 179, 3) := dk_180 0 179 (dk_at dksX3_aPlan_4 12 rfl rfl)
theorem dX3_aPlan_109 : decode cX3_aPlan 109 = .ok (.aload_n 0, 1) := dk_42 (dk_at dksX3_aPlan_4 15 rfl rfl)
theorem dX3_aPlan_110 : decode cX3_aPlan 110 = .ok (.getfield 28, 3) := dk_180 0 28 (dk_at dksX3_aPlan_4 16 rfl rfl)
theorem dX3_aPlan_113 : decode cX3_aPlan 113 = .ok (.iload_n 1, 1) := dk_27 (dk_at dksX3_aPlan_4 19 rfl rfl)
theorem dX3_aPlan_114 : decode cX3_aPlan 114 = .ok (.iconst 2, 1) := dk_5 (dk_at dksX3_aPlan_4 20 rfl rfl)
theorem dX3_aPlan_115 : decode cX3_aPlan 115 = .ok (.iadd, 1) := dk_96 (dk_at dksX3_aPlan_4 21 rfl rfl)
theorem dX3_aPlan_116 : decode cX3_aPlan 116 = .ok (.iaload, 1) := dk_46 (dk_at dksX3_aPlan_4 22 rfl rfl)
theorem dX3_aPlan_117 : decode cX3_aPlan 117 = .ok (.if_icmp .ne 9, 3) := dk_160 0 9 (dk_at dksX3_aPlan_5 0 rfl rfl)
theorem dX3_aPlan_120 : decode cX3_aPlan 120 = .ok (.aload_n 0, 1) := dk_42 (dk_at dksX3_aPlan_5 3 rfl rfl)
theorem dX3_aPlan_121 : decode cX3_aPlan 121 = .ok (.iconst 2, 1) := dk_5 (dk_at dksX3_aPlan_5 4 rfl rfl)
theorem dX3_aPlan_122 : decode cX3_aPlan 122 = .ok (.invokevirtual 188, 3) := dk_182 0 188 (dk_at dksX3_aPlan_5 5 rfl rfl)
theorem dX3_aPlan_125 : decode cX3_aPlan 125 = .ok (.ireturn, 1) := dk_172 (dk_at dksX3_aPlan_5 8 rfl rfl)
theorem dX3_aPlan_126 : decode cX3_aPlan 126 = .ok (.iload_n 2, 1) := dk_28 (dk_at dksX3_aPlan_5 9 rfl rfl)
theorem dX3_aPlan_127 : decode cX3_aPlan 127 = .ok (.bipush 10, 2) := dk_16 10 (dk_at dksX3_aPlan_5 10 rfl rfl)
theorem dX3_aPlan_129 : decode cX3_aPlan 129 = .ok (.if_icmp .ne 15, 3) := dk_160 0 15 (dk_at dksX3_aPlan_5 12 rfl rfl)
theorem dX3_aPlan_132 : decode cX3_aPlan 132 = .ok (.aload_n 0, 1) := dk_42 (dk_at dksX3_aPlan_5 15 rfl rfl)
theorem dX3_aPlan_133 : decode cX3_aPlan 133 = .ok (.iload_n 1, 1) := dk_27 (dk_at dksX3_aPlan_5 16 rfl rfl)
theorem dX3_aPlan_134 : decode cX3_aPlan 134 = .ok (.iconst 3, 1) := dk_6 (dk_at dksX3_aPlan_5 17 rfl rfl)
theorem dX3_aPlan_135 : decode cX3_aPlan 135 = .ok (.iadd, 1) := dk_96 (dk_at dksX3_aPlan_5 18 rfl rfl)
theorem dX3_aPlan_136 : decode cX3_aPlan 136 = .ok (.invokevirtual 245, 3) := dk_182 0 245 (dk_at dksX3_aPlan_5 19 rfl rfl)
theorem dX3_aPlan_139 : decode cX3_aPlan 139 = .ok (.ifCond .ne 5, 3) := dk_154 0 5 (dk_at dksX3_aPlan_6 0 rfl rfl)
theorem dX3_aPlan_142 : decode cX3_aPlan 142 = .ok (.iconst 0, 1) := dk_3 (dk_at dksX3_aPlan_6 3 rfl rfl)
theorem dX3_aPlan_143 : decode cX3_aPlan 143 = .ok (.ireturn, 1) := dk_172 (dk_at dksX3_aPlan_6 4 rfl rfl)
theorem dX3_aPlan_144 : decode cX3_aPlan 144 = .ok (.iload_n 2, 1) := dk_28 (dk_at dksX3_aPlan_6 5 rfl rfl)
theorem dX3_aPlan_145 : decode cX3_aPlan 145 = .ok (.bipush 9, 2) := dk_16 9 (dk_at dksX3_aPlan_6 6 rfl rfl)
theorem dX3_aPlan_147 : decode cX3_aPlan 147 = .ok (.if_icmp .eq 22, 3) := dk_159 0 22 (dk_at dksX3_aPlan_6 8 rfl rfl)
theorem dX3_aPlan_150 : decode cX3_aPlan 150 = .ok (.iload_n 2, 1) := dk_28 (dk_at dksX3_aPlan_6 11 rfl rfl)
theorem dX3_aPlan_151 : decode cX3_aPlan 151 = .ok (.bipush 11, 2) := dk_16 11 (dk_at dksX3_aPlan_6 12 rfl rfl)
theorem dX3_aPlan_153 : decode cX3_aPlan 153 = .ok (.if_icmp .eq 16, 3) := dk_159 0 16 (dk_at dksX3_aPlan_6 14 rfl rfl)
theorem dX3_aPlan_156 : decode cX3_aPlan 156 = .ok (.aload_n 0, 1) := dk_42 (dk_at dksX3_aPlan_6 17 rfl rfl)
theorem dX3_aPlan_157 : decode cX3_aPlan 157 = .ok (.iload_n 1, 1) := dk_27 (dk_at dksX3_aPlan_6 18 rfl rfl)
theorem dX3_aPlan_158 : decode cX3_aPlan 158 = .ok (.iconst 4, 1) := dk_7 (dk_at dksX3_aPlan_6 19 rfl rfl)
theorem dX3_aPlan_159 : decode cX3_aPlan 159 = .ok (.iadd, 1) := dk_96 (dk_at dksX3_aPlan_6 20 rfl rfl)
theorem dX3_aPlan_160 : decode cX3_aPlan 160 = .ok (.iconst 1, 1) := dk_4 (dk_at dksX3_aPlan_6 21 rfl rfl)
theorem dX3_aPlan_161 : decode cX3_aPlan 161 = .ok (.bipush 99, 2) := dk_16 99 (dk_at dksX3_aPlan_6 22 rfl rfl)
theorem dX3_aPlan_163 : decode cX3_aPlan 163 = .ok (.invokevirtual 235, 3) := dk_182 0 235 (dk_at dksX3_aPlan_7 0 rfl rfl)
theorem dX3_aPlan_166 : decode cX3_aPlan 166 = .ok (.ifCond .eq 7, 3) := dk_153 0 7 (dk_at dksX3_aPlan_7 3 rfl rfl)
theorem dX3_aPlan_169 : decode cX3_aPlan 169 = .ok (.iconst 1, 1) := dk_4 (dk_at dksX3_aPlan_7 6 rfl rfl)
theorem dX3_aPlan_170 : decode cX3_aPlan 170 = .ok (.goto 4, 3) := dk_167 0 4 (dk_at dksX3_aPlan_7 7 rfl rfl)
theorem dX3_aPlan_173 : decode cX3_aPlan 173 = .ok (.iconst 0, 1) := dk_3 (dk_at dksX3_aPlan_7 10 rfl rfl)
theorem dX3_aPlan_174 : decode cX3_aPlan 174 = .ok (.ireturn, 1) := dk_172 (dk_at dksX3_aPlan_7 11 rfl rfl)
abbrev cX3_told : ByteArray := prog_17_method_43_code
def yX3_told : MethodName := ⟨RX3, "told", "(IIII)Z"⟩
def dkwX3_told_1 : List UInt8 := [172]
abbrev dktX3_told_1 : List UInt8 := dkwX3_told_1 ++ []
def dkwX3_told_0 : List UInt8 := [42, 28, 182, 0, 223, 153, 0, 18, 42, 27, 29, 21, 4, 182, 0, 235, 153, 0, 7, 4, 167, 0, 4, 3]
abbrev dktX3_told_0 : List UInt8 := dkwX3_told_0 ++ dktX3_told_1
theorem dksX3_told_0 : cX3_told.data.toList.drop 0 = dktX3_told_0 := by decide +kernel
theorem dksX3_told_1 : cX3_told.data.toList.drop 24 = dktX3_told_1 := dk_seg dksX3_told_0 24 rfl rfl
theorem dX3_told_0 : decode cX3_told 0 = .ok (.aload_n 0, 1) := dk_42 (dk_at dksX3_told_0 0 rfl rfl)
theorem dX3_told_1 : decode cX3_told 1 = .ok (.iload_n 2, 1) := dk_28 (dk_at dksX3_told_0 1 rfl rfl)
theorem dX3_told_2 : decode cX3_told 2 = .ok (.invokevirtual 223, 3) := dk_182 0 223 (dk_at dksX3_told_0 2 rfl rfl)
theorem dX3_told_5 : decode cX3_told 5 = .ok (.ifCond .eq 18, 3) := dk_153 0 18 (dk_at dksX3_told_0 5 rfl rfl)
theorem dX3_told_8 : decode cX3_told 8 = .ok (.aload_n 0, 1) := dk_42 (dk_at dksX3_told_0 8 rfl rfl)
theorem dX3_told_9 : decode cX3_told 9 = .ok (.iload_n 1, 1) := dk_27 (dk_at dksX3_told_0 9 rfl rfl)
theorem dX3_told_10 : decode cX3_told 10 = .ok (.iload_n 3, 1) := dk_29 (dk_at dksX3_told_0 10 rfl rfl)
theorem dX3_told_11 : decode cX3_told 11 = .ok (.iload 4, 2) := dk_21 4 (dk_at dksX3_told_0 11 rfl rfl)
theorem dX3_told_13 : decode cX3_told 13 = .ok (.invokevirtual 235, 3) := dk_182 0 235 (dk_at dksX3_told_0 13 rfl rfl)
theorem dX3_told_16 : decode cX3_told 16 = .ok (.ifCond .eq 7, 3) := dk_153 0 7 (dk_at dksX3_told_0 16 rfl rfl)
theorem dX3_told_19 : decode cX3_told 19 = .ok (.iconst 1, 1) := dk_4 (dk_at dksX3_told_0 19 rfl rfl)
theorem dX3_told_20 : decode cX3_told 20 = .ok (.goto 4, 3) := dk_167 0 4 (dk_at dksX3_told_0 20 rfl rfl)
theorem dX3_told_23 : decode cX3_told 23 = .ok (.iconst 0, 1) := dk_3 (dk_at dksX3_told_0 23 rfl rfl)
theorem dX3_told_24 : decode cX3_told 24 = .ok (.ireturn, 1) := dk_172 (dk_at dksX3_told_1 0 rfl rfl)
abbrev cX3_number : ByteArray := prog_17_method_42_code
def yX3_number : MethodName := ⟨RX3, "number", "(III)Z"⟩
def dkwX3_number_2 : List UInt8 := [172]
abbrev dktX3_number_2 : List UInt8 := dkwX3_number_2 ++ []
def dkwX3_number_1 : List UInt8 := [154, 0, 9, 42, 5, 182, 0, 188, 172, 42, 180, 0, 28, 27, 42, 180, 0, 179, 79, 42, 182, 0, 191, 4]
abbrev dktX3_number_1 : List UInt8 := dkwX3_number_1 ++ dktX3_number_2
def dkwX3_number_0 : List UInt8 := [42, 180, 0, 167, 5, 159, 0, 9, 42, 4, 182, 0, 188, 172, 42, 180, 0, 179, 28, 29, 184, 0, 54]
abbrev dktX3_number_0 : List UInt8 := dkwX3_number_0 ++ dktX3_number_1
theorem dksX3_number_0 : cX3_number.data.toList.drop 0 = dktX3_number_0 := by decide +kernel
theorem dksX3_number_1 : cX3_number.data.toList.drop 23 = dktX3_number_1 := dk_seg dksX3_number_0 23 rfl rfl
theorem dksX3_number_2 : cX3_number.data.toList.drop 47 = dktX3_number_2 := dk_seg dksX3_number_1 24 rfl rfl
theorem dX3_number_0 : decode cX3_number 0 = .ok (.aload_n 0, 1) := dk_42 (dk_at dksX3_number_0 0 rfl rfl)
theorem dX3_number_1 : decode cX3_number 1 = .ok (.getfield 167, 3) := dk_180 0 167 (dk_at dksX3_number_0 1 rfl rfl)
theorem dX3_number_4 : decode cX3_number 4 = .ok (.iconst 2, 1) := dk_5 (dk_at dksX3_number_0 4 rfl rfl)
theorem dX3_number_5 : decode cX3_number 5 = .ok (.if_icmp .eq 9, 3) := dk_159 0 9 (dk_at dksX3_number_0 5 rfl rfl)
theorem dX3_number_8 : decode cX3_number 8 = .ok (.aload_n 0, 1) := dk_42 (dk_at dksX3_number_0 8 rfl rfl)
theorem dX3_number_9 : decode cX3_number 9 = .ok (.iconst 1, 1) := dk_4 (dk_at dksX3_number_0 9 rfl rfl)
theorem dX3_number_10 : decode cX3_number 10 = .ok (.invokevirtual 188, 3) := dk_182 0 188 (dk_at dksX3_number_0 10 rfl rfl)
theorem dX3_number_13 : decode cX3_number 13 = .ok (.ireturn, 1) := dk_172 (dk_at dksX3_number_0 13 rfl rfl)
theorem dX3_number_14 : decode cX3_number 14 = .ok (.aload_n 0, 1) := dk_42 (dk_at dksX3_number_0 14 rfl rfl)
theorem dX3_number_15 : decode cX3_number 15 = .ok (.getfield 179, 3) := dk_180 0 179 (dk_at dksX3_number_0 15 rfl rfl)
theorem dX3_number_18 : decode cX3_number 18 = .ok (.iload_n 2, 1) := dk_28 (dk_at dksX3_number_0 18 rfl rfl)
theorem dX3_number_19 : decode cX3_number 19 = .ok (.iload_n 3, 1) := dk_29 (dk_at dksX3_number_0 19 rfl rfl)
theorem dX3_number_20 : decode cX3_number 20 = .ok (.invokestatic 54, 3) := dk_184 0 54 (dk_at dksX3_number_0 20 rfl rfl)
theorem dX3_number_23 : decode cX3_number 23 = .ok (.ifCond .ne 9, 3) := dk_154 0 9 (dk_at dksX3_number_1 0 rfl rfl)
theorem dX3_number_26 : decode cX3_number 26 = .ok (.aload_n 0, 1) := dk_42 (dk_at dksX3_number_1 3 rfl rfl)
theorem dX3_number_27 : decode cX3_number 27 = .ok (.iconst 2, 1) := dk_5 (dk_at dksX3_number_1 4 rfl rfl)
theorem dX3_number_28 : decode cX3_number 28 = .ok (.invokevirtual 188, 3) := dk_182 0 188 (dk_at dksX3_number_1 5 rfl rfl)
theorem dX3_number_31 : decode cX3_number 31 = .ok (.ireturn, 1) := dk_172 (dk_at dksX3_number_1 8 rfl rfl)
theorem dX3_number_32 : decode cX3_number 32 = .ok (.aload_n 0, 1) := dk_42 (dk_at dksX3_number_1 9 rfl rfl)
theorem dX3_number_33 : decode cX3_number 33 = .ok (.getfield 28, 3) := dk_180 0 28 (dk_at dksX3_number_1 10 rfl rfl)
theorem dX3_number_36 : decode cX3_number 36 = .ok (.iload_n 1, 1) := dk_27 (dk_at dksX3_number_1 13 rfl rfl)
theorem dX3_number_37 : decode cX3_number 37 = .ok (.aload_n 0, 1) := dk_42 (dk_at dksX3_number_1 14 rfl rfl)
theorem dX3_number_38 : decode cX3_number 38 = .ok (.getfield 179, 3) := dk_180 0 179 (dk_at dksX3_number_1 15 rfl rfl)
theorem dX3_number_41 : decode cX3_number 41 = .ok (.iastore, 1) := dk_79 (dk_at dksX3_number_1 18 rfl rfl)
theorem dX3_number_42 : decode cX3_number 42 = .ok (.aload_n 0, 1) := dk_42 (dk_at dksX3_number_1 19 rfl rfl)
theorem dX3_number_43 : decode cX3_number 43 = .ok (.invokevirtual 191, 3) := dk_182 0 191 (dk_at dksX3_number_1 20 rfl rfl)
theorem dX3_number_46 : decode cX3_number 46 = .ok (.iconst 1, 1) := dk_4 (dk_at dksX3_number_1 23 rfl rfl)
theorem dX3_number_47 : decode cX3_number 47 = .ok (.ireturn, 1) := dk_172 (dk_at dksX3_number_2 0 rfl rfl)
abbrev cX3_aLink : ByteArray := prog_17_method_44_code
def yX3_aLink : MethodName := ⟨RX3, "aLink", "(I)Z"⟩
def dkwX3_aLink_0 : List UInt8 := [42, 27, 3, 42, 180, 0, 7, 16, 88, 46, 4, 100, 182, 0, 235, 172]
abbrev dktX3_aLink_0 : List UInt8 := dkwX3_aLink_0 ++ []
theorem dksX3_aLink_0 : cX3_aLink.data.toList.drop 0 = dktX3_aLink_0 := by decide +kernel
theorem dX3_aLink_0 : decode cX3_aLink 0 = .ok (.aload_n 0, 1) := dk_42 (dk_at dksX3_aLink_0 0 rfl rfl)
theorem dX3_aLink_1 : decode cX3_aLink 1 = .ok (.iload_n 1, 1) := dk_27 (dk_at dksX3_aLink_0 1 rfl rfl)
theorem dX3_aLink_2 : decode cX3_aLink 2 = .ok (.iconst 0, 1) := dk_3 (dk_at dksX3_aLink_0 2 rfl rfl)
theorem dX3_aLink_3 : decode cX3_aLink 3 = .ok (.aload_n 0, 1) := dk_42 (dk_at dksX3_aLink_0 3 rfl rfl)
theorem dX3_aLink_4 : decode cX3_aLink 4 = .ok (.getfield 7, 3) := dk_180 0 7 (dk_at dksX3_aLink_0 4 rfl rfl)
theorem dX3_aLink_7 : decode cX3_aLink 7 = .ok (.bipush 88, 2) := dk_16 88 (dk_at dksX3_aLink_0 7 rfl rfl)
theorem dX3_aLink_9 : decode cX3_aLink 9 = .ok (.iaload, 1) := dk_46 (dk_at dksX3_aLink_0 9 rfl rfl)
theorem dX3_aLink_10 : decode cX3_aLink 10 = .ok (.iconst 1, 1) := dk_4 (dk_at dksX3_aLink_0 10 rfl rfl)
theorem dX3_aLink_11 : decode cX3_aLink 11 = .ok (.isub, 1) := dk_100 (dk_at dksX3_aLink_0 11 rfl rfl)
theorem dX3_aLink_12 : decode cX3_aLink 12 = .ok (.invokevirtual 235, 3) := dk_182 0 235 (dk_at dksX3_aLink_0 12 rfl rfl)
theorem dX3_aLink_15 : decode cX3_aLink 15 = .ok (.ireturn, 1) := dk_172 (dk_at dksX3_aLink_0 15 rfl rfl)
abbrev cX3_aPhone : ByteArray := prog_17_method_46_code
def yX3_aPhone : MethodName := ⟨RX3, "aPhone", "()Z"⟩
def dkwX3_aPhone_2 : List UInt8 := [180, 0, 28, 27, 4, 96, 46, 4, 96, 17, 0, 240, 182, 0, 241, 153, 0, 7, 4, 167, 0, 4, 3, 172]
abbrev dktX3_aPhone_2 : List UInt8 := dkwX3_aPhone_2 ++ []
def dkwX3_aPhone_1 : List UInt8 := [42, 27, 4, 96, 16, 13, 3, 17, 0, 240, 182, 0, 241, 153, 0, 32, 42, 27, 5, 96, 16, 14, 42]
abbrev dktX3_aPhone_1 : List UInt8 := dkwX3_aPhone_1 ++ dktX3_aPhone_2
def dkwX3_aPhone_0 : List UInt8 := [6, 42, 180, 0, 238, 104, 60, 42, 16, 12, 182, 0, 223, 153, 0, 56, 42, 27, 182, 0, 245, 153, 0, 48]
abbrev dktX3_aPhone_0 : List UInt8 := dkwX3_aPhone_0 ++ dktX3_aPhone_1
theorem dksX3_aPhone_0 : cX3_aPhone.data.toList.drop 0 = dktX3_aPhone_0 := by decide +kernel
theorem dksX3_aPhone_1 : cX3_aPhone.data.toList.drop 24 = dktX3_aPhone_1 := dk_seg dksX3_aPhone_0 24 rfl rfl
theorem dksX3_aPhone_2 : cX3_aPhone.data.toList.drop 47 = dktX3_aPhone_2 := dk_seg dksX3_aPhone_1 23 rfl rfl
theorem dX3_aPhone_0 : decode cX3_aPhone 0 = .ok (.iconst 3, 1) := dk_6 (dk_at dksX3_aPhone_0 0 rfl rfl)
theorem dX3_aPhone_1 : decode cX3_aPhone 1 = .ok (.aload_n 0, 1) := dk_42 (dk_at dksX3_aPhone_0 1 rfl rfl)
theorem dX3_aPhone_2 : decode cX3_aPhone 2 = .ok (.getfield 238, 3) := dk_180 0 238 (dk_at dksX3_aPhone_0 2 rfl rfl)
theorem dX3_aPhone_5 : decode cX3_aPhone 5 = .ok (.imul, 1) := dk_104 (dk_at dksX3_aPhone_0 5 rfl rfl)
theorem dX3_aPhone_6 : decode cX3_aPhone 6 = .ok (.istore_n 1, 1) := dk_60 (dk_at dksX3_aPhone_0 6 rfl rfl)
theorem dX3_aPhone_7 : decode cX3_aPhone 7 = .ok (.aload_n 0, 1) := dk_42 (dk_at dksX3_aPhone_0 7 rfl rfl)
theorem dX3_aPhone_8 : decode cX3_aPhone 8 = .ok (.bipush 12, 2) := dk_16 12 (dk_at dksX3_aPhone_0 8 rfl rfl)
theorem dX3_aPhone_10 : decode cX3_aPhone 10 = .ok (.invokevirtual 223, 3) := dk_182 0 223 (dk_at dksX3_aPhone_0 10 rfl rfl)
theorem dX3_aPhone_13 : decode cX3_aPhone 13 = .ok (.ifCond .eq 56, 3) := dk_153 0 56 (dk_at dksX3_aPhone_0 13 rfl rfl)
theorem dX3_aPhone_16 : decode cX3_aPhone 16 = .ok (.aload_n 0, 1) := dk_42 (dk_at dksX3_aPhone_0 16 rfl rfl)
theorem dX3_aPhone_17 : decode cX3_aPhone 17 = .ok (.iload_n 1, 1) := dk_27 (dk_at dksX3_aPhone_0 17 rfl rfl)
theorem dX3_aPhone_18 : decode cX3_aPhone 18 = .ok (.invokevirtual 245, 3) := dk_182 0 245 (dk_at dksX3_aPhone_0 18 rfl rfl)
theorem dX3_aPhone_21 : decode cX3_aPhone 21 = .ok (.ifCond .eq 48, 3) := dk_153 0 48 (dk_at dksX3_aPhone_0 21 rfl rfl)
theorem dX3_aPhone_24 : decode cX3_aPhone 24 = .ok (.aload_n 0, 1) := dk_42 (dk_at dksX3_aPhone_1 0 rfl rfl)
theorem dX3_aPhone_25 : decode cX3_aPhone 25 = .ok (.iload_n 1, 1) := dk_27 (dk_at dksX3_aPhone_1 1 rfl rfl)
theorem dX3_aPhone_26 : decode cX3_aPhone 26 = .ok (.iconst 1, 1) := dk_4 (dk_at dksX3_aPhone_1 2 rfl rfl)
theorem dX3_aPhone_27 : decode cX3_aPhone 27 = .ok (.iadd, 1) := dk_96 (dk_at dksX3_aPhone_1 3 rfl rfl)
theorem dX3_aPhone_28 : decode cX3_aPhone 28 = .ok (.bipush 13, 2) := dk_16 13 (dk_at dksX3_aPhone_1 4 rfl rfl)
theorem dX3_aPhone_30 : decode cX3_aPhone 30 = .ok (.iconst 0, 1) := dk_3 (dk_at dksX3_aPhone_1 6 rfl rfl)
theorem dX3_aPhone_31 : decode cX3_aPhone 31 = .ok (.sipush 240, 3) := dk_17 0 240 (dk_at dksX3_aPhone_1 7 rfl rfl)
theorem dX3_aPhone_34 : decode cX3_aPhone 34 = .ok (.invokevirtual 241, 3) := dk_182 0 241 (dk_at dksX3_aPhone_1 10 rfl rfl)
theorem dX3_aPhone_37 : decode cX3_aPhone 37 = .ok (.ifCond .eq 32, 3) := dk_153 0 32 (dk_at dksX3_aPhone_1 13 rfl rfl)
theorem dX3_aPhone_40 : decode cX3_aPhone 40 = .ok (.aload_n 0, 1) := dk_42 (dk_at dksX3_aPhone_1 16 rfl rfl)
theorem dX3_aPhone_41 : decode cX3_aPhone 41 = .ok (.iload_n 1, 1) := dk_27 (dk_at dksX3_aPhone_1 17 rfl rfl)
theorem dX3_aPhone_42 : decode cX3_aPhone 42 = .ok (.iconst 2, 1) := dk_5 (dk_at dksX3_aPhone_1 18 rfl rfl)
theorem dX3_aPhone_43 : decode cX3_aPhone 43 = .ok (.iadd, 1) := dk_96 (dk_at dksX3_aPhone_1 19 rfl rfl)
theorem dX3_aPhone_44 : decode cX3_aPhone 44 = .ok (.bipush 14, 2) := dk_16 14 (dk_at dksX3_aPhone_1 20 rfl rfl)
theorem dX3_aPhone_46 : decode cX3_aPhone 46 = .ok (.aload_n 0, 1) := dk_42 (dk_at dksX3_aPhone_1 22 rfl rfl)
theorem dX3_aPhone_47 : decode cX3_aPhone 47 = .ok (.getfield 28, 3) := dk_180 0 28 (dk_at dksX3_aPhone_2 0 rfl rfl)
theorem dX3_aPhone_50 : decode cX3_aPhone 50 = .ok (.iload_n 1, 1) := dk_27 (dk_at dksX3_aPhone_2 3 rfl rfl)
theorem dX3_aPhone_51 : decode cX3_aPhone 51 = .ok (.iconst 1, 1) := dk_4 (dk_at dksX3_aPhone_2 4 rfl rfl)
theorem dX3_aPhone_52 : decode cX3_aPhone 52 = .ok (.iadd, 1) := dk_96 (dk_at dksX3_aPhone_2 5 rfl rfl)
theorem dX3_aPhone_53 : decode cX3_aPhone 53 = .ok (.iaload, 1) := dk_46 (dk_at dksX3_aPhone_2 6 rfl rfl)
theorem dX3_aPhone_54 : decode cX3_aPhone 54 = .ok (.iconst 1, 1) := dk_4 (dk_at dksX3_aPhone_2 7 rfl rfl)
theorem dX3_aPhone_55 : decode cX3_aPhone 55 = .ok (.iadd, 1) := dk_96 (dk_at dksX3_aPhone_2 8 rfl rfl)
theorem dX3_aPhone_56 : decode cX3_aPhone 56 = .ok (.sipush 240, 3) := dk_17 0 240 (dk_at dksX3_aPhone_2 9 rfl rfl)
theorem dX3_aPhone_59 : decode cX3_aPhone 59 = .ok (.invokevirtual 241, 3) := dk_182 0 241 (dk_at dksX3_aPhone_2 12 rfl rfl)
theorem dX3_aPhone_62 : decode cX3_aPhone 62 = .ok (.ifCond .eq 7, 3) := dk_153 0 7 (dk_at dksX3_aPhone_2 15 rfl rfl)
theorem dX3_aPhone_65 : decode cX3_aPhone 65 = .ok (.iconst 1, 1) := dk_4 (dk_at dksX3_aPhone_2 18 rfl rfl)
theorem dX3_aPhone_66 : decode cX3_aPhone 66 = .ok (.goto 4, 3) := dk_167 0 4 (dk_at dksX3_aPhone_2 19 rfl rfl)
theorem dX3_aPhone_69 : decode cX3_aPhone 69 = .ok (.iconst 0, 1) := dk_3 (dk_at dksX3_aPhone_2 22 rfl rfl)
theorem dX3_aPhone_70 : decode cX3_aPhone 70 = .ok (.ireturn, 1) := dk_172 (dk_at dksX3_aPhone_2 23 rfl rfl)
abbrev cX3_aRecord : ByteArray := prog_17_method_47_code
def yX3_aRecord : MethodName := ⟨RX3, "aRecord", "()Z"⟩
def dkwX3_aRecord_2 : List UInt8 := [167, 0, 4, 3, 172]
abbrev dktX3_aRecord_2 : List UInt8 := dkwX3_aRecord_2 ++ []
def dkwX3_aRecord_1 : List UInt8 := [182, 0, 223, 153, 0, 22, 42, 5, 42, 180, 0, 238, 104, 4, 96, 182, 0, 245, 153, 0, 7, 4]
abbrev dktX3_aRecord_1 : List UInt8 := dkwX3_aRecord_1 ++ dktX3_aRecord_2
def dkwX3_aRecord_0 : List UInt8 := [42, 5, 42, 180, 0, 238, 104, 16, 15, 3, 17, 3, 231, 182, 0, 241, 153, 0, 31, 42, 16, 12]
abbrev dktX3_aRecord_0 : List UInt8 := dkwX3_aRecord_0 ++ dktX3_aRecord_1
theorem dksX3_aRecord_0 : cX3_aRecord.data.toList.drop 0 = dktX3_aRecord_0 := by decide +kernel
theorem dksX3_aRecord_1 : cX3_aRecord.data.toList.drop 22 = dktX3_aRecord_1 := dk_seg dksX3_aRecord_0 22 rfl rfl
theorem dksX3_aRecord_2 : cX3_aRecord.data.toList.drop 44 = dktX3_aRecord_2 := dk_seg dksX3_aRecord_1 22 rfl rfl
theorem dX3_aRecord_0 : decode cX3_aRecord 0 = .ok (.aload_n 0, 1) := dk_42 (dk_at dksX3_aRecord_0 0 rfl rfl)
theorem dX3_aRecord_1 : decode cX3_aRecord 1 = .ok (.iconst 2, 1) := dk_5 (dk_at dksX3_aRecord_0 1 rfl rfl)
theorem dX3_aRecord_2 : decode cX3_aRecord 2 = .ok (.aload_n 0, 1) := dk_42 (dk_at dksX3_aRecord_0 2 rfl rfl)
theorem dX3_aRecord_3 : decode cX3_aRecord 3 = .ok (.getfield 238, 3) := dk_180 0 238 (dk_at dksX3_aRecord_0 3 rfl rfl)
theorem dX3_aRecord_6 : decode cX3_aRecord 6 = .ok (.imul, 1) := dk_104 (dk_at dksX3_aRecord_0 6 rfl rfl)
theorem dX3_aRecord_7 : decode cX3_aRecord 7 = .ok (.bipush 15, 2) := dk_16 15 (dk_at dksX3_aRecord_0 7 rfl rfl)
theorem dX3_aRecord_9 : decode cX3_aRecord 9 = .ok (.iconst 0, 1) := dk_3 (dk_at dksX3_aRecord_0 9 rfl rfl)
theorem dX3_aRecord_10 : decode cX3_aRecord 10 = .ok (.sipush 999, 3) := dk_17 3 231 (dk_at dksX3_aRecord_0 10 rfl rfl)
theorem dX3_aRecord_13 : decode cX3_aRecord 13 = .ok (.invokevirtual 241, 3) := dk_182 0 241 (dk_at dksX3_aRecord_0 13 rfl rfl)
theorem dX3_aRecord_16 : decode cX3_aRecord 16 = .ok (.ifCond .eq 31, 3) := dk_153 0 31 (dk_at dksX3_aRecord_0 16 rfl rfl)
theorem dX3_aRecord_19 : decode cX3_aRecord 19 = .ok (.aload_n 0, 1) := dk_42 (dk_at dksX3_aRecord_0 19 rfl rfl)
theorem dX3_aRecord_20 : decode cX3_aRecord 20 = .ok (.bipush 12, 2) := dk_16 12 (dk_at dksX3_aRecord_0 20 rfl rfl)
theorem dX3_aRecord_22 : decode cX3_aRecord 22 = .ok (.invokevirtual 223, 3) := dk_182 0 223 (dk_at dksX3_aRecord_1 0 rfl rfl)
theorem dX3_aRecord_25 : decode cX3_aRecord 25 = .ok (.ifCond .eq 22, 3) := dk_153 0 22 (dk_at dksX3_aRecord_1 3 rfl rfl)
theorem dX3_aRecord_28 : decode cX3_aRecord 28 = .ok (.aload_n 0, 1) := dk_42 (dk_at dksX3_aRecord_1 6 rfl rfl)
theorem dX3_aRecord_29 : decode cX3_aRecord 29 = .ok (.iconst 2, 1) := dk_5 (dk_at dksX3_aRecord_1 7 rfl rfl)
theorem dX3_aRecord_30 : decode cX3_aRecord 30 = .ok (.aload_n 0, 1) := dk_42 (dk_at dksX3_aRecord_1 8 rfl rfl)
theorem dX3_aRecord_31 : decode cX3_aRecord 31 = .ok (.getfield 238, 3) := dk_180 0 238 (dk_at dksX3_aRecord_1 9 rfl rfl)
theorem dX3_aRecord_34 : decode cX3_aRecord 34 = .ok (.imul, 1) := dk_104 (dk_at dksX3_aRecord_1 12 rfl rfl)
theorem dX3_aRecord_35 : decode cX3_aRecord 35 = .ok (.iconst 1, 1) := dk_4 (dk_at dksX3_aRecord_1 13 rfl rfl)
theorem dX3_aRecord_36 : decode cX3_aRecord 36 = .ok (.iadd, 1) := dk_96 (dk_at dksX3_aRecord_1 14 rfl rfl)
theorem dX3_aRecord_37 : decode cX3_aRecord 37 = .ok (.invokevirtual 245, 3) := dk_182 0 245 (dk_at dksX3_aRecord_1 15 rfl rfl)
theorem dX3_aRecord_40 : decode cX3_aRecord 40 = .ok (.ifCond .eq 7, 3) := dk_153 0 7 (dk_at dksX3_aRecord_1 18 rfl rfl)
theorem dX3_aRecord_43 : decode cX3_aRecord 43 = .ok (.iconst 1, 1) := dk_4 (dk_at dksX3_aRecord_1 21 rfl rfl)
theorem dX3_aRecord_44 : decode cX3_aRecord 44 = .ok (.goto 4, 3) := dk_167 0 4 (dk_at dksX3_aRecord_2 0 rfl rfl)
theorem dX3_aRecord_47 : decode cX3_aRecord 47 = .ok (.iconst 0, 1) := dk_3 (dk_at dksX3_aRecord_2 3 rfl rfl)
theorem dX3_aRecord_48 : decode cX3_aRecord 48 = .ok (.ireturn, 1) := dk_172 (dk_at dksX3_aRecord_2 4 rfl rfl)
abbrev cX3_putsText : ByteArray := prog_17_method_53_code
def yX3_putsText : MethodName := ⟨RX3, "putsText", "(I)I"⟩
def dkwX3_putsText_3 : List UInt8 := [172, 42, 16, 92, 17, 0, 209, 5, 182, 1, 7, 172]
abbrev dktX3_putsText_3 : List UInt8 := dkwX3_putsText_3 ++ []
def dkwX3_putsText_2 : List UInt8 := [42, 182, 1, 4, 172, 42, 182, 0, 71, 42, 16, 90, 17, 0, 129, 8, 182, 1, 7, 172, 42, 182, 1, 11]
abbrev dktX3_putsText_2 : List UInt8 := dkwX3_putsText_2 ++ dktX3_putsText_3
def dkwX3_putsText_1 : List UInt8 := [170, 0, 0, 0, 0, 0, 52, 0, 0, 0, 0, 0, 0, 0, 2, 0, 0, 0, 27, 0, 0, 0, 32, 0, 0, 0, 47]
abbrev dktX3_putsText_1 : List UInt8 := dkwX3_putsText_1 ++ dktX3_putsText_2
def dkwX3_putsText_0 : List UInt8 := [27]
abbrev dktX3_putsText_0 : List UInt8 := dkwX3_putsText_0 ++ dktX3_putsText_1
theorem dksX3_putsText_0 : cX3_putsText.data.toList.drop 0 = dktX3_putsText_0 := by decide +kernel
theorem dksX3_putsText_1 : cX3_putsText.data.toList.drop 1 = dktX3_putsText_1 := dk_seg dksX3_putsText_0 1 rfl rfl
theorem dksX3_putsText_2 : cX3_putsText.data.toList.drop 28 = dktX3_putsText_2 := dk_seg dksX3_putsText_1 27 rfl rfl
theorem dksX3_putsText_3 : cX3_putsText.data.toList.drop 52 = dktX3_putsText_3 := dk_seg dksX3_putsText_2 24 rfl rfl
theorem dX3_putsText_0 : decode cX3_putsText 0 = .ok (.iload_n 1, 1) := dk_27 (dk_at dksX3_putsText_0 0 rfl rfl)
theorem dX3_putsText_1 : decode cX3_putsText 1 = .ok (.tableswitch 52 0 2 #[27, 32, 47], 27) := by decide +kernel
theorem dX3_putsText_28 : decode cX3_putsText 28 = .ok (.aload_n 0, 1) := dk_42 (dk_at dksX3_putsText_2 0 rfl rfl)
theorem dX3_putsText_29 : decode cX3_putsText 29 = .ok (.invokevirtual 260, 3) := dk_182 1 4 (dk_at dksX3_putsText_2 1 rfl rfl)
theorem dX3_putsText_32 : decode cX3_putsText 32 = .ok (.ireturn, 1) := dk_172 (dk_at dksX3_putsText_2 4 rfl rfl)
theorem dX3_putsText_33 : decode cX3_putsText 33 = .ok (.aload_n 0, 1) := dk_42 (dk_at dksX3_putsText_2 5 rfl rfl)
theorem dX3_putsText_34 : decode cX3_putsText 34 = .ok (.invokevirtual 71, 3) := dk_182 0 71 (dk_at dksX3_putsText_2 6 rfl rfl)
theorem dX3_putsText_37 : decode cX3_putsText 37 = .ok (.aload_n 0, 1) := dk_42 (dk_at dksX3_putsText_2 9 rfl rfl)
theorem dX3_putsText_38 : decode cX3_putsText 38 = .ok (.bipush 90, 2) := dk_16 90 (dk_at dksX3_putsText_2 10 rfl rfl)
theorem dX3_putsText_40 : decode cX3_putsText 40 = .ok (.sipush 129, 3) := dk_17 0 129 (dk_at dksX3_putsText_2 12 rfl rfl)
theorem dX3_putsText_43 : decode cX3_putsText 43 = .ok (.iconst 5, 1) := dk_8 (dk_at dksX3_putsText_2 15 rfl rfl)
theorem dX3_putsText_44 : decode cX3_putsText 44 = .ok (.invokevirtual 263, 3) := dk_182 1 7 (dk_at dksX3_putsText_2 16 rfl rfl)
theorem dX3_putsText_47 : decode cX3_putsText 47 = .ok (.ireturn, 1) := dk_172 (dk_at dksX3_putsText_2 19 rfl rfl)
theorem dX3_putsText_48 : decode cX3_putsText 48 = .ok (.aload_n 0, 1) := dk_42 (dk_at dksX3_putsText_2 20 rfl rfl)
theorem dX3_putsText_49 : decode cX3_putsText 49 = .ok (.invokevirtual 267, 3) := dk_182 1 11 (dk_at dksX3_putsText_2 21 rfl rfl)
theorem dX3_putsText_52 : decode cX3_putsText 52 = .ok (.ireturn, 1) := dk_172 (dk_at dksX3_putsText_3 0 rfl rfl)
theorem dX3_putsText_53 : decode cX3_putsText 53 = .ok (.aload_n 0, 1) := dk_42 (dk_at dksX3_putsText_3 1 rfl rfl)
theorem dX3_putsText_54 : decode cX3_putsText 54 = .ok (.bipush 92, 2) := dk_16 92 (dk_at dksX3_putsText_3 2 rfl rfl)
theorem dX3_putsText_56 : decode cX3_putsText 56 = .ok (.sipush 209, 3) := dk_17 0 209 (dk_at dksX3_putsText_3 4 rfl rfl)
theorem dX3_putsText_59 : decode cX3_putsText 59 = .ok (.iconst 2, 1) := dk_5 (dk_at dksX3_putsText_3 7 rfl rfl)
theorem dX3_putsText_60 : decode cX3_putsText 60 = .ok (.invokevirtual 263, 3) := dk_182 1 7 (dk_at dksX3_putsText_3 8 rfl rfl)
theorem dX3_putsText_63 : decode cX3_putsText 63 = .ok (.ireturn, 1) := dk_172 (dk_at dksX3_putsText_3 11 rfl rfl)
abbrev cX3_putsLaw : ByteArray := prog_17_method_50_code
def yX3_putsLaw : MethodName := ⟨RX3, "putsLaw", "()I"⟩
def dkwX3_putsLaw_6 : List UInt8 := [180, 0, 229, 172]
abbrev dktX3_putsLaw_6 : List UInt8 := dkwX3_putsLaw_6 ++ []
def dkwX3_putsLaw_5 : List UInt8 := [42, 180, 0, 7, 17, 3, 137, 27, 96, 42, 180, 0, 25, 27, 46, 79, 132, 1, 1, 167, 255, 227, 42]
abbrev dktX3_putsLaw_5 : List UInt8 := dkwX3_putsLaw_5 ++ dktX3_putsLaw_6
def dkwX3_putsLaw_4 : List UInt8 := [27, 104, 6, 96, 46, 79, 132, 1, 1, 167, 255, 167, 3, 60, 27, 5, 42, 180, 0, 194, 104, 162, 0, 25]
abbrev dktX3_putsLaw_4 : List UInt8 := dkwX3_putsLaw_4 ++ dktX3_putsLaw_5
def dkwX3_putsLaw_3 : List UInt8 := [180, 0, 22, 7, 27, 104, 5, 96, 46, 79, 42, 180, 0, 7, 17, 3, 121, 27, 96, 42, 180, 0, 22, 7]
abbrev dktX3_putsLaw_3 : List UInt8 := dkwX3_putsLaw_3 ++ dktX3_putsLaw_4
def dkwX3_putsLaw_2 : List UInt8 := [27, 96, 42, 180, 0, 22, 7, 27, 104, 4, 96, 46, 79, 42, 180, 0, 7, 17, 3, 105, 27, 96, 42]
abbrev dktX3_putsLaw_2 : List UInt8 := dkwX3_putsLaw_2 ++ dktX3_putsLaw_3
def dkwX3_putsLaw_1 : List UInt8 := [180, 0, 7, 17, 3, 73, 27, 96, 42, 180, 0, 22, 7, 27, 104, 46, 79, 42, 180, 0, 7, 17, 3, 89]
abbrev dktX3_putsLaw_1 : List UInt8 := dkwX3_putsLaw_1 ++ dktX3_putsLaw_2
def dkwX3_putsLaw_0 : List UInt8 := [42, 180, 0, 7, 16, 89, 42, 180, 0, 229, 79, 3, 60, 27, 42, 180, 0, 229, 162, 0, 87, 42]
abbrev dktX3_putsLaw_0 : List UInt8 := dkwX3_putsLaw_0 ++ dktX3_putsLaw_1
theorem dksX3_putsLaw_0 : cX3_putsLaw.data.toList.drop 0 = dktX3_putsLaw_0 := by decide +kernel
theorem dksX3_putsLaw_1 : cX3_putsLaw.data.toList.drop 22 = dktX3_putsLaw_1 := dk_seg dksX3_putsLaw_0 22 rfl rfl
theorem dksX3_putsLaw_2 : cX3_putsLaw.data.toList.drop 46 = dktX3_putsLaw_2 := dk_seg dksX3_putsLaw_1 24 rfl rfl
theorem dksX3_putsLaw_3 : cX3_putsLaw.data.toList.drop 69 = dktX3_putsLaw_3 := dk_seg dksX3_putsLaw_2 23 rfl rfl
theorem dksX3_putsLaw_4 : cX3_putsLaw.data.toList.drop 93 = dktX3_putsLaw_4 := dk_seg dksX3_putsLaw_3 24 rfl rfl
theorem dksX3_putsLaw_5 : cX3_putsLaw.data.toList.drop 117 = dktX3_putsLaw_5 := dk_seg dksX3_putsLaw_4 24 rfl rfl
theorem dksX3_putsLaw_6 : cX3_putsLaw.data.toList.drop 140 = dktX3_putsLaw_6 := dk_seg dksX3_putsLaw_5 23 rfl rfl
theorem dX3_putsLaw_0 : decode cX3_putsLaw 0 = .ok (.aload_n 0, 1) := dk_42 (dk_at dksX3_putsLaw_0 0 rfl rfl)
theorem dX3_putsLaw_1 : decode cX3_putsLaw 1 = .ok (.getfield 7, 3) := dk_180 0 7 (dk_at dksX3_putsLaw_0 1 rfl rfl)
theorem dX3_putsLaw_4 : decode cX3_putsLaw 4 = .ok (.bipush 89, 2) := dk_16 89 (dk_at dksX3_putsLaw_0 4 rfl rfl)
theorem dX3_putsLaw_6 : decode cX3_putsLaw 6 = .ok (.aload_n 0, 1) := dk_42 (dk_at dksX3_putsLaw_0 6 rfl rfl)
theorem dX3_putsLaw_7 : decode cX3_putsLaw 7 = .ok (.getfield 229, 3) := dk_180 0 229 (dk_at dksX3_putsLaw_0 7 rfl rfl)
theorem dX3_putsLaw_10 : decode cX3_putsLaw 10 = .ok (.iastore, 1) := dk_79 (dk_at dksX3_putsLaw_0 10 rfl rfl)
theorem dX3_putsLaw_11 : decode cX3_putsLaw 11 = .ok (.iconst 0, 1) := dk_3 (dk_at dksX3_putsLaw_0 11 rfl rfl)
theorem dX3_putsLaw_12 : decode cX3_putsLaw 12 = .ok (.istore_n 1, 1) := dk_60 (dk_at dksX3_putsLaw_0 12 rfl rfl)
theorem dX3_putsLaw_13 : decode cX3_putsLaw 13 = .ok (.iload_n 1, 1) := dk_27 (dk_at dksX3_putsLaw_0 13 rfl rfl)
theorem dX3_putsLaw_14 : decode cX3_putsLaw 14 = .ok (.aload_n 0, 1) := dk_42 (dk_at dksX3_putsLaw_0 14 rfl rfl)
theorem dX3_putsLaw_15 : decode cX3_putsLaw 15 = .ok (.getfield 229, 3) := dk_180 0 229 (dk_at dksX3_putsLaw_0 15 rfl rfl)
theorem dX3_putsLaw_18 : decode cX3_putsLaw 18 = .ok (.if_icmp .ge 87, 3) := dk_162 0 87 (dk_at dksX3_putsLaw_0 18 rfl rfl)
theorem dX3_putsLaw_21 : decode cX3_putsLaw 21 = .ok (.aload_n 0, 1) := dk_42 (dk_at dksX3_putsLaw_0 21 rfl rfl)
theorem dX3_putsLaw_22 : decode cX3_putsLaw 22 = .ok (.getfield 7, 3) := dk_180 0 7 (dk_at dksX3_putsLaw_1 0 rfl rfl)
theorem dX3_putsLaw_25 : decode cX3_putsLaw 25 = .ok (.sipush 841, 3) := dk_17 3 73 (dk_at dksX3_putsLaw_1 3 rfl rfl)
theorem dX3_putsLaw_28 : decode cX3_putsLaw 28 = .ok (.iload_n 1, 1) := dk_27 (dk_at dksX3_putsLaw_1 6 rfl rfl)
theorem dX3_putsLaw_29 : decode cX3_putsLaw 29 = .ok (.iadd, 1) := dk_96 (dk_at dksX3_putsLaw_1 7 rfl rfl)
theorem dX3_putsLaw_30 : decode cX3_putsLaw 30 = .ok (.aload_n 0, 1) := dk_42 (dk_at dksX3_putsLaw_1 8 rfl rfl)
theorem dX3_putsLaw_31 : decode cX3_putsLaw 31 = .ok (.getfield 22, 3) := dk_180 0 22 (dk_at dksX3_putsLaw_1 9 rfl rfl)
theorem dX3_putsLaw_34 : decode cX3_putsLaw 34 = .ok (.iconst 4, 1) := dk_7 (dk_at dksX3_putsLaw_1 12 rfl rfl)
theorem dX3_putsLaw_35 : decode cX3_putsLaw 35 = .ok (.iload_n 1, 1) := dk_27 (dk_at dksX3_putsLaw_1 13 rfl rfl)
theorem dX3_putsLaw_36 : decode cX3_putsLaw 36 = .ok (.imul, 1) := dk_104 (dk_at dksX3_putsLaw_1 14 rfl rfl)
theorem dX3_putsLaw_37 : decode cX3_putsLaw 37 = .ok (.iaload, 1) := dk_46 (dk_at dksX3_putsLaw_1 15 rfl rfl)
theorem dX3_putsLaw_38 : decode cX3_putsLaw 38 = .ok (.iastore, 1) := dk_79 (dk_at dksX3_putsLaw_1 16 rfl rfl)
theorem dX3_putsLaw_39 : decode cX3_putsLaw 39 = .ok (.aload_n 0, 1) := dk_42 (dk_at dksX3_putsLaw_1 17 rfl rfl)
theorem dX3_putsLaw_40 : decode cX3_putsLaw 40 = .ok (.getfield 7, 3) := dk_180 0 7 (dk_at dksX3_putsLaw_1 18 rfl rfl)
theorem dX3_putsLaw_43 : decode cX3_putsLaw 43 = .ok (.sipush 857, 3) := dk_17 3 89 (dk_at dksX3_putsLaw_1 21 rfl rfl)
theorem dX3_putsLaw_46 : decode cX3_putsLaw 46 = .ok (.iload_n 1, 1) := dk_27 (dk_at dksX3_putsLaw_2 0 rfl rfl)
theorem dX3_putsLaw_47 : decode cX3_putsLaw 47 = .ok (.iadd, 1) := dk_96 (dk_at dksX3_putsLaw_2 1 rfl rfl)
theorem dX3_putsLaw_48 : decode cX3_putsLaw 48 = .ok (.aload_n 0, 1) := dk_42 (dk_at dksX3_putsLaw_2 2 rfl rfl)
theorem dX3_putsLaw_49 : decode cX3_putsLaw 49 = .ok (.getfield 22, 3) := dk_180 0 22 (dk_at dksX3_putsLaw_2 3 rfl rfl)
theorem dX3_putsLaw_52 : decode cX3_putsLaw 52 = .ok (.iconst 4, 1) := dk_7 (dk_at dksX3_putsLaw_2 6 rfl rfl)
theorem dX3_putsLaw_53 : decode cX3_putsLaw 53 = .ok (.iload_n 1, 1) := dk_27 (dk_at dksX3_putsLaw_2 7 rfl rfl)
theorem dX3_putsLaw_54 : decode cX3_putsLaw 54 = .ok (.imul, 1) := dk_104 (dk_at dksX3_putsLaw_2 8 rfl rfl)
theorem dX3_putsLaw_55 : decode cX3_putsLaw 55 = .ok (.iconst 1, 1) := dk_4 (dk_at dksX3_putsLaw_2 9 rfl rfl)
theorem dX3_putsLaw_56 : decode cX3_putsLaw 56 = .ok (.iadd, 1) := dk_96 (dk_at dksX3_putsLaw_2 10 rfl rfl)
theorem dX3_putsLaw_57 : decode cX3_putsLaw 57 = .ok (.iaload, 1) := dk_46 (dk_at dksX3_putsLaw_2 11 rfl rfl)
theorem dX3_putsLaw_58 : decode cX3_putsLaw 58 = .ok (.iastore, 1) := dk_79 (dk_at dksX3_putsLaw_2 12 rfl rfl)
theorem dX3_putsLaw_59 : decode cX3_putsLaw 59 = .ok (.aload_n 0, 1) := dk_42 (dk_at dksX3_putsLaw_2 13 rfl rfl)
theorem dX3_putsLaw_60 : decode cX3_putsLaw 60 = .ok (.getfield 7, 3) := dk_180 0 7 (dk_at dksX3_putsLaw_2 14 rfl rfl)
theorem dX3_putsLaw_63 : decode cX3_putsLaw 63 = .ok (.sipush 873, 3) := dk_17 3 105 (dk_at dksX3_putsLaw_2 17 rfl rfl)
theorem dX3_putsLaw_66 : decode cX3_putsLaw 66 = .ok (.iload_n 1, 1) := dk_27 (dk_at dksX3_putsLaw_2 20 rfl rfl)
theorem dX3_putsLaw_67 : decode cX3_putsLaw 67 = .ok (.iadd, 1) := dk_96 (dk_at dksX3_putsLaw_2 21 rfl rfl)
theorem dX3_putsLaw_68 : decode cX3_putsLaw 68 = .ok (.aload_n 0, 1) := dk_42 (dk_at dksX3_putsLaw_2 22 rfl rfl)
theorem dX3_putsLaw_69 : decode cX3_putsLaw 69 = .ok (.getfield 22, 3) := dk_180 0 22 (dk_at dksX3_putsLaw_3 0 rfl rfl)
theorem dX3_putsLaw_72 : decode cX3_putsLaw 72 = .ok (.iconst 4, 1) := dk_7 (dk_at dksX3_putsLaw_3 3 rfl rfl)
theorem dX3_putsLaw_73 : decode cX3_putsLaw 73 = .ok (.iload_n 1, 1) := dk_27 (dk_at dksX3_putsLaw_3 4 rfl rfl)
theorem dX3_putsLaw_74 : decode cX3_putsLaw 74 = .ok (.imul, 1) := dk_104 (dk_at dksX3_putsLaw_3 5 rfl rfl)
theorem dX3_putsLaw_75 : decode cX3_putsLaw 75 = .ok (.iconst 2, 1) := dk_5 (dk_at dksX3_putsLaw_3 6 rfl rfl)
theorem dX3_putsLaw_76 : decode cX3_putsLaw 76 = .ok (.iadd, 1) := dk_96 (dk_at dksX3_putsLaw_3 7 rfl rfl)
theorem dX3_putsLaw_77 : decode cX3_putsLaw 77 = .ok (.iaload, 1) := dk_46 (dk_at dksX3_putsLaw_3 8 rfl rfl)
theorem dX3_putsLaw_78 : decode cX3_putsLaw 78 = .ok (.iastore, 1) := dk_79 (dk_at dksX3_putsLaw_3 9 rfl rfl)
theorem dX3_putsLaw_79 : decode cX3_putsLaw 79 = .ok (.aload_n 0, 1) := dk_42 (dk_at dksX3_putsLaw_3 10 rfl rfl)
theorem dX3_putsLaw_80 : decode cX3_putsLaw 80 = .ok (.getfield 7, 3) := dk_180 0 7 (dk_at dksX3_putsLaw_3 11 rfl rfl)
theorem dX3_putsLaw_83 : decode cX3_putsLaw 83 = .ok (.sipush 889, 3) := dk_17 3 121 (dk_at dksX3_putsLaw_3 14 rfl rfl)
theorem dX3_putsLaw_86 : decode cX3_putsLaw 86 = .ok (.iload_n 1, 1) := dk_27 (dk_at dksX3_putsLaw_3 17 rfl rfl)
theorem dX3_putsLaw_87 : decode cX3_putsLaw 87 = .ok (.iadd, 1) := dk_96 (dk_at dksX3_putsLaw_3 18 rfl rfl)
theorem dX3_putsLaw_88 : decode cX3_putsLaw 88 = .ok (.aload_n 0, 1) := dk_42 (dk_at dksX3_putsLaw_3 19 rfl rfl)
theorem dX3_putsLaw_89 : decode cX3_putsLaw 89 = .ok (.getfield 22, 3) := dk_180 0 22 (dk_at dksX3_putsLaw_3 20 rfl rfl)
theorem dX3_putsLaw_92 : decode cX3_putsLaw 92 = .ok (.iconst 4, 1) := dk_7 (dk_at dksX3_putsLaw_3 23 rfl rfl)
theorem dX3_putsLaw_93 : decode cX3_putsLaw 93 = .ok (.iload_n 1, 1) := dk_27 (dk_at dksX3_putsLaw_4 0 rfl rfl)
theorem dX3_putsLaw_94 : decode cX3_putsLaw 94 = .ok (.imul, 1) := dk_104 (dk_at dksX3_putsLaw_4 1 rfl rfl)
theorem dX3_putsLaw_95 : decode cX3_putsLaw 95 = .ok (.iconst 3, 1) := dk_6 (dk_at dksX3_putsLaw_4 2 rfl rfl)
theorem dX3_putsLaw_96 : decode cX3_putsLaw 96 = .ok (.iadd, 1) := dk_96 (dk_at dksX3_putsLaw_4 3 rfl rfl)
theorem dX3_putsLaw_97 : decode cX3_putsLaw 97 = .ok (.iaload, 1) := dk_46 (dk_at dksX3_putsLaw_4 4 rfl rfl)
theorem dX3_putsLaw_98 : decode cX3_putsLaw 98 = .ok (.iastore, 1) := dk_79 (dk_at dksX3_putsLaw_4 5 rfl rfl)
theorem dX3_putsLaw_99 : decode cX3_putsLaw 99 = .ok (.iinc 1 1, 3) := dk_132 1 1 (dk_at dksX3_putsLaw_4 6 rfl rfl)
theorem dX3_putsLaw_102 : decode cX3_putsLaw 102 = .ok (.goto (-89), 3) := dk_167 255 167 (dk_at dksX3_putsLaw_4 9 rfl rfl)
theorem dX3_putsLaw_105 : decode cX3_putsLaw 105 = .ok (.iconst 0, 1) := dk_3 (dk_at dksX3_putsLaw_4 12 rfl rfl)
theorem dX3_putsLaw_106 : decode cX3_putsLaw 106 = .ok (.istore_n 1, 1) := dk_60 (dk_at dksX3_putsLaw_4 13 rfl rfl)
theorem dX3_putsLaw_107 : decode cX3_putsLaw 107 = .ok (.iload_n 1, 1) := dk_27 (dk_at dksX3_putsLaw_4 14 rfl rfl)
theorem dX3_putsLaw_108 : decode cX3_putsLaw 108 = .ok (.iconst 2, 1) := dk_5 (dk_at dksX3_putsLaw_4 15 rfl rfl)
theorem dX3_putsLaw_109 : decode cX3_putsLaw 109 = .ok (.aload_n 0, 1) := dk_42 (dk_at dksX3_putsLaw_4 16 rfl rfl)
theorem dX3_putsLaw_110 : decode cX3_putsLaw 110 = .ok (.getfield 194, 3) := dk_180 0 194 (dk_at dksX3_putsLaw_4 17 rfl rfl)
theorem dX3_putsLaw_113 : decode cX3_putsLaw 113 = .ok (.imul, 1) := dk_104 (dk_at dksX3_putsLaw_4 20 rfl rfl)
theorem dX3_putsLaw_114 : decode cX3_putsLaw 114 = .ok (.if_icmp .ge 25, 3) := dk_162 0 25 (dk_at dksX3_putsLaw_4 21 rfl rfl)
theorem dX3_putsLaw_117 : decode cX3_putsLaw 117 = .ok (.aload_n 0, 1) := dk_42 (dk_at dksX3_putsLaw_5 0 rfl rfl)
theorem dX3_putsLaw_118 : decode cX3_putsLaw 118 = .ok (.getfield 7, 3) := dk_180 0 7 (dk_at dksX3_putsLaw_5 1 rfl rfl)
theorem dX3_putsLaw_121 : decode cX3_putsLaw 121 = .ok (.sipush 905, 3) := dk_17 3 137 (dk_at dksX3_putsLaw_5 4 rfl rfl)
theorem dX3_putsLaw_124 : decode cX3_putsLaw 124 = .ok (.iload_n 1, 1) := dk_27 (dk_at dksX3_putsLaw_5 7 rfl rfl)
theorem dX3_putsLaw_125 : decode cX3_putsLaw 125 = .ok (.iadd, 1) := dk_96 (dk_at dksX3_putsLaw_5 8 rfl rfl)
theorem dX3_putsLaw_126 : decode cX3_putsLaw 126 = .ok (.aload_n 0, 1) := dk_42 (dk_at dksX3_putsLaw_5 9 rfl rfl)
theorem dX3_putsLaw_127 : decode cX3_putsLaw 127 = .ok (.getfield 25, 3) := dk_180 0 25 (dk_at dksX3_putsLaw_5 10 rfl rfl)
theorem dX3_putsLaw_130 : decode cX3_putsLaw 130 = .ok (.iload_n 1, 1) := dk_27 (dk_at dksX3_putsLaw_5 13 rfl rfl)
theorem dX3_putsLaw_131 : decode cX3_putsLaw 131 = .ok (.iaload, 1) := dk_46 (dk_at dksX3_putsLaw_5 14 rfl rfl)
theorem dX3_putsLaw_132 : decode cX3_putsLaw 132 = .ok (.iastore, 1) := dk_79 (dk_at dksX3_putsLaw_5 15 rfl rfl)
theorem dX3_putsLaw_133 : decode cX3_putsLaw 133 = .ok (.iinc 1 1, 3) := dk_132 1 1 (dk_at dksX3_putsLaw_5 16 rfl rfl)
theorem dX3_putsLaw_136 : decode cX3_putsLaw 136 = .ok (.goto (-29), 3) := dk_167 255 227 (dk_at dksX3_putsLaw_5 19 rfl rfl)
theorem dX3_putsLaw_139 : decode cX3_putsLaw 139 = .ok (.aload_n 0, 1) := dk_42 (dk_at dksX3_putsLaw_5 22 rfl rfl)
theorem dX3_putsLaw_140 : decode cX3_putsLaw 140 = .ok (.getfield 229, 3) := dk_180 0 229 (dk_at dksX3_putsLaw_6 0 rfl rfl)
theorem dX3_putsLaw_143 : decode cX3_putsLaw 143 = .ok (.ireturn, 1) := dk_172 (dk_at dksX3_putsLaw_6 3 rfl rfl)
abbrev cX3_puts : ByteArray := prog_17_method_51_code
def yX3_puts : MethodName := ⟨RX3, "puts", "(III)I"⟩
def dkwX3_puts_2 : List UInt8 := [180, 0, 238, 172]
abbrev dktX3_puts_2 : List UInt8 := dkwX3_puts_2 ++ []
def dkwX3_puts_1 : List UInt8 := [42, 180, 0, 7, 28, 21, 4, 96, 42, 180, 0, 28, 21, 4, 46, 79, 132, 4, 1, 167, 255, 226, 42]
abbrev dktX3_puts_1 : List UInt8 := dkwX3_puts_1 ++ dktX3_puts_2
def dkwX3_puts_0 : List UInt8 := [42, 180, 0, 7, 27, 42, 180, 0, 238, 79, 3, 54, 4, 21, 4, 29, 42, 180, 0, 238, 104, 162, 0, 25]
abbrev dktX3_puts_0 : List UInt8 := dkwX3_puts_0 ++ dktX3_puts_1
theorem dksX3_puts_0 : cX3_puts.data.toList.drop 0 = dktX3_puts_0 := by decide +kernel
theorem dksX3_puts_1 : cX3_puts.data.toList.drop 24 = dktX3_puts_1 := dk_seg dksX3_puts_0 24 rfl rfl
theorem dksX3_puts_2 : cX3_puts.data.toList.drop 47 = dktX3_puts_2 := dk_seg dksX3_puts_1 23 rfl rfl
theorem dX3_puts_0 : decode cX3_puts 0 = .ok (.aload_n 0, 1) := dk_42 (dk_at dksX3_puts_0 0 rfl rfl)
theorem dX3_puts_1 : decode cX3_puts 1 = .ok (.getfield 7, 3) := dk_180 0 7 (dk_at dksX3_puts_0 1 rfl rfl)
theorem dX3_puts_4 : decode cX3_puts 4 = .ok (.iload_n 1, 1) := dk_27 (dk_at dksX3_puts_0 4 rfl rfl)
theorem dX3_puts_5 : decode cX3_puts 5 = .ok (.aload_n 0, 1) := dk_42 (dk_at dksX3_puts_0 5 rfl rfl)
theorem dX3_puts_6 : decode cX3_puts 6 = .ok (.getfield 238, 3) := dk_180 0 238 (dk_at dksX3_puts_0 6 rfl rfl)
theorem dX3_puts_9 : decode cX3_puts 9 = .ok (.iastore, 1) := dk_79 (dk_at dksX3_puts_0 9 rfl rfl)
theorem dX3_puts_10 : decode cX3_puts 10 = .ok (.iconst 0, 1) := dk_3 (dk_at dksX3_puts_0 10 rfl rfl)
theorem dX3_puts_11 : decode cX3_puts 11 = .ok (.istore 4, 2) := dk_54 4 (dk_at dksX3_puts_0 11 rfl rfl)
theorem dX3_puts_13 : decode cX3_puts 13 = .ok (.iload 4, 2) := dk_21 4 (dk_at dksX3_puts_0 13 rfl rfl)
theorem dX3_puts_15 : decode cX3_puts 15 = .ok (.iload_n 3, 1) := dk_29 (dk_at dksX3_puts_0 15 rfl rfl)
theorem dX3_puts_16 : decode cX3_puts 16 = .ok (.aload_n 0, 1) := dk_42 (dk_at dksX3_puts_0 16 rfl rfl)
theorem dX3_puts_17 : decode cX3_puts 17 = .ok (.getfield 238, 3) := dk_180 0 238 (dk_at dksX3_puts_0 17 rfl rfl)
theorem dX3_puts_20 : decode cX3_puts 20 = .ok (.imul, 1) := dk_104 (dk_at dksX3_puts_0 20 rfl rfl)
theorem dX3_puts_21 : decode cX3_puts 21 = .ok (.if_icmp .ge 25, 3) := dk_162 0 25 (dk_at dksX3_puts_0 21 rfl rfl)
theorem dX3_puts_24 : decode cX3_puts 24 = .ok (.aload_n 0, 1) := dk_42 (dk_at dksX3_puts_1 0 rfl rfl)
theorem dX3_puts_25 : decode cX3_puts 25 = .ok (.getfield 7, 3) := dk_180 0 7 (dk_at dksX3_puts_1 1 rfl rfl)
theorem dX3_puts_28 : decode cX3_puts 28 = .ok (.iload_n 2, 1) := dk_28 (dk_at dksX3_puts_1 4 rfl rfl)
theorem dX3_puts_29 : decode cX3_puts 29 = .ok (.iload 4, 2) := dk_21 4 (dk_at dksX3_puts_1 5 rfl rfl)
theorem dX3_puts_31 : decode cX3_puts 31 = .ok (.iadd, 1) := dk_96 (dk_at dksX3_puts_1 7 rfl rfl)
theorem dX3_puts_32 : decode cX3_puts 32 = .ok (.aload_n 0, 1) := dk_42 (dk_at dksX3_puts_1 8 rfl rfl)
theorem dX3_puts_33 : decode cX3_puts 33 = .ok (.getfield 28, 3) := dk_180 0 28 (dk_at dksX3_puts_1 9 rfl rfl)
theorem dX3_puts_36 : decode cX3_puts 36 = .ok (.iload 4, 2) := dk_21 4 (dk_at dksX3_puts_1 12 rfl rfl)
theorem dX3_puts_38 : decode cX3_puts 38 = .ok (.iaload, 1) := dk_46 (dk_at dksX3_puts_1 14 rfl rfl)
theorem dX3_puts_39 : decode cX3_puts 39 = .ok (.iastore, 1) := dk_79 (dk_at dksX3_puts_1 15 rfl rfl)
theorem dX3_puts_40 : decode cX3_puts 40 = .ok (.iinc 4 1, 3) := dk_132 4 1 (dk_at dksX3_puts_1 16 rfl rfl)
theorem dX3_puts_43 : decode cX3_puts 43 = .ok (.goto (-30), 3) := dk_167 255 226 (dk_at dksX3_puts_1 19 rfl rfl)
theorem dX3_puts_46 : decode cX3_puts 46 = .ok (.aload_n 0, 1) := dk_42 (dk_at dksX3_puts_1 22 rfl rfl)
theorem dX3_puts_47 : decode cX3_puts 47 = .ok (.getfield 238, 3) := dk_180 0 238 (dk_at dksX3_puts_2 0 rfl rfl)
theorem dX3_puts_50 : decode cX3_puts 50 = .ok (.ireturn, 1) := dk_172 (dk_at dksX3_puts_2 3 rfl rfl)
abbrev cX3_putsPhones : ByteArray := prog_17_method_52_code
def yX3_putsPhones : MethodName := ⟨RX3, "putsPhones", "()I"⟩
def dkwX3_putsPhones_5 : List UInt8 := [46, 79, 132, 1, 1, 167, 255, 187, 42, 180, 0, 238, 172]
abbrev dktX3_putsPhones_5 : List UInt8 := dkwX3_putsPhones_5 ++ []
def dkwX3_putsPhones_4 : List UInt8 := [16, 105, 5, 42, 180, 0, 28, 6, 27, 104, 46, 104, 96, 4, 96, 42, 180, 0, 28, 6, 27, 104, 5, 96]
abbrev dktX3_putsPhones_4 : List UInt8 := dkwX3_putsPhones_4 ++ dktX3_putsPhones_5
def dkwX3_putsPhones_3 : List UInt8 := [180, 0, 28, 6, 27, 104, 46, 104, 96, 42, 180, 0, 28, 6, 27, 104, 4, 96, 46, 79, 42, 180, 0, 7]
abbrev dktX3_putsPhones_3 : List UInt8 := dkwX3_putsPhones_3 ++ dktX3_putsPhones_4
def dkwX3_putsPhones_2 : List UInt8 := [132, 1, 1, 167, 255, 219, 3, 60, 27, 42, 180, 0, 238, 162, 0, 67, 42, 180, 0, 7, 16, 105, 5, 42]
abbrev dktX3_putsPhones_2 : List UInt8 := dkwX3_putsPhones_2 ++ dktX3_putsPhones_3
def dkwX3_putsPhones_1 : List UInt8 := [16, 105, 5, 27, 104, 96, 3, 79, 42, 180, 0, 7, 16, 105, 5, 27, 104, 96, 4, 96, 17, 0, 240, 79]
abbrev dktX3_putsPhones_1 : List UInt8 := dkwX3_putsPhones_1 ++ dktX3_putsPhones_2
def dkwX3_putsPhones_0 : List UInt8 := [42, 180, 0, 7, 16, 91, 42, 180, 0, 238, 79, 3, 60, 27, 16, 12, 162, 0, 37, 42, 180, 0, 7]
abbrev dktX3_putsPhones_0 : List UInt8 := dkwX3_putsPhones_0 ++ dktX3_putsPhones_1
theorem dksX3_putsPhones_0 : cX3_putsPhones.data.toList.drop 0 = dktX3_putsPhones_0 := by decide +kernel
theorem dksX3_putsPhones_1 : cX3_putsPhones.data.toList.drop 23 = dktX3_putsPhones_1 := dk_seg dksX3_putsPhones_0 23 rfl rfl
theorem dksX3_putsPhones_2 : cX3_putsPhones.data.toList.drop 47 = dktX3_putsPhones_2 := dk_seg dksX3_putsPhones_1 24 rfl rfl
theorem dksX3_putsPhones_3 : cX3_putsPhones.data.toList.drop 71 = dktX3_putsPhones_3 := dk_seg dksX3_putsPhones_2 24 rfl rfl
theorem dksX3_putsPhones_4 : cX3_putsPhones.data.toList.drop 95 = dktX3_putsPhones_4 := dk_seg dksX3_putsPhones_3 24 rfl rfl
theorem dksX3_putsPhones_5 : cX3_putsPhones.data.toList.drop 119 = dktX3_putsPhones_5 := dk_seg dksX3_putsPhones_4 24 rfl rfl
theorem dX3_putsPhones_0 : decode cX3_putsPhones 0 = .ok (.aload_n 0, 1) := dk_42 (dk_at dksX3_putsPhones_0 0 rfl rfl)
theorem dX3_putsPhones_1 : decode cX3_putsPhones 1 = .ok (.getfield 7, 3) := dk_180 0 7 (dk_at dksX3_putsPhones_0 1 rfl rfl)
theorem dX3_putsPhones_4 : decode cX3_putsPhones 4 = .ok (.bipush 91, 2) := dk_16 91 (dk_at dksX3_putsPhones_0 4 rfl rfl)
theorem dX3_putsPhones_6 : decode cX3_putsPhones 6 = .ok (.aload_n 0, 1) := dk_42 (dk_at dksX3_putsPhones_0 6 rfl rfl)
theorem dX3_putsPhones_7 : decode cX3_putsPhones 7 = .ok (.getfield 238, 3) := dk_180 0 238 (dk_at dksX3_putsPhones_0 7 rfl rfl)
theorem dX3_putsPhones_10 : decode cX3_putsPhones 10 = .ok (.iastore, 1) := dk_79 (dk_at dksX3_putsPhones_0 10 rfl rfl)
theorem dX3_putsPhones_11 : decode cX3_putsPhones 11 = .ok (.iconst 0, 1) := dk_3 (dk_at dksX3_putsPhones_0 11 rfl rfl)
theorem dX3_putsPhones_12 : decode cX3_putsPhones 12 = .ok (.istore_n 1, 1) := dk_60 (dk_at dksX3_putsPhones_0 12 rfl rfl)
theorem dX3_putsPhones_13 : decode cX3_putsPhones 13 = .ok (.iload_n 1, 1) := dk_27 (dk_at dksX3_putsPhones_0 13 rfl rfl)
theorem dX3_putsPhones_14 : decode cX3_putsPhones 14 = .ok (.bipush 12, 2) := dk_16 12 (dk_at dksX3_putsPhones_0 14 rfl rfl)
theorem dX3_putsPhones_16 : decode cX3_putsPhones 16 = .ok (.if_icmp .ge 37, 3) := dk_162 0 37 (dk_at dksX3_putsPhones_0 16 rfl rfl)
theorem dX3_putsPhones_19 : decode cX3_putsPhones 19 = .ok (.aload_n 0, 1) := dk_42 (dk_at dksX3_putsPhones_0 19 rfl rfl)
theorem dX3_putsPhones_20 : decode cX3_putsPhones 20 = .ok (.getfield 7, 3) := dk_180 0 7 (dk_at dksX3_putsPhones_0 20 rfl rfl)
theorem dX3_putsPhones_23 : decode cX3_putsPhones 23 = .ok (.bipush 105, 2) := dk_16 105 (dk_at dksX3_putsPhones_1 0 rfl rfl)
theorem dX3_putsPhones_25 : decode cX3_putsPhones 25 = .ok (.iconst 2, 1) := dk_5 (dk_at dksX3_putsPhones_1 2 rfl rfl)
theorem dX3_putsPhones_26 : decode cX3_putsPhones 26 = .ok (.iload_n 1, 1) := dk_27 (dk_at dksX3_putsPhones_1 3 rfl rfl)
theorem dX3_putsPhones_27 : decode cX3_putsPhones 27 = .ok (.imul, 1) := dk_104 (dk_at dksX3_putsPhones_1 4 rfl rfl)
theorem dX3_putsPhones_28 : decode cX3_putsPhones 28 = .ok (.iadd, 1) := dk_96 (dk_at dksX3_putsPhones_1 5 rfl rfl)
theorem dX3_putsPhones_29 : decode cX3_putsPhones 29 = .ok (.iconst 0, 1) := dk_3 (dk_at dksX3_putsPhones_1 6 rfl rfl)
theorem dX3_putsPhones_30 : decode cX3_putsPhones 30 = .ok (.iastore, 1) := dk_79 (dk_at dksX3_putsPhones_1 7 rfl rfl)
theorem dX3_putsPhones_31 : decode cX3_putsPhones 31 = .ok (.aload_n 0, 1) := dk_42 (dk_at dksX3_putsPhones_1 8 rfl rfl)
theorem dX3_putsPhones_32 : decode cX3_putsPhones 32 = .ok (.getfield 7, 3) := dk_180 0 7 (dk_at dksX3_putsPhones_1 9 rfl rfl)
theorem dX3_putsPhones_35 : decode cX3_putsPhones 35 = .ok (.bipush 105, 2) := dk_16 105 (dk_at dksX3_putsPhones_1 12 rfl rfl)
theorem dX3_putsPhones_37 : decode cX3_putsPhones 37 = .ok (.iconst 2, 1) := dk_5 (dk_at dksX3_putsPhones_1 14 rfl rfl)
theorem dX3_putsPhones_38 : decode cX3_putsPhones 38 = .ok (.iload_n 1, 1) := dk_27 (dk_at dksX3_putsPhones_1 15 rfl rfl)
theorem dX3_putsPhones_39 : decode cX3_putsPhones 39 = .ok (.imul, 1) := dk_104 (dk_at dksX3_putsPhones_1 16 rfl rfl)
theorem dX3_putsPhones_40 : decode cX3_putsPhones 40 = .ok (.iadd, 1) := dk_96 (dk_at dksX3_putsPhones_1 17 rfl rfl)
theorem dX3_putsPhones_41 : decode cX3_putsPhones 41 = .ok (.iconst 1, 1) := dk_4 (dk_at dksX3_putsPhones_1 18 rfl rfl)
theorem dX3_putsPhones_42 : decode cX3_putsPhones 42 = .ok (.iadd, 1) := dk_96 (dk_at dksX3_putsPhones_1 19 rfl rfl)
theorem dX3_putsPhones_43 : decode cX3_putsPhones 43 = .ok (.sipush 240, 3) := dk_17 0 240 (dk_at dksX3_putsPhones_1 20 rfl rfl)
theorem dX3_putsPhones_46 : decode cX3_putsPhones 46 = .ok (.iastore, 1) := dk_79 (dk_at dksX3_putsPhones_1 23 rfl rfl)
theorem dX3_putsPhones_47 : decode cX3_putsPhones 47 = .ok (.iinc 1 1, 3) := dk_132 1 1 (dk_at dksX3_putsPhones_2 0 rfl rfl)
theorem dX3_putsPhones_50 : decode cX3_putsPhones 50 = .ok (.goto (-37), 3) := dk_167 255 219 (dk_at dksX3_putsPhones_2 3 rfl rfl)
theorem dX3_putsPhones_53 : decode cX3_putsPhones 53 = .ok (.iconst 0, 1) := dk_3 (dk_at dksX3_putsPhones_2 6 rfl rfl)
theorem dX3_putsPhones_54 : decode cX3_putsPhones 54 = .ok (.istore_n 1, 1) := dk_60 (dk_at dksX3_putsPhones_2 7 rfl rfl)
theorem dX3_putsPhones_55 : decode cX3_putsPhones 55 = .ok (.iload_n 1, 1) := dk_27 (dk_at dksX3_putsPhones_2 8 rfl rfl)
theorem dX3_putsPhones_56 : decode cX3_putsPhones 56 = .ok (.aload_n 0, 1) := dk_42 (dk_at dksX3_putsPhones_2 9 rfl rfl)
theorem dX3_putsPhones_57 : decode cX3_putsPhones 57 = .ok (.getfield 238, 3) := dk_180 0 238 (dk_at dksX3_putsPhones_2 10 rfl rfl)
theorem dX3_putsPhones_60 : decode cX3_putsPhones 60 = .ok (.if_icmp .ge 67, 3) := dk_162 0 67 (dk_at dksX3_putsPhones_2 13 rfl rfl)
theorem dX3_putsPhones_63 : decode cX3_putsPhones 63 = .ok (.aload_n 0, 1) := dk_42 (dk_at dksX3_putsPhones_2 16 rfl rfl)
theorem dX3_putsPhones_64 : decode cX3_putsPhones 64 = .ok (.getfield 7, 3) := dk_180 0 7 (dk_at dksX3_putsPhones_2 17 rfl rfl)
theorem dX3_putsPhones_67 : decode cX3_putsPhones 67 = .ok (.bipush 105, 2) := dk_16 105 (dk_at dksX3_putsPhones_2 20 rfl rfl)
theorem dX3_putsPhones_69 : decode cX3_putsPhones 69 = .ok (.iconst 2, 1) := dk_5 (dk_at dksX3_putsPhones_2 22 rfl rfl)
theorem dX3_putsPhones_70 : decode cX3_putsPhones 70 = .ok (.aload_n 0, 1) := dk_42 (dk_at dksX3_putsPhones_2 23 rfl rfl)
theorem dX3_putsPhones_71 : decode cX3_putsPhones 71 = .ok (.getfield 28, 3) := dk_180 0 28 (dk_at dksX3_putsPhones_3 0 rfl rfl)
theorem dX3_putsPhones_74 : decode cX3_putsPhones 74 = .ok (.iconst 3, 1) := dk_6 (dk_at dksX3_putsPhones_3 3 rfl rfl)
theorem dX3_putsPhones_75 : decode cX3_putsPhones 75 = .ok (.iload_n 1, 1) := dk_27 (dk_at dksX3_putsPhones_3 4 rfl rfl)
theorem dX3_putsPhones_76 : decode cX3_putsPhones 76 = .ok (.imul, 1) := dk_104 (dk_at dksX3_putsPhones_3 5 rfl rfl)
theorem dX3_putsPhones_77 : decode cX3_putsPhones 77 = .ok (.iaload, 1) := dk_46 (dk_at dksX3_putsPhones_3 6 rfl rfl)
theorem dX3_putsPhones_78 : decode cX3_putsPhones 78 = .ok (.imul, 1) := dk_104 (dk_at dksX3_putsPhones_3 7 rfl rfl)
theorem dX3_putsPhones_79 : decode cX3_putsPhones 79 = .ok (.iadd, 1) := dk_96 (dk_at dksX3_putsPhones_3 8 rfl rfl)
theorem dX3_putsPhones_80 : decode cX3_putsPhones 80 = .ok (.aload_n 0, 1) := dk_42 (dk_at dksX3_putsPhones_3 9 rfl rfl)
theorem dX3_putsPhones_81 : decode cX3_putsPhones 81 = .ok (.getfield 28, 3) := dk_180 0 28 (dk_at dksX3_putsPhones_3 10 rfl rfl)
theorem dX3_putsPhones_84 : decode cX3_putsPhones 84 = .ok (.iconst 3, 1) := dk_6 (dk_at dksX3_putsPhones_3 13 rfl rfl)
theorem dX3_putsPhones_85 : decode cX3_putsPhones 85 = .ok (.iload_n 1, 1) := dk_27 (dk_at dksX3_putsPhones_3 14 rfl rfl)
theorem dX3_putsPhones_86 : decode cX3_putsPhones 86 = .ok (.imul, 1) := dk_104 (dk_at dksX3_putsPhones_3 15 rfl rfl)
theorem dX3_putsPhones_87 : decode cX3_putsPhones 87 = .ok (.iconst 1, 1) := dk_4 (dk_at dksX3_putsPhones_3 16 rfl rfl)
theorem dX3_putsPhones_88 : decode cX3_putsPhones 88 = .ok (.iadd, 1) := dk_96 (dk_at dksX3_putsPhones_3 17 rfl rfl)
theorem dX3_putsPhones_89 : decode cX3_putsPhones 89 = .ok (.iaload, 1) := dk_46 (dk_at dksX3_putsPhones_3 18 rfl rfl)
theorem dX3_putsPhones_90 : decode cX3_putsPhones 90 = .ok (.iastore, 1) := dk_79 (dk_at dksX3_putsPhones_3 19 rfl rfl)
theorem dX3_putsPhones_91 : decode cX3_putsPhones 91 = .ok (.aload_n 0, 1) := dk_42 (dk_at dksX3_putsPhones_3 20 rfl rfl)
theorem dX3_putsPhones_92 : decode cX3_putsPhones 92 = .ok (.getfield 7, 3) := dk_180 0 7 (dk_at dksX3_putsPhones_3 21 rfl rfl)
theorem dX3_putsPhones_95 : decode cX3_putsPhones 95 = .ok (.bipush 105, 2) := dk_16 105 (dk_at dksX3_putsPhones_4 0 rfl rfl)
theorem dX3_putsPhones_97 : decode cX3_putsPhones 97 = .ok (.iconst 2, 1) := dk_5 (dk_at dksX3_putsPhones_4 2 rfl rfl)
theorem dX3_putsPhones_98 : decode cX3_putsPhones 98 = .ok (.aload_n 0, 1) := dk_42 (dk_at dksX3_putsPhones_4 3 rfl rfl)
theorem dX3_putsPhones_99 : decode cX3_putsPhones 99 = .ok (.getfield 28, 3) := dk_180 0 28 (dk_at dksX3_putsPhones_4 4 rfl rfl)
theorem dX3_putsPhones_102 : decode cX3_putsPhones 102 = .ok (.iconst 3, 1) := dk_6 (dk_at dksX3_putsPhones_4 7 rfl rfl)
theorem dX3_putsPhones_103 : decode cX3_putsPhones 103 = .ok (.iload_n 1, 1) := dk_27 (dk_at dksX3_putsPhones_4 8 rfl rfl)
theorem dX3_putsPhones_104 : decode cX3_putsPhones 104 = .ok (.imul, 1) := dk_104 (dk_at dksX3_putsPhones_4 9 rfl rfl)
theorem dX3_putsPhones_105 : decode cX3_putsPhones 105 = .ok (.iaload, 1) := dk_46 (dk_at dksX3_putsPhones_4 10 rfl rfl)
theorem dX3_putsPhones_106 : decode cX3_putsPhones 106 = .ok (.imul, 1) := dk_104 (dk_at dksX3_putsPhones_4 11 rfl rfl)
theorem dX3_putsPhones_107 : decode cX3_putsPhones 107 = .ok (.iadd, 1) := dk_96 (dk_at dksX3_putsPhones_4 12 rfl rfl)
theorem dX3_putsPhones_108 : decode cX3_putsPhones 108 = .ok (.iconst 1, 1) := dk_4 (dk_at dksX3_putsPhones_4 13 rfl rfl)
theorem dX3_putsPhones_109 : decode cX3_putsPhones 109 = .ok (.iadd, 1) := dk_96 (dk_at dksX3_putsPhones_4 14 rfl rfl)
theorem dX3_putsPhones_110 : decode cX3_putsPhones 110 = .ok (.aload_n 0, 1) := dk_42 (dk_at dksX3_putsPhones_4 15 rfl rfl)
theorem dX3_putsPhones_111 : decode cX3_putsPhones 111 = .ok (.getfield 28, 3) := dk_180 0 28 (dk_at dksX3_putsPhones_4 16 rfl rfl)
theorem dX3_putsPhones_114 : decode cX3_putsPhones 114 = .ok (.iconst 3, 1) := dk_6 (dk_at dksX3_putsPhones_4 19 rfl rfl)
theorem dX3_putsPhones_115 : decode cX3_putsPhones 115 = .ok (.iload_n 1, 1) := dk_27 (dk_at dksX3_putsPhones_4 20 rfl rfl)
theorem dX3_putsPhones_116 : decode cX3_putsPhones 116 = .ok (.imul, 1) := dk_104 (dk_at dksX3_putsPhones_4 21 rfl rfl)
theorem dX3_putsPhones_117 : decode cX3_putsPhones 117 = .ok (.iconst 2, 1) := dk_5 (dk_at dksX3_putsPhones_4 22 rfl rfl)
theorem dX3_putsPhones_118 : decode cX3_putsPhones 118 = .ok (.iadd, 1) := dk_96 (dk_at dksX3_putsPhones_4 23 rfl rfl)
theorem dX3_putsPhones_119 : decode cX3_putsPhones 119 = .ok (.iaload, 1) := dk_46 (dk_at dksX3_putsPhones_5 0 rfl rfl)
theorem dX3_putsPhones_120 : decode cX3_putsPhones 120 = .ok (.iastore, 1) := dk_79 (dk_at dksX3_putsPhones_5 1 rfl rfl)
theorem dX3_putsPhones_121 : decode cX3_putsPhones 121 = .ok (.iinc 1 1, 3) := dk_132 1 1 (dk_at dksX3_putsPhones_5 2 rfl rfl)
theorem dX3_putsPhones_124 : decode cX3_putsPhones 124 = .ok (.goto (-69), 3) := dk_167 255 187 (dk_at dksX3_putsPhones_5 5 rfl rfl)
theorem dX3_putsPhones_127 : decode cX3_putsPhones 127 = .ok (.aload_n 0, 1) := dk_42 (dk_at dksX3_putsPhones_5 8 rfl rfl)
theorem dX3_putsPhones_128 : decode cX3_putsPhones 128 = .ok (.getfield 238, 3) := dk_180 0 238 (dk_at dksX3_putsPhones_5 9 rfl rfl)
theorem dX3_putsPhones_131 : decode cX3_putsPhones 131 = .ok (.ireturn, 1) := dk_172 (dk_at dksX3_putsPhones_5 12 rfl rfl)
abbrev cX3_fault : ByteArray := prog_17_method_55_code
def yX3_fault : MethodName := ⟨RX3, "fault", "(I)I"⟩
def dkwX3_fault_1 : List UInt8 := [172]
abbrev dktX3_fault_1 : List UInt8 := dkwX3_fault_1 ++ []
def dkwX3_fault_0 : List UInt8 := [27, 154, 0, 10, 42, 180, 1, 14, 167, 0, 16, 27, 4, 160, 0, 10, 42, 180, 0, 40, 167, 0, 4, 2]
abbrev dktX3_fault_0 : List UInt8 := dkwX3_fault_0 ++ dktX3_fault_1
theorem dksX3_fault_0 : cX3_fault.data.toList.drop 0 = dktX3_fault_0 := by decide +kernel
theorem dksX3_fault_1 : cX3_fault.data.toList.drop 24 = dktX3_fault_1 := dk_seg dksX3_fault_0 24 rfl rfl
theorem dX3_fault_0 : decode cX3_fault 0 = .ok (.iload_n 1, 1) := dk_27 (dk_at dksX3_fault_0 0 rfl rfl)
theorem dX3_fault_1 : decode cX3_fault 1 = .ok (.ifCond .ne 10, 3) := dk_154 0 10 (dk_at dksX3_fault_0 1 rfl rfl)
theorem dX3_fault_4 : decode cX3_fault 4 = .ok (.aload_n 0, 1) := dk_42 (dk_at dksX3_fault_0 4 rfl rfl)
theorem dX3_fault_5 : decode cX3_fault 5 = .ok (.getfield 270, 3) := dk_180 1 14 (dk_at dksX3_fault_0 5 rfl rfl)
theorem dX3_fault_8 : decode cX3_fault 8 = .ok (.goto 16, 3) := dk_167 0 16 (dk_at dksX3_fault_0 8 rfl rfl)
theorem dX3_fault_11 : decode cX3_fault 11 = .ok (.iload_n 1, 1) := dk_27 (dk_at dksX3_fault_0 11 rfl rfl)
theorem dX3_fault_12 : decode cX3_fault 12 = .ok (.iconst 1, 1) := dk_4 (dk_at dksX3_fault_0 12 rfl rfl)
theorem dX3_fault_13 : decode cX3_fault 13 = .ok (.if_icmp .ne 10, 3) := dk_160 0 10 (dk_at dksX3_fault_0 13 rfl rfl)
theorem dX3_fault_16 : decode cX3_fault 16 = .ok (.aload_n 0, 1) := dk_42 (dk_at dksX3_fault_0 16 rfl rfl)
theorem dX3_fault_17 : decode cX3_fault 17 = .ok (.getfield 40, 3) := dk_180 0 40 (dk_at dksX3_fault_0 17 rfl rfl)
theorem dX3_fault_20 : decode cX3_fault 20 = .ok (.goto 4, 3) := dk_167 0 4 (dk_at dksX3_fault_0 20 rfl rfl)
theorem dX3_fault_23 : decode cX3_fault 23 = .ok (.iconst (-1), 1) := dk_2 (dk_at dksX3_fault_0 23 rfl rfl)
theorem dX3_fault_24 : decode cX3_fault 24 = .ok (.ireturn, 1) := dk_172 (dk_at dksX3_fault_1 0 rfl rfl)
abbrev cX3_undo : ByteArray := prog_17_method_69_code
def yX3_undo : MethodName := ⟨RX3, "undo", "()Z"⟩
def dkwX3_undo_2 : List UInt8 := [132, 1, 1, 167, 255, 227, 4, 172]
abbrev dktX3_undo_2 : List UInt8 := dkwX3_undo_2 ++ []
def dkwX3_undo_1 : List UInt8 := [162, 0, 29, 42, 180, 0, 7, 27, 42, 180, 0, 16, 16, 88, 42, 180, 0, 68, 104, 27, 96, 46, 79]
abbrev dktX3_undo_1 : List UInt8 := dkwX3_undo_1 ++ dktX3_undo_2
def dkwX3_undo_0 : List UInt8 := [42, 180, 0, 68, 154, 0, 5, 3, 172, 42, 89, 180, 0, 68, 4, 100, 181, 0, 68, 3, 60, 27, 16, 88]
abbrev dktX3_undo_0 : List UInt8 := dkwX3_undo_0 ++ dktX3_undo_1
theorem dksX3_undo_0 : cX3_undo.data.toList.drop 0 = dktX3_undo_0 := by decide +kernel
theorem dksX3_undo_1 : cX3_undo.data.toList.drop 24 = dktX3_undo_1 := dk_seg dksX3_undo_0 24 rfl rfl
theorem dksX3_undo_2 : cX3_undo.data.toList.drop 47 = dktX3_undo_2 := dk_seg dksX3_undo_1 23 rfl rfl
theorem dX3_undo_0 : decode cX3_undo 0 = .ok (.aload_n 0, 1) := dk_42 (dk_at dksX3_undo_0 0 rfl rfl)
theorem dX3_undo_1 : decode cX3_undo 1 = .ok (.getfield 68, 3) := dk_180 0 68 (dk_at dksX3_undo_0 1 rfl rfl)
theorem dX3_undo_4 : decode cX3_undo 4 = .ok (.ifCond .ne 5, 3) := dk_154 0 5 (dk_at dksX3_undo_0 4 rfl rfl)
theorem dX3_undo_7 : decode cX3_undo 7 = .ok (.iconst 0, 1) := dk_3 (dk_at dksX3_undo_0 7 rfl rfl)
theorem dX3_undo_8 : decode cX3_undo 8 = .ok (.ireturn, 1) := dk_172 (dk_at dksX3_undo_0 8 rfl rfl)
theorem dX3_undo_9 : decode cX3_undo 9 = .ok (.aload_n 0, 1) := dk_42 (dk_at dksX3_undo_0 9 rfl rfl)
theorem dX3_undo_10 : decode cX3_undo 10 = .ok (.dup, 1) := dk_89 (dk_at dksX3_undo_0 10 rfl rfl)
theorem dX3_undo_11 : decode cX3_undo 11 = .ok (.getfield 68, 3) := dk_180 0 68 (dk_at dksX3_undo_0 11 rfl rfl)
theorem dX3_undo_14 : decode cX3_undo 14 = .ok (.iconst 1, 1) := dk_4 (dk_at dksX3_undo_0 14 rfl rfl)
theorem dX3_undo_15 : decode cX3_undo 15 = .ok (.isub, 1) := dk_100 (dk_at dksX3_undo_0 15 rfl rfl)
theorem dX3_undo_16 : decode cX3_undo 16 = .ok (.putfield 68, 3) := dk_181 0 68 (dk_at dksX3_undo_0 16 rfl rfl)
theorem dX3_undo_19 : decode cX3_undo 19 = .ok (.iconst 0, 1) := dk_3 (dk_at dksX3_undo_0 19 rfl rfl)
theorem dX3_undo_20 : decode cX3_undo 20 = .ok (.istore_n 1, 1) := dk_60 (dk_at dksX3_undo_0 20 rfl rfl)
theorem dX3_undo_21 : decode cX3_undo 21 = .ok (.iload_n 1, 1) := dk_27 (dk_at dksX3_undo_0 21 rfl rfl)
theorem dX3_undo_22 : decode cX3_undo 22 = .ok (.bipush 88, 2) := dk_16 88 (dk_at dksX3_undo_0 22 rfl rfl)
theorem dX3_undo_24 : decode cX3_undo 24 = .ok (.if_icmp .ge 29, 3) := dk_162 0 29 (dk_at dksX3_undo_1 0 rfl rfl)
theorem dX3_undo_27 : decode cX3_undo 27 = .ok (.aload_n 0, 1) := dk_42 (dk_at dksX3_undo_1 3 rfl rfl)
theorem dX3_undo_28 : decode cX3_undo 28 = .ok (.getfield 7, 3) := dk_180 0 7 (dk_at dksX3_undo_1 4 rfl rfl)
theorem dX3_undo_31 : decode cX3_undo 31 = .ok (.iload_n 1, 1) := dk_27 (dk_at dksX3_undo_1 7 rfl rfl)
theorem dX3_undo_32 : decode cX3_undo 32 = .ok (.aload_n 0, 1) := dk_42 (dk_at dksX3_undo_1 8 rfl rfl)
theorem dX3_undo_33 : decode cX3_undo 33 = .ok (.getfield 16, 3) := dk_180 0 16 (dk_at dksX3_undo_1 9 rfl rfl)
theorem dX3_undo_36 : decode cX3_undo 36 = .ok (.bipush 88, 2) := dk_16 88 (dk_at dksX3_undo_1 12 rfl rfl)
theorem dX3_undo_38 : decode cX3_undo 38 = .ok (.aload_n 0, 1) := dk_42 (dk_at dksX3_undo_1 14 rfl rfl)
theorem dX3_undo_39 : decode cX3_undo 39 = .ok (.getfield 68, 3) := dk_180 0 68 (dk_at dksX3_undo_1 15 rfl rfl)
theorem dX3_undo_42 : decode cX3_undo 42 = .ok (.imul, 1) := dk_104 (dk_at dksX3_undo_1 18 rfl rfl)
theorem dX3_undo_43 : decode cX3_undo 43 = .ok (.iload_n 1, 1) := dk_27 (dk_at dksX3_undo_1 19 rfl rfl)
theorem dX3_undo_44 : decode cX3_undo 44 = .ok (.iadd, 1) := dk_96 (dk_at dksX3_undo_1 20 rfl rfl)
theorem dX3_undo_45 : decode cX3_undo 45 = .ok (.iaload, 1) := dk_46 (dk_at dksX3_undo_1 21 rfl rfl)
theorem dX3_undo_46 : decode cX3_undo 46 = .ok (.iastore, 1) := dk_79 (dk_at dksX3_undo_1 22 rfl rfl)
theorem dX3_undo_47 : decode cX3_undo 47 = .ok (.iinc 1 1, 3) := dk_132 1 1 (dk_at dksX3_undo_2 0 rfl rfl)
theorem dX3_undo_50 : decode cX3_undo 50 = .ok (.goto (-29), 3) := dk_167 255 227 (dk_at dksX3_undo_2 3 rfl rfl)
theorem dX3_undo_53 : decode cX3_undo 53 = .ok (.iconst 1, 1) := dk_4 (dk_at dksX3_undo_2 6 rfl rfl)
theorem dX3_undo_54 : decode cX3_undo 54 = .ok (.ireturn, 1) := dk_172 (dk_at dksX3_undo_2 7 rfl rfl)
abbrev cX3_ask : ByteArray := prog_17_method_79_code
def yX3_ask : MethodName := ⟨RX3, "ask", "(II)I"⟩
def dkwX3_ask_1 : List UInt8 := [42, 27, 28, 182, 1, 77, 172]
abbrev dktX3_ask_1 : List UInt8 := dkwX3_ask_1 ++ []
def dkwX3_ask_0 : List UInt8 := [42, 27, 182, 1, 71, 153, 0, 13, 28, 4, 16, 99, 184, 0, 54, 154, 0, 5, 2, 172, 42, 182, 1, 74]
abbrev dktX3_ask_0 : List UInt8 := dkwX3_ask_0 ++ dktX3_ask_1
theorem dksX3_ask_0 : cX3_ask.data.toList.drop 0 = dktX3_ask_0 := by decide +kernel
theorem dksX3_ask_1 : cX3_ask.data.toList.drop 24 = dktX3_ask_1 := dk_seg dksX3_ask_0 24 rfl rfl
theorem dX3_ask_0 : decode cX3_ask 0 = .ok (.aload_n 0, 1) := dk_42 (dk_at dksX3_ask_0 0 rfl rfl)
theorem dX3_ask_1 : decode cX3_ask 1 = .ok (.iload_n 1, 1) := dk_27 (dk_at dksX3_ask_0 1 rfl rfl)
theorem dX3_ask_2 : decode cX3_ask 2 = .ok (.invokevirtual 327, 3) := dk_182 1 71 (dk_at dksX3_ask_0 2 rfl rfl)
theorem dX3_ask_5 : decode cX3_ask 5 = .ok (.ifCond .eq 13, 3) := dk_153 0 13 (dk_at dksX3_ask_0 5 rfl rfl)
theorem dX3_ask_8 : decode cX3_ask 8 = .ok (.iload_n 2, 1) := dk_28 (dk_at dksX3_ask_0 8 rfl rfl)
theorem dX3_ask_9 : decode cX3_ask 9 = .ok (.iconst 1, 1) := dk_4 (dk_at dksX3_ask_0 9 rfl rfl)
theorem dX3_ask_10 : decode cX3_ask 10 = .ok (.bipush 99, 2) := dk_16 99 (dk_at dksX3_ask_0 10 rfl rfl)
theorem dX3_ask_12 : decode cX3_ask 12 = .ok (.invokestatic 54, 3) := dk_184 0 54 (dk_at dksX3_ask_0 12 rfl rfl)
theorem dX3_ask_15 : decode cX3_ask 15 = .ok (.ifCond .ne 5, 3) := dk_154 0 5 (dk_at dksX3_ask_0 15 rfl rfl)
theorem dX3_ask_18 : decode cX3_ask 18 = .ok (.iconst (-1), 1) := dk_2 (dk_at dksX3_ask_0 18 rfl rfl)
theorem dX3_ask_19 : decode cX3_ask 19 = .ok (.ireturn, 1) := dk_172 (dk_at dksX3_ask_0 19 rfl rfl)
theorem dX3_ask_20 : decode cX3_ask 20 = .ok (.aload_n 0, 1) := dk_42 (dk_at dksX3_ask_0 20 rfl rfl)
theorem dX3_ask_21 : decode cX3_ask 21 = .ok (.invokevirtual 330, 3) := dk_182 1 74 (dk_at dksX3_ask_0 21 rfl rfl)
theorem dX3_ask_24 : decode cX3_ask 24 = .ok (.aload_n 0, 1) := dk_42 (dk_at dksX3_ask_1 0 rfl rfl)
theorem dX3_ask_25 : decode cX3_ask 25 = .ok (.iload_n 1, 1) := dk_27 (dk_at dksX3_ask_1 1 rfl rfl)
theorem dX3_ask_26 : decode cX3_ask 26 = .ok (.iload_n 2, 1) := dk_28 (dk_at dksX3_ask_1 2 rfl rfl)
theorem dX3_ask_27 : decode cX3_ask 27 = .ok (.invokevirtual 333, 3) := dk_182 1 77 (dk_at dksX3_ask_1 3 rfl rfl)
theorem dX3_ask_30 : decode cX3_ask 30 = .ok (.ireturn, 1) := dk_172 (dk_at dksX3_ask_1 6 rfl rfl)
abbrev cX3_canAsk : ByteArray := prog_17_method_71_code
def yX3_canAsk : MethodName := ⟨RX3, "canAsk", "(I)Z"⟩
def dkwX3_canAsk_0 : List UInt8 := [42, 27, 182, 0, 58, 153, 0, 17, 42, 27, 4, 96, 182, 1, 61, 153, 0, 7, 4, 167, 0, 4, 3, 172]
abbrev dktX3_canAsk_0 : List UInt8 := dkwX3_canAsk_0 ++ []
theorem dksX3_canAsk_0 : cX3_canAsk.data.toList.drop 0 = dktX3_canAsk_0 := by decide +kernel
theorem dX3_canAsk_0 : decode cX3_canAsk 0 = .ok (.aload_n 0, 1) := dk_42 (dk_at dksX3_canAsk_0 0 rfl rfl)
theorem dX3_canAsk_1 : decode cX3_canAsk 1 = .ok (.iload_n 1, 1) := dk_27 (dk_at dksX3_canAsk_0 1 rfl rfl)
theorem dX3_canAsk_2 : decode cX3_canAsk 2 = .ok (.invokevirtual 58, 3) := dk_182 0 58 (dk_at dksX3_canAsk_0 2 rfl rfl)
theorem dX3_canAsk_5 : decode cX3_canAsk 5 = .ok (.ifCond .eq 17, 3) := dk_153 0 17 (dk_at dksX3_canAsk_0 5 rfl rfl)
theorem dX3_canAsk_8 : decode cX3_canAsk 8 = .ok (.aload_n 0, 1) := dk_42 (dk_at dksX3_canAsk_0 8 rfl rfl)
theorem dX3_canAsk_9 : decode cX3_canAsk 9 = .ok (.iload_n 1, 1) := dk_27 (dk_at dksX3_canAsk_0 9 rfl rfl)
theorem dX3_canAsk_10 : decode cX3_canAsk 10 = .ok (.iconst 1, 1) := dk_4 (dk_at dksX3_canAsk_0 10 rfl rfl)
theorem dX3_canAsk_11 : decode cX3_canAsk 11 = .ok (.iadd, 1) := dk_96 (dk_at dksX3_canAsk_0 11 rfl rfl)
theorem dX3_canAsk_12 : decode cX3_canAsk 12 = .ok (.invokevirtual 317, 3) := dk_182 1 61 (dk_at dksX3_canAsk_0 12 rfl rfl)
theorem dX3_canAsk_15 : decode cX3_canAsk 15 = .ok (.ifCond .eq 7, 3) := dk_153 0 7 (dk_at dksX3_canAsk_0 15 rfl rfl)
theorem dX3_canAsk_18 : decode cX3_canAsk 18 = .ok (.iconst 1, 1) := dk_4 (dk_at dksX3_canAsk_0 18 rfl rfl)
theorem dX3_canAsk_19 : decode cX3_canAsk 19 = .ok (.goto 4, 3) := dk_167 0 4 (dk_at dksX3_canAsk_0 19 rfl rfl)
theorem dX3_canAsk_22 : decode cX3_canAsk 22 = .ok (.iconst 0, 1) := dk_3 (dk_at dksX3_canAsk_0 22 rfl rfl)
theorem dX3_canAsk_23 : decode cX3_canAsk 23 = .ok (.ireturn, 1) := dk_172 (dk_at dksX3_canAsk_0 23 rfl rfl)
abbrev cX3_isThere : ByteArray := prog_17_method_11_code
def yX3_isThere : MethodName := ⟨RX3, "isThere", "(I)Z"⟩
def dkwX3_isThere_1 : List UInt8 := [4, 167, 0, 4, 3, 172]
abbrev dktX3_isThere_1 : List UInt8 := dkwX3_isThere_1 ++ []
def dkwX3_isThere_0 : List UInt8 := [42, 27, 182, 0, 58, 153, 0, 23, 42, 27, 182, 0, 62, 154, 0, 15, 42, 27, 182, 0, 65, 154, 0, 7]
abbrev dktX3_isThere_0 : List UInt8 := dkwX3_isThere_0 ++ dktX3_isThere_1
theorem dksX3_isThere_0 : cX3_isThere.data.toList.drop 0 = dktX3_isThere_0 := by decide +kernel
theorem dksX3_isThere_1 : cX3_isThere.data.toList.drop 24 = dktX3_isThere_1 := dk_seg dksX3_isThere_0 24 rfl rfl
theorem dX3_isThere_0 : decode cX3_isThere 0 = .ok (.aload_n 0, 1) := dk_42 (dk_at dksX3_isThere_0 0 rfl rfl)
theorem dX3_isThere_1 : decode cX3_isThere 1 = .ok (.iload_n 1, 1) := dk_27 (dk_at dksX3_isThere_0 1 rfl rfl)
theorem dX3_isThere_2 : decode cX3_isThere 2 = .ok (.invokevirtual 58, 3) := dk_182 0 58 (dk_at dksX3_isThere_0 2 rfl rfl)
theorem dX3_isThere_5 : decode cX3_isThere 5 = .ok (.ifCond .eq 23, 3) := dk_153 0 23 (dk_at dksX3_isThere_0 5 rfl rfl)
theorem dX3_isThere_8 : decode cX3_isThere 8 = .ok (.aload_n 0, 1) := dk_42 (dk_at dksX3_isThere_0 8 rfl rfl)
theorem dX3_isThere_9 : decode cX3_isThere 9 = .ok (.iload_n 1, 1) := dk_27 (dk_at dksX3_isThere_0 9 rfl rfl)
theorem dX3_isThere_10 : decode cX3_isThere 10 = .ok (.invokevirtual 62, 3) := dk_182 0 62 (dk_at dksX3_isThere_0 10 rfl rfl)
theorem dX3_isThere_13 : decode cX3_isThere 13 = .ok (.ifCond .ne 15, 3) := dk_154 0 15 (dk_at dksX3_isThere_0 13 rfl rfl)
theorem dX3_isThere_16 : decode cX3_isThere 16 = .ok (.aload_n 0, 1) := dk_42 (dk_at dksX3_isThere_0 16 rfl rfl)
theorem dX3_isThere_17 : decode cX3_isThere 17 = .ok (.iload_n 1, 1) := dk_27 (dk_at dksX3_isThere_0 17 rfl rfl)
theorem dX3_isThere_18 : decode cX3_isThere 18 = .ok (.invokevirtual 65, 3) := dk_182 0 65 (dk_at dksX3_isThere_0 18 rfl rfl)
theorem dX3_isThere_21 : decode cX3_isThere 21 = .ok (.ifCond .ne 7, 3) := dk_154 0 7 (dk_at dksX3_isThere_0 21 rfl rfl)
theorem dX3_isThere_24 : decode cX3_isThere 24 = .ok (.iconst 1, 1) := dk_4 (dk_at dksX3_isThere_1 0 rfl rfl)
theorem dX3_isThere_25 : decode cX3_isThere 25 = .ok (.goto 4, 3) := dk_167 0 4 (dk_at dksX3_isThere_1 1 rfl rfl)
theorem dX3_isThere_28 : decode cX3_isThere 28 = .ok (.iconst 0, 1) := dk_3 (dk_at dksX3_isThere_1 4 rfl rfl)
theorem dX3_isThere_29 : decode cX3_isThere 29 = .ok (.ireturn, 1) := dk_172 (dk_at dksX3_isThere_1 5 rfl rfl)
abbrev cX3_isOut : ByteArray := prog_17_method_8_code
def yX3_isOut : MethodName := ⟨RX3, "isOut", "(I)Z"⟩
def dkwX3_isOut_0 : List UInt8 := [42, 180, 0, 7, 16, 52, 27, 96, 46, 4, 160, 0, 7, 4, 167, 0, 4, 3, 172]
abbrev dktX3_isOut_0 : List UInt8 := dkwX3_isOut_0 ++ []
theorem dksX3_isOut_0 : cX3_isOut.data.toList.drop 0 = dktX3_isOut_0 := by decide +kernel
theorem dX3_isOut_0 : decode cX3_isOut 0 = .ok (.aload_n 0, 1) := dk_42 (dk_at dksX3_isOut_0 0 rfl rfl)
theorem dX3_isOut_1 : decode cX3_isOut 1 = .ok (.getfield 7, 3) := dk_180 0 7 (dk_at dksX3_isOut_0 1 rfl rfl)
theorem dX3_isOut_4 : decode cX3_isOut 4 = .ok (.bipush 52, 2) := dk_16 52 (dk_at dksX3_isOut_0 4 rfl rfl)
theorem dX3_isOut_6 : decode cX3_isOut 6 = .ok (.iload_n 1, 1) := dk_27 (dk_at dksX3_isOut_0 6 rfl rfl)
theorem dX3_isOut_7 : decode cX3_isOut 7 = .ok (.iadd, 1) := dk_96 (dk_at dksX3_isOut_0 7 rfl rfl)
theorem dX3_isOut_8 : decode cX3_isOut 8 = .ok (.iaload, 1) := dk_46 (dk_at dksX3_isOut_0 8 rfl rfl)
theorem dX3_isOut_9 : decode cX3_isOut 9 = .ok (.iconst 1, 1) := dk_4 (dk_at dksX3_isOut_0 9 rfl rfl)
theorem dX3_isOut_10 : decode cX3_isOut 10 = .ok (.if_icmp .ne 7, 3) := dk_160 0 7 (dk_at dksX3_isOut_0 10 rfl rfl)
theorem dX3_isOut_13 : decode cX3_isOut 13 = .ok (.iconst 1, 1) := dk_4 (dk_at dksX3_isOut_0 13 rfl rfl)
theorem dX3_isOut_14 : decode cX3_isOut 14 = .ok (.goto 4, 3) := dk_167 0 4 (dk_at dksX3_isOut_0 14 rfl rfl)
theorem dX3_isOut_17 : decode cX3_isOut 17 = .ok (.iconst 0, 1) := dk_3 (dk_at dksX3_isOut_0 17 rfl rfl)
theorem dX3_isOut_18 : decode cX3_isOut 18 = .ok (.ireturn, 1) := dk_172 (dk_at dksX3_isOut_0 18 rfl rfl)
abbrev cX3_hasMoved : ByteArray := prog_17_method_10_code
def yX3_hasMoved : MethodName := ⟨RX3, "hasMoved", "(I)Z"⟩
def dkwX3_hasMoved_0 : List UInt8 := [42, 180, 0, 7, 16, 76, 27, 96, 46, 2, 159, 0, 7, 4, 167, 0, 4, 3, 172]
abbrev dktX3_hasMoved_0 : List UInt8 := dkwX3_hasMoved_0 ++ []
theorem dksX3_hasMoved_0 : cX3_hasMoved.data.toList.drop 0 = dktX3_hasMoved_0 := by decide +kernel
theorem dX3_hasMoved_0 : decode cX3_hasMoved 0 = .ok (.aload_n 0, 1) := dk_42 (dk_at dksX3_hasMoved_0 0 rfl rfl)
theorem dX3_hasMoved_1 : decode cX3_hasMoved 1 = .ok (.getfield 7, 3) := dk_180 0 7 (dk_at dksX3_hasMoved_0 1 rfl rfl)
theorem dX3_hasMoved_4 : decode cX3_hasMoved 4 = .ok (.bipush 76, 2) := dk_16 76 (dk_at dksX3_hasMoved_0 4 rfl rfl)
theorem dX3_hasMoved_6 : decode cX3_hasMoved 6 = .ok (.iload_n 1, 1) := dk_27 (dk_at dksX3_hasMoved_0 6 rfl rfl)
theorem dX3_hasMoved_7 : decode cX3_hasMoved 7 = .ok (.iadd, 1) := dk_96 (dk_at dksX3_hasMoved_0 7 rfl rfl)
theorem dX3_hasMoved_8 : decode cX3_hasMoved 8 = .ok (.iaload, 1) := dk_46 (dk_at dksX3_hasMoved_0 8 rfl rfl)
theorem dX3_hasMoved_9 : decode cX3_hasMoved 9 = .ok (.iconst (-1), 1) := dk_2 (dk_at dksX3_hasMoved_0 9 rfl rfl)
theorem dX3_hasMoved_10 : decode cX3_hasMoved 10 = .ok (.if_icmp .eq 7, 3) := dk_159 0 7 (dk_at dksX3_hasMoved_0 10 rfl rfl)
theorem dX3_hasMoved_13 : decode cX3_hasMoved 13 = .ok (.iconst 1, 1) := dk_4 (dk_at dksX3_hasMoved_0 13 rfl rfl)
theorem dX3_hasMoved_14 : decode cX3_hasMoved 14 = .ok (.goto 4, 3) := dk_167 0 4 (dk_at dksX3_hasMoved_0 14 rfl rfl)
theorem dX3_hasMoved_17 : decode cX3_hasMoved 17 = .ok (.iconst 0, 1) := dk_3 (dk_at dksX3_hasMoved_0 17 rfl rfl)
theorem dX3_hasMoved_18 : decode cX3_hasMoved 18 = .ok (.ireturn, 1) := dk_172 (dk_at dksX3_hasMoved_0 18 rfl rfl)
abbrev cX3_keeps : ByteArray := prog_17_method_68_code
def yX3_keeps : MethodName := ⟨RX3, "keeps", "()V"⟩
def dkwX3_keeps_4 : List UInt8 := [4, 181, 1, 57, 177]
abbrev dktX3_keeps_4 : List UInt8 := dkwX3_keeps_4 ++ []
def dkwX3_keeps_3 : List UInt8 := [42, 180, 0, 7, 27, 46, 79, 132, 1, 1, 167, 255, 227, 42, 89, 180, 0, 68, 4, 96, 181, 0, 68, 42]
abbrev dktX3_keeps_3 : List UInt8 := dkwX3_keeps_3 ++ dktX3_keeps_4
def dkwX3_keeps_2 : List UInt8 := [181, 0, 68, 3, 60, 27, 16, 88, 162, 0, 29, 42, 180, 0, 16, 16, 88, 42, 180, 0, 68, 104, 27, 96]
abbrev dktX3_keeps_2 : List UInt8 := dkwX3_keeps_2 ++ dktX3_keeps_3
def dkwX3_keeps_1 : List UInt8 := [180, 0, 16, 27, 16, 88, 96, 46, 79, 132, 1, 1, 167, 255, 231, 42, 89, 180, 0, 68, 4, 100]
abbrev dktX3_keeps_1 : List UInt8 := dkwX3_keeps_1 ++ dktX3_keeps_2
def dkwX3_keeps_0 : List UInt8 := [42, 180, 0, 68, 16, 6, 160, 0, 43, 3, 60, 27, 17, 1, 184, 162, 0, 24, 42, 180, 0, 16, 27, 42]
abbrev dktX3_keeps_0 : List UInt8 := dkwX3_keeps_0 ++ dktX3_keeps_1
theorem dksX3_keeps_0 : cX3_keeps.data.toList.drop 0 = dktX3_keeps_0 := by decide +kernel
theorem dksX3_keeps_1 : cX3_keeps.data.toList.drop 24 = dktX3_keeps_1 := dk_seg dksX3_keeps_0 24 rfl rfl
theorem dksX3_keeps_2 : cX3_keeps.data.toList.drop 46 = dktX3_keeps_2 := dk_seg dksX3_keeps_1 22 rfl rfl
theorem dksX3_keeps_3 : cX3_keeps.data.toList.drop 70 = dktX3_keeps_3 := dk_seg dksX3_keeps_2 24 rfl rfl
theorem dksX3_keeps_4 : cX3_keeps.data.toList.drop 94 = dktX3_keeps_4 := dk_seg dksX3_keeps_3 24 rfl rfl
theorem dX3_keeps_0 : decode cX3_keeps 0 = .ok (.aload_n 0, 1) := dk_42 (dk_at dksX3_keeps_0 0 rfl rfl)
theorem dX3_keeps_1 : decode cX3_keeps 1 = .ok (.getfield 68, 3) := dk_180 0 68 (dk_at dksX3_keeps_0 1 rfl rfl)
theorem dX3_keeps_4 : decode cX3_keeps 4 = .ok (.bipush 6, 2) := dk_16 6 (dk_at dksX3_keeps_0 4 rfl rfl)
theorem dX3_keeps_6 : decode cX3_keeps 6 = .ok (.if_icmp .ne 43, 3) := dk_160 0 43 (dk_at dksX3_keeps_0 6 rfl rfl)
theorem dX3_keeps_9 : decode cX3_keeps 9 = .ok (.iconst 0, 1) := dk_3 (dk_at dksX3_keeps_0 9 rfl rfl)
theorem dX3_keeps_10 : decode cX3_keeps 10 = .ok (.istore_n 1, 1) := dk_60 (dk_at dksX3_keeps_0 10 rfl rfl)
theorem dX3_keeps_11 : decode cX3_keeps 11 = .ok (.iload_n 1, 1) := dk_27 (dk_at dksX3_keeps_0 11 rfl rfl)
theorem dX3_keeps_12 : decode cX3_keeps 12 = .ok (.sipush 440, 3) := dk_17 1 184 (dk_at dksX3_keeps_0 12 rfl rfl)
theorem dX3_keeps_15 : decode cX3_keeps 15 = .ok (.if_icmp .ge 24, 3) := dk_162 0 24 (dk_at dksX3_keeps_0 15 rfl rfl)
theorem dX3_keeps_18 : decode cX3_keeps 18 = .ok (.aload_n 0, 1) := dk_42 (dk_at dksX3_keeps_0 18 rfl rfl)
theorem dX3_keeps_19 : decode cX3_keeps 19 = .ok (.getfield 16, 3) := dk_180 0 16 (dk_at dksX3_keeps_0 19 rfl rfl)
theorem dX3_keeps_22 : decode cX3_keeps 22 = .ok (.iload_n 1, 1) := dk_27 (dk_at dksX3_keeps_0 22 rfl rfl)
theorem dX3_keeps_23 : decode cX3_keeps 23 = .ok (.aload_n 0, 1) := dk_42 (dk_at dksX3_keeps_0 23 rfl rfl)
theorem dX3_keeps_24 : decode cX3_keeps 24 = .ok (.getfield 16, 3) := dk_180 0 16 (dk_at dksX3_keeps_1 0 rfl rfl)
theorem dX3_keeps_27 : decode cX3_keeps 27 = .ok (.iload_n 1, 1) := dk_27 (dk_at dksX3_keeps_1 3 rfl rfl)
theorem dX3_keeps_28 : decode cX3_keeps 28 = .ok (.bipush 88, 2) := dk_16 88 (dk_at dksX3_keeps_1 4 rfl rfl)
theorem dX3_keeps_30 : decode cX3_keeps 30 = .ok (.iadd, 1) := dk_96 (dk_at dksX3_keeps_1 6 rfl rfl)
theorem dX3_keeps_31 : decode cX3_keeps 31 = .ok (.iaload, 1) := dk_46 (dk_at dksX3_keeps_1 7 rfl rfl)
theorem dX3_keeps_32 : decode cX3_keeps 32 = .ok (.iastore, 1) := dk_79 (dk_at dksX3_keeps_1 8 rfl rfl)
theorem dX3_keeps_33 : decode cX3_keeps 33 = .ok (.iinc 1 1, 3) := dk_132 1 1 (dk_at dksX3_keeps_1 9 rfl rfl)
theorem dX3_keeps_36 : decode cX3_keeps 36 = .ok (.goto (-25), 3) := dk_167 255 231 (dk_at dksX3_keeps_1 12 rfl rfl)
theorem dX3_keeps_39 : decode cX3_keeps 39 = .ok (.aload_n 0, 1) := dk_42 (dk_at dksX3_keeps_1 15 rfl rfl)
theorem dX3_keeps_40 : decode cX3_keeps 40 = .ok (.dup, 1) := dk_89 (dk_at dksX3_keeps_1 16 rfl rfl)
theorem dX3_keeps_41 : decode cX3_keeps 41 = .ok (.getfield 68, 3) := dk_180 0 68 (dk_at dksX3_keeps_1 17 rfl rfl)
theorem dX3_keeps_44 : decode cX3_keeps 44 = .ok (.iconst 1, 1) := dk_4 (dk_at dksX3_keeps_1 20 rfl rfl)
theorem dX3_keeps_45 : decode cX3_keeps 45 = .ok (.isub, 1) := dk_100 (dk_at dksX3_keeps_1 21 rfl rfl)
theorem dX3_keeps_46 : decode cX3_keeps 46 = .ok (.putfield 68, 3) := dk_181 0 68 (dk_at dksX3_keeps_2 0 rfl rfl)
theorem dX3_keeps_49 : decode cX3_keeps 49 = .ok (.iconst 0, 1) := dk_3 (dk_at dksX3_keeps_2 3 rfl rfl)
theorem dX3_keeps_50 : decode cX3_keeps 50 = .ok (.istore_n 1, 1) := dk_60 (dk_at dksX3_keeps_2 4 rfl rfl)
theorem dX3_keeps_51 : decode cX3_keeps 51 = .ok (.iload_n 1, 1) := dk_27 (dk_at dksX3_keeps_2 5 rfl rfl)
theorem dX3_keeps_52 : decode cX3_keeps 52 = .ok (.bipush 88, 2) := dk_16 88 (dk_at dksX3_keeps_2 6 rfl rfl)
theorem dX3_keeps_54 : decode cX3_keeps 54 = .ok (.if_icmp .ge 29, 3) := dk_162 0 29 (dk_at dksX3_keeps_2 8 rfl rfl)
theorem dX3_keeps_57 : decode cX3_keeps 57 = .ok (.aload_n 0, 1) := dk_42 (dk_at dksX3_keeps_2 11 rfl rfl)
theorem dX3_keeps_58 : decode cX3_keeps 58 = .ok (.getfield 16, 3) := dk_180 0 16 (dk_at dksX3_keeps_2 12 rfl rfl)
theorem dX3_keeps_61 : decode cX3_keeps 61 = .ok (.bipush 88, 2) := dk_16 88 (dk_at dksX3_keeps_2 15 rfl rfl)
theorem dX3_keeps_63 : decode cX3_keeps 63 = .ok (.aload_n 0, 1) := dk_42 (dk_at dksX3_keeps_2 17 rfl rfl)
theorem dX3_keeps_64 : decode cX3_keeps 64 = .ok (.getfield 68, 3) := dk_180 0 68 (dk_at dksX3_keeps_2 18 rfl rfl)
theorem dX3_keeps_67 : decode cX3_keeps 67 = .ok (.imul, 1) := dk_104 (dk_at dksX3_keeps_2 21 rfl rfl)
theorem dX3_keeps_68 : decode cX3_keeps 68 = .ok (.iload_n 1, 1) := dk_27 (dk_at dksX3_keeps_2 22 rfl rfl)
theorem dX3_keeps_69 : decode cX3_keeps 69 = .ok (.iadd, 1) := dk_96 (dk_at dksX3_keeps_2 23 rfl rfl)
theorem dX3_keeps_70 : decode cX3_keeps 70 = .ok (.aload_n 0, 1) := dk_42 (dk_at dksX3_keeps_3 0 rfl rfl)
theorem dX3_keeps_71 : decode cX3_keeps 71 = .ok (.getfield 7, 3) := dk_180 0 7 (dk_at dksX3_keeps_3 1 rfl rfl)
theorem dX3_keeps_74 : decode cX3_keeps 74 = .ok (.iload_n 1, 1) := dk_27 (dk_at dksX3_keeps_3 4 rfl rfl)
theorem dX3_keeps_75 : decode cX3_keeps 75 = .ok (.iaload, 1) := dk_46 (dk_at dksX3_keeps_3 5 rfl rfl)
theorem dX3_keeps_76 : decode cX3_keeps 76 = .ok (.iastore, 1) := dk_79 (dk_at dksX3_keeps_3 6 rfl rfl)
theorem dX3_keeps_77 : decode cX3_keeps 77 = .ok (.iinc 1 1, 3) := dk_132 1 1 (dk_at dksX3_keeps_3 7 rfl rfl)
theorem dX3_keeps_80 : decode cX3_keeps 80 = .ok (.goto (-29), 3) := dk_167 255 227 (dk_at dksX3_keeps_3 10 rfl rfl)
theorem dX3_keeps_83 : decode cX3_keeps 83 = .ok (.aload_n 0, 1) := dk_42 (dk_at dksX3_keeps_3 13 rfl rfl)
theorem dX3_keeps_84 : decode cX3_keeps 84 = .ok (.dup, 1) := dk_89 (dk_at dksX3_keeps_3 14 rfl rfl)
theorem dX3_keeps_85 : decode cX3_keeps 85 = .ok (.getfield 68, 3) := dk_180 0 68 (dk_at dksX3_keeps_3 15 rfl rfl)
theorem dX3_keeps_88 : decode cX3_keeps 88 = .ok (.iconst 1, 1) := dk_4 (dk_at dksX3_keeps_3 18 rfl rfl)
theorem dX3_keeps_89 : decode cX3_keeps 89 = .ok (.iadd, 1) := dk_96 (dk_at dksX3_keeps_3 19 rfl rfl)
theorem dX3_keeps_90 : decode cX3_keeps 90 = .ok (.putfield 68, 3) := dk_181 0 68 (dk_at dksX3_keeps_3 20 rfl rfl)
theorem dX3_keeps_93 : decode cX3_keeps 93 = .ok (.aload_n 0, 1) := dk_42 (dk_at dksX3_keeps_3 23 rfl rfl)
theorem dX3_keeps_94 : decode cX3_keeps 94 = .ok (.iconst 1, 1) := dk_4 (dk_at dksX3_keeps_4 0 rfl rfl)
theorem dX3_keeps_95 : decode cX3_keeps 95 = .ok (.putfield 313, 3) := dk_181 1 57 (dk_at dksX3_keeps_4 1 rfl rfl)
theorem dX3_keeps_98 : decode cX3_keeps 98 = .ok (.return_, 1) := dk_177 (dk_at dksX3_keeps_4 4 rfl rfl)
abbrev cX3_asks : ByteArray := prog_17_method_72_code
def yX3_asks : MethodName := ⟨RX3, "asks", "(II)I"⟩
def dkwX3_asks_3 : List UInt8 := [21, 4, 182, 1, 67, 21, 4, 172]
abbrev dktX3_asks_3 : List UInt8 := dkwX3_asks_3 ++ []
def dkwX3_asks_2 : List UInt8 := [29, 96, 17, 252, 25, 42, 180, 0, 7, 16, 28, 29, 96, 46, 21, 4, 100, 184, 0, 51, 79, 42, 3, 29]
abbrev dktX3_asks_2 : List UInt8 := dkwX3_asks_2 ++ dktX3_asks_3
def dkwX3_asks_1 : List UInt8 := [184, 0, 47, 54, 4, 42, 180, 0, 7, 7, 29, 96, 92, 46, 21, 4, 100, 79, 42, 180, 0, 7, 16, 28]
abbrev dktX3_asks_1 : List UInt8 := dkwX3_asks_1 ++ dktX3_asks_2
def dkwX3_asks_0 : List UInt8 := [27, 4, 96, 62, 42, 29, 182, 1, 64, 28, 184, 0, 47, 42, 180, 0, 7, 7, 29, 96, 46, 4, 100]
abbrev dktX3_asks_0 : List UInt8 := dkwX3_asks_0 ++ dktX3_asks_1
theorem dksX3_asks_0 : cX3_asks.data.toList.drop 0 = dktX3_asks_0 := by decide +kernel
theorem dksX3_asks_1 : cX3_asks.data.toList.drop 23 = dktX3_asks_1 := dk_seg dksX3_asks_0 23 rfl rfl
theorem dksX3_asks_2 : cX3_asks.data.toList.drop 47 = dktX3_asks_2 := dk_seg dksX3_asks_1 24 rfl rfl
theorem dksX3_asks_3 : cX3_asks.data.toList.drop 71 = dktX3_asks_3 := dk_seg dksX3_asks_2 24 rfl rfl
theorem dX3_asks_0 : decode cX3_asks 0 = .ok (.iload_n 1, 1) := dk_27 (dk_at dksX3_asks_0 0 rfl rfl)
theorem dX3_asks_1 : decode cX3_asks 1 = .ok (.iconst 1, 1) := dk_4 (dk_at dksX3_asks_0 1 rfl rfl)
theorem dX3_asks_2 : decode cX3_asks 2 = .ok (.iadd, 1) := dk_96 (dk_at dksX3_asks_0 2 rfl rfl)
theorem dX3_asks_3 : decode cX3_asks 3 = .ok (.istore_n 3, 1) := dk_62 (dk_at dksX3_asks_0 3 rfl rfl)
theorem dX3_asks_4 : decode cX3_asks 4 = .ok (.aload_n 0, 1) := dk_42 (dk_at dksX3_asks_0 4 rfl rfl)
theorem dX3_asks_5 : decode cX3_asks 5 = .ok (.iload_n 3, 1) := dk_29 (dk_at dksX3_asks_0 5 rfl rfl)
theorem dX3_asks_6 : decode cX3_asks 6 = .ok (.invokevirtual 320, 3) := dk_182 1 64 (dk_at dksX3_asks_0 6 rfl rfl)
theorem dX3_asks_9 : decode cX3_asks 9 = .ok (.iload_n 2, 1) := dk_28 (dk_at dksX3_asks_0 9 rfl rfl)
theorem dX3_asks_10 : decode cX3_asks 10 = .ok (.invokestatic 47, 3) := dk_184 0 47 (dk_at dksX3_asks_0 10 rfl rfl)
theorem dX3_asks_13 : decode cX3_asks 13 = .ok (.aload_n 0, 1) := dk_42 (dk_at dksX3_asks_0 13 rfl rfl)
theorem dX3_asks_14 : decode cX3_asks 14 = .ok (.getfield 7, 3) := dk_180 0 7 (dk_at dksX3_asks_0 14 rfl rfl)
theorem dX3_asks_17 : decode cX3_asks 17 = .ok (.iconst 4, 1) := dk_7 (dk_at dksX3_asks_0 17 rfl rfl)
theorem dX3_asks_18 : decode cX3_asks 18 = .ok (.iload_n 3, 1) := dk_29 (dk_at dksX3_asks_0 18 rfl rfl)
theorem dX3_asks_19 : decode cX3_asks 19 = .ok (.iadd, 1) := dk_96 (dk_at dksX3_asks_0 19 rfl rfl)
theorem dX3_asks_20 : decode cX3_asks 20 = .ok (.iaload, 1) := dk_46 (dk_at dksX3_asks_0 20 rfl rfl)
theorem dX3_asks_21 : decode cX3_asks 21 = .ok (.iconst 1, 1) := dk_4 (dk_at dksX3_asks_0 21 rfl rfl)
theorem dX3_asks_22 : decode cX3_asks 22 = .ok (.isub, 1) := dk_100 (dk_at dksX3_asks_0 22 rfl rfl)
theorem dX3_asks_23 : decode cX3_asks 23 = .ok (.invokestatic 47, 3) := dk_184 0 47 (dk_at dksX3_asks_1 0 rfl rfl)
theorem dX3_asks_26 : decode cX3_asks 26 = .ok (.istore 4, 2) := dk_54 4 (dk_at dksX3_asks_1 3 rfl rfl)
theorem dX3_asks_28 : decode cX3_asks 28 = .ok (.aload_n 0, 1) := dk_42 (dk_at dksX3_asks_1 5 rfl rfl)
theorem dX3_asks_29 : decode cX3_asks 29 = .ok (.getfield 7, 3) := dk_180 0 7 (dk_at dksX3_asks_1 6 rfl rfl)
theorem dX3_asks_32 : decode cX3_asks 32 = .ok (.iconst 4, 1) := dk_7 (dk_at dksX3_asks_1 9 rfl rfl)
theorem dX3_asks_33 : decode cX3_asks 33 = .ok (.iload_n 3, 1) := dk_29 (dk_at dksX3_asks_1 10 rfl rfl)
theorem dX3_asks_34 : decode cX3_asks 34 = .ok (.iadd, 1) := dk_96 (dk_at dksX3_asks_1 11 rfl rfl)
theorem dX3_asks_35 : decode cX3_asks 35 = .ok (.dup2, 1) := dk_92 (dk_at dksX3_asks_1 12 rfl rfl)
theorem dX3_asks_36 : decode cX3_asks 36 = .ok (.iaload, 1) := dk_46 (dk_at dksX3_asks_1 13 rfl rfl)
theorem dX3_asks_37 : decode cX3_asks 37 = .ok (.iload 4, 2) := dk_21 4 (dk_at dksX3_asks_1 14 rfl rfl)
theorem dX3_asks_39 : decode cX3_asks 39 = .ok (.isub, 1) := dk_100 (dk_at dksX3_asks_1 16 rfl rfl)
theorem dX3_asks_40 : decode cX3_asks 40 = .ok (.iastore, 1) := dk_79 (dk_at dksX3_asks_1 17 rfl rfl)
theorem dX3_asks_41 : decode cX3_asks 41 = .ok (.aload_n 0, 1) := dk_42 (dk_at dksX3_asks_1 18 rfl rfl)
theorem dX3_asks_42 : decode cX3_asks 42 = .ok (.getfield 7, 3) := dk_180 0 7 (dk_at dksX3_asks_1 19 rfl rfl)
theorem dX3_asks_45 : decode cX3_asks 45 = .ok (.bipush 28, 2) := dk_16 28 (dk_at dksX3_asks_1 22 rfl rfl)
theorem dX3_asks_47 : decode cX3_asks 47 = .ok (.iload_n 3, 1) := dk_29 (dk_at dksX3_asks_2 0 rfl rfl)
theorem dX3_asks_48 : decode cX3_asks 48 = .ok (.iadd, 1) := dk_96 (dk_at dksX3_asks_2 1 rfl rfl)
theorem dX3_asks_49 : decode cX3_asks 49 = .ok (.sipush (-999), 3) := dk_17 252 25 (dk_at dksX3_asks_2 2 rfl rfl)
theorem dX3_asks_52 : decode cX3_asks 52 = .ok (.aload_n 0, 1) := dk_42 (dk_at dksX3_asks_2 5 rfl rfl)
theorem dX3_asks_53 : decode cX3_asks 53 = .ok (.getfield 7, 3) := dk_180 0 7 (dk_at dksX3_asks_2 6 rfl rfl)
theorem dX3_asks_56 : decode cX3_asks 56 = .ok (.bipush 28, 2) := dk_16 28 (dk_at dksX3_asks_2 9 rfl rfl)
theorem dX3_asks_58 : decode cX3_asks 58 = .ok (.iload_n 3, 1) := dk_29 (dk_at dksX3_asks_2 11 rfl rfl)
theorem dX3_asks_59 : decode cX3_asks 59 = .ok (.iadd, 1) := dk_96 (dk_at dksX3_asks_2 12 rfl rfl)
theorem dX3_asks_60 : decode cX3_asks 60 = .ok (.iaload, 1) := dk_46 (dk_at dksX3_asks_2 13 rfl rfl)
theorem dX3_asks_61 : decode cX3_asks 61 = .ok (.iload 4, 2) := dk_21 4 (dk_at dksX3_asks_2 14 rfl rfl)
theorem dX3_asks_63 : decode cX3_asks 63 = .ok (.isub, 1) := dk_100 (dk_at dksX3_asks_2 16 rfl rfl)
theorem dX3_asks_64 : decode cX3_asks 64 = .ok (.invokestatic 51, 3) := dk_184 0 51 (dk_at dksX3_asks_2 17 rfl rfl)
theorem dX3_asks_67 : decode cX3_asks 67 = .ok (.iastore, 1) := dk_79 (dk_at dksX3_asks_2 20 rfl rfl)
theorem dX3_asks_68 : decode cX3_asks 68 = .ok (.aload_n 0, 1) := dk_42 (dk_at dksX3_asks_2 21 rfl rfl)
theorem dX3_asks_69 : decode cX3_asks 69 = .ok (.iconst 0, 1) := dk_3 (dk_at dksX3_asks_2 22 rfl rfl)
theorem dX3_asks_70 : decode cX3_asks 70 = .ok (.iload_n 3, 1) := dk_29 (dk_at dksX3_asks_2 23 rfl rfl)
theorem dX3_asks_71 : decode cX3_asks 71 = .ok (.iload 4, 2) := dk_21 4 (dk_at dksX3_asks_3 0 rfl rfl)
theorem dX3_asks_73 : decode cX3_asks 73 = .ok (.invokevirtual 323, 3) := dk_182 1 67 (dk_at dksX3_asks_3 2 rfl rfl)
theorem dX3_asks_76 : decode cX3_asks 76 = .ok (.iload 4, 2) := dk_21 4 (dk_at dksX3_asks_3 5 rfl rfl)
theorem dX3_asks_78 : decode cX3_asks 78 = .ok (.ireturn, 1) := dk_172 (dk_at dksX3_asks_3 7 rfl rfl)
abbrev cX3_giveOf : ByteArray := prog_17_method_65_code
def yX3_giveOf : MethodName := ⟨RX3, "giveOf", "(I)I"⟩
def dkwX3_giveOf_1 : List UInt8 := [16, 28, 27, 96, 46, 7, 108, 17, 3, 231, 182, 1, 53, 172]
abbrev dktX3_giveOf_1 : List UInt8 := dkwX3_giveOf_1 ++ []
def dkwX3_giveOf_0 : List UInt8 := [42, 16, 22, 27, 42, 180, 0, 7, 16, 28, 27, 96, 46, 156, 0, 7, 3, 167, 0, 14, 42, 180, 0, 7]
abbrev dktX3_giveOf_0 : List UInt8 := dkwX3_giveOf_0 ++ dktX3_giveOf_1
theorem dksX3_giveOf_0 : cX3_giveOf.data.toList.drop 0 = dktX3_giveOf_0 := by decide +kernel
theorem dksX3_giveOf_1 : cX3_giveOf.data.toList.drop 24 = dktX3_giveOf_1 := dk_seg dksX3_giveOf_0 24 rfl rfl
theorem dX3_giveOf_0 : decode cX3_giveOf 0 = .ok (.aload_n 0, 1) := dk_42 (dk_at dksX3_giveOf_0 0 rfl rfl)
theorem dX3_giveOf_1 : decode cX3_giveOf 1 = .ok (.bipush 22, 2) := dk_16 22 (dk_at dksX3_giveOf_0 1 rfl rfl)
theorem dX3_giveOf_3 : decode cX3_giveOf 3 = .ok (.iload_n 1, 1) := dk_27 (dk_at dksX3_giveOf_0 3 rfl rfl)
theorem dX3_giveOf_4 : decode cX3_giveOf 4 = .ok (.aload_n 0, 1) := dk_42 (dk_at dksX3_giveOf_0 4 rfl rfl)
theorem dX3_giveOf_5 : decode cX3_giveOf 5 = .ok (.getfield 7, 3) := dk_180 0 7 (dk_at dksX3_giveOf_0 5 rfl rfl)
theorem dX3_giveOf_8 : decode cX3_giveOf 8 = .ok (.bipush 28, 2) := dk_16 28 (dk_at dksX3_giveOf_0 8 rfl rfl)
theorem dX3_giveOf_10 : decode cX3_giveOf 10 = .ok (.iload_n 1, 1) := dk_27 (dk_at dksX3_giveOf_0 10 rfl rfl)
theorem dX3_giveOf_11 : decode cX3_giveOf 11 = .ok (.iadd, 1) := dk_96 (dk_at dksX3_giveOf_0 11 rfl rfl)
theorem dX3_giveOf_12 : decode cX3_giveOf 12 = .ok (.iaload, 1) := dk_46 (dk_at dksX3_giveOf_0 12 rfl rfl)
theorem dX3_giveOf_13 : decode cX3_giveOf 13 = .ok (.ifCond .ge 7, 3) := dk_156 0 7 (dk_at dksX3_giveOf_0 13 rfl rfl)
theorem dX3_giveOf_16 : decode cX3_giveOf 16 = .ok (.iconst 0, 1) := dk_3 (dk_at dksX3_giveOf_0 16 rfl rfl)
theorem dX3_giveOf_17 : decode cX3_giveOf 17 = .ok (.goto 14, 3) := dk_167 0 14 (dk_at dksX3_giveOf_0 17 rfl rfl)
theorem dX3_giveOf_20 : decode cX3_giveOf 20 = .ok (.aload_n 0, 1) := dk_42 (dk_at dksX3_giveOf_0 20 rfl rfl)
theorem dX3_giveOf_21 : decode cX3_giveOf 21 = .ok (.getfield 7, 3) := dk_180 0 7 (dk_at dksX3_giveOf_0 21 rfl rfl)
theorem dX3_giveOf_24 : decode cX3_giveOf 24 = .ok (.bipush 28, 2) := dk_16 28 (dk_at dksX3_giveOf_1 0 rfl rfl)
theorem dX3_giveOf_26 : decode cX3_giveOf 26 = .ok (.iload_n 1, 1) := dk_27 (dk_at dksX3_giveOf_1 2 rfl rfl)
theorem dX3_giveOf_27 : decode cX3_giveOf 27 = .ok (.iadd, 1) := dk_96 (dk_at dksX3_giveOf_1 3 rfl rfl)
theorem dX3_giveOf_28 : decode cX3_giveOf 28 = .ok (.iaload, 1) := dk_46 (dk_at dksX3_giveOf_1 4 rfl rfl)
theorem dX3_giveOf_29 : decode cX3_giveOf 29 = .ok (.iconst 4, 1) := dk_7 (dk_at dksX3_giveOf_1 5 rfl rfl)
theorem dX3_giveOf_30 : decode cX3_giveOf 30 = .ok (.idiv, 1) := dk_108 (dk_at dksX3_giveOf_1 6 rfl rfl)
theorem dX3_giveOf_31 : decode cX3_giveOf 31 = .ok (.sipush 999, 3) := dk_17 3 231 (dk_at dksX3_giveOf_1 7 rfl rfl)
theorem dX3_giveOf_34 : decode cX3_giveOf 34 = .ok (.invokevirtual 309, 3) := dk_182 1 53 (dk_at dksX3_giveOf_1 10 rfl rfl)
theorem dX3_giveOf_37 : decode cX3_giveOf 37 = .ok (.ireturn, 1) := dk_172 (dk_at dksX3_giveOf_1 13 rfl rfl)
abbrev cX3_says : ByteArray := prog_17_method_62_code
def yX3_says : MethodName := ⟨RX3, "says", "(IIII)I"⟩
def dkwX3_says_8 : List UInt8 := [182, 1, 29, 3, 21, 4, 184, 1, 50, 172, 132, 5, 1, 167, 255, 183, 29, 3, 21, 4, 184, 1, 50, 172]
abbrev dktX3_says_8 : List UInt8 := dkwX3_says_8 ++ []
def dkwX3_says_7 : List UInt8 := [3, 42, 180, 0, 7, 17, 3, 73, 21, 5, 96, 46, 42, 180, 0, 7, 17, 3, 89, 21, 5, 96, 46]
abbrev dktX3_says_7 : List UInt8 := dkwX3_says_7 ++ dktX3_says_8
def dkwX3_says_6 : List UInt8 := [180, 0, 7, 17, 3, 121, 21, 5, 96, 46, 27, 160, 0, 46, 42, 21, 5, 182, 1, 47, 153, 0, 37, 42]
abbrev dktX3_says_6 : List UInt8 := dkwX3_says_6 ++ dktX3_says_7
def dkwX3_says_5 : List UInt8 := [42, 28, 182, 1, 44, 79, 3, 54, 5, 21, 5, 42, 180, 0, 7, 16, 89, 46, 162, 0, 67, 42]
abbrev dktX3_says_5 : List UInt8 := dkwX3_says_5 ++ dktX3_says_6
def dkwX3_says_4 : List UInt8 := [46, 79, 42, 180, 0, 37, 16, 8, 42, 180, 0, 7, 16, 64, 28, 96, 46, 79, 42, 180, 0, 37, 16, 9]
abbrev dktX3_says_4 : List UInt8 := dkwX3_says_4 ++ dktX3_says_5
def dkwX3_says_3 : List UInt8 := [180, 0, 37, 16, 6, 42, 180, 0, 7, 3, 46, 79, 42, 180, 0, 37, 16, 7, 42, 180, 0, 7, 16, 88]
abbrev dktX3_says_3 : List UInt8 := dkwX3_says_3 ++ dktX3_says_4
def dkwX3_says_2 : List UInt8 := [16, 28, 28, 96, 46, 79, 42, 180, 0, 37, 8, 42, 180, 0, 7, 16, 93, 28, 96, 46, 79, 42]
abbrev dktX3_says_2 : List UInt8 := dkwX3_says_2 ++ dktX3_says_3
def dkwX3_says_1 : List UInt8 := [180, 0, 37, 6, 42, 180, 0, 7, 16, 16, 28, 96, 46, 79, 42, 180, 0, 37, 7, 42, 180, 0, 7]
abbrev dktX3_says_1 : List UInt8 := dkwX3_says_1 ++ dktX3_says_2
def dkwX3_says_0 : List UInt8 := [42, 180, 0, 37, 4, 28, 79, 42, 180, 0, 37, 5, 42, 180, 0, 7, 7, 28, 96, 46, 79, 42]
abbrev dktX3_says_0 : List UInt8 := dkwX3_says_0 ++ dktX3_says_1
theorem dksX3_says_0 : cX3_says.data.toList.drop 0 = dktX3_says_0 := by decide +kernel
theorem dksX3_says_1 : cX3_says.data.toList.drop 22 = dktX3_says_1 := dk_seg dksX3_says_0 22 rfl rfl
theorem dksX3_says_2 : cX3_says.data.toList.drop 45 = dktX3_says_2 := dk_seg dksX3_says_1 23 rfl rfl
theorem dksX3_says_3 : cX3_says.data.toList.drop 67 = dktX3_says_3 := dk_seg dksX3_says_2 22 rfl rfl
theorem dksX3_says_4 : cX3_says.data.toList.drop 91 = dktX3_says_4 := dk_seg dksX3_says_3 24 rfl rfl
theorem dksX3_says_5 : cX3_says.data.toList.drop 115 = dktX3_says_5 := dk_seg dksX3_says_4 24 rfl rfl
theorem dksX3_says_6 : cX3_says.data.toList.drop 137 = dktX3_says_6 := dk_seg dksX3_says_5 22 rfl rfl
theorem dksX3_says_7 : cX3_says.data.toList.drop 161 = dktX3_says_7 := dk_seg dksX3_says_6 24 rfl rfl
theorem dksX3_says_8 : cX3_says.data.toList.drop 184 = dktX3_says_8 := dk_seg dksX3_says_7 23 rfl rfl
theorem dX3_says_0 : decode cX3_says 0 = .ok (.aload_n 0, 1) := dk_42 (dk_at dksX3_says_0 0 rfl rfl)
theorem dX3_says_1 : decode cX3_says 1 = .ok (.getfield 37, 3) := dk_180 0 37 (dk_at dksX3_says_0 1 rfl rfl)
theorem dX3_says_4 : decode cX3_says 4 = .ok (.iconst 1, 1) := dk_4 (dk_at dksX3_says_0 4 rfl rfl)
theorem dX3_says_5 : decode cX3_says 5 = .ok (.iload_n 2, 1) := dk_28 (dk_at dksX3_says_0 5 rfl rfl)
theorem dX3_says_6 : decode cX3_says 6 = .ok (.iastore, 1) := dk_79 (dk_at dksX3_says_0 6 rfl rfl)
theorem dX3_says_7 : decode cX3_says 7 = .ok (.aload_n 0, 1) := dk_42 (dk_at dksX3_says_0 7 rfl rfl)
theorem dX3_says_8 : decode cX3_says 8 = .ok (.getfield 37, 3) := dk_180 0 37 (dk_at dksX3_says_0 8 rfl rfl)
theorem dX3_says_11 : decode cX3_says 11 = .ok (.iconst 2, 1) := dk_5 (dk_at dksX3_says_0 11 rfl rfl)
theorem dX3_says_12 : decode cX3_says 12 = .ok (.aload_n 0, 1) := dk_42 (dk_at dksX3_says_0 12 rfl rfl)
theorem dX3_says_13 : decode cX3_says 13 = .ok (.getfield 7, 3) := dk_180 0 7 (dk_at dksX3_says_0 13 rfl rfl)
theorem dX3_says_16 : decode cX3_says 16 = .ok (.iconst 4, 1) := dk_7 (dk_at dksX3_says_0 16 rfl rfl)
theorem dX3_says_17 : decode cX3_says 17 = .ok (.iload_n 2, 1) := dk_28 (dk_at dksX3_says_0 17 rfl rfl)
theorem dX3_says_18 : decode cX3_says 18 = .ok (.iadd, 1) := dk_96 (dk_at dksX3_says_0 18 rfl rfl)
theorem dX3_says_19 : decode cX3_says 19 = .ok (.iaload, 1) := dk_46 (dk_at dksX3_says_0 19 rfl rfl)
theorem dX3_says_20 : decode cX3_says 20 = .ok (.iastore, 1) := dk_79 (dk_at dksX3_says_0 20 rfl rfl)
theorem dX3_says_21 : decode cX3_says 21 = .ok (.aload_n 0, 1) := dk_42 (dk_at dksX3_says_0 21 rfl rfl)
theorem dX3_says_22 : decode cX3_says 22 = .ok (.getfield 37, 3) := dk_180 0 37 (dk_at dksX3_says_1 0 rfl rfl)
theorem dX3_says_25 : decode cX3_says 25 = .ok (.iconst 3, 1) := dk_6 (dk_at dksX3_says_1 3 rfl rfl)
theorem dX3_says_26 : decode cX3_says 26 = .ok (.aload_n 0, 1) := dk_42 (dk_at dksX3_says_1 4 rfl rfl)
theorem dX3_says_27 : decode cX3_says 27 = .ok (.getfield 7, 3) := dk_180 0 7 (dk_at dksX3_says_1 5 rfl rfl)
theorem dX3_says_30 : decode cX3_says 30 = .ok (.bipush 16, 2) := dk_16 16 (dk_at dksX3_says_1 8 rfl rfl)
theorem dX3_says_32 : decode cX3_says 32 = .ok (.iload_n 2, 1) := dk_28 (dk_at dksX3_says_1 10 rfl rfl)
theorem dX3_says_33 : decode cX3_says 33 = .ok (.iadd, 1) := dk_96 (dk_at dksX3_says_1 11 rfl rfl)
theorem dX3_says_34 : decode cX3_says 34 = .ok (.iaload, 1) := dk_46 (dk_at dksX3_says_1 12 rfl rfl)
theorem dX3_says_35 : decode cX3_says 35 = .ok (.iastore, 1) := dk_79 (dk_at dksX3_says_1 13 rfl rfl)
theorem dX3_says_36 : decode cX3_says 36 = .ok (.aload_n 0, 1) := dk_42 (dk_at dksX3_says_1 14 rfl rfl)
theorem dX3_says_37 : decode cX3_says 37 = .ok (.getfield 37, 3) := dk_180 0 37 (dk_at dksX3_says_1 15 rfl rfl)
theorem dX3_says_40 : decode cX3_says 40 = .ok (.iconst 4, 1) := dk_7 (dk_at dksX3_says_1 18 rfl rfl)
theorem dX3_says_41 : decode cX3_says 41 = .ok (.aload_n 0, 1) := dk_42 (dk_at dksX3_says_1 19 rfl rfl)
theorem dX3_says_42 : decode cX3_says 42 = .ok (.getfield 7, 3) := dk_180 0 7 (dk_at dksX3_says_1 20 rfl rfl)
theorem dX3_says_45 : decode cX3_says 45 = .ok (.bipush 28, 2) := dk_16 28 (dk_at dksX3_says_2 0 rfl rfl)
theorem dX3_says_47 : decode cX3_says 47 = .ok (.iload_n 2, 1) := dk_28 (dk_at dksX3_says_2 2 rfl rfl)
theorem dX3_says_48 : decode cX3_says 48 = .ok (.iadd, 1) := dk_96 (dk_at dksX3_says_2 3 rfl rfl)
theorem dX3_says_49 : decode cX3_says 49 = .ok (.iaload, 1) := dk_46 (dk_at dksX3_says_2 4 rfl rfl)
theorem dX3_says_50 : decode cX3_says 50 = .ok (.iastore, 1) := dk_79 (dk_at dksX3_says_2 5 rfl rfl)
theorem dX3_says_51 : decode cX3_says 51 = .ok (.aload_n 0, 1) := dk_42 (dk_at dksX3_says_2 6 rfl rfl)
theorem dX3_says_52 : decode cX3_says 52 = .ok (.getfield 37, 3) := dk_180 0 37 (dk_at dksX3_says_2 7 rfl rfl)
theorem dX3_says_55 : decode cX3_says 55 = .ok (.iconst 5, 1) := dk_8 (dk_at dksX3_says_2 10 rfl rfl)
theorem dX3_says_56 : decode cX3_says 56 = .ok (.aload_n 0, 1) := dk_42 (dk_at dksX3_says_2 11 rfl rfl)
theorem dX3_says_57 : decode cX3_says 57 = .ok (.getfield 7, 3) := dk_180 0 7 (dk_at dksX3_says_2 12 rfl rfl)
theorem dX3_says_60 : decode cX3_says 60 = .ok (.bipush 93, 2) := dk_16 93 (dk_at dksX3_says_2 15 rfl rfl)
theorem dX3_says_62 : decode cX3_says 62 = .ok (.iload_n 2, 1) := dk_28 (dk_at dksX3_says_2 17 rfl rfl)
theorem dX3_says_63 : decode cX3_says 63 = .ok (.iadd, 1) := dk_96 (dk_at dksX3_says_2 18 rfl rfl)
theorem dX3_says_64 : decode cX3_says 64 = .ok (.iaload, 1) := dk_46 (dk_at dksX3_says_2 19 rfl rfl)
theorem dX3_says_65 : decode cX3_says 65 = .ok (.iastore, 1) := dk_79 (dk_at dksX3_says_2 20 rfl rfl)
theorem dX3_says_66 : decode cX3_says 66 = .ok (.aload_n 0, 1) := dk_42 (dk_at dksX3_says_2 21 rfl rfl)
theorem dX3_says_67 : decode cX3_says 67 = .ok (.getfield 37, 3) := dk_180 0 37 (dk_at dksX3_says_3 0 rfl rfl)
theorem dX3_says_70 : decode cX3_says 70 = .ok (.bipush 6, 2) := dk_16 6 (dk_at dksX3_says_3 3 rfl rfl)
theorem dX3_says_72 : decode cX3_says 72 = .ok (.aload_n 0, 1) := dk_42 (dk_at dksX3_says_3 5 rfl rfl)
theorem dX3_says_73 : decode cX3_says 73 = .ok (.getfield 7, 3) := dk_180 0 7 (dk_at dksX3_says_3 6 rfl rfl)
theorem dX3_says_76 : decode cX3_says 76 = .ok (.iconst 0, 1) := dk_3 (dk_at dksX3_says_3 9 rfl rfl)
theorem dX3_says_77 : decode cX3_says 77 = .ok (.iaload, 1) := dk_46 (dk_at dksX3_says_3 10 rfl rfl)
theorem dX3_says_78 : decode cX3_says 78 = .ok (.iastore, 1) := dk_79 (dk_at dksX3_says_3 11 rfl rfl)
theorem dX3_says_79 : decode cX3_says 79 = .ok (.aload_n 0, 1) := dk_42 (dk_at dksX3_says_3 12 rfl rfl)
theorem dX3_says_80 : decode cX3_says 80 = .ok (.getfield 37, 3) := dk_180 0 37 (dk_at dksX3_says_3 13 rfl rfl)
theorem dX3_says_83 : decode cX3_says 83 = .ok (.bipush 7, 2) := dk_16 7 (dk_at dksX3_says_3 16 rfl rfl)
theorem dX3_says_85 : decode cX3_says 85 = .ok (.aload_n 0, 1) := dk_42 (dk_at dksX3_says_3 18 rfl rfl)
theorem dX3_says_86 : decode cX3_says 86 = .ok (.getfield 7, 3) := dk_180 0 7 (dk_at dksX3_says_3 19 rfl rfl)
theorem dX3_says_89 : decode cX3_says 89 = .ok (.bipush 88, 2) := dk_16 88 (dk_at dksX3_says_3 22 rfl rfl)
theorem dX3_says_91 : decode cX3_says 91 = .ok (.iaload, 1) := dk_46 (dk_at dksX3_says_4 0 rfl rfl)
theorem dX3_says_92 : decode cX3_says 92 = .ok (.iastore, 1) := dk_79 (dk_at dksX3_says_4 1 rfl rfl)
theorem dX3_says_93 : decode cX3_says 93 = .ok (.aload_n 0, 1) := dk_42 (dk_at dksX3_says_4 2 rfl rfl)
theorem dX3_says_94 : decode cX3_says 94 = .ok (.getfield 37, 3) := dk_180 0 37 (dk_at dksX3_says_4 3 rfl rfl)
theorem dX3_says_97 : decode cX3_says 97 = .ok (.bipush 8, 2) := dk_16 8 (dk_at dksX3_says_4 6 rfl rfl)
theorem dX3_says_99 : decode cX3_says 99 = .ok (.aload_n 0, 1) := dk_42 (dk_at dksX3_says_4 8 rfl rfl)
theorem dX3_says_100 : decode cX3_says 100 = .ok (.getfield 7, 3) := dk_180 0 7 (dk_at dksX3_says_4 9 rfl rfl)
theorem dX3_says_103 : decode cX3_says 103 = .ok (.bipush 64, 2) := dk_16 64 (dk_at dksX3_says_4 12 rfl rfl)
theorem dX3_says_105 : decode cX3_says 105 = .ok (.iload_n 2, 1) := dk_28 (dk_at dksX3_says_4 14 rfl rfl)
theorem dX3_says_106 : decode cX3_says 106 = .ok (.iadd, 1) := dk_96 (dk_at dksX3_says_4 15 rfl rfl)
theorem dX3_says_107 : decode cX3_says 107 = .ok (.iaload, 1) := dk_46 (dk_at dksX3_says_4 16 rfl rfl)
theorem dX3_says_108 : decode cX3_says 108 = .ok (.iastore, 1) := dk_79 (dk_at dksX3_says_4 17 rfl rfl)
theorem dX3_says_109 : decode cX3_says 109 = .ok (.aload_n 0, 1) := dk_42 (dk_at dksX3_says_4 18 rfl rfl)
theorem dX3_says_110 : decode cX3_says 110 = .ok (.getfield 37, 3) := dk_180 0 37 (dk_at dksX3_says_4 19 rfl rfl)
theorem dX3_says_113 : decode cX3_says 113 = .ok (.bipush 9, 2) := dk_16 9 (dk_at dksX3_says_4 22 rfl rfl)
theorem dX3_says_115 : decode cX3_says 115 = .ok (.aload_n 0, 1) := dk_42 (dk_at dksX3_says_5 0 rfl rfl)
theorem dX3_says_116 : decode cX3_says 116 = .ok (.iload_n 2, 1) := dk_28 (dk_at dksX3_says_5 1 rfl rfl)
theorem dX3_says_117 : decode cX3_says 117 = .ok (.invokevirtual 300, 3) := dk_182 1 44 (dk_at dksX3_says_5 2 rfl rfl)
theorem dX3_says_120 : decode cX3_says 120 = .ok (.iastore, 1) := dk_79 (dk_at dksX3_says_5 5 rfl rfl)
theorem dX3_says_121 : decode cX3_says 121 = .ok (.iconst 0, 1) := dk_3 (dk_at dksX3_says_5 6 rfl rfl)
theorem dX3_says_122 : decode cX3_says 122 = .ok (.istore 5, 2) := dk_54 5 (dk_at dksX3_says_5 7 rfl rfl)
theorem dX3_says_124 : decode cX3_says 124 = .ok (.iload 5, 2) := dk_21 5 (dk_at dksX3_says_5 9 rfl rfl)
theorem dX3_says_126 : decode cX3_says 126 = .ok (.aload_n 0, 1) := dk_42 (dk_at dksX3_says_5 11 rfl rfl)
theorem dX3_says_127 : decode cX3_says 127 = .ok (.getfield 7, 3) := dk_180 0 7 (dk_at dksX3_says_5 12 rfl rfl)
theorem dX3_says_130 : decode cX3_says 130 = .ok (.bipush 89, 2) := dk_16 89 (dk_at dksX3_says_5 15 rfl rfl)
theorem dX3_says_132 : decode cX3_says 132 = .ok (.iaload, 1) := dk_46 (dk_at dksX3_says_5 17 rfl rfl)
theorem dX3_says_133 : decode cX3_says 133 = .ok (.if_icmp .ge 67, 3) := dk_162 0 67 (dk_at dksX3_says_5 18 rfl rfl)
theorem dX3_says_136 : decode cX3_says 136 = .ok (.aload_n 0, 1) := dk_42 (dk_at dksX3_says_5 21 rfl rfl)
theorem dX3_says_137 : decode cX3_says 137 = .ok (.getfield 7, 3) := dk_180 0 7 (dk_at dksX3_says_6 0 rfl rfl)
theorem dX3_says_140 : decode cX3_says 140 = .ok (.sipush 889, 3) := dk_17 3 121 (dk_at dksX3_says_6 3 rfl rfl)
theorem dX3_says_143 : decode cX3_says 143 = .ok (.iload 5, 2) := dk_21 5 (dk_at dksX3_says_6 6 rfl rfl)
theorem dX3_says_145 : decode cX3_says 145 = .ok (.iadd, 1) := dk_96 (dk_at dksX3_says_6 8 rfl rfl)
theorem dX3_says_146 : decode cX3_says 146 = .ok (.iaload, 1) := dk_46 (dk_at dksX3_says_6 9 rfl rfl)
theorem dX3_says_147 : decode cX3_says 147 = .ok (.iload_n 1, 1) := dk_27 (dk_at dksX3_says_6 10 rfl rfl)
theorem dX3_says_148 : decode cX3_says 148 = .ok (.if_icmp .ne 46, 3) := dk_160 0 46 (dk_at dksX3_says_6 11 rfl rfl)
theorem dX3_says_151 : decode cX3_says 151 = .ok (.aload_n 0, 1) := dk_42 (dk_at dksX3_says_6 14 rfl rfl)
theorem dX3_says_152 : decode cX3_says 152 = .ok (.iload 5, 2) := dk_21 5 (dk_at dksX3_says_6 15 rfl rfl)
theorem dX3_says_154 : decode cX3_says 154 = .ok (.invokevirtual 303, 3) := dk_182 1 47 (dk_at dksX3_says_6 17 rfl rfl)
theorem dX3_says_157 : decode cX3_says 157 = .ok (.ifCond .eq 37, 3) := dk_153 0 37 (dk_at dksX3_says_6 20 rfl rfl)
theorem dX3_says_160 : decode cX3_says 160 = .ok (.aload_n 0, 1) := dk_42 (dk_at dksX3_says_6 23 rfl rfl)
theorem dX3_says_161 : decode cX3_says 161 = .ok (.iconst 0, 1) := dk_3 (dk_at dksX3_says_7 0 rfl rfl)
theorem dX3_says_162 : decode cX3_says 162 = .ok (.aload_n 0, 1) := dk_42 (dk_at dksX3_says_7 1 rfl rfl)
theorem dX3_says_163 : decode cX3_says 163 = .ok (.getfield 7, 3) := dk_180 0 7 (dk_at dksX3_says_7 2 rfl rfl)
theorem dX3_says_166 : decode cX3_says 166 = .ok (.sipush 841, 3) := dk_17 3 73 (dk_at dksX3_says_7 5 rfl rfl)
theorem dX3_says_169 : decode cX3_says 169 = .ok (.iload 5, 2) := dk_21 5 (dk_at dksX3_says_7 8 rfl rfl)
theorem dX3_says_171 : decode cX3_says 171 = .ok (.iadd, 1) := dk_96 (dk_at dksX3_says_7 10 rfl rfl)
theorem dX3_says_172 : decode cX3_says 172 = .ok (.iaload, 1) := dk_46 (dk_at dksX3_says_7 11 rfl rfl)
theorem dX3_says_173 : decode cX3_says 173 = .ok (.aload_n 0, 1) := dk_42 (dk_at dksX3_says_7 12 rfl rfl)
theorem dX3_says_174 : decode cX3_says 174 = .ok (.getfield 7, 3) := dk_180 0 7 (dk_at dksX3_says_7 13 rfl rfl)
theorem dX3_says_177 : decode cX3_says 177 = .ok (.sipush 857, 3) := dk_17 3 89 (dk_at dksX3_says_7 16 rfl rfl)
theorem dX3_says_180 : decode cX3_says 180 = .ok (.iload 5, 2) := dk_21 5 (dk_at dksX3_says_7 19 rfl rfl)
theorem dX3_says_182 : decode cX3_says 182 = .ok (.iadd, 1) := dk_96 (dk_at dksX3_says_7 21 rfl rfl)
theorem dX3_says_183 : decode cX3_says 183 = .ok (.iaload, 1) := dk_46 (dk_at dksX3_says_7 22 rfl rfl)
theorem dX3_says_184 : decode cX3_says 184 = .ok (.invokevirtual 285, 3) := dk_182 1 29 (dk_at dksX3_says_8 0 rfl rfl)
theorem dX3_says_187 : decode cX3_says 187 = .ok (.iconst 0, 1) := dk_3 (dk_at dksX3_says_8 3 rfl rfl)
theorem dX3_says_188 : decode cX3_says 188 = .ok (.iload 4, 2) := dk_21 4 (dk_at dksX3_says_8 4 rfl rfl)
theorem dX3_says_190 : decode cX3_says 190 = .ok (.invokestatic 306, 3) := dk_184 1 50 (dk_at dksX3_says_8 6 rfl rfl)
theorem dX3_says_193 : decode cX3_says 193 = .ok (.ireturn, 1) := dk_172 (dk_at dksX3_says_8 9 rfl rfl)
theorem dX3_says_194 : decode cX3_says 194 = .ok (.iinc 5 1, 3) := dk_132 5 1 (dk_at dksX3_says_8 10 rfl rfl)
theorem dX3_says_197 : decode cX3_says 197 = .ok (.goto (-73), 3) := dk_167 255 183 (dk_at dksX3_says_8 13 rfl rfl)
theorem dX3_says_200 : decode cX3_says 200 = .ok (.iload_n 3, 1) := dk_29 (dk_at dksX3_says_8 16 rfl rfl)
theorem dX3_says_201 : decode cX3_says 201 = .ok (.iconst 0, 1) := dk_3 (dk_at dksX3_says_8 17 rfl rfl)
theorem dX3_says_202 : decode cX3_says 202 = .ok (.iload 4, 2) := dk_21 4 (dk_at dksX3_says_8 18 rfl rfl)
theorem dX3_says_204 : decode cX3_says 204 = .ok (.invokestatic 306, 3) := dk_184 1 50 (dk_at dksX3_says_8 20 rfl rfl)
theorem dX3_says_207 : decode cX3_says 207 = .ok (.ireturn, 1) := dk_172 (dk_at dksX3_says_8 23 rfl rfl)
abbrev cX3_lacksOf : ByteArray := prog_17_method_61_code
def yX3_lacksOf : MethodName := ⟨RX3, "lacksOf", "(I)I"⟩
def dkwX3_lacksOf_4 : List UInt8 := [132, 5, 1, 167, 255, 228, 21, 4, 172]
abbrev dktX3_lacksOf_4 : List UInt8 := dkwX3_lacksOf_4 ++ []
def dkwX3_lacksOf_3 : List UInt8 := [163, 0, 28, 21, 4, 42, 21, 5, 182, 1, 41, 153, 0, 7, 3, 167, 0, 4, 4, 96, 54, 4]
abbrev dktX3_lacksOf_3 : List UInt8 := dkwX3_lacksOf_3 ++ dktX3_lacksOf_4
def dkwX3_lacksOf_2 : List UInt8 := [167, 0, 12, 42, 28, 42, 182, 1, 35, 182, 1, 38, 62, 3, 54, 4, 28, 54, 5, 21, 5, 29]
abbrev dktX3_lacksOf_2 : List UInt8 := dkwX3_lacksOf_2 ++ dktX3_lacksOf_3
def dkwX3_lacksOf_1 : List UInt8 := [167, 255, 241, 42, 27, 182, 1, 32, 154, 0, 7, 27, 154, 0, 15, 42, 27, 42, 182, 1, 35, 182, 1, 38]
abbrev dktX3_lacksOf_1 : List UInt8 := dkwX3_lacksOf_1 ++ dktX3_lacksOf_2
def dkwX3_lacksOf_0 : List UInt8 := [3, 27, 4, 100, 184, 0, 51, 61, 28, 158, 0, 17, 42, 28, 182, 1, 32, 154, 0, 9, 132, 2, 255]
abbrev dktX3_lacksOf_0 : List UInt8 := dkwX3_lacksOf_0 ++ dktX3_lacksOf_1
theorem dksX3_lacksOf_0 : cX3_lacksOf.data.toList.drop 0 = dktX3_lacksOf_0 := by decide +kernel
theorem dksX3_lacksOf_1 : cX3_lacksOf.data.toList.drop 23 = dktX3_lacksOf_1 := dk_seg dksX3_lacksOf_0 23 rfl rfl
theorem dksX3_lacksOf_2 : cX3_lacksOf.data.toList.drop 47 = dktX3_lacksOf_2 := dk_seg dksX3_lacksOf_1 24 rfl rfl
theorem dksX3_lacksOf_3 : cX3_lacksOf.data.toList.drop 69 = dktX3_lacksOf_3 := dk_seg dksX3_lacksOf_2 22 rfl rfl
theorem dksX3_lacksOf_4 : cX3_lacksOf.data.toList.drop 91 = dktX3_lacksOf_4 := dk_seg dksX3_lacksOf_3 22 rfl rfl
theorem dX3_lacksOf_0 : decode cX3_lacksOf 0 = .ok (.iconst 0, 1) := dk_3 (dk_at dksX3_lacksOf_0 0 rfl rfl)
theorem dX3_lacksOf_1 : decode cX3_lacksOf 1 = .ok (.iload_n 1, 1) := dk_27 (dk_at dksX3_lacksOf_0 1 rfl rfl)
theorem dX3_lacksOf_2 : decode cX3_lacksOf 2 = .ok (.iconst 1, 1) := dk_4 (dk_at dksX3_lacksOf_0 2 rfl rfl)
theorem dX3_lacksOf_3 : decode cX3_lacksOf 3 = .ok (.isub, 1) := dk_100 (dk_at dksX3_lacksOf_0 3 rfl rfl)
theorem dX3_lacksOf_4 : decode cX3_lacksOf 4 = .ok (.invokestatic 51, 3) := dk_184 0 51 (dk_at dksX3_lacksOf_0 4 rfl rfl)
theorem dX3_lacksOf_7 : decode cX3_lacksOf 7 = .ok (.istore_n 2, 1) := dk_61 (dk_at dksX3_lacksOf_0 7 rfl rfl)
theorem dX3_lacksOf_8 : decode cX3_lacksOf 8 = .ok (.iload_n 2, 1) := dk_28 (dk_at dksX3_lacksOf_0 8 rfl rfl)
theorem dX3_lacksOf_9 : decode cX3_lacksOf 9 = .ok (.ifCond .le 17, 3) := dk_158 0 17 (dk_at dksX3_lacksOf_0 9 rfl rfl)
theorem dX3_lacksOf_12 : decode cX3_lacksOf 12 = .ok (.aload_n 0, 1) := dk_42 (dk_at dksX3_lacksOf_0 12 rfl rfl)
theorem dX3_lacksOf_13 : decode cX3_lacksOf 13 = .ok (.iload_n 2, 1) := dk_28 (dk_at dksX3_lacksOf_0 13 rfl rfl)
theorem dX3_lacksOf_14 : decode cX3_lacksOf 14 = .ok (.invokevirtual 288, 3) := dk_182 1 32 (dk_at dksX3_lacksOf_0 14 rfl rfl)
theorem dX3_lacksOf_17 : decode cX3_lacksOf 17 = .ok (.ifCond .ne 9, 3) := dk_154 0 9 (dk_at dksX3_lacksOf_0 17 rfl rfl)
theorem dX3_lacksOf_20 : decode cX3_lacksOf 20 = .ok (.iinc 2 (-1), 3) := dk_132 2 255 (dk_at dksX3_lacksOf_0 20 rfl rfl)
theorem dX3_lacksOf_23 : decode cX3_lacksOf 23 = .ok (.goto (-15), 3) := dk_167 255 241 (dk_at dksX3_lacksOf_1 0 rfl rfl)
theorem dX3_lacksOf_26 : decode cX3_lacksOf 26 = .ok (.aload_n 0, 1) := dk_42 (dk_at dksX3_lacksOf_1 3 rfl rfl)
theorem dX3_lacksOf_27 : decode cX3_lacksOf 27 = .ok (.iload_n 1, 1) := dk_27 (dk_at dksX3_lacksOf_1 4 rfl rfl)
theorem dX3_lacksOf_28 : decode cX3_lacksOf 28 = .ok (.invokevirtual 288, 3) := dk_182 1 32 (dk_at dksX3_lacksOf_1 5 rfl rfl)
theorem dX3_lacksOf_31 : decode cX3_lacksOf 31 = .ok (.ifCond .ne 7, 3) := dk_154 0 7 (dk_at dksX3_lacksOf_1 8 rfl rfl)
theorem dX3_lacksOf_34 : decode cX3_lacksOf 34 = .ok (.iload_n 1, 1) := dk_27 (dk_at dksX3_lacksOf_1 11 rfl rfl)
theorem dX3_lacksOf_35 : decode cX3_lacksOf 35 = .ok (.ifCond .ne 15, 3) := dk_154 0 15 (dk_at dksX3_lacksOf_1 12 rfl rfl)
theorem dX3_lacksOf_38 : decode cX3_lacksOf 38 = .ok (.aload_n 0, 1) := dk_42 (dk_at dksX3_lacksOf_1 15 rfl rfl)
theorem dX3_lacksOf_39 : decode cX3_lacksOf 39 = .ok (.iload_n 1, 1) := dk_27 (dk_at dksX3_lacksOf_1 16 rfl rfl)
theorem dX3_lacksOf_40 : decode cX3_lacksOf 40 = .ok (.aload_n 0, 1) := dk_42 (dk_at dksX3_lacksOf_1 17 rfl rfl)
theorem dX3_lacksOf_41 : decode cX3_lacksOf 41 = .ok (.invokevirtual 291, 3) := dk_182 1 35 (dk_at dksX3_lacksOf_1 18 rfl rfl)
theorem dX3_lacksOf_44 : decode cX3_lacksOf 44 = .ok (.invokevirtual 294, 3) := dk_182 1 38 (dk_at dksX3_lacksOf_1 21 rfl rfl)
theorem dX3_lacksOf_47 : decode cX3_lacksOf 47 = .ok (.goto 12, 3) := dk_167 0 12 (dk_at dksX3_lacksOf_2 0 rfl rfl)
theorem dX3_lacksOf_50 : decode cX3_lacksOf 50 = .ok (.aload_n 0, 1) := dk_42 (dk_at dksX3_lacksOf_2 3 rfl rfl)
theorem dX3_lacksOf_51 : decode cX3_lacksOf 51 = .ok (.iload_n 2, 1) := dk_28 (dk_at dksX3_lacksOf_2 4 rfl rfl)
theorem dX3_lacksOf_52 : decode cX3_lacksOf 52 = .ok (.aload_n 0, 1) := dk_42 (dk_at dksX3_lacksOf_2 5 rfl rfl)
theorem dX3_lacksOf_53 : decode cX3_lacksOf 53 = .ok (.invokevirtual 291, 3) := dk_182 1 35 (dk_at dksX3_lacksOf_2 6 rfl rfl)
theorem dX3_lacksOf_56 : decode cX3_lacksOf 56 = .ok (.invokevirtual 294, 3) := dk_182 1 38 (dk_at dksX3_lacksOf_2 9 rfl rfl)
theorem dX3_lacksOf_59 : decode cX3_lacksOf 59 = .ok (.istore_n 3, 1) := dk_62 (dk_at dksX3_lacksOf_2 12 rfl rfl)
theorem dX3_lacksOf_60 : decode cX3_lacksOf 60 = .ok (.iconst 0, 1) := dk_3 (dk_at dksX3_lacksOf_2 13 rfl rfl)
theorem dX3_lacksOf_61 : decode cX3_lacksOf 61 = .ok (.istore 4, 2) := dk_54 4 (dk_at dksX3_lacksOf_2 14 rfl rfl)
theorem dX3_lacksOf_63 : decode cX3_lacksOf 63 = .ok (.iload_n 2, 1) := dk_28 (dk_at dksX3_lacksOf_2 16 rfl rfl)
theorem dX3_lacksOf_64 : decode cX3_lacksOf 64 = .ok (.istore 5, 2) := dk_54 5 (dk_at dksX3_lacksOf_2 17 rfl rfl)
theorem dX3_lacksOf_66 : decode cX3_lacksOf 66 = .ok (.iload 5, 2) := dk_21 5 (dk_at dksX3_lacksOf_2 19 rfl rfl)
theorem dX3_lacksOf_68 : decode cX3_lacksOf 68 = .ok (.iload_n 3, 1) := dk_29 (dk_at dksX3_lacksOf_2 21 rfl rfl)
theorem dX3_lacksOf_69 : decode cX3_lacksOf 69 = .ok (.if_icmp .gt 28, 3) := dk_163 0 28 (dk_at dksX3_lacksOf_3 0 rfl rfl)
theorem dX3_lacksOf_72 : decode cX3_lacksOf 72 = .ok (.iload 4, 2) := dk_21 4 (dk_at dksX3_lacksOf_3 3 rfl rfl)
theorem dX3_lacksOf_74 : decode cX3_lacksOf 74 = .ok (.aload_n 0, 1) := dk_42 (dk_at dksX3_lacksOf_3 5 rfl rfl)
theorem dX3_lacksOf_75 : decode cX3_lacksOf 75 = .ok (.iload 5, 2) := dk_21 5 (dk_at dksX3_lacksOf_3 6 rfl rfl)
theorem dX3_lacksOf_77 : decode cX3_lacksOf 77 = .ok (.invokevirtual 297, 3) := dk_182 1 41 (dk_at dksX3_lacksOf_3 8 rfl rfl)
theorem dX3_lacksOf_80 : decode cX3_lacksOf 80 = .ok (.ifCond .eq 7, 3) := dk_153 0 7 (dk_at dksX3_lacksOf_3 11 rfl rfl)
theorem dX3_lacksOf_83 : decode cX3_lacksOf 83 = .ok (.iconst 0, 1) := dk_3 (dk_at dksX3_lacksOf_3 14 rfl rfl)
theorem dX3_lacksOf_84 : decode cX3_lacksOf 84 = .ok (.goto 4, 3) := dk_167 0 4 (dk_at dksX3_lacksOf_3 15 rfl rfl)
theorem dX3_lacksOf_87 : decode cX3_lacksOf 87 = .ok (.iconst 1, 1) := dk_4 (dk_at dksX3_lacksOf_3 18 rfl rfl)
theorem dX3_lacksOf_88 : decode cX3_lacksOf 88 = .ok (.iadd, 1) := dk_96 (dk_at dksX3_lacksOf_3 19 rfl rfl)
theorem dX3_lacksOf_89 : decode cX3_lacksOf 89 = .ok (.istore 4, 2) := dk_54 4 (dk_at dksX3_lacksOf_3 20 rfl rfl)
theorem dX3_lacksOf_91 : decode cX3_lacksOf 91 = .ok (.iinc 5 1, 3) := dk_132 5 1 (dk_at dksX3_lacksOf_4 0 rfl rfl)
theorem dX3_lacksOf_94 : decode cX3_lacksOf 94 = .ok (.goto (-28), 3) := dk_167 255 228 (dk_at dksX3_lacksOf_4 3 rfl rfl)
theorem dX3_lacksOf_97 : decode cX3_lacksOf 97 = .ok (.iload 4, 2) := dk_21 4 (dk_at dksX3_lacksOf_4 6 rfl rfl)
theorem dX3_lacksOf_99 : decode cX3_lacksOf 99 = .ok (.ireturn, 1) := dk_172 (dk_at dksX3_lacksOf_4 8 rfl rfl)
abbrev cX3_greater : ByteArray := prog_17_method_4_code
def yX3_greater : MethodName := ⟨RX3, "greater", "(II)I"⟩
def dkwX3_greater_0 : List UInt8 := [26, 27, 164, 0, 7, 26, 167, 0, 4, 27, 172]
abbrev dktX3_greater_0 : List UInt8 := dkwX3_greater_0 ++ []
theorem dksX3_greater_0 : cX3_greater.data.toList.drop 0 = dktX3_greater_0 := by decide +kernel
theorem dX3_greater_0 : decode cX3_greater 0 = .ok (.iload_n 0, 1) := dk_26 (dk_at dksX3_greater_0 0 rfl rfl)
theorem dX3_greater_1 : decode cX3_greater 1 = .ok (.iload_n 1, 1) := dk_27 (dk_at dksX3_greater_0 1 rfl rfl)
theorem dX3_greater_2 : decode cX3_greater 2 = .ok (.if_icmp .le 7, 3) := dk_164 0 7 (dk_at dksX3_greater_0 2 rfl rfl)
theorem dX3_greater_5 : decode cX3_greater 5 = .ok (.iload_n 0, 1) := dk_26 (dk_at dksX3_greater_0 5 rfl rfl)
theorem dX3_greater_6 : decode cX3_greater 6 = .ok (.goto 4, 3) := dk_167 0 4 (dk_at dksX3_greater_0 6 rfl rfl)
theorem dX3_greater_9 : decode cX3_greater 9 = .ok (.iload_n 1, 1) := dk_27 (dk_at dksX3_greater_0 9 rfl rfl)
theorem dX3_greater_10 : decode cX3_greater 10 = .ok (.ireturn, 1) := dk_172 (dk_at dksX3_greater_0 10 rfl rfl)
abbrev cX3_isBridged : ByteArray := prog_17_method_9_code
def yX3_isBridged : MethodName := ⟨RX3, "isBridged", "(I)Z"⟩
def dkwX3_isBridged_0 : List UInt8 := [42, 180, 0, 7, 16, 64, 27, 96, 46, 4, 160, 0, 7, 4, 167, 0, 4, 3, 172]
abbrev dktX3_isBridged_0 : List UInt8 := dkwX3_isBridged_0 ++ []
theorem dksX3_isBridged_0 : cX3_isBridged.data.toList.drop 0 = dktX3_isBridged_0 := by decide +kernel
theorem dX3_isBridged_0 : decode cX3_isBridged 0 = .ok (.aload_n 0, 1) := dk_42 (dk_at dksX3_isBridged_0 0 rfl rfl)
theorem dX3_isBridged_1 : decode cX3_isBridged 1 = .ok (.getfield 7, 3) := dk_180 0 7 (dk_at dksX3_isBridged_0 1 rfl rfl)
theorem dX3_isBridged_4 : decode cX3_isBridged 4 = .ok (.bipush 64, 2) := dk_16 64 (dk_at dksX3_isBridged_0 4 rfl rfl)
theorem dX3_isBridged_6 : decode cX3_isBridged 6 = .ok (.iload_n 1, 1) := dk_27 (dk_at dksX3_isBridged_0 6 rfl rfl)
theorem dX3_isBridged_7 : decode cX3_isBridged 7 = .ok (.iadd, 1) := dk_96 (dk_at dksX3_isBridged_0 7 rfl rfl)
theorem dX3_isBridged_8 : decode cX3_isBridged 8 = .ok (.iaload, 1) := dk_46 (dk_at dksX3_isBridged_0 8 rfl rfl)
theorem dX3_isBridged_9 : decode cX3_isBridged 9 = .ok (.iconst 1, 1) := dk_4 (dk_at dksX3_isBridged_0 9 rfl rfl)
theorem dX3_isBridged_10 : decode cX3_isBridged 10 = .ok (.if_icmp .ne 7, 3) := dk_160 0 7 (dk_at dksX3_isBridged_0 10 rfl rfl)
theorem dX3_isBridged_13 : decode cX3_isBridged 13 = .ok (.iconst 1, 1) := dk_4 (dk_at dksX3_isBridged_0 13 rfl rfl)
theorem dX3_isBridged_14 : decode cX3_isBridged 14 = .ok (.goto 4, 3) := dk_167 0 4 (dk_at dksX3_isBridged_0 14 rfl rfl)
theorem dX3_isBridged_17 : decode cX3_isBridged 17 = .ok (.iconst 0, 1) := dk_3 (dk_at dksX3_isBridged_0 17 rfl rfl)
theorem dX3_isBridged_18 : decode cX3_isBridged 18 = .ok (.ireturn, 1) := dk_172 (dk_at dksX3_isBridged_0 18 rfl rfl)
abbrev cX3_bridgedOnes : ByteArray := prog_17_method_60_code
def yX3_bridgedOnes : MethodName := ⟨RX3, "bridgedOnes", "()I"⟩
def dkwX3_bridgedOnes_1 : List UInt8 := [4, 28, 120, 167, 0, 4, 3, 128, 60, 132, 2, 1, 167, 255, 224, 27, 172]
abbrev dktX3_bridgedOnes_1 : List UInt8 := dkwX3_bridgedOnes_1 ++ []
def dkwX3_bridgedOnes_0 : List UInt8 := [3, 60, 3, 61, 28, 42, 180, 0, 7, 16, 88, 46, 162, 0, 27, 27, 42, 28, 182, 1, 32, 153, 0, 9]
abbrev dktX3_bridgedOnes_0 : List UInt8 := dkwX3_bridgedOnes_0 ++ dktX3_bridgedOnes_1
theorem dksX3_bridgedOnes_0 : cX3_bridgedOnes.data.toList.drop 0 = dktX3_bridgedOnes_0 := by decide +kernel
theorem dksX3_bridgedOnes_1 : cX3_bridgedOnes.data.toList.drop 24 = dktX3_bridgedOnes_1 := dk_seg dksX3_bridgedOnes_0 24 rfl rfl
theorem dX3_bridgedOnes_0 : decode cX3_bridgedOnes 0 = .ok (.iconst 0, 1) := dk_3 (dk_at dksX3_bridgedOnes_0 0 rfl rfl)
theorem dX3_bridgedOnes_1 : decode cX3_bridgedOnes 1 = .ok (.istore_n 1, 1) := dk_60 (dk_at dksX3_bridgedOnes_0 1 rfl rfl)
theorem dX3_bridgedOnes_2 : decode cX3_bridgedOnes 2 = .ok (.iconst 0, 1) := dk_3 (dk_at dksX3_bridgedOnes_0 2 rfl rfl)
theorem dX3_bridgedOnes_3 : decode cX3_bridgedOnes 3 = .ok (.istore_n 2, 1) := dk_61 (dk_at dksX3_bridgedOnes_0 3 rfl rfl)
theorem dX3_bridgedOnes_4 : decode cX3_bridgedOnes 4 = .ok (.iload_n 2, 1) := dk_28 (dk_at dksX3_bridgedOnes_0 4 rfl rfl)
theorem dX3_bridgedOnes_5 : decode cX3_bridgedOnes 5 = .ok (.aload_n 0, 1) := dk_42 (dk_at dksX3_bridgedOnes_0 5 rfl rfl)
theorem dX3_bridgedOnes_6 : decode cX3_bridgedOnes 6 = .ok (.getfield 7, 3) := dk_180 0 7 (dk_at dksX3_bridgedOnes_0 6 rfl rfl)
theorem dX3_bridgedOnes_9 : decode cX3_bridgedOnes 9 = .ok (.bipush 88, 2) := dk_16 88 (dk_at dksX3_bridgedOnes_0 9 rfl rfl)
theorem dX3_bridgedOnes_11 : decode cX3_bridgedOnes 11 = .ok (.iaload, 1) := dk_46 (dk_at dksX3_bridgedOnes_0 11 rfl rfl)
theorem dX3_bridgedOnes_12 : decode cX3_bridgedOnes 12 = .ok (.if_icmp .ge 27, 3) := dk_162 0 27 (dk_at dksX3_bridgedOnes_0 12 rfl rfl)
theorem dX3_bridgedOnes_15 : decode cX3_bridgedOnes 15 = .ok (.iload_n 1, 1) := dk_27 (dk_at dksX3_bridgedOnes_0 15 rfl rfl)
theorem dX3_bridgedOnes_16 : decode cX3_bridgedOnes 16 = .ok (.aload_n 0, 1) := dk_42 (dk_at dksX3_bridgedOnes_0 16 rfl rfl)
theorem dX3_bridgedOnes_17 : decode cX3_bridgedOnes 17 = .ok (.iload_n 2, 1) := dk_28 (dk_at dksX3_bridgedOnes_0 17 rfl rfl)
theorem dX3_bridgedOnes_18 : decode cX3_bridgedOnes 18 = .ok (.invokevirtual 288, 3) := dk_182 1 32 (dk_at dksX3_bridgedOnes_0 18 rfl rfl)
theorem dX3_bridgedOnes_21 : decode cX3_bridgedOnes 21 = .ok (.ifCond .eq 9, 3) := dk_153 0 9 (dk_at dksX3_bridgedOnes_0 21 rfl rfl)
theorem dX3_bridgedOnes_24 : decode cX3_bridgedOnes 24 = .ok (.iconst 1, 1) := dk_4 (dk_at dksX3_bridgedOnes_1 0 rfl rfl)
theorem dX3_bridgedOnes_25 : decode cX3_bridgedOnes 25 = .ok (.iload_n 2, 1) := dk_28 (dk_at dksX3_bridgedOnes_1 1 rfl rfl)
theorem dX3_bridgedOnes_26 : decode cX3_bridgedOnes 26 = .ok (.ishl, 1) := dk_120 (dk_at dksX3_bridgedOnes_1 2 rfl rfl)
theorem dX3_bridgedOnes_27 : decode cX3_bridgedOnes 27 = .ok (.goto 4, 3) := dk_167 0 4 (dk_at dksX3_bridgedOnes_1 3 rfl rfl)
theorem dX3_bridgedOnes_30 : decode cX3_bridgedOnes 30 = .ok (.iconst 0, 1) := dk_3 (dk_at dksX3_bridgedOnes_1 6 rfl rfl)
theorem dX3_bridgedOnes_31 : decode cX3_bridgedOnes 31 = .ok (.ior, 1) := dk_128 (dk_at dksX3_bridgedOnes_1 7 rfl rfl)
theorem dX3_bridgedOnes_32 : decode cX3_bridgedOnes 32 = .ok (.istore_n 1, 1) := dk_60 (dk_at dksX3_bridgedOnes_1 8 rfl rfl)
theorem dX3_bridgedOnes_33 : decode cX3_bridgedOnes 33 = .ok (.iinc 2 1, 3) := dk_132 2 1 (dk_at dksX3_bridgedOnes_1 9 rfl rfl)
theorem dX3_bridgedOnes_36 : decode cX3_bridgedOnes 36 = .ok (.goto (-32), 3) := dk_167 255 224 (dk_at dksX3_bridgedOnes_1 12 rfl rfl)
theorem dX3_bridgedOnes_39 : decode cX3_bridgedOnes 39 = .ok (.iload_n 1, 1) := dk_27 (dk_at dksX3_bridgedOnes_1 15 rfl rfl)
theorem dX3_bridgedOnes_40 : decode cX3_bridgedOnes 40 = .ok (.ireturn, 1) := dk_172 (dk_at dksX3_bridgedOnes_1 16 rfl rfl)
abbrev cX3_endOf : ByteArray := prog_17_method_59_code
def yX3_endOf : MethodName := ⟨RX3, "endOf", "(II)I"⟩
def dkwX3_endOf_1 : List UInt8 := [154, 0, 9, 132, 3, 1, 167, 255, 232, 29, 42, 180, 0, 7, 16, 88, 46, 4, 100, 184, 0, 47, 172]
abbrev dktX3_endOf_1 : List UInt8 := dkwX3_endOf_1 ++ []
def dkwX3_endOf_0 : List UInt8 := [27, 4, 96, 62, 29, 42, 180, 0, 7, 16, 88, 46, 4, 100, 162, 0, 17, 28, 29, 122, 4, 126]
abbrev dktX3_endOf_0 : List UInt8 := dkwX3_endOf_0 ++ dktX3_endOf_1
theorem dksX3_endOf_0 : cX3_endOf.data.toList.drop 0 = dktX3_endOf_0 := by decide +kernel
theorem dksX3_endOf_1 : cX3_endOf.data.toList.drop 22 = dktX3_endOf_1 := dk_seg dksX3_endOf_0 22 rfl rfl
theorem dX3_endOf_0 : decode cX3_endOf 0 = .ok (.iload_n 1, 1) := dk_27 (dk_at dksX3_endOf_0 0 rfl rfl)
theorem dX3_endOf_1 : decode cX3_endOf 1 = .ok (.iconst 1, 1) := dk_4 (dk_at dksX3_endOf_0 1 rfl rfl)
theorem dX3_endOf_2 : decode cX3_endOf 2 = .ok (.iadd, 1) := dk_96 (dk_at dksX3_endOf_0 2 rfl rfl)
theorem dX3_endOf_3 : decode cX3_endOf 3 = .ok (.istore_n 3, 1) := dk_62 (dk_at dksX3_endOf_0 3 rfl rfl)
theorem dX3_endOf_4 : decode cX3_endOf 4 = .ok (.iload_n 3, 1) := dk_29 (dk_at dksX3_endOf_0 4 rfl rfl)
theorem dX3_endOf_5 : decode cX3_endOf 5 = .ok (.aload_n 0, 1) := dk_42 (dk_at dksX3_endOf_0 5 rfl rfl)
theorem dX3_endOf_6 : decode cX3_endOf 6 = .ok (.getfield 7, 3) := dk_180 0 7 (dk_at dksX3_endOf_0 6 rfl rfl)
theorem dX3_endOf_9 : decode cX3_endOf 9 = .ok (.bipush 88, 2) := dk_16 88 (dk_at dksX3_endOf_0 9 rfl rfl)
theorem dX3_endOf_11 : decode cX3_endOf 11 = .ok (.iaload, 1) := dk_46 (dk_at dksX3_endOf_0 11 rfl rfl)
theorem dX3_endOf_12 : decode cX3_endOf 12 = .ok (.iconst 1, 1) := dk_4 (dk_at dksX3_endOf_0 12 rfl rfl)
theorem dX3_endOf_13 : decode cX3_endOf 13 = .ok (.isub, 1) := dk_100 (dk_at dksX3_endOf_0 13 rfl rfl)
theorem dX3_endOf_14 : decode cX3_endOf 14 = .ok (.if_icmp .ge 17, 3) := dk_162 0 17 (dk_at dksX3_endOf_0 14 rfl rfl)
theorem dX3_endOf_17 : decode cX3_endOf 17 = .ok (.iload_n 2, 1) := dk_28 (dk_at dksX3_endOf_0 17 rfl rfl)
theorem dX3_endOf_18 : decode cX3_endOf 18 = .ok (.iload_n 3, 1) := dk_29 (dk_at dksX3_endOf_0 18 rfl rfl)
theorem dX3_endOf_19 : decode cX3_endOf 19 = .ok (.ishr, 1) := dk_122 (dk_at dksX3_endOf_0 19 rfl rfl)
theorem dX3_endOf_20 : decode cX3_endOf 20 = .ok (.iconst 1, 1) := dk_4 (dk_at dksX3_endOf_0 20 rfl rfl)
theorem dX3_endOf_21 : decode cX3_endOf 21 = .ok (.iand, 1) := dk_126 (dk_at dksX3_endOf_0 21 rfl rfl)
theorem dX3_endOf_22 : decode cX3_endOf 22 = .ok (.ifCond .ne 9, 3) := dk_154 0 9 (dk_at dksX3_endOf_1 0 rfl rfl)
theorem dX3_endOf_25 : decode cX3_endOf 25 = .ok (.iinc 3 1, 3) := dk_132 3 1 (dk_at dksX3_endOf_1 3 rfl rfl)
theorem dX3_endOf_28 : decode cX3_endOf 28 = .ok (.goto (-24), 3) := dk_167 255 232 (dk_at dksX3_endOf_1 6 rfl rfl)
theorem dX3_endOf_31 : decode cX3_endOf 31 = .ok (.iload_n 3, 1) := dk_29 (dk_at dksX3_endOf_1 9 rfl rfl)
theorem dX3_endOf_32 : decode cX3_endOf 32 = .ok (.aload_n 0, 1) := dk_42 (dk_at dksX3_endOf_1 10 rfl rfl)
theorem dX3_endOf_33 : decode cX3_endOf 33 = .ok (.getfield 7, 3) := dk_180 0 7 (dk_at dksX3_endOf_1 11 rfl rfl)
theorem dX3_endOf_36 : decode cX3_endOf 36 = .ok (.bipush 88, 2) := dk_16 88 (dk_at dksX3_endOf_1 14 rfl rfl)
theorem dX3_endOf_38 : decode cX3_endOf 38 = .ok (.iaload, 1) := dk_46 (dk_at dksX3_endOf_1 16 rfl rfl)
theorem dX3_endOf_39 : decode cX3_endOf 39 = .ok (.iconst 1, 1) := dk_4 (dk_at dksX3_endOf_1 17 rfl rfl)
theorem dX3_endOf_40 : decode cX3_endOf 40 = .ok (.isub, 1) := dk_100 (dk_at dksX3_endOf_1 18 rfl rfl)
theorem dX3_endOf_41 : decode cX3_endOf 41 = .ok (.invokestatic 47, 3) := dk_184 0 47 (dk_at dksX3_endOf_1 19 rfl rfl)
theorem dX3_endOf_44 : decode cX3_endOf 44 = .ok (.ireturn, 1) := dk_172 (dk_at dksX3_endOf_1 22 rfl rfl)
abbrev cX3_lesser : ByteArray := prog_17_method_3_code
def yX3_lesser : MethodName := ⟨RX3, "lesser", "(II)I"⟩
def dkwX3_lesser_0 : List UInt8 := [26, 27, 162, 0, 7, 26, 167, 0, 4, 27, 172]
abbrev dktX3_lesser_0 : List UInt8 := dkwX3_lesser_0 ++ []
theorem dksX3_lesser_0 : cX3_lesser.data.toList.drop 0 = dktX3_lesser_0 := by decide +kernel
theorem dX3_lesser_0 : decode cX3_lesser 0 = .ok (.iload_n 0, 1) := dk_26 (dk_at dksX3_lesser_0 0 rfl rfl)
theorem dX3_lesser_1 : decode cX3_lesser 1 = .ok (.iload_n 1, 1) := dk_27 (dk_at dksX3_lesser_0 1 rfl rfl)
theorem dX3_lesser_2 : decode cX3_lesser 2 = .ok (.if_icmp .ge 7, 3) := dk_162 0 7 (dk_at dksX3_lesser_0 2 rfl rfl)
theorem dX3_lesser_5 : decode cX3_lesser 5 = .ok (.iload_n 0, 1) := dk_26 (dk_at dksX3_lesser_0 5 rfl rfl)
theorem dX3_lesser_6 : decode cX3_lesser 6 = .ok (.goto 4, 3) := dk_167 0 4 (dk_at dksX3_lesser_0 6 rfl rfl)
theorem dX3_lesser_9 : decode cX3_lesser 9 = .ok (.iload_n 1, 1) := dk_27 (dk_at dksX3_lesser_0 9 rfl rfl)
theorem dX3_lesser_10 : decode cX3_lesser 10 = .ok (.ireturn, 1) := dk_172 (dk_at dksX3_lesser_0 10 rfl rfl)
abbrev cX3_isReady : ByteArray := prog_17_method_7_code
def yX3_isReady : MethodName := ⟨RX3, "isReady", "(I)Z"⟩
def dkwX3_isReady_0 : List UInt8 := [42, 180, 0, 7, 16, 40, 27, 96, 46, 4, 160, 0, 7, 4, 167, 0, 4, 3, 172]
abbrev dktX3_isReady_0 : List UInt8 := dkwX3_isReady_0 ++ []
theorem dksX3_isReady_0 : cX3_isReady.data.toList.drop 0 = dktX3_isReady_0 := by decide +kernel
theorem dX3_isReady_0 : decode cX3_isReady 0 = .ok (.aload_n 0, 1) := dk_42 (dk_at dksX3_isReady_0 0 rfl rfl)
theorem dX3_isReady_1 : decode cX3_isReady 1 = .ok (.getfield 7, 3) := dk_180 0 7 (dk_at dksX3_isReady_0 1 rfl rfl)
theorem dX3_isReady_4 : decode cX3_isReady 4 = .ok (.bipush 40, 2) := dk_16 40 (dk_at dksX3_isReady_0 4 rfl rfl)
theorem dX3_isReady_6 : decode cX3_isReady 6 = .ok (.iload_n 1, 1) := dk_27 (dk_at dksX3_isReady_0 6 rfl rfl)
theorem dX3_isReady_7 : decode cX3_isReady 7 = .ok (.iadd, 1) := dk_96 (dk_at dksX3_isReady_0 7 rfl rfl)
theorem dX3_isReady_8 : decode cX3_isReady 8 = .ok (.iaload, 1) := dk_46 (dk_at dksX3_isReady_0 8 rfl rfl)
theorem dX3_isReady_9 : decode cX3_isReady 9 = .ok (.iconst 1, 1) := dk_4 (dk_at dksX3_isReady_0 9 rfl rfl)
theorem dX3_isReady_10 : decode cX3_isReady 10 = .ok (.if_icmp .ne 7, 3) := dk_160 0 7 (dk_at dksX3_isReady_0 10 rfl rfl)
theorem dX3_isReady_13 : decode cX3_isReady 13 = .ok (.iconst 1, 1) := dk_4 (dk_at dksX3_isReady_0 13 rfl rfl)
theorem dX3_isReady_14 : decode cX3_isReady 14 = .ok (.goto 4, 3) := dk_167 0 4 (dk_at dksX3_isReady_0 14 rfl rfl)
theorem dX3_isReady_17 : decode cX3_isReady 17 = .ok (.iconst 0, 1) := dk_3 (dk_at dksX3_isReady_0 17 rfl rfl)
theorem dX3_isReady_18 : decode cX3_isReady 18 = .ok (.ireturn, 1) := dk_172 (dk_at dksX3_isReady_0 18 rfl rfl)
abbrev cX3_isSo : ByteArray := prog_17_method_58_code
def yX3_isSo : MethodName := ⟨RX3, "isSo", "(I)Z"⟩
def dkwX3_isSo_2 : List UInt8 := [4, 160, 0, 7, 4, 167, 0, 4, 3, 172]
abbrev dktX3_isSo_2 : List UInt8 := dkwX3_isSo_2 ++ []
def dkwX3_isSo_1 : List UInt8 := [3, 42, 180, 0, 7, 17, 3, 89, 27, 96, 46, 42, 180, 0, 7, 17, 3, 105, 27, 96, 46, 182, 1, 29]
abbrev dktX3_isSo_1 : List UInt8 := dkwX3_isSo_1 ++ dktX3_isSo_2
def dkwX3_isSo_0 : List UInt8 := [42, 180, 0, 7, 17, 3, 105, 27, 96, 46, 42, 180, 0, 7, 17, 3, 89, 27, 96, 46, 159, 0, 32, 42]
abbrev dktX3_isSo_0 : List UInt8 := dkwX3_isSo_0 ++ dktX3_isSo_1
theorem dksX3_isSo_0 : cX3_isSo.data.toList.drop 0 = dktX3_isSo_0 := by decide +kernel
theorem dksX3_isSo_1 : cX3_isSo.data.toList.drop 24 = dktX3_isSo_1 := dk_seg dksX3_isSo_0 24 rfl rfl
theorem dksX3_isSo_2 : cX3_isSo.data.toList.drop 48 = dktX3_isSo_2 := dk_seg dksX3_isSo_1 24 rfl rfl
theorem dX3_isSo_0 : decode cX3_isSo 0 = .ok (.aload_n 0, 1) := dk_42 (dk_at dksX3_isSo_0 0 rfl rfl)
theorem dX3_isSo_1 : decode cX3_isSo 1 = .ok (.getfield 7, 3) := dk_180 0 7 (dk_at dksX3_isSo_0 1 rfl rfl)
theorem dX3_isSo_4 : decode cX3_isSo 4 = .ok (.sipush 873, 3) := dk_17 3 105 (dk_at dksX3_isSo_0 4 rfl rfl)
theorem dX3_isSo_7 : decode cX3_isSo 7 = .ok (.iload_n 1, 1) := dk_27 (dk_at dksX3_isSo_0 7 rfl rfl)
theorem dX3_isSo_8 : decode cX3_isSo 8 = .ok (.iadd, 1) := dk_96 (dk_at dksX3_isSo_0 8 rfl rfl)
theorem dX3_isSo_9 : decode cX3_isSo 9 = .ok (.iaload, 1) := dk_46 (dk_at dksX3_isSo_0 9 rfl rfl)
theorem dX3_isSo_10 : decode cX3_isSo 10 = .ok (.aload_n 0, 1) := dk_42 (dk_at dksX3_isSo_0 10 rfl rfl)
theorem dX3_isSo_11 : decode cX3_isSo 11 = .ok (.getfield 7, 3) := dk_180 0 7 (dk_at dksX3_isSo_0 11 rfl rfl)
theorem dX3_isSo_14 : decode cX3_isSo 14 = .ok (.sipush 857, 3) := dk_17 3 89 (dk_at dksX3_isSo_0 14 rfl rfl)
theorem dX3_isSo_17 : decode cX3_isSo 17 = .ok (.iload_n 1, 1) := dk_27 (dk_at dksX3_isSo_0 17 rfl rfl)
theorem dX3_isSo_18 : decode cX3_isSo 18 = .ok (.iadd, 1) := dk_96 (dk_at dksX3_isSo_0 18 rfl rfl)
theorem dX3_isSo_19 : decode cX3_isSo 19 = .ok (.iaload, 1) := dk_46 (dk_at dksX3_isSo_0 19 rfl rfl)
theorem dX3_isSo_20 : decode cX3_isSo 20 = .ok (.if_icmp .eq 32, 3) := dk_159 0 32 (dk_at dksX3_isSo_0 20 rfl rfl)
theorem dX3_isSo_23 : decode cX3_isSo 23 = .ok (.aload_n 0, 1) := dk_42 (dk_at dksX3_isSo_0 23 rfl rfl)
theorem dX3_isSo_24 : decode cX3_isSo 24 = .ok (.iconst 0, 1) := dk_3 (dk_at dksX3_isSo_1 0 rfl rfl)
theorem dX3_isSo_25 : decode cX3_isSo 25 = .ok (.aload_n 0, 1) := dk_42 (dk_at dksX3_isSo_1 1 rfl rfl)
theorem dX3_isSo_26 : decode cX3_isSo 26 = .ok (.getfield 7, 3) := dk_180 0 7 (dk_at dksX3_isSo_1 2 rfl rfl)
theorem dX3_isSo_29 : decode cX3_isSo 29 = .ok (.sipush 857, 3) := dk_17 3 89 (dk_at dksX3_isSo_1 5 rfl rfl)
theorem dX3_isSo_32 : decode cX3_isSo 32 = .ok (.iload_n 1, 1) := dk_27 (dk_at dksX3_isSo_1 8 rfl rfl)
theorem dX3_isSo_33 : decode cX3_isSo 33 = .ok (.iadd, 1) := dk_96 (dk_at dksX3_isSo_1 9 rfl rfl)
theorem dX3_isSo_34 : decode cX3_isSo 34 = .ok (.iaload, 1) := dk_46 (dk_at dksX3_isSo_1 10 rfl rfl)
theorem dX3_isSo_35 : decode cX3_isSo 35 = .ok (.aload_n 0, 1) := dk_42 (dk_at dksX3_isSo_1 11 rfl rfl)
theorem dX3_isSo_36 : decode cX3_isSo 36 = .ok (.getfield 7, 3) := dk_180 0 7 (dk_at dksX3_isSo_1 12 rfl rfl)
theorem dX3_isSo_39 : decode cX3_isSo 39 = .ok (.sipush 873, 3) := dk_17 3 105 (dk_at dksX3_isSo_1 15 rfl rfl)
theorem dX3_isSo_42 : decode cX3_isSo 42 = .ok (.iload_n 1, 1) := dk_27 (dk_at dksX3_isSo_1 18 rfl rfl)
theorem dX3_isSo_43 : decode cX3_isSo 43 = .ok (.iadd, 1) := dk_96 (dk_at dksX3_isSo_1 19 rfl rfl)
theorem dX3_isSo_44 : decode cX3_isSo 44 = .ok (.iaload, 1) := dk_46 (dk_at dksX3_isSo_1 20 rfl rfl)
theorem dX3_isSo_45 : decode cX3_isSo 45 = .ok (.invokevirtual 285, 3) := dk_182 1 29 (dk_at dksX3_isSo_1 21 rfl rfl)
theorem dX3_isSo_48 : decode cX3_isSo 48 = .ok (.iconst 1, 1) := dk_4 (dk_at dksX3_isSo_2 0 rfl rfl)
theorem dX3_isSo_49 : decode cX3_isSo 49 = .ok (.if_icmp .ne 7, 3) := dk_160 0 7 (dk_at dksX3_isSo_2 1 rfl rfl)
theorem dX3_isSo_52 : decode cX3_isSo 52 = .ok (.iconst 1, 1) := dk_4 (dk_at dksX3_isSo_2 4 rfl rfl)
theorem dX3_isSo_53 : decode cX3_isSo 53 = .ok (.goto 4, 3) := dk_167 0 4 (dk_at dksX3_isSo_2 5 rfl rfl)
theorem dX3_isSo_56 : decode cX3_isSo 56 = .ok (.iconst 0, 1) := dk_3 (dk_at dksX3_isSo_2 8 rfl rfl)
theorem dX3_isSo_57 : decode cX3_isSo 57 = .ok (.ireturn, 1) := dk_172 (dk_at dksX3_isSo_2 9 rfl rfl)
abbrev cX3_comesTo : ByteArray := prog_17_method_57_code
def yX3_comesTo : MethodName := ⟨RX3, "comesTo", "(III)I"⟩
def dkwX3_comesTo_8 : List UInt8 := [46, 172]
abbrev dktX3_comesTo_8 : List UInt8 := dkwX3_comesTo_8 ++ []
def dkwX3_comesTo_7 : List UInt8 := [100, 46, 42, 180, 0, 34, 21, 4, 46, 184, 1, 26, 79, 132, 5, 1, 167, 255, 79, 42, 180, 0, 34, 3]
abbrev dktX3_comesTo_7 : List UInt8 := dkwX3_comesTo_7 ++ dktX3_comesTo_8
def dkwX3_comesTo_6 : List UInt8 := [79, 167, 0, 36, 132, 4, 255, 42, 180, 0, 34, 21, 4, 4, 100, 21, 6, 42, 180, 0, 34, 21, 4, 4]
abbrev dktX3_comesTo_6 : List UInt8 := dkwX3_comesTo_6 ++ dktX3_comesTo_7
def dkwX3_comesTo_5 : List UInt8 := [16, 30, 160, 0, 26, 42, 180, 0, 34, 21, 4, 4, 100, 4, 42, 180, 0, 34, 21, 4, 4, 100, 46, 100]
abbrev dktX3_comesTo_5 : List UInt8 := dkwX3_comesTo_5 ++ dktX3_comesTo_6
def dkwX3_comesTo_4 : List UInt8 := [16, 26, 160, 0, 20, 42, 180, 0, 34, 21, 4, 4, 100, 92, 46, 21, 7, 108, 79, 167, 0, 66, 21, 6]
abbrev dktX3_comesTo_4 : List UInt8 := dkwX3_comesTo_4 ++ dktX3_comesTo_5
def dkwX3_comesTo_3 : List UInt8 := [154, 0, 8, 21, 7, 167, 0, 10, 42, 180, 0, 37, 21, 6, 46, 79, 132, 4, 1, 167, 0, 90, 21, 6]
abbrev dktX3_comesTo_3 : List UInt8 := dkwX3_comesTo_3 ++ dktX3_comesTo_4
def dkwX3_comesTo_2 : List UInt8 := [21, 5, 104, 96, 4, 96, 46, 54, 7, 21, 6, 16, 23, 162, 0, 33, 42, 180, 0, 34, 21, 4, 21, 6]
abbrev dktX3_comesTo_2 : List UInt8 := dkwX3_comesTo_2 ++ dktX3_comesTo_3
def dkwX3_comesTo_1 : List UInt8 := [96, 5, 21, 5, 104, 96, 46, 54, 6, 42, 180, 0, 7, 17, 3, 137, 17, 3, 52, 27, 104, 96, 5]
abbrev dktX3_comesTo_1 : List UInt8 := dkwX3_comesTo_1 ++ dktX3_comesTo_2
def dkwX3_comesTo_0 : List UInt8 := [3, 54, 4, 28, 54, 5, 21, 5, 29, 162, 0, 177, 42, 180, 0, 7, 17, 3, 137, 17, 3, 52, 27, 104]
abbrev dktX3_comesTo_0 : List UInt8 := dkwX3_comesTo_0 ++ dktX3_comesTo_1
theorem dksX3_comesTo_0 : cX3_comesTo.data.toList.drop 0 = dktX3_comesTo_0 := by decide +kernel
theorem dksX3_comesTo_1 : cX3_comesTo.data.toList.drop 24 = dktX3_comesTo_1 := dk_seg dksX3_comesTo_0 24 rfl rfl
theorem dksX3_comesTo_2 : cX3_comesTo.data.toList.drop 47 = dktX3_comesTo_2 := dk_seg dksX3_comesTo_1 23 rfl rfl
theorem dksX3_comesTo_3 : cX3_comesTo.data.toList.drop 71 = dktX3_comesTo_3 := dk_seg dksX3_comesTo_2 24 rfl rfl
theorem dksX3_comesTo_4 : cX3_comesTo.data.toList.drop 95 = dktX3_comesTo_4 := dk_seg dksX3_comesTo_3 24 rfl rfl
theorem dksX3_comesTo_5 : cX3_comesTo.data.toList.drop 119 = dktX3_comesTo_5 := dk_seg dksX3_comesTo_4 24 rfl rfl
theorem dksX3_comesTo_6 : cX3_comesTo.data.toList.drop 143 = dktX3_comesTo_6 := dk_seg dksX3_comesTo_5 24 rfl rfl
theorem dksX3_comesTo_7 : cX3_comesTo.data.toList.drop 167 = dktX3_comesTo_7 := dk_seg dksX3_comesTo_6 24 rfl rfl
theorem dksX3_comesTo_8 : cX3_comesTo.data.toList.drop 191 = dktX3_comesTo_8 := dk_seg dksX3_comesTo_7 24 rfl rfl
theorem dX3_comesTo_0 : decode cX3_comesTo 0 = .ok (.iconst 0, 1) := dk_3 (dk_at dksX3_comesTo_0 0 rfl rfl)
theorem dX3_comesTo_1 : decode cX3_comesTo 1 = .ok (.istore 4, 2) := dk_54 4 (dk_at dksX3_comesTo_0 1 rfl rfl)
theorem dX3_comesTo_3 : decode cX3_comesTo 3 = .ok (.iload_n 2, 1) := dk_28 (dk_at dksX3_comesTo_0 3 rfl rfl)
theorem dX3_comesTo_4 : decode cX3_comesTo 4 = .ok (.istore 5, 2) := dk_54 5 (dk_at dksX3_comesTo_0 4 rfl rfl)
theorem dX3_comesTo_6 : decode cX3_comesTo 6 = .ok (.iload 5, 2) := dk_21 5 (dk_at dksX3_comesTo_0 6 rfl rfl)
theorem dX3_comesTo_8 : decode cX3_comesTo 8 = .ok (.iload_n 3, 1) := dk_29 (dk_at dksX3_comesTo_0 8 rfl rfl)
theorem dX3_comesTo_9 : decode cX3_comesTo 9 = .ok (.if_icmp .ge 177, 3) := dk_162 0 177 (dk_at dksX3_comesTo_0 9 rfl rfl)
theorem dX3_comesTo_12 : decode cX3_comesTo 12 = .ok (.aload_n 0, 1) := dk_42 (dk_at dksX3_comesTo_0 12 rfl rfl)
theorem dX3_comesTo_13 : decode cX3_comesTo 13 = .ok (.getfield 7, 3) := dk_180 0 7 (dk_at dksX3_comesTo_0 13 rfl rfl)
theorem dX3_comesTo_16 : decode cX3_comesTo 16 = .ok (.sipush 905, 3) := dk_17 3 137 (dk_at dksX3_comesTo_0 16 rfl rfl)
theorem dX3_comesTo_19 : decode cX3_comesTo 19 = .ok (.sipush 820, 3) := dk_17 3 52 (dk_at dksX3_comesTo_0 19 rfl rfl)
theorem dX3_comesTo_22 : decode cX3_comesTo 22 = .ok (.iload_n 1, 1) := dk_27 (dk_at dksX3_comesTo_0 22 rfl rfl)
theorem dX3_comesTo_23 : decode cX3_comesTo 23 = .ok (.imul, 1) := dk_104 (dk_at dksX3_comesTo_0 23 rfl rfl)
theorem dX3_comesTo_24 : decode cX3_comesTo 24 = .ok (.iadd, 1) := dk_96 (dk_at dksX3_comesTo_1 0 rfl rfl)
theorem dX3_comesTo_25 : decode cX3_comesTo 25 = .ok (.iconst 2, 1) := dk_5 (dk_at dksX3_comesTo_1 1 rfl rfl)
theorem dX3_comesTo_26 : decode cX3_comesTo 26 = .ok (.iload 5, 2) := dk_21 5 (dk_at dksX3_comesTo_1 2 rfl rfl)
theorem dX3_comesTo_28 : decode cX3_comesTo 28 = .ok (.imul, 1) := dk_104 (dk_at dksX3_comesTo_1 4 rfl rfl)
theorem dX3_comesTo_29 : decode cX3_comesTo 29 = .ok (.iadd, 1) := dk_96 (dk_at dksX3_comesTo_1 5 rfl rfl)
theorem dX3_comesTo_30 : decode cX3_comesTo 30 = .ok (.iaload, 1) := dk_46 (dk_at dksX3_comesTo_1 6 rfl rfl)
theorem dX3_comesTo_31 : decode cX3_comesTo 31 = .ok (.istore 6, 2) := dk_54 6 (dk_at dksX3_comesTo_1 7 rfl rfl)
theorem dX3_comesTo_33 : decode cX3_comesTo 33 = .ok (.aload_n 0, 1) := dk_42 (dk_at dksX3_comesTo_1 9 rfl rfl)
theorem dX3_comesTo_34 : decode cX3_comesTo 34 = .ok (.getfield 7, 3) := dk_180 0 7 (dk_at dksX3_comesTo_1 10 rfl rfl)
theorem dX3_comesTo_37 : decode cX3_comesTo 37 = .ok (.sipush 905, 3) := dk_17 3 137 (dk_at dksX3_comesTo_1 13 rfl rfl)
theorem dX3_comesTo_40 : decode cX3_comesTo 40 = .ok (.sipush 820, 3) := dk_17 3 52 (dk_at dksX3_comesTo_1 16 rfl rfl)
theorem dX3_comesTo_43 : decode cX3_comesTo 43 = .ok (.iload_n 1, 1) := dk_27 (dk_at dksX3_comesTo_1 19 rfl rfl)
theorem dX3_comesTo_44 : decode cX3_comesTo 44 = .ok (.imul, 1) := dk_104 (dk_at dksX3_comesTo_1 20 rfl rfl)
theorem dX3_comesTo_45 : decode cX3_comesTo 45 = .ok (.iadd, 1) := dk_96 (dk_at dksX3_comesTo_1 21 rfl rfl)
theorem dX3_comesTo_46 : decode cX3_comesTo 46 = .ok (.iconst 2, 1) := dk_5 (dk_at dksX3_comesTo_1 22 rfl rfl)
theorem dX3_comesTo_47 : decode cX3_comesTo 47 = .ok (.iload 5, 2) := dk_21 5 (dk_at dksX3_comesTo_2 0 rfl rfl)
theorem dX3_comesTo_49 : decode cX3_comesTo 49 = .ok (.imul, 1) := dk_104 (dk_at dksX3_comesTo_2 2 rfl rfl)
theorem dX3_comesTo_50 : decode cX3_comesTo 50 = .ok (.iadd, 1) := dk_96 (dk_at dksX3_comesTo_2 3 rfl rfl)
theorem dX3_comesTo_51 : decode cX3_comesTo 51 = .ok (.iconst 1, 1) := dk_4 (dk_at dksX3_comesTo_2 4 rfl rfl)
theorem dX3_comesTo_52 : decode cX3_comesTo 52 = .ok (.iadd, 1) := dk_96 (dk_at dksX3_comesTo_2 5 rfl rfl)
theorem dX3_comesTo_53 : decode cX3_comesTo 53 = .ok (.iaload, 1) := dk_46 (dk_at dksX3_comesTo_2 6 rfl rfl)
theorem dX3_comesTo_54 : decode cX3_comesTo 54 = .ok (.istore 7, 2) := dk_54 7 (dk_at dksX3_comesTo_2 7 rfl rfl)
theorem dX3_comesTo_56 : decode cX3_comesTo 56 = .ok (.iload 6, 2) := dk_21 6 (dk_at dksX3_comesTo_2 9 rfl rfl)
theorem dX3_comesTo_58 : decode cX3_comesTo 58 = .ok (.bipush 23, 2) := dk_16 23 (dk_at dksX3_comesTo_2 11 rfl rfl)
theorem dX3_comesTo_60 : decode cX3_comesTo 60 = .ok (.if_icmp .ge 33, 3) := dk_162 0 33 (dk_at dksX3_comesTo_2 13 rfl rfl)
theorem dX3_comesTo_63 : decode cX3_comesTo 63 = .ok (.aload_n 0, 1) := dk_42 (dk_at dksX3_comesTo_2 16 rfl rfl)
theorem dX3_comesTo_64 : decode cX3_comesTo 64 = .ok (.getfield 34, 3) := dk_180 0 34 (dk_at dksX3_comesTo_2 17 rfl rfl)
theorem dX3_comesTo_67 : decode cX3_comesTo 67 = .ok (.iload 4, 2) := dk_21 4 (dk_at dksX3_comesTo_2 20 rfl rfl)
theorem dX3_comesTo_69 : decode cX3_comesTo 69 = .ok (.iload 6, 2) := dk_21 6 (dk_at dksX3_comesTo_2 22 rfl rfl)
theorem dX3_comesTo_71 : decode cX3_comesTo 71 = .ok (.ifCond .ne 8, 3) := dk_154 0 8 (dk_at dksX3_comesTo_3 0 rfl rfl)
theorem dX3_comesTo_74 : decode cX3_comesTo 74 = .ok (.iload 7, 2) := dk_21 7 (dk_at dksX3_comesTo_3 3 rfl rfl)
theorem dX3_comesTo_76 : decode cX3_comesTo 76 = .ok (.goto 10, 3) := dk_167 0 10 (dk_at dksX3_comesTo_3 5 rfl rfl)
theorem dX3_comesTo_79 : decode cX3_comesTo 79 = .ok (.aload_n 0, 1) := dk_42 (dk_at dksX3_comesTo_3 8 rfl rfl)
theorem dX3_comesTo_80 : decode cX3_comesTo 80 = .ok (.getfield 37, 3) := dk_180 0 37 (dk_at dksX3_comesTo_3 9 rfl rfl)
theorem dX3_comesTo_83 : decode cX3_comesTo 83 = .ok (.iload 6, 2) := dk_21 6 (dk_at dksX3_comesTo_3 12 rfl rfl)
theorem dX3_comesTo_85 : decode cX3_comesTo 85 = .ok (.iaload, 1) := dk_46 (dk_at dksX3_comesTo_3 14 rfl rfl)
theorem dX3_comesTo_86 : decode cX3_comesTo 86 = .ok (.iastore, 1) := dk_79 (dk_at dksX3_comesTo_3 15 rfl rfl)
theorem dX3_comesTo_87 : decode cX3_comesTo 87 = .ok (.iinc 4 1, 3) := dk_132 4 1 (dk_at dksX3_comesTo_3 16 rfl rfl)
theorem dX3_comesTo_90 : decode cX3_comesTo 90 = .ok (.goto 90, 3) := dk_167 0 90 (dk_at dksX3_comesTo_3 19 rfl rfl)
theorem dX3_comesTo_93 : decode cX3_comesTo 93 = .ok (.iload 6, 2) := dk_21 6 (dk_at dksX3_comesTo_3 22 rfl rfl)
theorem dX3_comesTo_95 : decode cX3_comesTo 95 = .ok (.bipush 26, 2) := dk_16 26 (dk_at dksX3_comesTo_4 0 rfl rfl)
theorem dX3_comesTo_97 : decode cX3_comesTo 97 = .ok (.if_icmp .ne 20, 3) := dk_160 0 20 (dk_at dksX3_comesTo_4 2 rfl rfl)
theorem dX3_comesTo_100 : decode cX3_comesTo 100 = .ok (.aload_n 0, 1) := dk_42 (dk_at dksX3_comesTo_4 5 rfl rfl)
theorem dX3_comesTo_101 : decode cX3_comesTo 101 = .ok (.getfield 34, 3) := dk_180 0 34 (dk_at dksX3_comesTo_4 6 rfl rfl)
theorem dX3_comesTo_104 : decode cX3_comesTo 104 = .ok (.iload 4, 2) := dk_21 4 (dk_at dksX3_comesTo_4 9 rfl rfl)
theorem dX3_comesTo_106 : decode cX3_comesTo 106 = .ok (.iconst 1, 1) := dk_4 (dk_at dksX3_comesTo_4 11 rfl rfl)
theorem dX3_comesTo_107 : decode cX3_comesTo 107 = .ok (.isub, 1) := dk_100 (dk_at dksX3_comesTo_4 12 rfl rfl)
theorem dX3_comesTo_108 : decode cX3_comesTo 108 = .ok (.dup2, 1) := dk_92 (dk_at dksX3_comesTo_4 13 rfl rfl)
theorem dX3_comesTo_109 : decode cX3_comesTo 109 = .ok (.iaload, 1) := dk_46 (dk_at dksX3_comesTo_4 14 rfl rfl)
theorem dX3_comesTo_110 : decode cX3_comesTo 110 = .ok (.iload 7, 2) := dk_21 7 (dk_at dksX3_comesTo_4 15 rfl rfl)
theorem dX3_comesTo_112 : decode cX3_comesTo 112 = .ok (.idiv, 1) := dk_108 (dk_at dksX3_comesTo_4 17 rfl rfl)
theorem dX3_comesTo_113 : decode cX3_comesTo 113 = .ok (.iastore, 1) := dk_79 (dk_at dksX3_comesTo_4 18 rfl rfl)
theorem dX3_comesTo_114 : decode cX3_comesTo 114 = .ok (.goto 66, 3) := dk_167 0 66 (dk_at dksX3_comesTo_4 19 rfl rfl)
theorem dX3_comesTo_117 : decode cX3_comesTo 117 = .ok (.iload 6, 2) := dk_21 6 (dk_at dksX3_comesTo_4 22 rfl rfl)
theorem dX3_comesTo_119 : decode cX3_comesTo 119 = .ok (.bipush 30, 2) := dk_16 30 (dk_at dksX3_comesTo_5 0 rfl rfl)
theorem dX3_comesTo_121 : decode cX3_comesTo 121 = .ok (.if_icmp .ne 26, 3) := dk_160 0 26 (dk_at dksX3_comesTo_5 2 rfl rfl)
theorem dX3_comesTo_124 : decode cX3_comesTo 124 = .ok (.aload_n 0, 1) := dk_42 (dk_at dksX3_comesTo_5 5 rfl rfl)
theorem dX3_comesTo_125 : decode cX3_comesTo 125 = .ok (.getfield 34, 3) := dk_180 0 34 (dk_at dksX3_comesTo_5 6 rfl rfl)
theorem dX3_comesTo_128 : decode cX3_comesTo 128 = .ok (.iload 4, 2) := dk_21 4 (dk_at dksX3_comesTo_5 9 rfl rfl)
theorem dX3_comesTo_130 : decode cX3_comesTo 130 = .ok (.iconst 1, 1) := dk_4 (dk_at dksX3_comesTo_5 11 rfl rfl)
theorem dX3_comesTo_131 : decode cX3_comesTo 131 = .ok (.isub, 1) := dk_100 (dk_at dksX3_comesTo_5 12 rfl rfl)
theorem dX3_comesTo_132 : decode cX3_comesTo 132 = .ok (.iconst 1, 1) := dk_4 (dk_at dksX3_comesTo_5 13 rfl rfl)
theorem dX3_comesTo_133 : decode cX3_comesTo 133 = .ok (.aload_n 0, 1) := dk_42 (dk_at dksX3_comesTo_5 14 rfl rfl)
theorem dX3_comesTo_134 : decode cX3_comesTo 134 = .ok (.getfield 34, 3) := dk_180 0 34 (dk_at dksX3_comesTo_5 15 rfl rfl)
theorem dX3_comesTo_137 : decode cX3_comesTo 137 = .ok (.iload 4, 2) := dk_21 4 (dk_at dksX3_comesTo_5 18 rfl rfl)
theorem dX3_comesTo_139 : decode cX3_comesTo 139 = .ok (.iconst 1, 1) := dk_4 (dk_at dksX3_comesTo_5 20 rfl rfl)
theorem dX3_comesTo_140 : decode cX3_comesTo 140 = .ok (.isub, 1) := dk_100 (dk_at dksX3_comesTo_5 21 rfl rfl)
theorem dX3_comesTo_141 : decode cX3_comesTo 141 = .ok (.iaload, 1) := dk_46 (dk_at dksX3_comesTo_5 22 rfl rfl)
theorem dX3_comesTo_142 : decode cX3_comesTo 142 = .ok (.isub, 1) := dk_100 (dk_at dksX3_comesTo_5 23 rfl rfl)
theorem dX3_comesTo_143 : decode cX3_comesTo 143 = .ok (.iastore, 1) := dk_79 (dk_at dksX3_comesTo_6 0 rfl rfl)
theorem dX3_comesTo_144 : decode cX3_comesTo 144 = .ok (.goto 36, 3) := dk_167 0 36 (dk_at dksX3_comesTo_6 1 rfl rfl)
theorem dX3_comesTo_147 : decode cX3_comesTo 147 = .ok (.iinc 4 (-1), 3) := dk_132 4 255 (dk_at dksX3_comesTo_6 4 rfl rfl)
theorem dX3_comesTo_150 : decode cX3_comesTo 150 = .ok (.aload_n 0, 1) := dk_42 (dk_at dksX3_comesTo_6 7 rfl rfl)
theorem dX3_comesTo_151 : decode cX3_comesTo 151 = .ok (.getfield 34, 3) := dk_180 0 34 (dk_at dksX3_comesTo_6 8 rfl rfl)
theorem dX3_comesTo_154 : decode cX3_comesTo 154 = .ok (.iload 4, 2) := dk_21 4 (dk_at dksX3_comesTo_6 11 rfl rfl)
theorem dX3_comesTo_156 : decode cX3_comesTo 156 = .ok (.iconst 1, 1) := dk_4 (dk_at dksX3_comesTo_6 13 rfl rfl)
theorem dX3_comesTo_157 : decode cX3_comesTo 157 = .ok (.isub, 1) := dk_100 (dk_at dksX3_comesTo_6 14 rfl rfl)
theorem dX3_comesTo_158 : decode cX3_comesTo 158 = .ok (.iload 6, 2) := dk_21 6 (dk_at dksX3_comesTo_6 15 rfl rfl)
theorem dX3_comesTo_160 : decode cX3_comesTo 160 = .ok (.aload_n 0, 1) := dk_42 (dk_at dksX3_comesTo_6 17 rfl rfl)
theorem dX3_comesTo_161 : decode cX3_comesTo 161 = .ok (.getfield 34, 3) := dk_180 0 34 (dk_at dksX3_comesTo_6 18 rfl rfl)
theorem dX3_comesTo_164 : decode cX3_comesTo 164 = .ok (.iload 4, 2) := dk_21 4 (dk_at dksX3_comesTo_6 21 rfl rfl)
theorem dX3_comesTo_166 : decode cX3_comesTo 166 = .ok (.iconst 1, 1) := dk_4 (dk_at dksX3_comesTo_6 23 rfl rfl)
theorem dX3_comesTo_167 : decode cX3_comesTo 167 = .ok (.isub, 1) := dk_100 (dk_at dksX3_comesTo_7 0 rfl rfl)
theorem dX3_comesTo_168 : decode cX3_comesTo 168 = .ok (.iaload, 1) := dk_46 (dk_at dksX3_comesTo_7 1 rfl rfl)
theorem dX3_comesTo_169 : decode cX3_comesTo 169 = .ok (.aload_n 0, 1) := dk_42 (dk_at dksX3_comesTo_7 2 rfl rfl)
theorem dX3_comesTo_170 : decode cX3_comesTo 170 = .ok (.getfield 34, 3) := dk_180 0 34 (dk_at dksX3_comesTo_7 3 rfl rfl)
theorem dX3_comesTo_173 : decode cX3_comesTo 173 = .ok (.iload 4, 2) := dk_21 4 (dk_at dksX3_comesTo_7 6 rfl rfl)
theorem dX3_comesTo_175 : decode cX3_comesTo 175 = .ok (.iaload, 1) := dk_46 (dk_at dksX3_comesTo_7 8 rfl rfl)
theorem dX3_comesTo_176 : decode cX3_comesTo 176 = .ok (.invokestatic 282, 3) := dk_184 1 26 (dk_at dksX3_comesTo_7 9 rfl rfl)
theorem dX3_comesTo_179 : decode cX3_comesTo 179 = .ok (.iastore, 1) := dk_79 (dk_at dksX3_comesTo_7 12 rfl rfl)
theorem dX3_comesTo_180 : decode cX3_comesTo 180 = .ok (.iinc 5 1, 3) := dk_132 5 1 (dk_at dksX3_comesTo_7 13 rfl rfl)
theorem dX3_comesTo_183 : decode cX3_comesTo 183 = .ok (.goto (-177), 3) := dk_167 255 79 (dk_at dksX3_comesTo_7 16 rfl rfl)
theorem dX3_comesTo_186 : decode cX3_comesTo 186 = .ok (.aload_n 0, 1) := dk_42 (dk_at dksX3_comesTo_7 19 rfl rfl)
theorem dX3_comesTo_187 : decode cX3_comesTo 187 = .ok (.getfield 34, 3) := dk_180 0 34 (dk_at dksX3_comesTo_7 20 rfl rfl)
theorem dX3_comesTo_190 : decode cX3_comesTo 190 = .ok (.iconst 0, 1) := dk_3 (dk_at dksX3_comesTo_7 23 rfl rfl)
theorem dX3_comesTo_191 : decode cX3_comesTo 191 = .ok (.iaload, 1) := dk_46 (dk_at dksX3_comesTo_8 0 rfl rfl)
theorem dX3_comesTo_192 : decode cX3_comesTo 192 = .ok (.ireturn, 1) := dk_172 (dk_at dksX3_comesTo_8 1 rfl rfl)
abbrev cX3_both : ByteArray := prog_17_method_56_code
def yX3_both : MethodName := ⟨RX3, "both", "(III)I"⟩
def dkwX3_both_4 : List UInt8 := [172, 27, 28, 128, 172]
abbrev dktX3_both_4 : List UInt8 := dkwX3_both_4 ++ []
def dkwX3_both_3 : List UInt8 := [28, 160, 0, 7, 4, 167, 0, 4, 3, 172, 27, 28, 164, 0, 7, 4, 167, 0, 4, 3, 172, 27, 28, 126]
abbrev dktX3_both_3 : List UInt8 := dkwX3_both_3 ++ dktX3_both_4
def dkwX3_both_2 : List UInt8 := [27, 28, 96, 172, 27, 28, 100, 172, 27, 28, 104, 172, 27, 28, 162, 0, 7, 4, 167, 0, 4, 3, 172, 27]
abbrev dktX3_both_2 : List UInt8 := dkwX3_both_2 ++ dktX3_both_3
def dkwX3_both_1 : List UInt8 := [170, 0, 0, 0, 0, 0, 100, 0, 0, 0, 23, 0, 0, 0, 31, 0, 0, 0, 51, 0, 0, 0, 55, 0, 0, 0, 59, 0, 0, 0, 100, 0, 0, 0, 63, 0, 0, 0, 74, 0, 0, 0, 85, 0, 0, 0, 100, 0, 0, 0, 96]
abbrev dktX3_both_1 : List UInt8 := dkwX3_both_1 ++ dktX3_both_2
def dkwX3_both_0 : List UInt8 := [26]
abbrev dktX3_both_0 : List UInt8 := dkwX3_both_0 ++ dktX3_both_1
theorem dksX3_both_0 : cX3_both.data.toList.drop 0 = dktX3_both_0 := by decide +kernel
theorem dksX3_both_1 : cX3_both.data.toList.drop 1 = dktX3_both_1 := dk_seg dksX3_both_0 1 rfl rfl
theorem dksX3_both_2 : cX3_both.data.toList.drop 52 = dktX3_both_2 := dk_seg dksX3_both_1 51 rfl rfl
theorem dksX3_both_3 : cX3_both.data.toList.drop 76 = dktX3_both_3 := dk_seg dksX3_both_2 24 rfl rfl
theorem dksX3_both_4 : cX3_both.data.toList.drop 100 = dktX3_both_4 := dk_seg dksX3_both_3 24 rfl rfl
theorem dX3_both_0 : decode cX3_both 0 = .ok (.iload_n 0, 1) := dk_26 (dk_at dksX3_both_0 0 rfl rfl)
theorem dX3_both_1 : decode cX3_both 1 = .ok (.tableswitch 100 23 31 #[51, 55, 59, 100, 63, 74, 85, 100, 96], 51) := by decide +kernel
theorem dX3_both_52 : decode cX3_both 52 = .ok (.iload_n 1, 1) := dk_27 (dk_at dksX3_both_2 0 rfl rfl)
theorem dX3_both_53 : decode cX3_both 53 = .ok (.iload_n 2, 1) := dk_28 (dk_at dksX3_both_2 1 rfl rfl)
theorem dX3_both_54 : decode cX3_both 54 = .ok (.iadd, 1) := dk_96 (dk_at dksX3_both_2 2 rfl rfl)
theorem dX3_both_55 : decode cX3_both 55 = .ok (.ireturn, 1) := dk_172 (dk_at dksX3_both_2 3 rfl rfl)
theorem dX3_both_56 : decode cX3_both 56 = .ok (.iload_n 1, 1) := dk_27 (dk_at dksX3_both_2 4 rfl rfl)
theorem dX3_both_57 : decode cX3_both 57 = .ok (.iload_n 2, 1) := dk_28 (dk_at dksX3_both_2 5 rfl rfl)
theorem dX3_both_58 : decode cX3_both 58 = .ok (.isub, 1) := dk_100 (dk_at dksX3_both_2 6 rfl rfl)
theorem dX3_both_59 : decode cX3_both 59 = .ok (.ireturn, 1) := dk_172 (dk_at dksX3_both_2 7 rfl rfl)
theorem dX3_both_60 : decode cX3_both 60 = .ok (.iload_n 1, 1) := dk_27 (dk_at dksX3_both_2 8 rfl rfl)
theorem dX3_both_61 : decode cX3_both 61 = .ok (.iload_n 2, 1) := dk_28 (dk_at dksX3_both_2 9 rfl rfl)
theorem dX3_both_62 : decode cX3_both 62 = .ok (.imul, 1) := dk_104 (dk_at dksX3_both_2 10 rfl rfl)
theorem dX3_both_63 : decode cX3_both 63 = .ok (.ireturn, 1) := dk_172 (dk_at dksX3_both_2 11 rfl rfl)
theorem dX3_both_64 : decode cX3_both 64 = .ok (.iload_n 1, 1) := dk_27 (dk_at dksX3_both_2 12 rfl rfl)
theorem dX3_both_65 : decode cX3_both 65 = .ok (.iload_n 2, 1) := dk_28 (dk_at dksX3_both_2 13 rfl rfl)
theorem dX3_both_66 : decode cX3_both 66 = .ok (.if_icmp .ge 7, 3) := dk_162 0 7 (dk_at dksX3_both_2 14 rfl rfl)
theorem dX3_both_69 : decode cX3_both 69 = .ok (.iconst 1, 1) := dk_4 (dk_at dksX3_both_2 17 rfl rfl)
theorem dX3_both_70 : decode cX3_both 70 = .ok (.goto 4, 3) := dk_167 0 4 (dk_at dksX3_both_2 18 rfl rfl)
theorem dX3_both_73 : decode cX3_both 73 = .ok (.iconst 0, 1) := dk_3 (dk_at dksX3_both_2 21 rfl rfl)
theorem dX3_both_74 : decode cX3_both 74 = .ok (.ireturn, 1) := dk_172 (dk_at dksX3_both_2 22 rfl rfl)
theorem dX3_both_75 : decode cX3_both 75 = .ok (.iload_n 1, 1) := dk_27 (dk_at dksX3_both_2 23 rfl rfl)
theorem dX3_both_76 : decode cX3_both 76 = .ok (.iload_n 2, 1) := dk_28 (dk_at dksX3_both_3 0 rfl rfl)
theorem dX3_both_77 : decode cX3_both 77 = .ok (.if_icmp .ne 7, 3) := dk_160 0 7 (dk_at dksX3_both_3 1 rfl rfl)
theorem dX3_both_80 : decode cX3_both 80 = .ok (.iconst 1, 1) := dk_4 (dk_at dksX3_both_3 4 rfl rfl)
theorem dX3_both_81 : decode cX3_both 81 = .ok (.goto 4, 3) := dk_167 0 4 (dk_at dksX3_both_3 5 rfl rfl)
theorem dX3_both_84 : decode cX3_both 84 = .ok (.iconst 0, 1) := dk_3 (dk_at dksX3_both_3 8 rfl rfl)
theorem dX3_both_85 : decode cX3_both 85 = .ok (.ireturn, 1) := dk_172 (dk_at dksX3_both_3 9 rfl rfl)
theorem dX3_both_86 : decode cX3_both 86 = .ok (.iload_n 1, 1) := dk_27 (dk_at dksX3_both_3 10 rfl rfl)
theorem dX3_both_87 : decode cX3_both 87 = .ok (.iload_n 2, 1) := dk_28 (dk_at dksX3_both_3 11 rfl rfl)
theorem dX3_both_88 : decode cX3_both 88 = .ok (.if_icmp .le 7, 3) := dk_164 0 7 (dk_at dksX3_both_3 12 rfl rfl)
theorem dX3_both_91 : decode cX3_both 91 = .ok (.iconst 1, 1) := dk_4 (dk_at dksX3_both_3 15 rfl rfl)
theorem dX3_both_92 : decode cX3_both 92 = .ok (.goto 4, 3) := dk_167 0 4 (dk_at dksX3_both_3 16 rfl rfl)
theorem dX3_both_95 : decode cX3_both 95 = .ok (.iconst 0, 1) := dk_3 (dk_at dksX3_both_3 19 rfl rfl)
theorem dX3_both_96 : decode cX3_both 96 = .ok (.ireturn, 1) := dk_172 (dk_at dksX3_both_3 20 rfl rfl)
theorem dX3_both_97 : decode cX3_both 97 = .ok (.iload_n 1, 1) := dk_27 (dk_at dksX3_both_3 21 rfl rfl)
theorem dX3_both_98 : decode cX3_both 98 = .ok (.iload_n 2, 1) := dk_28 (dk_at dksX3_both_3 22 rfl rfl)
theorem dX3_both_99 : decode cX3_both 99 = .ok (.iand, 1) := dk_126 (dk_at dksX3_both_3 23 rfl rfl)
theorem dX3_both_100 : decode cX3_both 100 = .ok (.ireturn, 1) := dk_172 (dk_at dksX3_both_4 0 rfl rfl)
theorem dX3_both_101 : decode cX3_both 101 = .ok (.iload_n 1, 1) := dk_27 (dk_at dksX3_both_4 1 rfl rfl)
theorem dX3_both_102 : decode cX3_both 102 = .ok (.iload_n 2, 1) := dk_28 (dk_at dksX3_both_4 2 rfl rfl)
theorem dX3_both_103 : decode cX3_both 103 = .ok (.ior, 1) := dk_128 (dk_at dksX3_both_4 3 rfl rfl)
theorem dX3_both_104 : decode cX3_both 104 = .ok (.ireturn, 1) := dk_172 (dk_at dksX3_both_4 4 rfl rfl)
abbrev cX3_held : ByteArray := prog_17_method_5_code
def yX3_held : MethodName := ⟨RX3, "held", "(III)I"⟩
def dkwX3_held_0 : List UInt8 := [27, 28, 26, 184, 0, 47, 184, 0, 51, 172]
abbrev dktX3_held_0 : List UInt8 := dkwX3_held_0 ++ []
theorem dksX3_held_0 : cX3_held.data.toList.drop 0 = dktX3_held_0 := by decide +kernel
theorem dX3_held_0 : decode cX3_held 0 = .ok (.iload_n 1, 1) := dk_27 (dk_at dksX3_held_0 0 rfl rfl)
theorem dX3_held_1 : decode cX3_held 1 = .ok (.iload_n 2, 1) := dk_28 (dk_at dksX3_held_0 1 rfl rfl)
theorem dX3_held_2 : decode cX3_held 2 = .ok (.iload_n 0, 1) := dk_26 (dk_at dksX3_held_0 2 rfl rfl)
theorem dX3_held_3 : decode cX3_held 3 = .ok (.invokestatic 47, 3) := dk_184 0 47 (dk_at dksX3_held_0 3 rfl rfl)
theorem dX3_held_6 : decode cX3_held 6 = .ok (.invokestatic 51, 3) := dk_184 0 51 (dk_at dksX3_held_0 6 rfl rfl)
theorem dX3_held_9 : decode cX3_held 9 = .ok (.ireturn, 1) := dk_172 (dk_at dksX3_held_0 9 rfl rfl)
abbrev cX3_notes : ByteArray := prog_17_method_70_code
def yX3_notes : MethodName := ⟨RX3, "notes", "(III)V"⟩
def dkwX3_notes_3 : List UInt8 := [21, 4, 6, 96, 29, 79, 42, 180, 0, 7, 6, 92, 46, 4, 96, 79, 177]
abbrev dktX3_notes_3 : List UInt8 := dkwX3_notes_3 ++ []
def dkwX3_notes_2 : List UInt8 := [180, 0, 7, 21, 4, 4, 96, 27, 79, 42, 180, 0, 7, 21, 4, 5, 96, 28, 79, 42, 180, 0, 7]
abbrev dktX3_notes_2 : List UInt8 := dkwX3_notes_2 ++ dktX3_notes_3
def dkwX3_notes_1 : List UInt8 := [42, 180, 0, 7, 6, 46, 104, 96, 54, 4, 42, 180, 0, 7, 21, 4, 42, 180, 0, 7, 3, 46, 79, 42]
abbrev dktX3_notes_1 : List UInt8 := dkwX3_notes_1 ++ dktX3_notes_2
def dkwX3_notes_0 : List UInt8 := [42, 180, 1, 57, 153, 0, 15, 42, 180, 0, 7, 6, 46, 17, 0, 150, 160, 0, 4, 177, 17, 0, 241, 7]
abbrev dktX3_notes_0 : List UInt8 := dkwX3_notes_0 ++ dktX3_notes_1
theorem dksX3_notes_0 : cX3_notes.data.toList.drop 0 = dktX3_notes_0 := by decide +kernel
theorem dksX3_notes_1 : cX3_notes.data.toList.drop 24 = dktX3_notes_1 := dk_seg dksX3_notes_0 24 rfl rfl
theorem dksX3_notes_2 : cX3_notes.data.toList.drop 48 = dktX3_notes_2 := dk_seg dksX3_notes_1 24 rfl rfl
theorem dksX3_notes_3 : cX3_notes.data.toList.drop 71 = dktX3_notes_3 := dk_seg dksX3_notes_2 23 rfl rfl
theorem dX3_notes_0 : decode cX3_notes 0 = .ok (.aload_n 0, 1) := dk_42 (dk_at dksX3_notes_0 0 rfl rfl)
theorem dX3_notes_1 : decode cX3_notes 1 = .ok (.getfield 313, 3) := dk_180 1 57 (dk_at dksX3_notes_0 1 rfl rfl)
theorem dX3_notes_4 : decode cX3_notes 4 = .ok (.ifCond .eq 15, 3) := dk_153 0 15 (dk_at dksX3_notes_0 4 rfl rfl)
theorem dX3_notes_7 : decode cX3_notes 7 = .ok (.aload_n 0, 1) := dk_42 (dk_at dksX3_notes_0 7 rfl rfl)
theorem dX3_notes_8 : decode cX3_notes 8 = .ok (.getfield 7, 3) := dk_180 0 7 (dk_at dksX3_notes_0 8 rfl rfl)
theorem dX3_notes_11 : decode cX3_notes 11 = .ok (.iconst 3, 1) := dk_6 (dk_at dksX3_notes_0 11 rfl rfl)
theorem dX3_notes_12 : decode cX3_notes 12 = .ok (.iaload, 1) := dk_46 (dk_at dksX3_notes_0 12 rfl rfl)
theorem dX3_notes_13 : decode cX3_notes 13 = .ok (.sipush 150, 3) := dk_17 0 150 (dk_at dksX3_notes_0 13 rfl rfl)
theorem dX3_notes_16 : decode cX3_notes 16 = .ok (.if_icmp .ne 4, 3) := dk_160 0 4 (dk_at dksX3_notes_0 16 rfl rfl)
theorem dX3_notes_19 : decode cX3_notes 19 = .ok (.return_, 1) := dk_177 (dk_at dksX3_notes_0 19 rfl rfl)
theorem dX3_notes_20 : decode cX3_notes 20 = .ok (.sipush 241, 3) := dk_17 0 241 (dk_at dksX3_notes_0 20 rfl rfl)
theorem dX3_notes_23 : decode cX3_notes 23 = .ok (.iconst 4, 1) := dk_7 (dk_at dksX3_notes_0 23 rfl rfl)
theorem dX3_notes_24 : decode cX3_notes 24 = .ok (.aload_n 0, 1) := dk_42 (dk_at dksX3_notes_1 0 rfl rfl)
theorem dX3_notes_25 : decode cX3_notes 25 = .ok (.getfield 7, 3) := dk_180 0 7 (dk_at dksX3_notes_1 1 rfl rfl)
theorem dX3_notes_28 : decode cX3_notes 28 = .ok (.iconst 3, 1) := dk_6 (dk_at dksX3_notes_1 4 rfl rfl)
theorem dX3_notes_29 : decode cX3_notes 29 = .ok (.iaload, 1) := dk_46 (dk_at dksX3_notes_1 5 rfl rfl)
theorem dX3_notes_30 : decode cX3_notes 30 = .ok (.imul, 1) := dk_104 (dk_at dksX3_notes_1 6 rfl rfl)
theorem dX3_notes_31 : decode cX3_notes 31 = .ok (.iadd, 1) := dk_96 (dk_at dksX3_notes_1 7 rfl rfl)
theorem dX3_notes_32 : decode cX3_notes 32 = .ok (.istore 4, 2) := dk_54 4 (dk_at dksX3_notes_1 8 rfl rfl)
theorem dX3_notes_34 : decode cX3_notes 34 = .ok (.aload_n 0, 1) := dk_42 (dk_at dksX3_notes_1 10 rfl rfl)
theorem dX3_notes_35 : decode cX3_notes 35 = .ok (.getfield 7, 3) := dk_180 0 7 (dk_at dksX3_notes_1 11 rfl rfl)
theorem dX3_notes_38 : decode cX3_notes 38 = .ok (.iload 4, 2) := dk_21 4 (dk_at dksX3_notes_1 14 rfl rfl)
theorem dX3_notes_40 : decode cX3_notes 40 = .ok (.aload_n 0, 1) := dk_42 (dk_at dksX3_notes_1 16 rfl rfl)
theorem dX3_notes_41 : decode cX3_notes 41 = .ok (.getfield 7, 3) := dk_180 0 7 (dk_at dksX3_notes_1 17 rfl rfl)
theorem dX3_notes_44 : decode cX3_notes 44 = .ok (.iconst 0, 1) := dk_3 (dk_at dksX3_notes_1 20 rfl rfl)
theorem dX3_notes_45 : decode cX3_notes 45 = .ok (.iaload, 1) := dk_46 (dk_at dksX3_notes_1 21 rfl rfl)
theorem dX3_notes_46 : decode cX3_notes 46 = .ok (.iastore, 1) := dk_79 (dk_at dksX3_notes_1 22 rfl rfl)
theorem dX3_notes_47 : decode cX3_notes 47 = .ok (.aload_n 0, 1) := dk_42 (dk_at dksX3_notes_1 23 rfl rfl)
theorem dX3_notes_48 : decode cX3_notes 48 = .ok (.getfield 7, 3) := dk_180 0 7 (dk_at dksX3_notes_2 0 rfl rfl)
theorem dX3_notes_51 : decode cX3_notes 51 = .ok (.iload 4, 2) := dk_21 4 (dk_at dksX3_notes_2 3 rfl rfl)
theorem dX3_notes_53 : decode cX3_notes 53 = .ok (.iconst 1, 1) := dk_4 (dk_at dksX3_notes_2 5 rfl rfl)
theorem dX3_notes_54 : decode cX3_notes 54 = .ok (.iadd, 1) := dk_96 (dk_at dksX3_notes_2 6 rfl rfl)
theorem dX3_notes_55 : decode cX3_notes 55 = .ok (.iload_n 1, 1) := dk_27 (dk_at dksX3_notes_2 7 rfl rfl)
theorem dX3_notes_56 : decode cX3_notes 56 = .ok (.iastore, 1) := dk_79 (dk_at dksX3_notes_2 8 rfl rfl)
theorem dX3_notes_57 : decode cX3_notes 57 = .ok (.aload_n 0, 1) := dk_42 (dk_at dksX3_notes_2 9 rfl rfl)
theorem dX3_notes_58 : decode cX3_notes 58 = .ok (.getfield 7, 3) := dk_180 0 7 (dk_at dksX3_notes_2 10 rfl rfl)
theorem dX3_notes_61 : decode cX3_notes 61 = .ok (.iload 4, 2) := dk_21 4 (dk_at dksX3_notes_2 13 rfl rfl)
theorem dX3_notes_63 : decode cX3_notes 63 = .ok (.iconst 2, 1) := dk_5 (dk_at dksX3_notes_2 15 rfl rfl)
theorem dX3_notes_64 : decode cX3_notes 64 = .ok (.iadd, 1) := dk_96 (dk_at dksX3_notes_2 16 rfl rfl)
theorem dX3_notes_65 : decode cX3_notes 65 = .ok (.iload_n 2, 1) := dk_28 (dk_at dksX3_notes_2 17 rfl rfl)
theorem dX3_notes_66 : decode cX3_notes 66 = .ok (.iastore, 1) := dk_79 (dk_at dksX3_notes_2 18 rfl rfl)
theorem dX3_notes_67 : decode cX3_notes 67 = .ok (.aload_n 0, 1) := dk_42 (dk_at dksX3_notes_2 19 rfl rfl)
theorem dX3_notes_68 : decode cX3_notes 68 = .ok (.getfield 7, 3) := dk_180 0 7 (dk_at dksX3_notes_2 20 rfl rfl)
theorem dX3_notes_71 : decode cX3_notes 71 = .ok (.iload 4, 2) := dk_21 4 (dk_at dksX3_notes_3 0 rfl rfl)
theorem dX3_notes_73 : decode cX3_notes 73 = .ok (.iconst 3, 1) := dk_6 (dk_at dksX3_notes_3 2 rfl rfl)
theorem dX3_notes_74 : decode cX3_notes 74 = .ok (.iadd, 1) := dk_96 (dk_at dksX3_notes_3 3 rfl rfl)
theorem dX3_notes_75 : decode cX3_notes 75 = .ok (.iload_n 3, 1) := dk_29 (dk_at dksX3_notes_3 4 rfl rfl)
theorem dX3_notes_76 : decode cX3_notes 76 = .ok (.iastore, 1) := dk_79 (dk_at dksX3_notes_3 5 rfl rfl)
theorem dX3_notes_77 : decode cX3_notes 77 = .ok (.aload_n 0, 1) := dk_42 (dk_at dksX3_notes_3 6 rfl rfl)
theorem dX3_notes_78 : decode cX3_notes 78 = .ok (.getfield 7, 3) := dk_180 0 7 (dk_at dksX3_notes_3 7 rfl rfl)
theorem dX3_notes_81 : decode cX3_notes 81 = .ok (.iconst 3, 1) := dk_6 (dk_at dksX3_notes_3 10 rfl rfl)
theorem dX3_notes_82 : decode cX3_notes 82 = .ok (.dup2, 1) := dk_92 (dk_at dksX3_notes_3 11 rfl rfl)
theorem dX3_notes_83 : decode cX3_notes 83 = .ok (.iaload, 1) := dk_46 (dk_at dksX3_notes_3 12 rfl rfl)
theorem dX3_notes_84 : decode cX3_notes 84 = .ok (.iconst 1, 1) := dk_4 (dk_at dksX3_notes_3 13 rfl rfl)
theorem dX3_notes_85 : decode cX3_notes 85 = .ok (.iadd, 1) := dk_96 (dk_at dksX3_notes_3 14 rfl rfl)
theorem dX3_notes_86 : decode cX3_notes 86 = .ok (.iastore, 1) := dk_79 (dk_at dksX3_notes_3 15 rfl rfl)
theorem dX3_notes_87 : decode cX3_notes 87 = .ok (.return_, 1) := dk_177 (dk_at dksX3_notes_3 16 rfl rfl)
abbrev cX3_bridge : ByteArray := prog_17_method_80_code
def yX3_bridge : MethodName := ⟨RX3, "bridge", "(I)Z"⟩
def dkwX3_bridge_0 : List UInt8 := [42, 27, 182, 1, 80, 154, 0, 5, 3, 172, 42, 182, 1, 74, 42, 27, 182, 1, 83, 4, 172]
abbrev dktX3_bridge_0 : List UInt8 := dkwX3_bridge_0 ++ []
theorem dksX3_bridge_0 : cX3_bridge.data.toList.drop 0 = dktX3_bridge_0 := by decide +kernel
theorem dX3_bridge_0 : decode cX3_bridge 0 = .ok (.aload_n 0, 1) := dk_42 (dk_at dksX3_bridge_0 0 rfl rfl)
theorem dX3_bridge_1 : decode cX3_bridge 1 = .ok (.iload_n 1, 1) := dk_27 (dk_at dksX3_bridge_0 1 rfl rfl)
theorem dX3_bridge_2 : decode cX3_bridge 2 = .ok (.invokevirtual 336, 3) := dk_182 1 80 (dk_at dksX3_bridge_0 2 rfl rfl)
theorem dX3_bridge_5 : decode cX3_bridge 5 = .ok (.ifCond .ne 5, 3) := dk_154 0 5 (dk_at dksX3_bridge_0 5 rfl rfl)
theorem dX3_bridge_8 : decode cX3_bridge 8 = .ok (.iconst 0, 1) := dk_3 (dk_at dksX3_bridge_0 8 rfl rfl)
theorem dX3_bridge_9 : decode cX3_bridge 9 = .ok (.ireturn, 1) := dk_172 (dk_at dksX3_bridge_0 9 rfl rfl)
theorem dX3_bridge_10 : decode cX3_bridge 10 = .ok (.aload_n 0, 1) := dk_42 (dk_at dksX3_bridge_0 10 rfl rfl)
theorem dX3_bridge_11 : decode cX3_bridge 11 = .ok (.invokevirtual 330, 3) := dk_182 1 74 (dk_at dksX3_bridge_0 11 rfl rfl)
theorem dX3_bridge_14 : decode cX3_bridge 14 = .ok (.aload_n 0, 1) := dk_42 (dk_at dksX3_bridge_0 14 rfl rfl)
theorem dX3_bridge_15 : decode cX3_bridge 15 = .ok (.iload_n 1, 1) := dk_27 (dk_at dksX3_bridge_0 15 rfl rfl)
theorem dX3_bridge_16 : decode cX3_bridge 16 = .ok (.invokevirtual 339, 3) := dk_182 1 83 (dk_at dksX3_bridge_0 16 rfl rfl)
theorem dX3_bridge_19 : decode cX3_bridge 19 = .ok (.iconst 1, 1) := dk_4 (dk_at dksX3_bridge_0 19 rfl rfl)
theorem dX3_bridge_20 : decode cX3_bridge 20 = .ok (.ireturn, 1) := dk_172 (dk_at dksX3_bridge_0 20 rfl rfl)
abbrev cX3_canBridge : ByteArray := prog_17_method_73_code
def yX3_canBridge : MethodName := ⟨RX3, "canBridge", "(I)Z"⟩
def dkwX3_canBridge_1 : List UInt8 := [162, 0, 15, 42, 27, 182, 1, 32, 154, 0, 7, 4, 167, 0, 4, 3, 172]
abbrev dktX3_canBridge_1 : List UInt8 := dkwX3_canBridge_1 ++ []
def dkwX3_canBridge_0 : List UInt8 := [42, 27, 182, 1, 61, 153, 0, 32, 27, 158, 0, 28, 27, 42, 180, 0, 7, 16, 88, 46, 4, 100]
abbrev dktX3_canBridge_0 : List UInt8 := dkwX3_canBridge_0 ++ dktX3_canBridge_1
theorem dksX3_canBridge_0 : cX3_canBridge.data.toList.drop 0 = dktX3_canBridge_0 := by decide +kernel
theorem dksX3_canBridge_1 : cX3_canBridge.data.toList.drop 22 = dktX3_canBridge_1 := dk_seg dksX3_canBridge_0 22 rfl rfl
theorem dX3_canBridge_0 : decode cX3_canBridge 0 = .ok (.aload_n 0, 1) := dk_42 (dk_at dksX3_canBridge_0 0 rfl rfl)
theorem dX3_canBridge_1 : decode cX3_canBridge 1 = .ok (.iload_n 1, 1) := dk_27 (dk_at dksX3_canBridge_0 1 rfl rfl)
theorem dX3_canBridge_2 : decode cX3_canBridge 2 = .ok (.invokevirtual 317, 3) := dk_182 1 61 (dk_at dksX3_canBridge_0 2 rfl rfl)
theorem dX3_canBridge_5 : decode cX3_canBridge 5 = .ok (.ifCond .eq 32, 3) := dk_153 0 32 (dk_at dksX3_canBridge_0 5 rfl rfl)
theorem dX3_canBridge_8 : decode cX3_canBridge 8 = .ok (.iload_n 1, 1) := dk_27 (dk_at dksX3_canBridge_0 8 rfl rfl)
theorem dX3_canBridge_9 : decode cX3_canBridge 9 = .ok (.ifCond .le 28, 3) := dk_158 0 28 (dk_at dksX3_canBridge_0 9 rfl rfl)
theorem dX3_canBridge_12 : decode cX3_canBridge 12 = .ok (.iload_n 1, 1) := dk_27 (dk_at dksX3_canBridge_0 12 rfl rfl)
theorem dX3_canBridge_13 : decode cX3_canBridge 13 = .ok (.aload_n 0, 1) := dk_42 (dk_at dksX3_canBridge_0 13 rfl rfl)
theorem dX3_canBridge_14 : decode cX3_canBridge 14 = .ok (.getfield 7, 3) := dk_180 0 7 (dk_at dksX3_canBridge_0 14 rfl rfl)
theorem dX3_canBridge_17 : decode cX3_canBridge 17 = .ok (.bipush 88, 2) := dk_16 88 (dk_at dksX3_canBridge_0 17 rfl rfl)
theorem dX3_canBridge_19 : decode cX3_canBridge 19 = .ok (.iaload, 1) := dk_46 (dk_at dksX3_canBridge_0 19 rfl rfl)
theorem dX3_canBridge_20 : decode cX3_canBridge 20 = .ok (.iconst 1, 1) := dk_4 (dk_at dksX3_canBridge_0 20 rfl rfl)
theorem dX3_canBridge_21 : decode cX3_canBridge 21 = .ok (.isub, 1) := dk_100 (dk_at dksX3_canBridge_0 21 rfl rfl)
theorem dX3_canBridge_22 : decode cX3_canBridge 22 = .ok (.if_icmp .ge 15, 3) := dk_162 0 15 (dk_at dksX3_canBridge_1 0 rfl rfl)
theorem dX3_canBridge_25 : decode cX3_canBridge 25 = .ok (.aload_n 0, 1) := dk_42 (dk_at dksX3_canBridge_1 3 rfl rfl)
theorem dX3_canBridge_26 : decode cX3_canBridge 26 = .ok (.iload_n 1, 1) := dk_27 (dk_at dksX3_canBridge_1 4 rfl rfl)
theorem dX3_canBridge_27 : decode cX3_canBridge 27 = .ok (.invokevirtual 288, 3) := dk_182 1 32 (dk_at dksX3_canBridge_1 5 rfl rfl)
theorem dX3_canBridge_30 : decode cX3_canBridge 30 = .ok (.ifCond .ne 7, 3) := dk_154 0 7 (dk_at dksX3_canBridge_1 8 rfl rfl)
theorem dX3_canBridge_33 : decode cX3_canBridge 33 = .ok (.iconst 1, 1) := dk_4 (dk_at dksX3_canBridge_1 11 rfl rfl)
theorem dX3_canBridge_34 : decode cX3_canBridge 34 = .ok (.goto 4, 3) := dk_167 0 4 (dk_at dksX3_canBridge_1 12 rfl rfl)
theorem dX3_canBridge_37 : decode cX3_canBridge 37 = .ok (.iconst 0, 1) := dk_3 (dk_at dksX3_canBridge_1 15 rfl rfl)
theorem dX3_canBridge_38 : decode cX3_canBridge 38 = .ok (.ireturn, 1) := dk_172 (dk_at dksX3_canBridge_1 16 rfl rfl)
abbrev cX3_bridges0 : ByteArray := prog_17_method_74_code
def yX3_bridges0 : MethodName := ⟨RX3, "bridges0", "(I)V"⟩
def dkwX3_bridges0_0 : List UInt8 := [42, 180, 0, 7, 16, 64, 27, 96, 4, 79, 42, 4, 27, 3, 182, 1, 67, 177]
abbrev dktX3_bridges0_0 : List UInt8 := dkwX3_bridges0_0 ++ []
theorem dksX3_bridges0_0 : cX3_bridges0.data.toList.drop 0 = dktX3_bridges0_0 := by decide +kernel
theorem dX3_bridges0_0 : decode cX3_bridges0 0 = .ok (.aload_n 0, 1) := dk_42 (dk_at dksX3_bridges0_0 0 rfl rfl)
theorem dX3_bridges0_1 : decode cX3_bridges0 1 = .ok (.getfield 7, 3) := dk_180 0 7 (dk_at dksX3_bridges0_0 1 rfl rfl)
theorem dX3_bridges0_4 : decode cX3_bridges0 4 = .ok (.bipush 64, 2) := dk_16 64 (dk_at dksX3_bridges0_0 4 rfl rfl)
theorem dX3_bridges0_6 : decode cX3_bridges0 6 = .ok (.iload_n 1, 1) := dk_27 (dk_at dksX3_bridges0_0 6 rfl rfl)
theorem dX3_bridges0_7 : decode cX3_bridges0 7 = .ok (.iadd, 1) := dk_96 (dk_at dksX3_bridges0_0 7 rfl rfl)
theorem dX3_bridges0_8 : decode cX3_bridges0 8 = .ok (.iconst 1, 1) := dk_4 (dk_at dksX3_bridges0_0 8 rfl rfl)
theorem dX3_bridges0_9 : decode cX3_bridges0 9 = .ok (.iastore, 1) := dk_79 (dk_at dksX3_bridges0_0 9 rfl rfl)
theorem dX3_bridges0_10 : decode cX3_bridges0 10 = .ok (.aload_n 0, 1) := dk_42 (dk_at dksX3_bridges0_0 10 rfl rfl)
theorem dX3_bridges0_11 : decode cX3_bridges0 11 = .ok (.iconst 1, 1) := dk_4 (dk_at dksX3_bridges0_0 11 rfl rfl)
theorem dX3_bridges0_12 : decode cX3_bridges0 12 = .ok (.iload_n 1, 1) := dk_27 (dk_at dksX3_bridges0_0 12 rfl rfl)
theorem dX3_bridges0_13 : decode cX3_bridges0 13 = .ok (.iconst 0, 1) := dk_3 (dk_at dksX3_bridges0_0 13 rfl rfl)
theorem dX3_bridges0_14 : decode cX3_bridges0 14 = .ok (.invokevirtual 323, 3) := dk_182 1 67 (dk_at dksX3_bridges0_0 14 rfl rfl)
theorem dX3_bridges0_17 : decode cX3_bridges0 17 = .ok (.return_, 1) := dk_177 (dk_at dksX3_bridges0_0 17 rfl rfl)
abbrev cX3_pay : ByteArray := prog_17_method_81_code
def yX3_pay : MethodName := ⟨RX3, "pay", "(III)Z"⟩
def dkwX3_pay_1 : List UInt8 := [182, 1, 74, 42, 27, 28, 29, 182, 1, 90, 4, 172]
abbrev dktX3_pay_1 : List UInt8 := dkwX3_pay_1 ++ []
def dkwX3_pay_0 : List UInt8 := [29, 4, 16, 99, 184, 0, 54, 153, 0, 13, 42, 27, 28, 29, 182, 1, 87, 154, 0, 5, 3, 172, 42]
abbrev dktX3_pay_0 : List UInt8 := dkwX3_pay_0 ++ dktX3_pay_1
theorem dksX3_pay_0 : cX3_pay.data.toList.drop 0 = dktX3_pay_0 := by decide +kernel
theorem dksX3_pay_1 : cX3_pay.data.toList.drop 23 = dktX3_pay_1 := dk_seg dksX3_pay_0 23 rfl rfl
theorem dX3_pay_0 : decode cX3_pay 0 = .ok (.iload_n 3, 1) := dk_29 (dk_at dksX3_pay_0 0 rfl rfl)
theorem dX3_pay_1 : decode cX3_pay 1 = .ok (.iconst 1, 1) := dk_4 (dk_at dksX3_pay_0 1 rfl rfl)
theorem dX3_pay_2 : decode cX3_pay 2 = .ok (.bipush 99, 2) := dk_16 99 (dk_at dksX3_pay_0 2 rfl rfl)
theorem dX3_pay_4 : decode cX3_pay 4 = .ok (.invokestatic 54, 3) := dk_184 0 54 (dk_at dksX3_pay_0 4 rfl rfl)
theorem dX3_pay_7 : decode cX3_pay 7 = .ok (.ifCond .eq 13, 3) := dk_153 0 13 (dk_at dksX3_pay_0 7 rfl rfl)
theorem dX3_pay_10 : decode cX3_pay 10 = .ok (.aload_n 0, 1) := dk_42 (dk_at dksX3_pay_0 10 rfl rfl)
theorem dX3_pay_11 : decode cX3_pay 11 = .ok (.iload_n 1, 1) := dk_27 (dk_at dksX3_pay_0 11 rfl rfl)
theorem dX3_pay_12 : decode cX3_pay 12 = .ok (.iload_n 2, 1) := dk_28 (dk_at dksX3_pay_0 12 rfl rfl)
theorem dX3_pay_13 : decode cX3_pay 13 = .ok (.iload_n 3, 1) := dk_29 (dk_at dksX3_pay_0 13 rfl rfl)
theorem dX3_pay_14 : decode cX3_pay 14 = .ok (.invokevirtual 343, 3) := dk_182 1 87 (dk_at dksX3_pay_0 14 rfl rfl)
theorem dX3_pay_17 : decode cX3_pay 17 = .ok (.ifCond .ne 5, 3) := dk_154 0 5 (dk_at dksX3_pay_0 17 rfl rfl)
theorem dX3_pay_20 : decode cX3_pay 20 = .ok (.iconst 0, 1) := dk_3 (dk_at dksX3_pay_0 20 rfl rfl)
theorem dX3_pay_21 : decode cX3_pay 21 = .ok (.ireturn, 1) := dk_172 (dk_at dksX3_pay_0 21 rfl rfl)
theorem dX3_pay_22 : decode cX3_pay 22 = .ok (.aload_n 0, 1) := dk_42 (dk_at dksX3_pay_0 22 rfl rfl)
theorem dX3_pay_23 : decode cX3_pay 23 = .ok (.invokevirtual 330, 3) := dk_182 1 74 (dk_at dksX3_pay_1 0 rfl rfl)
theorem dX3_pay_26 : decode cX3_pay 26 = .ok (.aload_n 0, 1) := dk_42 (dk_at dksX3_pay_1 3 rfl rfl)
theorem dX3_pay_27 : decode cX3_pay 27 = .ok (.iload_n 1, 1) := dk_27 (dk_at dksX3_pay_1 4 rfl rfl)
theorem dX3_pay_28 : decode cX3_pay 28 = .ok (.iload_n 2, 1) := dk_28 (dk_at dksX3_pay_1 5 rfl rfl)
theorem dX3_pay_29 : decode cX3_pay 29 = .ok (.iload_n 3, 1) := dk_29 (dk_at dksX3_pay_1 6 rfl rfl)
theorem dX3_pay_30 : decode cX3_pay 30 = .ok (.invokevirtual 346, 3) := dk_182 1 90 (dk_at dksX3_pay_1 7 rfl rfl)
theorem dX3_pay_33 : decode cX3_pay 33 = .ok (.iconst 1, 1) := dk_4 (dk_at dksX3_pay_1 10 rfl rfl)
theorem dX3_pay_34 : decode cX3_pay 34 = .ok (.ireturn, 1) := dk_172 (dk_at dksX3_pay_1 11 rfl rfl)
abbrev cX3_canPay0 : ByteArray := prog_17_method_75_code
def yX3_canPay0 : MethodName := ⟨RX3, "canPay0", "(III)Z"⟩
def dkwX3_canPay0_2 : List UInt8 := [46, 29, 96, 17, 39, 15, 163, 0, 7, 4, 167, 0, 4, 3, 172]
abbrev dktX3_canPay0_2 : List UInt8 := dkwX3_canPay0_2 ++ []
def dkwX3_canPay0_1 : List UInt8 := [180, 0, 7, 16, 16, 27, 96, 46, 29, 100, 17, 216, 241, 161, 0, 24, 42, 180, 0, 7, 16, 16, 28, 96]
abbrev dktX3_canPay0_1 : List UInt8 := dkwX3_canPay0_1 ++ dktX3_canPay0_2
def dkwX3_canPay0_0 : List UInt8 := [42, 27, 182, 0, 58, 153, 0, 54, 42, 28, 182, 0, 58, 153, 0, 46, 27, 28, 159, 0, 41, 42]
abbrev dktX3_canPay0_0 : List UInt8 := dkwX3_canPay0_0 ++ dktX3_canPay0_1
theorem dksX3_canPay0_0 : cX3_canPay0.data.toList.drop 0 = dktX3_canPay0_0 := by decide +kernel
theorem dksX3_canPay0_1 : cX3_canPay0.data.toList.drop 22 = dktX3_canPay0_1 := dk_seg dksX3_canPay0_0 22 rfl rfl
theorem dksX3_canPay0_2 : cX3_canPay0.data.toList.drop 46 = dktX3_canPay0_2 := dk_seg dksX3_canPay0_1 24 rfl rfl
theorem dX3_canPay0_0 : decode cX3_canPay0 0 = .ok (.aload_n 0, 1) := dk_42 (dk_at dksX3_canPay0_0 0 rfl rfl)
theorem dX3_canPay0_1 : decode cX3_canPay0 1 = .ok (.iload_n 1, 1) := dk_27 (dk_at dksX3_canPay0_0 1 rfl rfl)
theorem dX3_canPay0_2 : decode cX3_canPay0 2 = .ok (.invokevirtual 58, 3) := dk_182 0 58 (dk_at dksX3_canPay0_0 2 rfl rfl)
theorem dX3_canPay0_5 : decode cX3_canPay0 5 = .ok (.ifCond .eq 54, 3) := dk_153 0 54 (dk_at dksX3_canPay0_0 5 rfl rfl)
theorem dX3_canPay0_8 : decode cX3_canPay0 8 = .ok (.aload_n 0, 1) := dk_42 (dk_at dksX3_canPay0_0 8 rfl rfl)
theorem dX3_canPay0_9 : decode cX3_canPay0 9 = .ok (.iload_n 2, 1) := dk_28 (dk_at dksX3_canPay0_0 9 rfl rfl)
theorem dX3_canPay0_10 : decode cX3_canPay0 10 = .ok (.invokevirtual 58, 3) := dk_182 0 58 (dk_at dksX3_canPay0_0 10 rfl rfl)
theorem dX3_canPay0_13 : decode cX3_canPay0 13 = .ok (.ifCond .eq 46, 3) := dk_153 0 46 (dk_at dksX3_canPay0_0 13 rfl rfl)
theorem dX3_canPay0_16 : decode cX3_canPay0 16 = .ok (.iload_n 1, 1) := dk_27 (dk_at dksX3_canPay0_0 16 rfl rfl)
theorem dX3_canPay0_17 : decode cX3_canPay0 17 = .ok (.iload_n 2, 1) := dk_28 (dk_at dksX3_canPay0_0 17 rfl rfl)
theorem dX3_canPay0_18 : decode cX3_canPay0 18 = .ok (.if_icmp .eq 41, 3) := dk_159 0 41 (dk_at dksX3_canPay0_0 18 rfl rfl)
theorem dX3_canPay0_21 : decode cX3_canPay0 21 = .ok (.aload_n 0, 1) := dk_42 (dk_at dksX3_canPay0_0 21 rfl rfl)
theorem dX3_canPay0_22 : decode cX3_canPay0 22 = .ok (.getfield 7, 3) := dk_180 0 7 (dk_at dksX3_canPay0_1 0 rfl rfl)
theorem dX3_canPay0_25 : decode cX3_canPay0 25 = .ok (.bipush 16, 2) := dk_16 16 (dk_at dksX3_canPay0_1 3 rfl rfl)
theorem dX3_canPay0_27 : decode cX3_canPay0 27 = .ok (.iload_n 1, 1) := dk_27 (dk_at dksX3_canPay0_1 5 rfl rfl)
theorem dX3_canPay0_28 : decode cX3_canPay0 28 = .ok (.iadd, 1) := dk_96 (dk_at dksX3_canPay0_1 6 rfl rfl)
theorem dX3_canPay0_29 : decode cX3_canPay0 29 = .ok (.iaload, 1) := dk_46 (dk_at dksX3_canPay0_1 7 rfl rfl)
theorem dX3_canPay0_30 : decode cX3_canPay0 30 = .ok (.iload_n 3, 1) := dk_29 (dk_at dksX3_canPay0_1 8 rfl rfl)
theorem dX3_canPay0_31 : decode cX3_canPay0 31 = .ok (.isub, 1) := dk_100 (dk_at dksX3_canPay0_1 9 rfl rfl)
theorem dX3_canPay0_32 : decode cX3_canPay0 32 = .ok (.sipush (-9999), 3) := dk_17 216 241 (dk_at dksX3_canPay0_1 10 rfl rfl)
theorem dX3_canPay0_35 : decode cX3_canPay0 35 = .ok (.if_icmp .lt 24, 3) := dk_161 0 24 (dk_at dksX3_canPay0_1 13 rfl rfl)
theorem dX3_canPay0_38 : decode cX3_canPay0 38 = .ok (.aload_n 0, 1) := dk_42 (dk_at dksX3_canPay0_1 16 rfl rfl)
theorem dX3_canPay0_39 : decode cX3_canPay0 39 = .ok (.getfield 7, 3) := dk_180 0 7 (dk_at dksX3_canPay0_1 17 rfl rfl)
theorem dX3_canPay0_42 : decode cX3_canPay0 42 = .ok (.bipush 16, 2) := dk_16 16 (dk_at dksX3_canPay0_1 20 rfl rfl)
theorem dX3_canPay0_44 : decode cX3_canPay0 44 = .ok (.iload_n 2, 1) := dk_28 (dk_at dksX3_canPay0_1 22 rfl rfl)
theorem dX3_canPay0_45 : decode cX3_canPay0 45 = .ok (.iadd, 1) := dk_96 (dk_at dksX3_canPay0_1 23 rfl rfl)
theorem dX3_canPay0_46 : decode cX3_canPay0 46 = .ok (.iaload, 1) := dk_46 (dk_at dksX3_canPay0_2 0 rfl rfl)
theorem dX3_canPay0_47 : decode cX3_canPay0 47 = .ok (.iload_n 3, 1) := dk_29 (dk_at dksX3_canPay0_2 1 rfl rfl)
theorem dX3_canPay0_48 : decode cX3_canPay0 48 = .ok (.iadd, 1) := dk_96 (dk_at dksX3_canPay0_2 2 rfl rfl)
theorem dX3_canPay0_49 : decode cX3_canPay0 49 = .ok (.sipush 9999, 3) := dk_17 39 15 (dk_at dksX3_canPay0_2 3 rfl rfl)
theorem dX3_canPay0_52 : decode cX3_canPay0 52 = .ok (.if_icmp .gt 7, 3) := dk_163 0 7 (dk_at dksX3_canPay0_2 6 rfl rfl)
theorem dX3_canPay0_55 : decode cX3_canPay0 55 = .ok (.iconst 1, 1) := dk_4 (dk_at dksX3_canPay0_2 9 rfl rfl)
theorem dX3_canPay0_56 : decode cX3_canPay0 56 = .ok (.goto 4, 3) := dk_167 0 4 (dk_at dksX3_canPay0_2 10 rfl rfl)
theorem dX3_canPay0_59 : decode cX3_canPay0 59 = .ok (.iconst 0, 1) := dk_3 (dk_at dksX3_canPay0_2 13 rfl rfl)
theorem dX3_canPay0_60 : decode cX3_canPay0 60 = .ok (.ireturn, 1) := dk_172 (dk_at dksX3_canPay0_2 14 rfl rfl)
abbrev cX3_pays : ByteArray := prog_17_method_76_code
def yX3_pays : MethodName := ⟨RX3, "pays", "(III)V"⟩
def dkwX3_pays_1 : List UInt8 := [96, 79, 42, 5, 27, 29, 182, 1, 67, 177]
abbrev dktX3_pays_1 : List UInt8 := dkwX3_pays_1 ++ []
def dkwX3_pays_0 : List UInt8 := [42, 180, 0, 7, 16, 16, 27, 96, 92, 46, 29, 100, 79, 42, 180, 0, 7, 16, 16, 28, 96, 92, 46, 29]
abbrev dktX3_pays_0 : List UInt8 := dkwX3_pays_0 ++ dktX3_pays_1
theorem dksX3_pays_0 : cX3_pays.data.toList.drop 0 = dktX3_pays_0 := by decide +kernel
theorem dksX3_pays_1 : cX3_pays.data.toList.drop 24 = dktX3_pays_1 := dk_seg dksX3_pays_0 24 rfl rfl
theorem dX3_pays_0 : decode cX3_pays 0 = .ok (.aload_n 0, 1) := dk_42 (dk_at dksX3_pays_0 0 rfl rfl)
theorem dX3_pays_1 : decode cX3_pays 1 = .ok (.getfield 7, 3) := dk_180 0 7 (dk_at dksX3_pays_0 1 rfl rfl)
theorem dX3_pays_4 : decode cX3_pays 4 = .ok (.bipush 16, 2) := dk_16 16 (dk_at dksX3_pays_0 4 rfl rfl)
theorem dX3_pays_6 : decode cX3_pays 6 = .ok (.iload_n 1, 1) := dk_27 (dk_at dksX3_pays_0 6 rfl rfl)
theorem dX3_pays_7 : decode cX3_pays 7 = .ok (.iadd, 1) := dk_96 (dk_at dksX3_pays_0 7 rfl rfl)
theorem dX3_pays_8 : decode cX3_pays 8 = .ok (.dup2, 1) := dk_92 (dk_at dksX3_pays_0 8 rfl rfl)
theorem dX3_pays_9 : decode cX3_pays 9 = .ok (.iaload, 1) := dk_46 (dk_at dksX3_pays_0 9 rfl rfl)
theorem dX3_pays_10 : decode cX3_pays 10 = .ok (.iload_n 3, 1) := dk_29 (dk_at dksX3_pays_0 10 rfl rfl)
theorem dX3_pays_11 : decode cX3_pays 11 = .ok (.isub, 1) := dk_100 (dk_at dksX3_pays_0 11 rfl rfl)
theorem dX3_pays_12 : decode cX3_pays 12 = .ok (.iastore, 1) := dk_79 (dk_at dksX3_pays_0 12 rfl rfl)
theorem dX3_pays_13 : decode cX3_pays 13 = .ok (.aload_n 0, 1) := dk_42 (dk_at dksX3_pays_0 13 rfl rfl)
theorem dX3_pays_14 : decode cX3_pays 14 = .ok (.getfield 7, 3) := dk_180 0 7 (dk_at dksX3_pays_0 14 rfl rfl)
theorem dX3_pays_17 : decode cX3_pays 17 = .ok (.bipush 16, 2) := dk_16 16 (dk_at dksX3_pays_0 17 rfl rfl)
theorem dX3_pays_19 : decode cX3_pays 19 = .ok (.iload_n 2, 1) := dk_28 (dk_at dksX3_pays_0 19 rfl rfl)
theorem dX3_pays_20 : decode cX3_pays 20 = .ok (.iadd, 1) := dk_96 (dk_at dksX3_pays_0 20 rfl rfl)
theorem dX3_pays_21 : decode cX3_pays 21 = .ok (.dup2, 1) := dk_92 (dk_at dksX3_pays_0 21 rfl rfl)
theorem dX3_pays_22 : decode cX3_pays 22 = .ok (.iaload, 1) := dk_46 (dk_at dksX3_pays_0 22 rfl rfl)
theorem dX3_pays_23 : decode cX3_pays 23 = .ok (.iload_n 3, 1) := dk_29 (dk_at dksX3_pays_0 23 rfl rfl)
theorem dX3_pays_24 : decode cX3_pays 24 = .ok (.iadd, 1) := dk_96 (dk_at dksX3_pays_1 0 rfl rfl)
theorem dX3_pays_25 : decode cX3_pays 25 = .ok (.iastore, 1) := dk_79 (dk_at dksX3_pays_1 1 rfl rfl)
theorem dX3_pays_26 : decode cX3_pays 26 = .ok (.aload_n 0, 1) := dk_42 (dk_at dksX3_pays_1 2 rfl rfl)
theorem dX3_pays_27 : decode cX3_pays 27 = .ok (.iconst 2, 1) := dk_5 (dk_at dksX3_pays_1 3 rfl rfl)
theorem dX3_pays_28 : decode cX3_pays 28 = .ok (.iload_n 1, 1) := dk_27 (dk_at dksX3_pays_1 4 rfl rfl)
theorem dX3_pays_29 : decode cX3_pays 29 = .ok (.iload_n 3, 1) := dk_29 (dk_at dksX3_pays_1 5 rfl rfl)
theorem dX3_pays_30 : decode cX3_pays 30 = .ok (.invokevirtual 323, 3) := dk_182 1 67 (dk_at dksX3_pays_1 6 rfl rfl)
theorem dX3_pays_33 : decode cX3_pays 33 = .ok (.return_, 1) := dk_177 (dk_at dksX3_pays_1 9 rfl rfl)
abbrev cX3_paper : ByteArray := prog_17_method_82_code
def yX3_paper : MethodName := ⟨RX3, "paper", "(I)Z"⟩
def dkwX3_paper_0 : List UInt8 := [42, 27, 182, 1, 93, 154, 0, 5, 3, 172, 42, 182, 1, 74, 42, 27, 182, 1, 96, 4, 172]
abbrev dktX3_paper_0 : List UInt8 := dkwX3_paper_0 ++ []
theorem dksX3_paper_0 : cX3_paper.data.toList.drop 0 = dktX3_paper_0 := by decide +kernel
theorem dX3_paper_0 : decode cX3_paper 0 = .ok (.aload_n 0, 1) := dk_42 (dk_at dksX3_paper_0 0 rfl rfl)
theorem dX3_paper_1 : decode cX3_paper 1 = .ok (.iload_n 1, 1) := dk_27 (dk_at dksX3_paper_0 1 rfl rfl)
theorem dX3_paper_2 : decode cX3_paper 2 = .ok (.invokevirtual 349, 3) := dk_182 1 93 (dk_at dksX3_paper_0 2 rfl rfl)
theorem dX3_paper_5 : decode cX3_paper 5 = .ok (.ifCond .ne 5, 3) := dk_154 0 5 (dk_at dksX3_paper_0 5 rfl rfl)
theorem dX3_paper_8 : decode cX3_paper 8 = .ok (.iconst 0, 1) := dk_3 (dk_at dksX3_paper_0 8 rfl rfl)
theorem dX3_paper_9 : decode cX3_paper 9 = .ok (.ireturn, 1) := dk_172 (dk_at dksX3_paper_0 9 rfl rfl)
theorem dX3_paper_10 : decode cX3_paper 10 = .ok (.aload_n 0, 1) := dk_42 (dk_at dksX3_paper_0 10 rfl rfl)
theorem dX3_paper_11 : decode cX3_paper 11 = .ok (.invokevirtual 330, 3) := dk_182 1 74 (dk_at dksX3_paper_0 11 rfl rfl)
theorem dX3_paper_14 : decode cX3_paper 14 = .ok (.aload_n 0, 1) := dk_42 (dk_at dksX3_paper_0 14 rfl rfl)
theorem dX3_paper_15 : decode cX3_paper 15 = .ok (.iload_n 1, 1) := dk_27 (dk_at dksX3_paper_0 15 rfl rfl)
theorem dX3_paper_16 : decode cX3_paper 16 = .ok (.invokevirtual 352, 3) := dk_182 1 96 (dk_at dksX3_paper_0 16 rfl rfl)
theorem dX3_paper_19 : decode cX3_paper 19 = .ok (.iconst 1, 1) := dk_4 (dk_at dksX3_paper_0 19 rfl rfl)
theorem dX3_paper_20 : decode cX3_paper 20 = .ok (.ireturn, 1) := dk_172 (dk_at dksX3_paper_0 20 rfl rfl)
abbrev cX3_canPaper : ByteArray := prog_17_method_77_code
def yX3_canPaper : MethodName := ⟨RX3, "canPaper", "(I)Z"⟩
def dkwX3_canPaper_0 : List UInt8 := [42, 27, 182, 1, 61, 153, 0, 15, 42, 27, 182, 1, 41, 154, 0, 7, 4, 167, 0, 4, 3, 172]
abbrev dktX3_canPaper_0 : List UInt8 := dkwX3_canPaper_0 ++ []
theorem dksX3_canPaper_0 : cX3_canPaper.data.toList.drop 0 = dktX3_canPaper_0 := by decide +kernel
theorem dX3_canPaper_0 : decode cX3_canPaper 0 = .ok (.aload_n 0, 1) := dk_42 (dk_at dksX3_canPaper_0 0 rfl rfl)
theorem dX3_canPaper_1 : decode cX3_canPaper 1 = .ok (.iload_n 1, 1) := dk_27 (dk_at dksX3_canPaper_0 1 rfl rfl)
theorem dX3_canPaper_2 : decode cX3_canPaper 2 = .ok (.invokevirtual 317, 3) := dk_182 1 61 (dk_at dksX3_canPaper_0 2 rfl rfl)
theorem dX3_canPaper_5 : decode cX3_canPaper 5 = .ok (.ifCond .eq 15, 3) := dk_153 0 15 (dk_at dksX3_canPaper_0 5 rfl rfl)
theorem dX3_canPaper_8 : decode cX3_canPaper 8 = .ok (.aload_n 0, 1) := dk_42 (dk_at dksX3_canPaper_0 8 rfl rfl)
theorem dX3_canPaper_9 : decode cX3_canPaper 9 = .ok (.iload_n 1, 1) := dk_27 (dk_at dksX3_canPaper_0 9 rfl rfl)
theorem dX3_canPaper_10 : decode cX3_canPaper 10 = .ok (.invokevirtual 297, 3) := dk_182 1 41 (dk_at dksX3_canPaper_0 10 rfl rfl)
theorem dX3_canPaper_13 : decode cX3_canPaper 13 = .ok (.ifCond .ne 7, 3) := dk_154 0 7 (dk_at dksX3_canPaper_0 13 rfl rfl)
theorem dX3_canPaper_16 : decode cX3_canPaper 16 = .ok (.iconst 1, 1) := dk_4 (dk_at dksX3_canPaper_0 16 rfl rfl)
theorem dX3_canPaper_17 : decode cX3_canPaper 17 = .ok (.goto 4, 3) := dk_167 0 4 (dk_at dksX3_canPaper_0 17 rfl rfl)
theorem dX3_canPaper_20 : decode cX3_canPaper 20 = .ok (.iconst 0, 1) := dk_3 (dk_at dksX3_canPaper_0 20 rfl rfl)
theorem dX3_canPaper_21 : decode cX3_canPaper 21 = .ok (.ireturn, 1) := dk_172 (dk_at dksX3_canPaper_0 21 rfl rfl)
abbrev cX3_getsReady : ByteArray := prog_17_method_78_code
def yX3_getsReady : MethodName := ⟨RX3, "getsReady", "(I)V"⟩
def dkwX3_getsReady_0 : List UInt8 := [42, 180, 0, 7, 16, 40, 27, 96, 4, 79, 42, 6, 27, 3, 182, 1, 67, 177]
abbrev dktX3_getsReady_0 : List UInt8 := dkwX3_getsReady_0 ++ []
theorem dksX3_getsReady_0 : cX3_getsReady.data.toList.drop 0 = dktX3_getsReady_0 := by decide +kernel
theorem dX3_getsReady_0 : decode cX3_getsReady 0 = .ok (.aload_n 0, 1) := dk_42 (dk_at dksX3_getsReady_0 0 rfl rfl)
theorem dX3_getsReady_1 : decode cX3_getsReady 1 = .ok (.getfield 7, 3) := dk_180 0 7 (dk_at dksX3_getsReady_0 1 rfl rfl)
theorem dX3_getsReady_4 : decode cX3_getsReady 4 = .ok (.bipush 40, 2) := dk_16 40 (dk_at dksX3_getsReady_0 4 rfl rfl)
theorem dX3_getsReady_6 : decode cX3_getsReady 6 = .ok (.iload_n 1, 1) := dk_27 (dk_at dksX3_getsReady_0 6 rfl rfl)
theorem dX3_getsReady_7 : decode cX3_getsReady 7 = .ok (.iadd, 1) := dk_96 (dk_at dksX3_getsReady_0 7 rfl rfl)
theorem dX3_getsReady_8 : decode cX3_getsReady 8 = .ok (.iconst 1, 1) := dk_4 (dk_at dksX3_getsReady_0 8 rfl rfl)
theorem dX3_getsReady_9 : decode cX3_getsReady 9 = .ok (.iastore, 1) := dk_79 (dk_at dksX3_getsReady_0 9 rfl rfl)
theorem dX3_getsReady_10 : decode cX3_getsReady 10 = .ok (.aload_n 0, 1) := dk_42 (dk_at dksX3_getsReady_0 10 rfl rfl)
theorem dX3_getsReady_11 : decode cX3_getsReady 11 = .ok (.iconst 3, 1) := dk_6 (dk_at dksX3_getsReady_0 11 rfl rfl)
theorem dX3_getsReady_12 : decode cX3_getsReady 12 = .ok (.iload_n 1, 1) := dk_27 (dk_at dksX3_getsReady_0 12 rfl rfl)
theorem dX3_getsReady_13 : decode cX3_getsReady 13 = .ok (.iconst 0, 1) := dk_3 (dk_at dksX3_getsReady_0 13 rfl rfl)
theorem dX3_getsReady_14 : decode cX3_getsReady 14 = .ok (.invokevirtual 323, 3) := dk_182 1 67 (dk_at dksX3_getsReady_0 14 rfl rfl)
theorem dX3_getsReady_17 : decode cX3_getsReady 17 = .ok (.return_, 1) := dk_177 (dk_at dksX3_getsReady_0 17 rfl rfl)
abbrev cX3_join : ByteArray := prog_17_method_83_code
def yX3_join : MethodName := ⟨RX3, "join", "(I)Z"⟩
def dkwX3_join_2 : List UInt8 := [182, 1, 67, 4, 172]
abbrev dktX3_join_2 : List UInt8 := dkwX3_join_2 ++ []
def dkwX3_join_1 : List UInt8 := [180, 0, 7, 16, 52, 27, 96, 3, 79, 42, 180, 0, 7, 16, 40, 27, 96, 3, 79, 42, 16, 6, 27, 3]
abbrev dktX3_join_1 : List UInt8 := dkwX3_join_1 ++ dktX3_join_2
def dkwX3_join_0 : List UInt8 := [42, 27, 182, 0, 58, 153, 0, 11, 42, 27, 182, 0, 62, 154, 0, 5, 3, 172, 42, 182, 1, 74, 42]
abbrev dktX3_join_0 : List UInt8 := dkwX3_join_0 ++ dktX3_join_1
theorem dksX3_join_0 : cX3_join.data.toList.drop 0 = dktX3_join_0 := by decide +kernel
theorem dksX3_join_1 : cX3_join.data.toList.drop 23 = dktX3_join_1 := dk_seg dksX3_join_0 23 rfl rfl
theorem dksX3_join_2 : cX3_join.data.toList.drop 47 = dktX3_join_2 := dk_seg dksX3_join_1 24 rfl rfl
theorem dX3_join_0 : decode cX3_join 0 = .ok (.aload_n 0, 1) := dk_42 (dk_at dksX3_join_0 0 rfl rfl)
theorem dX3_join_1 : decode cX3_join 1 = .ok (.iload_n 1, 1) := dk_27 (dk_at dksX3_join_0 1 rfl rfl)
theorem dX3_join_2 : decode cX3_join 2 = .ok (.invokevirtual 58, 3) := dk_182 0 58 (dk_at dksX3_join_0 2 rfl rfl)
theorem dX3_join_5 : decode cX3_join 5 = .ok (.ifCond .eq 11, 3) := dk_153 0 11 (dk_at dksX3_join_0 5 rfl rfl)
theorem dX3_join_8 : decode cX3_join 8 = .ok (.aload_n 0, 1) := dk_42 (dk_at dksX3_join_0 8 rfl rfl)
theorem dX3_join_9 : decode cX3_join 9 = .ok (.iload_n 1, 1) := dk_27 (dk_at dksX3_join_0 9 rfl rfl)
theorem dX3_join_10 : decode cX3_join 10 = .ok (.invokevirtual 62, 3) := dk_182 0 62 (dk_at dksX3_join_0 10 rfl rfl)
theorem dX3_join_13 : decode cX3_join 13 = .ok (.ifCond .ne 5, 3) := dk_154 0 5 (dk_at dksX3_join_0 13 rfl rfl)
theorem dX3_join_16 : decode cX3_join 16 = .ok (.iconst 0, 1) := dk_3 (dk_at dksX3_join_0 16 rfl rfl)
theorem dX3_join_17 : decode cX3_join 17 = .ok (.ireturn, 1) := dk_172 (dk_at dksX3_join_0 17 rfl rfl)
theorem dX3_join_18 : decode cX3_join 18 = .ok (.aload_n 0, 1) := dk_42 (dk_at dksX3_join_0 18 rfl rfl)
theorem dX3_join_19 : decode cX3_join 19 = .ok (.invokevirtual 330, 3) := dk_182 1 74 (dk_at dksX3_join_0 19 rfl rfl)
theorem dX3_join_22 : decode cX3_join 22 = .ok (.aload_n 0, 1) := dk_42 (dk_at dksX3_join_0 22 rfl rfl)
theorem dX3_join_23 : decode cX3_join 23 = .ok (.getfield 7, 3) := dk_180 0 7 (dk_at dksX3_join_1 0 rfl rfl)
theorem dX3_join_26 : decode cX3_join 26 = .ok (.bipush 52, 2) := dk_16 52 (dk_at dksX3_join_1 3 rfl rfl)
theorem dX3_join_28 : decode cX3_join 28 = .ok (.iload_n 1, 1) := dk_27 (dk_at dksX3_join_1 5 rfl rfl)
theorem dX3_join_29 : decode cX3_join 29 = .ok (.iadd, 1) := dk_96 (dk_at dksX3_join_1 6 rfl rfl)
theorem dX3_join_30 : decode cX3_join 30 = .ok (.iconst 0, 1) := dk_3 (dk_at dksX3_join_1 7 rfl rfl)
theorem dX3_join_31 : decode cX3_join 31 = .ok (.iastore, 1) := dk_79 (dk_at dksX3_join_1 8 rfl rfl)
theorem dX3_join_32 : decode cX3_join 32 = .ok (.aload_n 0, 1) := dk_42 (dk_at dksX3_join_1 9 rfl rfl)
theorem dX3_join_33 : decode cX3_join 33 = .ok (.getfield 7, 3) := dk_180 0 7 (dk_at dksX3_join_1 10 rfl rfl)
theorem dX3_join_36 : decode cX3_join 36 = .ok (.bipush 40, 2) := dk_16 40 (dk_at dksX3_join_1 13 rfl rfl)
theorem dX3_join_38 : decode cX3_join 38 = .ok (.iload_n 1, 1) := dk_27 (dk_at dksX3_join_1 15 rfl rfl)
theorem dX3_join_39 : decode cX3_join 39 = .ok (.iadd, 1) := dk_96 (dk_at dksX3_join_1 16 rfl rfl)
theorem dX3_join_40 : decode cX3_join 40 = .ok (.iconst 0, 1) := dk_3 (dk_at dksX3_join_1 17 rfl rfl)
theorem dX3_join_41 : decode cX3_join 41 = .ok (.iastore, 1) := dk_79 (dk_at dksX3_join_1 18 rfl rfl)
theorem dX3_join_42 : decode cX3_join 42 = .ok (.aload_n 0, 1) := dk_42 (dk_at dksX3_join_1 19 rfl rfl)
theorem dX3_join_43 : decode cX3_join 43 = .ok (.bipush 6, 2) := dk_16 6 (dk_at dksX3_join_1 20 rfl rfl)
theorem dX3_join_45 : decode cX3_join 45 = .ok (.iload_n 1, 1) := dk_27 (dk_at dksX3_join_1 22 rfl rfl)
theorem dX3_join_46 : decode cX3_join 46 = .ok (.iconst 0, 1) := dk_3 (dk_at dksX3_join_1 23 rfl rfl)
theorem dX3_join_47 : decode cX3_join 47 = .ok (.invokevirtual 323, 3) := dk_182 1 67 (dk_at dksX3_join_2 0 rfl rfl)
theorem dX3_join_50 : decode cX3_join 50 = .ok (.iconst 1, 1) := dk_4 (dk_at dksX3_join_2 3 rfl rfl)
theorem dX3_join_51 : decode cX3_join 51 = .ok (.ireturn, 1) := dk_172 (dk_at dksX3_join_2 4 rfl rfl)
abbrev cX3_days : ByteArray := prog_17_method_91_code
def yX3_days : MethodName := ⟨RX3, "days", "(I)I"⟩
def dkwX3_days_2 : List UInt8 := [132, 3, 1, 167, 255, 237, 28, 172]
abbrev dktX3_days_2 : List UInt8 := dkwX3_days_2 ++ []
def dkwX3_days_1 : List UInt8 := [2, 172, 3, 61, 3, 62, 29, 27, 162, 0, 20, 42, 182, 1, 74, 28, 42, 182, 1, 132, 96, 61]
abbrev dktX3_days_1 : List UInt8 := dkwX3_days_1 ++ dktX3_days_2
def dkwX3_days_0 : List UInt8 := [27, 4, 16, 60, 184, 0, 54, 153, 0, 17, 42, 180, 0, 7, 3, 46, 27, 96, 17, 39, 15, 164, 0, 5]
abbrev dktX3_days_0 : List UInt8 := dkwX3_days_0 ++ dktX3_days_1
theorem dksX3_days_0 : cX3_days.data.toList.drop 0 = dktX3_days_0 := by decide +kernel
theorem dksX3_days_1 : cX3_days.data.toList.drop 24 = dktX3_days_1 := dk_seg dksX3_days_0 24 rfl rfl
theorem dksX3_days_2 : cX3_days.data.toList.drop 46 = dktX3_days_2 := dk_seg dksX3_days_1 22 rfl rfl
theorem dX3_days_0 : decode cX3_days 0 = .ok (.iload_n 1, 1) := dk_27 (dk_at dksX3_days_0 0 rfl rfl)
theorem dX3_days_1 : decode cX3_days 1 = .ok (.iconst 1, 1) := dk_4 (dk_at dksX3_days_0 1 rfl rfl)
theorem dX3_days_2 : decode cX3_days 2 = .ok (.bipush 60, 2) := dk_16 60 (dk_at dksX3_days_0 2 rfl rfl)
theorem dX3_days_4 : decode cX3_days 4 = .ok (.invokestatic 54, 3) := dk_184 0 54 (dk_at dksX3_days_0 4 rfl rfl)
theorem dX3_days_7 : decode cX3_days 7 = .ok (.ifCond .eq 17, 3) := dk_153 0 17 (dk_at dksX3_days_0 7 rfl rfl)
theorem dX3_days_10 : decode cX3_days 10 = .ok (.aload_n 0, 1) := dk_42 (dk_at dksX3_days_0 10 rfl rfl)
theorem dX3_days_11 : decode cX3_days 11 = .ok (.getfield 7, 3) := dk_180 0 7 (dk_at dksX3_days_0 11 rfl rfl)
theorem dX3_days_14 : decode cX3_days 14 = .ok (.iconst 0, 1) := dk_3 (dk_at dksX3_days_0 14 rfl rfl)
theorem dX3_days_15 : decode cX3_days 15 = .ok (.iaload, 1) := dk_46 (dk_at dksX3_days_0 15 rfl rfl)
theorem dX3_days_16 : decode cX3_days 16 = .ok (.iload_n 1, 1) := dk_27 (dk_at dksX3_days_0 16 rfl rfl)
theorem dX3_days_17 : decode cX3_days 17 = .ok (.iadd, 1) := dk_96 (dk_at dksX3_days_0 17 rfl rfl)
theorem dX3_days_18 : decode cX3_days 18 = .ok (.sipush 9999, 3) := dk_17 39 15 (dk_at dksX3_days_0 18 rfl rfl)
theorem dX3_days_21 : decode cX3_days 21 = .ok (.if_icmp .le 5, 3) := dk_164 0 5 (dk_at dksX3_days_0 21 rfl rfl)
theorem dX3_days_24 : decode cX3_days 24 = .ok (.iconst (-1), 1) := dk_2 (dk_at dksX3_days_1 0 rfl rfl)
theorem dX3_days_25 : decode cX3_days 25 = .ok (.ireturn, 1) := dk_172 (dk_at dksX3_days_1 1 rfl rfl)
theorem dX3_days_26 : decode cX3_days 26 = .ok (.iconst 0, 1) := dk_3 (dk_at dksX3_days_1 2 rfl rfl)
theorem dX3_days_27 : decode cX3_days 27 = .ok (.istore_n 2, 1) := dk_61 (dk_at dksX3_days_1 3 rfl rfl)
theorem dX3_days_28 : decode cX3_days 28 = .ok (.iconst 0, 1) := dk_3 (dk_at dksX3_days_1 4 rfl rfl)
theorem dX3_days_29 : decode cX3_days 29 = .ok (.istore_n 3, 1) := dk_62 (dk_at dksX3_days_1 5 rfl rfl)
theorem dX3_days_30 : decode cX3_days 30 = .ok (.iload_n 3, 1) := dk_29 (dk_at dksX3_days_1 6 rfl rfl)
theorem dX3_days_31 : decode cX3_days 31 = .ok (.iload_n 1, 1) := dk_27 (dk_at dksX3_days_1 7 rfl rfl)
theorem dX3_days_32 : decode cX3_days 32 = .ok (.if_icmp .ge 20, 3) := dk_162 0 20 (dk_at dksX3_days_1 8 rfl rfl)
theorem dX3_days_35 : decode cX3_days 35 = .ok (.aload_n 0, 1) := dk_42 (dk_at dksX3_days_1 11 rfl rfl)
theorem dX3_days_36 : decode cX3_days 36 = .ok (.invokevirtual 330, 3) := dk_182 1 74 (dk_at dksX3_days_1 12 rfl rfl)
theorem dX3_days_39 : decode cX3_days 39 = .ok (.iload_n 2, 1) := dk_28 (dk_at dksX3_days_1 15 rfl rfl)
theorem dX3_days_40 : decode cX3_days 40 = .ok (.aload_n 0, 1) := dk_42 (dk_at dksX3_days_1 16 rfl rfl)
theorem dX3_days_41 : decode cX3_days 41 = .ok (.invokevirtual 388, 3) := dk_182 1 132 (dk_at dksX3_days_1 17 rfl rfl)
theorem dX3_days_44 : decode cX3_days 44 = .ok (.iadd, 1) := dk_96 (dk_at dksX3_days_1 20 rfl rfl)
theorem dX3_days_45 : decode cX3_days 45 = .ok (.istore_n 2, 1) := dk_61 (dk_at dksX3_days_1 21 rfl rfl)
theorem dX3_days_46 : decode cX3_days 46 = .ok (.iinc 3 1, 3) := dk_132 3 1 (dk_at dksX3_days_2 0 rfl rfl)
theorem dX3_days_49 : decode cX3_days 49 = .ok (.goto (-19), 3) := dk_167 255 237 (dk_at dksX3_days_2 3 rfl rfl)
theorem dX3_days_52 : decode cX3_days 52 = .ok (.iload_n 2, 1) := dk_28 (dk_at dksX3_days_2 6 rfl rfl)
theorem dX3_days_53 : decode cX3_days 53 = .ok (.ireturn, 1) := dk_172 (dk_at dksX3_days_2 7 rfl rfl)
abbrev cX3_aDay : ByteArray := prog_17_method_90_code
def yX3_aDay : MethodName := ⟨RX3, "aDay", "()I"⟩
def dkwX3_aDay_9 : List UInt8 := [184, 0, 51, 79, 132, 2, 1, 167, 255, 196, 42, 180, 0, 7, 3, 92, 46, 4, 96, 79, 27, 172]
abbrev dktX3_aDay_9 : List UInt8 := dkwX3_aDay_9 ++ []
def dkwX3_aDay_8 : List UInt8 := [16, 16, 28, 96, 17, 216, 241, 42, 180, 0, 7, 16, 16, 28, 96, 46, 42, 28, 182, 1, 129, 100]
abbrev dktX3_aDay_8 : List UInt8 := dkwX3_aDay_8 ++ dktX3_aDay_9
def dkwX3_aDay_7 : List UInt8 := [162, 0, 55, 42, 28, 182, 1, 32, 153, 0, 41, 42, 28, 182, 1, 61, 153, 0, 33, 42, 180, 0, 7]
abbrev dktX3_aDay_7 : List UInt8 := dkwX3_aDay_7 ++ dktX3_aDay_8
def dkwX3_aDay_6 : List UInt8 := [182, 1, 123, 132, 1, 1, 167, 255, 207, 42, 182, 1, 126, 60, 3, 61, 28, 42, 180, 0, 7, 16, 88, 46]
abbrev dktX3_aDay_6 : List UInt8 := dkwX3_aDay_6 ++ dktX3_aDay_7
def dkwX3_aDay_5 : List UInt8 := [182, 1, 120, 167, 0, 4, 3, 61, 28, 158, 0, 16, 42, 28, 182, 1, 117, 153, 0, 8, 42, 27]
abbrev dktX3_aDay_5 : List UInt8 := dkwX3_aDay_5 ++ dktX3_aDay_6
def dkwX3_aDay_4 : List UInt8 := [60, 27, 42, 180, 0, 7, 16, 88, 46, 162, 0, 44, 42, 27, 182, 1, 61, 153, 0, 11, 42, 27]
abbrev dktX3_aDay_4 : List UInt8 := dkwX3_aDay_4 ++ dktX3_aDay_5
def dkwX3_aDay_3 : List UInt8 := [42, 42, 27, 182, 1, 114, 182, 1, 117, 153, 0, 8, 42, 27, 182, 1, 96, 132, 1, 1, 167, 255, 217, 3]
abbrev dktX3_aDay_3 : List UInt8 := dkwX3_aDay_3 ++ dktX3_aDay_4
def dkwX3_aDay_2 : List UInt8 := [167, 255, 210, 3, 60, 27, 42, 180, 0, 7, 16, 88, 46, 162, 0, 34, 42, 27, 182, 1, 93, 153, 0, 20]
abbrev dktX3_aDay_2 : List UInt8 := dkwX3_aDay_2 ++ dktX3_aDay_3
def dkwX3_aDay_1 : List UInt8 := [46, 42, 180, 0, 7, 3, 46, 160, 0, 14, 42, 17, 0, 129, 8, 27, 104, 96, 182, 1, 111, 132, 1, 1]
abbrev dktX3_aDay_1 : List UInt8 := dkwX3_aDay_1 ++ dktX3_aDay_2
def dkwX3_aDay_0 : List UInt8 := [3, 60, 27, 42, 180, 0, 7, 16, 90, 46, 162, 0, 41, 42, 180, 0, 7, 17, 0, 129, 8, 27, 104, 96]
abbrev dktX3_aDay_0 : List UInt8 := dkwX3_aDay_0 ++ dktX3_aDay_1
theorem dksX3_aDay_0 : cX3_aDay.data.toList.drop 0 = dktX3_aDay_0 := by decide +kernel
theorem dksX3_aDay_1 : cX3_aDay.data.toList.drop 24 = dktX3_aDay_1 := dk_seg dksX3_aDay_0 24 rfl rfl
theorem dksX3_aDay_2 : cX3_aDay.data.toList.drop 48 = dktX3_aDay_2 := dk_seg dksX3_aDay_1 24 rfl rfl
theorem dksX3_aDay_3 : cX3_aDay.data.toList.drop 72 = dktX3_aDay_3 := dk_seg dksX3_aDay_2 24 rfl rfl
theorem dksX3_aDay_4 : cX3_aDay.data.toList.drop 96 = dktX3_aDay_4 := dk_seg dksX3_aDay_3 24 rfl rfl
theorem dksX3_aDay_5 : cX3_aDay.data.toList.drop 118 = dktX3_aDay_5 := dk_seg dksX3_aDay_4 22 rfl rfl
theorem dksX3_aDay_6 : cX3_aDay.data.toList.drop 140 = dktX3_aDay_6 := dk_seg dksX3_aDay_5 22 rfl rfl
theorem dksX3_aDay_7 : cX3_aDay.data.toList.drop 164 = dktX3_aDay_7 := dk_seg dksX3_aDay_6 24 rfl rfl
theorem dksX3_aDay_8 : cX3_aDay.data.toList.drop 187 = dktX3_aDay_8 := dk_seg dksX3_aDay_7 23 rfl rfl
theorem dksX3_aDay_9 : cX3_aDay.data.toList.drop 209 = dktX3_aDay_9 := dk_seg dksX3_aDay_8 22 rfl rfl
theorem dX3_aDay_0 : decode cX3_aDay 0 = .ok (.iconst 0, 1) := dk_3 (dk_at dksX3_aDay_0 0 rfl rfl)
theorem dX3_aDay_1 : decode cX3_aDay 1 = .ok (.istore_n 1, 1) := dk_60 (dk_at dksX3_aDay_0 1 rfl rfl)
theorem dX3_aDay_2 : decode cX3_aDay 2 = .ok (.iload_n 1, 1) := dk_27 (dk_at dksX3_aDay_0 2 rfl rfl)
theorem dX3_aDay_3 : decode cX3_aDay 3 = .ok (.aload_n 0, 1) := dk_42 (dk_at dksX3_aDay_0 3 rfl rfl)
theorem dX3_aDay_4 : decode cX3_aDay 4 = .ok (.getfield 7, 3) := dk_180 0 7 (dk_at dksX3_aDay_0 4 rfl rfl)
theorem dX3_aDay_7 : decode cX3_aDay 7 = .ok (.bipush 90, 2) := dk_16 90 (dk_at dksX3_aDay_0 7 rfl rfl)
theorem dX3_aDay_9 : decode cX3_aDay 9 = .ok (.iaload, 1) := dk_46 (dk_at dksX3_aDay_0 9 rfl rfl)
theorem dX3_aDay_10 : decode cX3_aDay 10 = .ok (.if_icmp .ge 41, 3) := dk_162 0 41 (dk_at dksX3_aDay_0 10 rfl rfl)
theorem dX3_aDay_13 : decode cX3_aDay 13 = .ok (.aload_n 0, 1) := dk_42 (dk_at dksX3_aDay_0 13 rfl rfl)
theorem dX3_aDay_14 : decode cX3_aDay 14 = .ok (.getfield 7, 3) := dk_180 0 7 (dk_at dksX3_aDay_0 14 rfl rfl)
theorem dX3_aDay_17 : decode cX3_aDay 17 = .ok (.sipush 129, 3) := dk_17 0 129 (dk_at dksX3_aDay_0 17 rfl rfl)
theorem dX3_aDay_20 : decode cX3_aDay 20 = .ok (.iconst 5, 1) := dk_8 (dk_at dksX3_aDay_0 20 rfl rfl)
theorem dX3_aDay_21 : decode cX3_aDay 21 = .ok (.iload_n 1, 1) := dk_27 (dk_at dksX3_aDay_0 21 rfl rfl)
theorem dX3_aDay_22 : decode cX3_aDay 22 = .ok (.imul, 1) := dk_104 (dk_at dksX3_aDay_0 22 rfl rfl)
theorem dX3_aDay_23 : decode cX3_aDay 23 = .ok (.iadd, 1) := dk_96 (dk_at dksX3_aDay_0 23 rfl rfl)
theorem dX3_aDay_24 : decode cX3_aDay 24 = .ok (.iaload, 1) := dk_46 (dk_at dksX3_aDay_1 0 rfl rfl)
theorem dX3_aDay_25 : decode cX3_aDay 25 = .ok (.aload_n 0, 1) := dk_42 (dk_at dksX3_aDay_1 1 rfl rfl)
theorem dX3_aDay_26 : decode cX3_aDay 26 = .ok (.getfield 7, 3) := dk_180 0 7 (dk_at dksX3_aDay_1 2 rfl rfl)
theorem dX3_aDay_29 : decode cX3_aDay 29 = .ok (.iconst 0, 1) := dk_3 (dk_at dksX3_aDay_1 5 rfl rfl)
theorem dX3_aDay_30 : decode cX3_aDay 30 = .ok (.iaload, 1) := dk_46 (dk_at dksX3_aDay_1 6 rfl rfl)
theorem dX3_aDay_31 : decode cX3_aDay 31 = .ok (.if_icmp .ne 14, 3) := dk_160 0 14 (dk_at dksX3_aDay_1 7 rfl rfl)
theorem dX3_aDay_34 : decode cX3_aDay 34 = .ok (.aload_n 0, 1) := dk_42 (dk_at dksX3_aDay_1 10 rfl rfl)
theorem dX3_aDay_35 : decode cX3_aDay 35 = .ok (.sipush 129, 3) := dk_17 0 129 (dk_at dksX3_aDay_1 11 rfl rfl)
theorem dX3_aDay_38 : decode cX3_aDay 38 = .ok (.iconst 5, 1) := dk_8 (dk_at dksX3_aDay_1 14 rfl rfl)
theorem dX3_aDay_39 : decode cX3_aDay 39 = .ok (.iload_n 1, 1) := dk_27 (dk_at dksX3_aDay_1 15 rfl rfl)
theorem dX3_aDay_40 : decode cX3_aDay 40 = .ok (.imul, 1) := dk_104 (dk_at dksX3_aDay_1 16 rfl rfl)
theorem dX3_aDay_41 : decode cX3_aDay 41 = .ok (.iadd, 1) := dk_96 (dk_at dksX3_aDay_1 17 rfl rfl)
theorem dX3_aDay_42 : decode cX3_aDay 42 = .ok (.invokevirtual 367, 3) := dk_182 1 111 (dk_at dksX3_aDay_1 18 rfl rfl)
theorem dX3_aDay_45 : decode cX3_aDay 45 = .ok (.iinc 1 1, 3) := dk_132 1 1 (dk_at dksX3_aDay_1 21 rfl rfl)
theorem dX3_aDay_48 : decode cX3_aDay 48 = .ok (.goto (-46), 3) := dk_167 255 210 (dk_at dksX3_aDay_2 0 rfl rfl)
theorem dX3_aDay_51 : decode cX3_aDay 51 = .ok (.iconst 0, 1) := dk_3 (dk_at dksX3_aDay_2 3 rfl rfl)
theorem dX3_aDay_52 : decode cX3_aDay 52 = .ok (.istore_n 1, 1) := dk_60 (dk_at dksX3_aDay_2 4 rfl rfl)
theorem dX3_aDay_53 : decode cX3_aDay 53 = .ok (.iload_n 1, 1) := dk_27 (dk_at dksX3_aDay_2 5 rfl rfl)
theorem dX3_aDay_54 : decode cX3_aDay 54 = .ok (.aload_n 0, 1) := dk_42 (dk_at dksX3_aDay_2 6 rfl rfl)
theorem dX3_aDay_55 : decode cX3_aDay 55 = .ok (.getfield 7, 3) := dk_180 0 7 (dk_at dksX3_aDay_2 7 rfl rfl)
theorem dX3_aDay_58 : decode cX3_aDay 58 = .ok (.bipush 88, 2) := dk_16 88 (dk_at dksX3_aDay_2 10 rfl rfl)
theorem dX3_aDay_60 : decode cX3_aDay 60 = .ok (.iaload, 1) := dk_46 (dk_at dksX3_aDay_2 12 rfl rfl)
theorem dX3_aDay_61 : decode cX3_aDay 61 = .ok (.if_icmp .ge 34, 3) := dk_162 0 34 (dk_at dksX3_aDay_2 13 rfl rfl)
theorem dX3_aDay_64 : decode cX3_aDay 64 = .ok (.aload_n 0, 1) := dk_42 (dk_at dksX3_aDay_2 16 rfl rfl)
theorem dX3_aDay_65 : decode cX3_aDay 65 = .ok (.iload_n 1, 1) := dk_27 (dk_at dksX3_aDay_2 17 rfl rfl)
theorem dX3_aDay_66 : decode cX3_aDay 66 = .ok (.invokevirtual 349, 3) := dk_182 1 93 (dk_at dksX3_aDay_2 18 rfl rfl)
theorem dX3_aDay_69 : decode cX3_aDay 69 = .ok (.ifCond .eq 20, 3) := dk_153 0 20 (dk_at dksX3_aDay_2 21 rfl rfl)
theorem dX3_aDay_72 : decode cX3_aDay 72 = .ok (.aload_n 0, 1) := dk_42 (dk_at dksX3_aDay_3 0 rfl rfl)
theorem dX3_aDay_73 : decode cX3_aDay 73 = .ok (.aload_n 0, 1) := dk_42 (dk_at dksX3_aDay_3 1 rfl rfl)
theorem dX3_aDay_74 : decode cX3_aDay 74 = .ok (.iload_n 1, 1) := dk_27 (dk_at dksX3_aDay_3 2 rfl rfl)
theorem dX3_aDay_75 : decode cX3_aDay 75 = .ok (.invokevirtual 370, 3) := dk_182 1 114 (dk_at dksX3_aDay_3 3 rfl rfl)
theorem dX3_aDay_78 : decode cX3_aDay 78 = .ok (.invokevirtual 373, 3) := dk_182 1 117 (dk_at dksX3_aDay_3 6 rfl rfl)
theorem dX3_aDay_81 : decode cX3_aDay 81 = .ok (.ifCond .eq 8, 3) := dk_153 0 8 (dk_at dksX3_aDay_3 9 rfl rfl)
theorem dX3_aDay_84 : decode cX3_aDay 84 = .ok (.aload_n 0, 1) := dk_42 (dk_at dksX3_aDay_3 12 rfl rfl)
theorem dX3_aDay_85 : decode cX3_aDay 85 = .ok (.iload_n 1, 1) := dk_27 (dk_at dksX3_aDay_3 13 rfl rfl)
theorem dX3_aDay_86 : decode cX3_aDay 86 = .ok (.invokevirtual 352, 3) := dk_182 1 96 (dk_at dksX3_aDay_3 14 rfl rfl)
theorem dX3_aDay_89 : decode cX3_aDay 89 = .ok (.iinc 1 1, 3) := dk_132 1 1 (dk_at dksX3_aDay_3 17 rfl rfl)
theorem dX3_aDay_92 : decode cX3_aDay 92 = .ok (.goto (-39), 3) := dk_167 255 217 (dk_at dksX3_aDay_3 20 rfl rfl)
theorem dX3_aDay_95 : decode cX3_aDay 95 = .ok (.iconst 0, 1) := dk_3 (dk_at dksX3_aDay_3 23 rfl rfl)
theorem dX3_aDay_96 : decode cX3_aDay 96 = .ok (.istore_n 1, 1) := dk_60 (dk_at dksX3_aDay_4 0 rfl rfl)
theorem dX3_aDay_97 : decode cX3_aDay 97 = .ok (.iload_n 1, 1) := dk_27 (dk_at dksX3_aDay_4 1 rfl rfl)
theorem dX3_aDay_98 : decode cX3_aDay 98 = .ok (.aload_n 0, 1) := dk_42 (dk_at dksX3_aDay_4 2 rfl rfl)
theorem dX3_aDay_99 : decode cX3_aDay 99 = .ok (.getfield 7, 3) := dk_180 0 7 (dk_at dksX3_aDay_4 3 rfl rfl)
theorem dX3_aDay_102 : decode cX3_aDay 102 = .ok (.bipush 88, 2) := dk_16 88 (dk_at dksX3_aDay_4 6 rfl rfl)
theorem dX3_aDay_104 : decode cX3_aDay 104 = .ok (.iaload, 1) := dk_46 (dk_at dksX3_aDay_4 8 rfl rfl)
theorem dX3_aDay_105 : decode cX3_aDay 105 = .ok (.if_icmp .ge 44, 3) := dk_162 0 44 (dk_at dksX3_aDay_4 9 rfl rfl)
theorem dX3_aDay_108 : decode cX3_aDay 108 = .ok (.aload_n 0, 1) := dk_42 (dk_at dksX3_aDay_4 12 rfl rfl)
theorem dX3_aDay_109 : decode cX3_aDay 109 = .ok (.iload_n 1, 1) := dk_27 (dk_at dksX3_aDay_4 13 rfl rfl)
theorem dX3_aDay_110 : decode cX3_aDay 110 = .ok (.invokevirtual 317, 3) := dk_182 1 61 (dk_at dksX3_aDay_4 14 rfl rfl)
theorem dX3_aDay_113 : decode cX3_aDay 113 = .ok (.ifCond .eq 11, 3) := dk_153 0 11 (dk_at dksX3_aDay_4 17 rfl rfl)
theorem dX3_aDay_116 : decode cX3_aDay 116 = .ok (.aload_n 0, 1) := dk_42 (dk_at dksX3_aDay_4 20 rfl rfl)
theorem dX3_aDay_117 : decode cX3_aDay 117 = .ok (.iload_n 1, 1) := dk_27 (dk_at dksX3_aDay_4 21 rfl rfl)
theorem dX3_aDay_118 : decode cX3_aDay 118 = .ok (.invokevirtual 376, 3) := dk_182 1 120 (dk_at dksX3_aDay_5 0 rfl rfl)
theorem dX3_aDay_121 : decode cX3_aDay 121 = .ok (.goto 4, 3) := dk_167 0 4 (dk_at dksX3_aDay_5 3 rfl rfl)
theorem dX3_aDay_124 : decode cX3_aDay 124 = .ok (.iconst 0, 1) := dk_3 (dk_at dksX3_aDay_5 6 rfl rfl)
theorem dX3_aDay_125 : decode cX3_aDay 125 = .ok (.istore_n 2, 1) := dk_61 (dk_at dksX3_aDay_5 7 rfl rfl)
theorem dX3_aDay_126 : decode cX3_aDay 126 = .ok (.iload_n 2, 1) := dk_28 (dk_at dksX3_aDay_5 8 rfl rfl)
theorem dX3_aDay_127 : decode cX3_aDay 127 = .ok (.ifCond .le 16, 3) := dk_158 0 16 (dk_at dksX3_aDay_5 9 rfl rfl)
theorem dX3_aDay_130 : decode cX3_aDay 130 = .ok (.aload_n 0, 1) := dk_42 (dk_at dksX3_aDay_5 12 rfl rfl)
theorem dX3_aDay_131 : decode cX3_aDay 131 = .ok (.iload_n 2, 1) := dk_28 (dk_at dksX3_aDay_5 13 rfl rfl)
theorem dX3_aDay_132 : decode cX3_aDay 132 = .ok (.invokevirtual 373, 3) := dk_182 1 117 (dk_at dksX3_aDay_5 14 rfl rfl)
theorem dX3_aDay_135 : decode cX3_aDay 135 = .ok (.ifCond .eq 8, 3) := dk_153 0 8 (dk_at dksX3_aDay_5 17 rfl rfl)
theorem dX3_aDay_138 : decode cX3_aDay 138 = .ok (.aload_n 0, 1) := dk_42 (dk_at dksX3_aDay_5 20 rfl rfl)
theorem dX3_aDay_139 : decode cX3_aDay 139 = .ok (.iload_n 1, 1) := dk_27 (dk_at dksX3_aDay_5 21 rfl rfl)
theorem dX3_aDay_140 : decode cX3_aDay 140 = .ok (.invokevirtual 379, 3) := dk_182 1 123 (dk_at dksX3_aDay_6 0 rfl rfl)
theorem dX3_aDay_143 : decode cX3_aDay 143 = .ok (.iinc 1 1, 3) := dk_132 1 1 (dk_at dksX3_aDay_6 3 rfl rfl)
theorem dX3_aDay_146 : decode cX3_aDay 146 = .ok (.goto (-49), 3) := dk_167 255 207 (dk_at dksX3_aDay_6 6 rfl rfl)
theorem dX3_aDay_149 : decode cX3_aDay 149 = .ok (.aload_n 0, 1) := dk_42 (dk_at dksX3_aDay_6 9 rfl rfl)
theorem dX3_aDay_150 : decode cX3_aDay 150 = .ok (.invokevirtual 382, 3) := dk_182 1 126 (dk_at dksX3_aDay_6 10 rfl rfl)
theorem dX3_aDay_153 : decode cX3_aDay 153 = .ok (.istore_n 1, 1) := dk_60 (dk_at dksX3_aDay_6 13 rfl rfl)
theorem dX3_aDay_154 : decode cX3_aDay 154 = .ok (.iconst 0, 1) := dk_3 (dk_at dksX3_aDay_6 14 rfl rfl)
theorem dX3_aDay_155 : decode cX3_aDay 155 = .ok (.istore_n 2, 1) := dk_61 (dk_at dksX3_aDay_6 15 rfl rfl)
theorem dX3_aDay_156 : decode cX3_aDay 156 = .ok (.iload_n 2, 1) := dk_28 (dk_at dksX3_aDay_6 16 rfl rfl)
theorem dX3_aDay_157 : decode cX3_aDay 157 = .ok (.aload_n 0, 1) := dk_42 (dk_at dksX3_aDay_6 17 rfl rfl)
theorem dX3_aDay_158 : decode cX3_aDay 158 = .ok (.getfield 7, 3) := dk_180 0 7 (dk_at dksX3_aDay_6 18 rfl rfl)
theorem dX3_aDay_161 : decode cX3_aDay 161 = .ok (.bipush 88, 2) := dk_16 88 (dk_at dksX3_aDay_6 21 rfl rfl)
theorem dX3_aDay_163 : decode cX3_aDay 163 = .ok (.iaload, 1) := dk_46 (dk_at dksX3_aDay_6 23 rfl rfl)
theorem dX3_aDay_164 : decode cX3_aDay 164 = .ok (.if_icmp .ge 55, 3) := dk_162 0 55 (dk_at dksX3_aDay_7 0 rfl rfl)
theorem dX3_aDay_167 : decode cX3_aDay 167 = .ok (.aload_n 0, 1) := dk_42 (dk_at dksX3_aDay_7 3 rfl rfl)
theorem dX3_aDay_168 : decode cX3_aDay 168 = .ok (.iload_n 2, 1) := dk_28 (dk_at dksX3_aDay_7 4 rfl rfl)
theorem dX3_aDay_169 : decode cX3_aDay 169 = .ok (.invokevirtual 288, 3) := dk_182 1 32 (dk_at dksX3_aDay_7 5 rfl rfl)
theorem dX3_aDay_172 : decode cX3_aDay 172 = .ok (.ifCond .eq 41, 3) := dk_153 0 41 (dk_at dksX3_aDay_7 8 rfl rfl)
theorem dX3_aDay_175 : decode cX3_aDay 175 = .ok (.aload_n 0, 1) := dk_42 (dk_at dksX3_aDay_7 11 rfl rfl)
theorem dX3_aDay_176 : decode cX3_aDay 176 = .ok (.iload_n 2, 1) := dk_28 (dk_at dksX3_aDay_7 12 rfl rfl)
theorem dX3_aDay_177 : decode cX3_aDay 177 = .ok (.invokevirtual 317, 3) := dk_182 1 61 (dk_at dksX3_aDay_7 13 rfl rfl)
theorem dX3_aDay_180 : decode cX3_aDay 180 = .ok (.ifCond .eq 33, 3) := dk_153 0 33 (dk_at dksX3_aDay_7 16 rfl rfl)
theorem dX3_aDay_183 : decode cX3_aDay 183 = .ok (.aload_n 0, 1) := dk_42 (dk_at dksX3_aDay_7 19 rfl rfl)
theorem dX3_aDay_184 : decode cX3_aDay 184 = .ok (.getfield 7, 3) := dk_180 0 7 (dk_at dksX3_aDay_7 20 rfl rfl)
theorem dX3_aDay_187 : decode cX3_aDay 187 = .ok (.bipush 16, 2) := dk_16 16 (dk_at dksX3_aDay_8 0 rfl rfl)
theorem dX3_aDay_189 : decode cX3_aDay 189 = .ok (.iload_n 2, 1) := dk_28 (dk_at dksX3_aDay_8 2 rfl rfl)
theorem dX3_aDay_190 : decode cX3_aDay 190 = .ok (.iadd, 1) := dk_96 (dk_at dksX3_aDay_8 3 rfl rfl)
theorem dX3_aDay_191 : decode cX3_aDay 191 = .ok (.sipush (-9999), 3) := dk_17 216 241 (dk_at dksX3_aDay_8 4 rfl rfl)
theorem dX3_aDay_194 : decode cX3_aDay 194 = .ok (.aload_n 0, 1) := dk_42 (dk_at dksX3_aDay_8 7 rfl rfl)
theorem dX3_aDay_195 : decode cX3_aDay 195 = .ok (.getfield 7, 3) := dk_180 0 7 (dk_at dksX3_aDay_8 8 rfl rfl)
theorem dX3_aDay_198 : decode cX3_aDay 198 = .ok (.bipush 16, 2) := dk_16 16 (dk_at dksX3_aDay_8 11 rfl rfl)
theorem dX3_aDay_200 : decode cX3_aDay 200 = .ok (.iload_n 2, 1) := dk_28 (dk_at dksX3_aDay_8 13 rfl rfl)
theorem dX3_aDay_201 : decode cX3_aDay 201 = .ok (.iadd, 1) := dk_96 (dk_at dksX3_aDay_8 14 rfl rfl)
theorem dX3_aDay_202 : decode cX3_aDay 202 = .ok (.iaload, 1) := dk_46 (dk_at dksX3_aDay_8 15 rfl rfl)
theorem dX3_aDay_203 : decode cX3_aDay 203 = .ok (.aload_n 0, 1) := dk_42 (dk_at dksX3_aDay_8 16 rfl rfl)
theorem dX3_aDay_204 : decode cX3_aDay 204 = .ok (.iload_n 2, 1) := dk_28 (dk_at dksX3_aDay_8 17 rfl rfl)
theorem dX3_aDay_205 : decode cX3_aDay 205 = .ok (.invokevirtual 385, 3) := dk_182 1 129 (dk_at dksX3_aDay_8 18 rfl rfl)
theorem dX3_aDay_208 : decode cX3_aDay 208 = .ok (.isub, 1) := dk_100 (dk_at dksX3_aDay_8 21 rfl rfl)
theorem dX3_aDay_209 : decode cX3_aDay 209 = .ok (.invokestatic 51, 3) := dk_184 0 51 (dk_at dksX3_aDay_9 0 rfl rfl)
theorem dX3_aDay_212 : decode cX3_aDay 212 = .ok (.iastore, 1) := dk_79 (dk_at dksX3_aDay_9 3 rfl rfl)
theorem dX3_aDay_213 : decode cX3_aDay 213 = .ok (.iinc 2 1, 3) := dk_132 2 1 (dk_at dksX3_aDay_9 4 rfl rfl)
theorem dX3_aDay_216 : decode cX3_aDay 216 = .ok (.goto (-60), 3) := dk_167 255 196 (dk_at dksX3_aDay_9 7 rfl rfl)
theorem dX3_aDay_219 : decode cX3_aDay 219 = .ok (.aload_n 0, 1) := dk_42 (dk_at dksX3_aDay_9 10 rfl rfl)
theorem dX3_aDay_220 : decode cX3_aDay 220 = .ok (.getfield 7, 3) := dk_180 0 7 (dk_at dksX3_aDay_9 11 rfl rfl)
theorem dX3_aDay_223 : decode cX3_aDay 223 = .ok (.iconst 0, 1) := dk_3 (dk_at dksX3_aDay_9 14 rfl rfl)
theorem dX3_aDay_224 : decode cX3_aDay 224 = .ok (.dup2, 1) := dk_92 (dk_at dksX3_aDay_9 15 rfl rfl)
theorem dX3_aDay_225 : decode cX3_aDay 225 = .ok (.iaload, 1) := dk_46 (dk_at dksX3_aDay_9 16 rfl rfl)
theorem dX3_aDay_226 : decode cX3_aDay 226 = .ok (.iconst 1, 1) := dk_4 (dk_at dksX3_aDay_9 17 rfl rfl)
theorem dX3_aDay_227 : decode cX3_aDay 227 = .ok (.iadd, 1) := dk_96 (dk_at dksX3_aDay_9 18 rfl rfl)
theorem dX3_aDay_228 : decode cX3_aDay 228 = .ok (.iastore, 1) := dk_79 (dk_at dksX3_aDay_9 19 rfl rfl)
theorem dX3_aDay_229 : decode cX3_aDay 229 = .ok (.iload_n 1, 1) := dk_27 (dk_at dksX3_aDay_9 20 rfl rfl)
theorem dX3_aDay_230 : decode cX3_aDay 230 = .ok (.ireturn, 1) := dk_172 (dk_at dksX3_aDay_9 21 rfl rfl)
abbrev cX3_does : ByteArray := prog_17_method_84_code
def yX3_does : MethodName := ⟨RX3, "does", "(I)V"⟩
def dkwX3_does_6 : List UInt8 := [182, 1, 93, 153, 0, 8, 42, 28, 182, 1, 96, 177]
abbrev dktX3_does_6 : List UInt8 := dkwX3_does_6 ++ []
def dkwX3_does_5 : List UInt8 := [180, 0, 7, 27, 6, 96, 46, 42, 180, 0, 7, 27, 7, 96, 46, 182, 1, 90, 167, 0, 16, 42, 28]
abbrev dktX3_does_5 : List UInt8 := dkwX3_does_5 ++ dktX3_does_6
def dkwX3_does_4 : List UInt8 := [180, 0, 7, 27, 6, 96, 46, 42, 180, 0, 7, 27, 7, 96, 46, 182, 1, 87, 153, 0, 40, 42, 28, 42]
abbrev dktX3_does_4 : List UInt8 := dkwX3_does_4 ++ dktX3_does_5
def dkwX3_does_3 : List UInt8 := [167, 0, 80, 42, 28, 182, 1, 80, 153, 0, 72, 42, 28, 182, 1, 83, 167, 0, 64, 42, 28, 42]
abbrev dktX3_does_3 : List UInt8 := dkwX3_does_3 ++ dktX3_does_4
def dkwX3_does_2 : List UInt8 := [42, 28, 182, 1, 71, 153, 0, 97, 42, 28, 42, 180, 0, 7, 27, 7, 96, 46, 182, 1, 77, 87]
abbrev dktX3_does_2 : List UInt8 := dkwX3_does_2 ++ dktX3_does_3
def dkwX3_does_1 : List UInt8 := [170, 0, 0, 0, 0, 0, 116, 0, 0, 0, 8, 0, 0, 0, 10, 0, 0, 0, 27, 0, 0, 0, 52, 0, 0, 0, 68]
abbrev dktX3_does_1 : List UInt8 := dkwX3_does_1 ++ dktX3_does_2
def dkwX3_does_0 : List UInt8 := [42, 180, 0, 7, 27, 5, 96, 46, 61, 42, 180, 0, 7, 27, 4, 96, 46]
abbrev dktX3_does_0 : List UInt8 := dkwX3_does_0 ++ dktX3_does_1
theorem dksX3_does_0 : cX3_does.data.toList.drop 0 = dktX3_does_0 := by decide +kernel
theorem dksX3_does_1 : cX3_does.data.toList.drop 17 = dktX3_does_1 := dk_seg dksX3_does_0 17 rfl rfl
theorem dksX3_does_2 : cX3_does.data.toList.drop 44 = dktX3_does_2 := dk_seg dksX3_does_1 27 rfl rfl
theorem dksX3_does_3 : cX3_does.data.toList.drop 66 = dktX3_does_3 := dk_seg dksX3_does_2 22 rfl rfl
theorem dksX3_does_4 : cX3_does.data.toList.drop 88 = dktX3_does_4 := dk_seg dksX3_does_3 22 rfl rfl
theorem dksX3_does_5 : cX3_does.data.toList.drop 112 = dktX3_does_5 := dk_seg dksX3_does_4 24 rfl rfl
theorem dksX3_does_6 : cX3_does.data.toList.drop 135 = dktX3_does_6 := dk_seg dksX3_does_5 23 rfl rfl
theorem dX3_does_0 : decode cX3_does 0 = .ok (.aload_n 0, 1) := dk_42 (dk_at dksX3_does_0 0 rfl rfl)
theorem dX3_does_1 : decode cX3_does 1 = .ok (.getfield 7, 3) := dk_180 0 7 (dk_at dksX3_does_0 1 rfl rfl)
theorem dX3_does_4 : decode cX3_does 4 = .ok (.iload_n 1, 1) := dk_27 (dk_at dksX3_does_0 4 rfl rfl)
theorem dX3_does_5 : decode cX3_does 5 = .ok (.iconst 2, 1) := dk_5 (dk_at dksX3_does_0 5 rfl rfl)
theorem dX3_does_6 : decode cX3_does 6 = .ok (.iadd, 1) := dk_96 (dk_at dksX3_does_0 6 rfl rfl)
theorem dX3_does_7 : decode cX3_does 7 = .ok (.iaload, 1) := dk_46 (dk_at dksX3_does_0 7 rfl rfl)
theorem dX3_does_8 : decode cX3_does 8 = .ok (.istore_n 2, 1) := dk_61 (dk_at dksX3_does_0 8 rfl rfl)
theorem dX3_does_9 : decode cX3_does 9 = .ok (.aload_n 0, 1) := dk_42 (dk_at dksX3_does_0 9 rfl rfl)
theorem dX3_does_10 : decode cX3_does 10 = .ok (.getfield 7, 3) := dk_180 0 7 (dk_at dksX3_does_0 10 rfl rfl)
theorem dX3_does_13 : decode cX3_does 13 = .ok (.iload_n 1, 1) := dk_27 (dk_at dksX3_does_0 13 rfl rfl)
theorem dX3_does_14 : decode cX3_does 14 = .ok (.iconst 1, 1) := dk_4 (dk_at dksX3_does_0 14 rfl rfl)
theorem dX3_does_15 : decode cX3_does 15 = .ok (.iadd, 1) := dk_96 (dk_at dksX3_does_0 15 rfl rfl)
theorem dX3_does_16 : decode cX3_does 16 = .ok (.iaload, 1) := dk_46 (dk_at dksX3_does_0 16 rfl rfl)
theorem dX3_does_17 : decode cX3_does 17 = .ok (.tableswitch 116 8 10 #[27, 52, 68], 27) := by decide +kernel
theorem dX3_does_44 : decode cX3_does 44 = .ok (.aload_n 0, 1) := dk_42 (dk_at dksX3_does_2 0 rfl rfl)
theorem dX3_does_45 : decode cX3_does 45 = .ok (.iload_n 2, 1) := dk_28 (dk_at dksX3_does_2 1 rfl rfl)
theorem dX3_does_46 : decode cX3_does 46 = .ok (.invokevirtual 327, 3) := dk_182 1 71 (dk_at dksX3_does_2 2 rfl rfl)
theorem dX3_does_49 : decode cX3_does 49 = .ok (.ifCond .eq 97, 3) := dk_153 0 97 (dk_at dksX3_does_2 5 rfl rfl)
theorem dX3_does_52 : decode cX3_does 52 = .ok (.aload_n 0, 1) := dk_42 (dk_at dksX3_does_2 8 rfl rfl)
theorem dX3_does_53 : decode cX3_does 53 = .ok (.iload_n 2, 1) := dk_28 (dk_at dksX3_does_2 9 rfl rfl)
theorem dX3_does_54 : decode cX3_does 54 = .ok (.aload_n 0, 1) := dk_42 (dk_at dksX3_does_2 10 rfl rfl)
theorem dX3_does_55 : decode cX3_does 55 = .ok (.getfield 7, 3) := dk_180 0 7 (dk_at dksX3_does_2 11 rfl rfl)
theorem dX3_does_58 : decode cX3_does 58 = .ok (.iload_n 1, 1) := dk_27 (dk_at dksX3_does_2 14 rfl rfl)
theorem dX3_does_59 : decode cX3_does 59 = .ok (.iconst 4, 1) := dk_7 (dk_at dksX3_does_2 15 rfl rfl)
theorem dX3_does_60 : decode cX3_does 60 = .ok (.iadd, 1) := dk_96 (dk_at dksX3_does_2 16 rfl rfl)
theorem dX3_does_61 : decode cX3_does 61 = .ok (.iaload, 1) := dk_46 (dk_at dksX3_does_2 17 rfl rfl)
theorem dX3_does_62 : decode cX3_does 62 = .ok (.invokevirtual 333, 3) := dk_182 1 77 (dk_at dksX3_does_2 18 rfl rfl)
theorem dX3_does_65 : decode cX3_does 65 = .ok (.pop, 1) := dk_87 (dk_at dksX3_does_2 21 rfl rfl)
theorem dX3_does_66 : decode cX3_does 66 = .ok (.goto 80, 3) := dk_167 0 80 (dk_at dksX3_does_3 0 rfl rfl)
theorem dX3_does_69 : decode cX3_does 69 = .ok (.aload_n 0, 1) := dk_42 (dk_at dksX3_does_3 3 rfl rfl)
theorem dX3_does_70 : decode cX3_does 70 = .ok (.iload_n 2, 1) := dk_28 (dk_at dksX3_does_3 4 rfl rfl)
theorem dX3_does_71 : decode cX3_does 71 = .ok (.invokevirtual 336, 3) := dk_182 1 80 (dk_at dksX3_does_3 5 rfl rfl)
theorem dX3_does_74 : decode cX3_does 74 = .ok (.ifCond .eq 72, 3) := dk_153 0 72 (dk_at dksX3_does_3 8 rfl rfl)
theorem dX3_does_77 : decode cX3_does 77 = .ok (.aload_n 0, 1) := dk_42 (dk_at dksX3_does_3 11 rfl rfl)
theorem dX3_does_78 : decode cX3_does 78 = .ok (.iload_n 2, 1) := dk_28 (dk_at dksX3_does_3 12 rfl rfl)
theorem dX3_does_79 : decode cX3_does 79 = .ok (.invokevirtual 339, 3) := dk_182 1 83 (dk_at dksX3_does_3 13 rfl rfl)
theorem dX3_does_82 : decode cX3_does 82 = .ok (.goto 64, 3) := dk_167 0 64 (dk_at dksX3_does_3 16 rfl rfl)
theorem dX3_does_85 : decode cX3_does 85 = .ok (.aload_n 0, 1) := dk_42 (dk_at dksX3_does_3 19 rfl rfl)
theorem dX3_does_86 : decode cX3_does 86 = .ok (.iload_n 2, 1) := dk_28 (dk_at dksX3_does_3 20 rfl rfl)
theorem dX3_does_87 : decode cX3_does 87 = .ok (.aload_n 0, 1) := dk_42 (dk_at dksX3_does_3 21 rfl rfl)
theorem dX3_does_88 : decode cX3_does 88 = .ok (.getfield 7, 3) := dk_180 0 7 (dk_at dksX3_does_4 0 rfl rfl)
theorem dX3_does_91 : decode cX3_does 91 = .ok (.iload_n 1, 1) := dk_27 (dk_at dksX3_does_4 3 rfl rfl)
theorem dX3_does_92 : decode cX3_does 92 = .ok (.iconst 3, 1) := dk_6 (dk_at dksX3_does_4 4 rfl rfl)
theorem dX3_does_93 : decode cX3_does 93 = .ok (.iadd, 1) := dk_96 (dk_at dksX3_does_4 5 rfl rfl)
theorem dX3_does_94 : decode cX3_does 94 = .ok (.iaload, 1) := dk_46 (dk_at dksX3_does_4 6 rfl rfl)
theorem dX3_does_95 : decode cX3_does 95 = .ok (.aload_n 0, 1) := dk_42 (dk_at dksX3_does_4 7 rfl rfl)
theorem dX3_does_96 : decode cX3_does 96 = .ok (.getfield 7, 3) := dk_180 0 7 (dk_at dksX3_does_4 8 rfl rfl)
theorem dX3_does_99 : decode cX3_does 99 = .ok (.iload_n 1, 1) := dk_27 (dk_at dksX3_does_4 11 rfl rfl)
theorem dX3_does_100 : decode cX3_does 100 = .ok (.iconst 4, 1) := dk_7 (dk_at dksX3_does_4 12 rfl rfl)
theorem dX3_does_101 : decode cX3_does 101 = .ok (.iadd, 1) := dk_96 (dk_at dksX3_does_4 13 rfl rfl)
theorem dX3_does_102 : decode cX3_does 102 = .ok (.iaload, 1) := dk_46 (dk_at dksX3_does_4 14 rfl rfl)
theorem dX3_does_103 : decode cX3_does 103 = .ok (.invokevirtual 343, 3) := dk_182 1 87 (dk_at dksX3_does_4 15 rfl rfl)
theorem dX3_does_106 : decode cX3_does 106 = .ok (.ifCond .eq 40, 3) := dk_153 0 40 (dk_at dksX3_does_4 18 rfl rfl)
theorem dX3_does_109 : decode cX3_does 109 = .ok (.aload_n 0, 1) := dk_42 (dk_at dksX3_does_4 21 rfl rfl)
theorem dX3_does_110 : decode cX3_does 110 = .ok (.iload_n 2, 1) := dk_28 (dk_at dksX3_does_4 22 rfl rfl)
theorem dX3_does_111 : decode cX3_does 111 = .ok (.aload_n 0, 1) := dk_42 (dk_at dksX3_does_4 23 rfl rfl)
theorem dX3_does_112 : decode cX3_does 112 = .ok (.getfield 7, 3) := dk_180 0 7 (dk_at dksX3_does_5 0 rfl rfl)
theorem dX3_does_115 : decode cX3_does 115 = .ok (.iload_n 1, 1) := dk_27 (dk_at dksX3_does_5 3 rfl rfl)
theorem dX3_does_116 : decode cX3_does 116 = .ok (.iconst 3, 1) := dk_6 (dk_at dksX3_does_5 4 rfl rfl)
theorem dX3_does_117 : decode cX3_does 117 = .ok (.iadd, 1) := dk_96 (dk_at dksX3_does_5 5 rfl rfl)
theorem dX3_does_118 : decode cX3_does 118 = .ok (.iaload, 1) := dk_46 (dk_at dksX3_does_5 6 rfl rfl)
theorem dX3_does_119 : decode cX3_does 119 = .ok (.aload_n 0, 1) := dk_42 (dk_at dksX3_does_5 7 rfl rfl)
theorem dX3_does_120 : decode cX3_does 120 = .ok (.getfield 7, 3) := dk_180 0 7 (dk_at dksX3_does_5 8 rfl rfl)
theorem dX3_does_123 : decode cX3_does 123 = .ok (.iload_n 1, 1) := dk_27 (dk_at dksX3_does_5 11 rfl rfl)
theorem dX3_does_124 : decode cX3_does 124 = .ok (.iconst 4, 1) := dk_7 (dk_at dksX3_does_5 12 rfl rfl)
theorem dX3_does_125 : decode cX3_does 125 = .ok (.iadd, 1) := dk_96 (dk_at dksX3_does_5 13 rfl rfl)
theorem dX3_does_126 : decode cX3_does 126 = .ok (.iaload, 1) := dk_46 (dk_at dksX3_does_5 14 rfl rfl)
theorem dX3_does_127 : decode cX3_does 127 = .ok (.invokevirtual 346, 3) := dk_182 1 90 (dk_at dksX3_does_5 15 rfl rfl)
theorem dX3_does_130 : decode cX3_does 130 = .ok (.goto 16, 3) := dk_167 0 16 (dk_at dksX3_does_5 18 rfl rfl)
theorem dX3_does_133 : decode cX3_does 133 = .ok (.aload_n 0, 1) := dk_42 (dk_at dksX3_does_5 21 rfl rfl)
theorem dX3_does_134 : decode cX3_does 134 = .ok (.iload_n 2, 1) := dk_28 (dk_at dksX3_does_5 22 rfl rfl)
theorem dX3_does_135 : decode cX3_does 135 = .ok (.invokevirtual 349, 3) := dk_182 1 93 (dk_at dksX3_does_6 0 rfl rfl)
theorem dX3_does_138 : decode cX3_does 138 = .ok (.ifCond .eq 8, 3) := dk_153 0 8 (dk_at dksX3_does_6 3 rfl rfl)
theorem dX3_does_141 : decode cX3_does 141 = .ok (.aload_n 0, 1) := dk_42 (dk_at dksX3_does_6 6 rfl rfl)
theorem dX3_does_142 : decode cX3_does 142 = .ok (.iload_n 2, 1) := dk_28 (dk_at dksX3_does_6 7 rfl rfl)
theorem dX3_does_143 : decode cX3_does 143 = .ok (.invokevirtual 352, 3) := dk_182 1 96 (dk_at dksX3_does_6 8 rfl rfl)
theorem dX3_does_146 : decode cX3_does 146 = .ok (.return_, 1) := dk_177 (dk_at dksX3_does_6 11 rfl rfl)
abbrev cX3_readyOf : ByteArray := prog_17_method_63_code
def yX3_readyOf : MethodName := ⟨RX3, "readyOf", "(I)I"⟩
def dkwX3_readyOf_1 : List UInt8 := [182, 1, 53, 172]
abbrev dktX3_readyOf_1 : List UInt8 := dkwX3_readyOf_1 ++ []
def dkwX3_readyOf_0 : List UInt8 := [42, 16, 20, 27, 17, 1, 44, 16, 30, 42, 180, 0, 7, 16, 93, 27, 96, 46, 104, 100, 17, 3, 232]
abbrev dktX3_readyOf_0 : List UInt8 := dkwX3_readyOf_0 ++ dktX3_readyOf_1
theorem dksX3_readyOf_0 : cX3_readyOf.data.toList.drop 0 = dktX3_readyOf_0 := by decide +kernel
theorem dksX3_readyOf_1 : cX3_readyOf.data.toList.drop 23 = dktX3_readyOf_1 := dk_seg dksX3_readyOf_0 23 rfl rfl
theorem dX3_readyOf_0 : decode cX3_readyOf 0 = .ok (.aload_n 0, 1) := dk_42 (dk_at dksX3_readyOf_0 0 rfl rfl)
theorem dX3_readyOf_1 : decode cX3_readyOf 1 = .ok (.bipush 20, 2) := dk_16 20 (dk_at dksX3_readyOf_0 1 rfl rfl)
theorem dX3_readyOf_3 : decode cX3_readyOf 3 = .ok (.iload_n 1, 1) := dk_27 (dk_at dksX3_readyOf_0 3 rfl rfl)
theorem dX3_readyOf_4 : decode cX3_readyOf 4 = .ok (.sipush 300, 3) := dk_17 1 44 (dk_at dksX3_readyOf_0 4 rfl rfl)
theorem dX3_readyOf_7 : decode cX3_readyOf 7 = .ok (.bipush 30, 2) := dk_16 30 (dk_at dksX3_readyOf_0 7 rfl rfl)
theorem dX3_readyOf_9 : decode cX3_readyOf 9 = .ok (.aload_n 0, 1) := dk_42 (dk_at dksX3_readyOf_0 9 rfl rfl)
theorem dX3_readyOf_10 : decode cX3_readyOf 10 = .ok (.getfield 7, 3) := dk_180 0 7 (dk_at dksX3_readyOf_0 10 rfl rfl)
theorem dX3_readyOf_13 : decode cX3_readyOf 13 = .ok (.bipush 93, 2) := dk_16 93 (dk_at dksX3_readyOf_0 13 rfl rfl)
theorem dX3_readyOf_15 : decode cX3_readyOf 15 = .ok (.iload_n 1, 1) := dk_27 (dk_at dksX3_readyOf_0 15 rfl rfl)
theorem dX3_readyOf_16 : decode cX3_readyOf 16 = .ok (.iadd, 1) := dk_96 (dk_at dksX3_readyOf_0 16 rfl rfl)
theorem dX3_readyOf_17 : decode cX3_readyOf 17 = .ok (.iaload, 1) := dk_46 (dk_at dksX3_readyOf_0 17 rfl rfl)
theorem dX3_readyOf_18 : decode cX3_readyOf 18 = .ok (.imul, 1) := dk_104 (dk_at dksX3_readyOf_0 18 rfl rfl)
theorem dX3_readyOf_19 : decode cX3_readyOf 19 = .ok (.isub, 1) := dk_100 (dk_at dksX3_readyOf_0 19 rfl rfl)
theorem dX3_readyOf_20 : decode cX3_readyOf 20 = .ok (.sipush 1000, 3) := dk_17 3 232 (dk_at dksX3_readyOf_0 20 rfl rfl)
theorem dX3_readyOf_23 : decode cX3_readyOf 23 = .ok (.invokevirtual 309, 3) := dk_182 1 53 (dk_at dksX3_readyOf_1 0 rfl rfl)
theorem dX3_readyOf_26 : decode cX3_readyOf 26 = .ok (.ireturn, 1) := dk_172 (dk_at dksX3_readyOf_1 3 rfl rfl)
abbrev cX3_falls : ByteArray := prog_17_method_85_code
def yX3_falls : MethodName := ⟨RX3, "falls", "(I)Z"⟩
def dkwX3_falls_1 : List UInt8 := [167, 0, 15, 27, 17, 1, 244, 161, 0, 7, 4, 167, 0, 4, 3, 172]
abbrev dktX3_falls_1 : List UInt8 := dkwX3_falls_1 ++ []
def dkwX3_falls_0 : List UInt8 := [42, 180, 1, 57, 153, 0, 22, 42, 17, 3, 232, 182, 1, 99, 27, 162, 0, 7, 4, 167, 0, 19, 3]
abbrev dktX3_falls_0 : List UInt8 := dkwX3_falls_0 ++ dktX3_falls_1
theorem dksX3_falls_0 : cX3_falls.data.toList.drop 0 = dktX3_falls_0 := by decide +kernel
theorem dksX3_falls_1 : cX3_falls.data.toList.drop 23 = dktX3_falls_1 := dk_seg dksX3_falls_0 23 rfl rfl
theorem dX3_falls_0 : decode cX3_falls 0 = .ok (.aload_n 0, 1) := dk_42 (dk_at dksX3_falls_0 0 rfl rfl)
theorem dX3_falls_1 : decode cX3_falls 1 = .ok (.getfield 313, 3) := dk_180 1 57 (dk_at dksX3_falls_0 1 rfl rfl)
theorem dX3_falls_4 : decode cX3_falls 4 = .ok (.ifCond .eq 22, 3) := dk_153 0 22 (dk_at dksX3_falls_0 4 rfl rfl)
theorem dX3_falls_7 : decode cX3_falls 7 = .ok (.aload_n 0, 1) := dk_42 (dk_at dksX3_falls_0 7 rfl rfl)
theorem dX3_falls_8 : decode cX3_falls 8 = .ok (.sipush 1000, 3) := dk_17 3 232 (dk_at dksX3_falls_0 8 rfl rfl)
theorem dX3_falls_11 : decode cX3_falls 11 = .ok (.invokevirtual 355, 3) := dk_182 1 99 (dk_at dksX3_falls_0 11 rfl rfl)
theorem dX3_falls_14 : decode cX3_falls 14 = .ok (.iload_n 1, 1) := dk_27 (dk_at dksX3_falls_0 14 rfl rfl)
theorem dX3_falls_15 : decode cX3_falls 15 = .ok (.if_icmp .ge 7, 3) := dk_162 0 7 (dk_at dksX3_falls_0 15 rfl rfl)
theorem dX3_falls_18 : decode cX3_falls 18 = .ok (.iconst 1, 1) := dk_4 (dk_at dksX3_falls_0 18 rfl rfl)
theorem dX3_falls_19 : decode cX3_falls 19 = .ok (.goto 19, 3) := dk_167 0 19 (dk_at dksX3_falls_0 19 rfl rfl)
theorem dX3_falls_22 : decode cX3_falls 22 = .ok (.iconst 0, 1) := dk_3 (dk_at dksX3_falls_0 22 rfl rfl)
theorem dX3_falls_23 : decode cX3_falls 23 = .ok (.goto 15, 3) := dk_167 0 15 (dk_at dksX3_falls_1 0 rfl rfl)
theorem dX3_falls_26 : decode cX3_falls 26 = .ok (.iload_n 1, 1) := dk_27 (dk_at dksX3_falls_1 3 rfl rfl)
theorem dX3_falls_27 : decode cX3_falls 27 = .ok (.sipush 500, 3) := dk_17 1 244 (dk_at dksX3_falls_1 4 rfl rfl)
theorem dX3_falls_30 : decode cX3_falls 30 = .ok (.if_icmp .lt 7, 3) := dk_161 0 7 (dk_at dksX3_falls_1 7 rfl rfl)
theorem dX3_falls_33 : decode cX3_falls 33 = .ok (.iconst 1, 1) := dk_4 (dk_at dksX3_falls_1 10 rfl rfl)
theorem dX3_falls_34 : decode cX3_falls 34 = .ok (.goto 4, 3) := dk_167 0 4 (dk_at dksX3_falls_1 11 rfl rfl)
theorem dX3_falls_37 : decode cX3_falls 37 = .ok (.iconst 0, 1) := dk_3 (dk_at dksX3_falls_1 14 rfl rfl)
theorem dX3_falls_38 : decode cX3_falls 38 = .ok (.ireturn, 1) := dk_172 (dk_at dksX3_falls_1 15 rfl rfl)
abbrev cX3_draw : ByteArray := prog_17_method_15_code
def yX3_draw : MethodName := ⟨RX3, "draw", "(I)I"⟩
def dkwX3_draw_1 : List UInt8 := [16, 8, 124, 27, 112, 172]
abbrev dktX3_draw_1 : List UInt8 := dkwX3_draw_1 ++ []
def dkwX3_draw_0 : List UInt8 := [42, 180, 0, 7, 5, 18, 74, 42, 180, 0, 7, 5, 46, 104, 18, 75, 96, 79, 42, 180, 0, 7, 5, 46]
abbrev dktX3_draw_0 : List UInt8 := dkwX3_draw_0 ++ dktX3_draw_1
theorem dksX3_draw_0 : cX3_draw.data.toList.drop 0 = dktX3_draw_0 := by decide +kernel
theorem dksX3_draw_1 : cX3_draw.data.toList.drop 24 = dktX3_draw_1 := dk_seg dksX3_draw_0 24 rfl rfl
theorem dX3_draw_0 : decode cX3_draw 0 = .ok (.aload_n 0, 1) := dk_42 (dk_at dksX3_draw_0 0 rfl rfl)
theorem dX3_draw_1 : decode cX3_draw 1 = .ok (.getfield 7, 3) := dk_180 0 7 (dk_at dksX3_draw_0 1 rfl rfl)
theorem dX3_draw_4 : decode cX3_draw 4 = .ok (.iconst 2, 1) := dk_5 (dk_at dksX3_draw_0 4 rfl rfl)
theorem dX3_draw_5 : decode cX3_draw 5 = .ok (.ldc 74, 2) := dk_18 74 (dk_at dksX3_draw_0 5 rfl rfl)
theorem dX3_draw_7 : decode cX3_draw 7 = .ok (.aload_n 0, 1) := dk_42 (dk_at dksX3_draw_0 7 rfl rfl)
theorem dX3_draw_8 : decode cX3_draw 8 = .ok (.getfield 7, 3) := dk_180 0 7 (dk_at dksX3_draw_0 8 rfl rfl)
theorem dX3_draw_11 : decode cX3_draw 11 = .ok (.iconst 2, 1) := dk_5 (dk_at dksX3_draw_0 11 rfl rfl)
theorem dX3_draw_12 : decode cX3_draw 12 = .ok (.iaload, 1) := dk_46 (dk_at dksX3_draw_0 12 rfl rfl)
theorem dX3_draw_13 : decode cX3_draw 13 = .ok (.imul, 1) := dk_104 (dk_at dksX3_draw_0 13 rfl rfl)
theorem dX3_draw_14 : decode cX3_draw 14 = .ok (.ldc 75, 2) := dk_18 75 (dk_at dksX3_draw_0 14 rfl rfl)
theorem dX3_draw_16 : decode cX3_draw 16 = .ok (.iadd, 1) := dk_96 (dk_at dksX3_draw_0 16 rfl rfl)
theorem dX3_draw_17 : decode cX3_draw 17 = .ok (.iastore, 1) := dk_79 (dk_at dksX3_draw_0 17 rfl rfl)
theorem dX3_draw_18 : decode cX3_draw 18 = .ok (.aload_n 0, 1) := dk_42 (dk_at dksX3_draw_0 18 rfl rfl)
theorem dX3_draw_19 : decode cX3_draw 19 = .ok (.getfield 7, 3) := dk_180 0 7 (dk_at dksX3_draw_0 19 rfl rfl)
theorem dX3_draw_22 : decode cX3_draw 22 = .ok (.iconst 2, 1) := dk_5 (dk_at dksX3_draw_0 22 rfl rfl)
theorem dX3_draw_23 : decode cX3_draw 23 = .ok (.iaload, 1) := dk_46 (dk_at dksX3_draw_0 23 rfl rfl)
theorem dX3_draw_24 : decode cX3_draw 24 = .ok (.bipush 8, 2) := dk_16 8 (dk_at dksX3_draw_1 0 rfl rfl)
theorem dX3_draw_26 : decode cX3_draw 26 = .ok (.iushr, 1) := dk_124 (dk_at dksX3_draw_1 2 rfl rfl)
theorem dX3_draw_27 : decode cX3_draw 27 = .ok (.iload_n 1, 1) := dk_27 (dk_at dksX3_draw_1 3 rfl rfl)
theorem dX3_draw_28 : decode cX3_draw 28 = .ok (.irem, 1) := dk_112 (dk_at dksX3_draw_1 4 rfl rfl)
theorem dX3_draw_29 : decode cX3_draw 29 = .ok (.ireturn, 1) := dk_172 (dk_at dksX3_draw_1 5 rfl rfl)
abbrev cX3_leaveOf : ByteArray := prog_17_method_64_code
def yX3_leaveOf : MethodName := ⟨RX3, "leaveOf", "(I)I"⟩
def dkwX3_leaveOf_0 : List UInt8 := [42, 16, 21, 27, 3, 17, 3, 232, 182, 1, 53, 172]
abbrev dktX3_leaveOf_0 : List UInt8 := dkwX3_leaveOf_0 ++ []
theorem dksX3_leaveOf_0 : cX3_leaveOf.data.toList.drop 0 = dktX3_leaveOf_0 := by decide +kernel
theorem dX3_leaveOf_0 : decode cX3_leaveOf 0 = .ok (.aload_n 0, 1) := dk_42 (dk_at dksX3_leaveOf_0 0 rfl rfl)
theorem dX3_leaveOf_1 : decode cX3_leaveOf 1 = .ok (.bipush 21, 2) := dk_16 21 (dk_at dksX3_leaveOf_0 1 rfl rfl)
theorem dX3_leaveOf_3 : decode cX3_leaveOf 3 = .ok (.iload_n 1, 1) := dk_27 (dk_at dksX3_leaveOf_0 3 rfl rfl)
theorem dX3_leaveOf_4 : decode cX3_leaveOf 4 = .ok (.iconst 0, 1) := dk_3 (dk_at dksX3_leaveOf_0 4 rfl rfl)
theorem dX3_leaveOf_5 : decode cX3_leaveOf 5 = .ok (.sipush 1000, 3) := dk_17 3 232 (dk_at dksX3_leaveOf_0 5 rfl rfl)
theorem dX3_leaveOf_8 : decode cX3_leaveOf 8 = .ok (.invokevirtual 309, 3) := dk_182 1 53 (dk_at dksX3_leaveOf_0 8 rfl rfl)
theorem dX3_leaveOf_11 : decode cX3_leaveOf 11 = .ok (.ireturn, 1) := dk_172 (dk_at dksX3_leaveOf_0 11 rfl rfl)
abbrev cX3_leaves : ByteArray := prog_17_method_87_code
def yX3_leaves : MethodName := ⟨RX3, "leaves", "(I)V"⟩
def dkwX3_leaves_2 : List UInt8 := [182, 1, 67, 177]
abbrev dktX3_leaves_2 : List UInt8 := dkwX3_leaves_2 ++ []
def dkwX3_leaves_1 : List UInt8 := [16, 40, 27, 96, 3, 79, 42, 27, 4, 100, 182, 1, 102, 42, 27, 4, 96, 182, 1, 102, 42, 7, 27, 3]
abbrev dktX3_leaves_1 : List UInt8 := dkwX3_leaves_1 ++ dktX3_leaves_2
def dkwX3_leaves_0 : List UInt8 := [42, 180, 0, 7, 16, 52, 27, 96, 4, 79, 42, 180, 0, 7, 4, 92, 46, 4, 96, 79, 42, 180, 0, 7]
abbrev dktX3_leaves_0 : List UInt8 := dkwX3_leaves_0 ++ dktX3_leaves_1
theorem dksX3_leaves_0 : cX3_leaves.data.toList.drop 0 = dktX3_leaves_0 := by decide +kernel
theorem dksX3_leaves_1 : cX3_leaves.data.toList.drop 24 = dktX3_leaves_1 := dk_seg dksX3_leaves_0 24 rfl rfl
theorem dksX3_leaves_2 : cX3_leaves.data.toList.drop 48 = dktX3_leaves_2 := dk_seg dksX3_leaves_1 24 rfl rfl
theorem dX3_leaves_0 : decode cX3_leaves 0 = .ok (.aload_n 0, 1) := dk_42 (dk_at dksX3_leaves_0 0 rfl rfl)
theorem dX3_leaves_1 : decode cX3_leaves 1 = .ok (.getfield 7, 3) := dk_180 0 7 (dk_at dksX3_leaves_0 1 rfl rfl)
theorem dX3_leaves_4 : decode cX3_leaves 4 = .ok (.bipush 52, 2) := dk_16 52 (dk_at dksX3_leaves_0 4 rfl rfl)
theorem dX3_leaves_6 : decode cX3_leaves 6 = .ok (.iload_n 1, 1) := dk_27 (dk_at dksX3_leaves_0 6 rfl rfl)
theorem dX3_leaves_7 : decode cX3_leaves 7 = .ok (.iadd, 1) := dk_96 (dk_at dksX3_leaves_0 7 rfl rfl)
theorem dX3_leaves_8 : decode cX3_leaves 8 = .ok (.iconst 1, 1) := dk_4 (dk_at dksX3_leaves_0 8 rfl rfl)
theorem dX3_leaves_9 : decode cX3_leaves 9 = .ok (.iastore, 1) := dk_79 (dk_at dksX3_leaves_0 9 rfl rfl)
theorem dX3_leaves_10 : decode cX3_leaves 10 = .ok (.aload_n 0, 1) := dk_42 (dk_at dksX3_leaves_0 10 rfl rfl)
theorem dX3_leaves_11 : decode cX3_leaves 11 = .ok (.getfield 7, 3) := dk_180 0 7 (dk_at dksX3_leaves_0 11 rfl rfl)
theorem dX3_leaves_14 : decode cX3_leaves 14 = .ok (.iconst 1, 1) := dk_4 (dk_at dksX3_leaves_0 14 rfl rfl)
theorem dX3_leaves_15 : decode cX3_leaves 15 = .ok (.dup2, 1) := dk_92 (dk_at dksX3_leaves_0 15 rfl rfl)
theorem dX3_leaves_16 : decode cX3_leaves 16 = .ok (.iaload, 1) := dk_46 (dk_at dksX3_leaves_0 16 rfl rfl)
theorem dX3_leaves_17 : decode cX3_leaves 17 = .ok (.iconst 1, 1) := dk_4 (dk_at dksX3_leaves_0 17 rfl rfl)
theorem dX3_leaves_18 : decode cX3_leaves 18 = .ok (.iadd, 1) := dk_96 (dk_at dksX3_leaves_0 18 rfl rfl)
theorem dX3_leaves_19 : decode cX3_leaves 19 = .ok (.iastore, 1) := dk_79 (dk_at dksX3_leaves_0 19 rfl rfl)
theorem dX3_leaves_20 : decode cX3_leaves 20 = .ok (.aload_n 0, 1) := dk_42 (dk_at dksX3_leaves_0 20 rfl rfl)
theorem dX3_leaves_21 : decode cX3_leaves 21 = .ok (.getfield 7, 3) := dk_180 0 7 (dk_at dksX3_leaves_0 21 rfl rfl)
theorem dX3_leaves_24 : decode cX3_leaves 24 = .ok (.bipush 40, 2) := dk_16 40 (dk_at dksX3_leaves_1 0 rfl rfl)
theorem dX3_leaves_26 : decode cX3_leaves 26 = .ok (.iload_n 1, 1) := dk_27 (dk_at dksX3_leaves_1 2 rfl rfl)
theorem dX3_leaves_27 : decode cX3_leaves 27 = .ok (.iadd, 1) := dk_96 (dk_at dksX3_leaves_1 3 rfl rfl)
theorem dX3_leaves_28 : decode cX3_leaves 28 = .ok (.iconst 0, 1) := dk_3 (dk_at dksX3_leaves_1 4 rfl rfl)
theorem dX3_leaves_29 : decode cX3_leaves 29 = .ok (.iastore, 1) := dk_79 (dk_at dksX3_leaves_1 5 rfl rfl)
theorem dX3_leaves_30 : decode cX3_leaves 30 = .ok (.aload_n 0, 1) := dk_42 (dk_at dksX3_leaves_1 6 rfl rfl)
theorem dX3_leaves_31 : decode cX3_leaves 31 = .ok (.iload_n 1, 1) := dk_27 (dk_at dksX3_leaves_1 7 rfl rfl)
theorem dX3_leaves_32 : decode cX3_leaves 32 = .ok (.iconst 1, 1) := dk_4 (dk_at dksX3_leaves_1 8 rfl rfl)
theorem dX3_leaves_33 : decode cX3_leaves 33 = .ok (.isub, 1) := dk_100 (dk_at dksX3_leaves_1 9 rfl rfl)
theorem dX3_leaves_34 : decode cX3_leaves 34 = .ok (.invokevirtual 358, 3) := dk_182 1 102 (dk_at dksX3_leaves_1 10 rfl rfl)
theorem dX3_leaves_37 : decode cX3_leaves 37 = .ok (.aload_n 0, 1) := dk_42 (dk_at dksX3_leaves_1 13 rfl rfl)
theorem dX3_leaves_38 : decode cX3_leaves 38 = .ok (.iload_n 1, 1) := dk_27 (dk_at dksX3_leaves_1 14 rfl rfl)
theorem dX3_leaves_39 : decode cX3_leaves 39 = .ok (.iconst 1, 1) := dk_4 (dk_at dksX3_leaves_1 15 rfl rfl)
theorem dX3_leaves_40 : decode cX3_leaves 40 = .ok (.iadd, 1) := dk_96 (dk_at dksX3_leaves_1 16 rfl rfl)
theorem dX3_leaves_41 : decode cX3_leaves 41 = .ok (.invokevirtual 358, 3) := dk_182 1 102 (dk_at dksX3_leaves_1 17 rfl rfl)
theorem dX3_leaves_44 : decode cX3_leaves 44 = .ok (.aload_n 0, 1) := dk_42 (dk_at dksX3_leaves_1 20 rfl rfl)
theorem dX3_leaves_45 : decode cX3_leaves 45 = .ok (.iconst 4, 1) := dk_7 (dk_at dksX3_leaves_1 21 rfl rfl)
theorem dX3_leaves_46 : decode cX3_leaves 46 = .ok (.iload_n 1, 1) := dk_27 (dk_at dksX3_leaves_1 22 rfl rfl)
theorem dX3_leaves_47 : decode cX3_leaves 47 = .ok (.iconst 0, 1) := dk_3 (dk_at dksX3_leaves_1 23 rfl rfl)
theorem dX3_leaves_48 : decode cX3_leaves 48 = .ok (.invokevirtual 323, 3) := dk_182 1 67 (dk_at dksX3_leaves_2 0 rfl rfl)
theorem dX3_leaves_51 : decode cX3_leaves 51 = .ok (.return_, 1) := dk_177 (dk_at dksX3_leaves_2 3 rfl rfl)
abbrev cX3_unreadies : ByteArray := prog_17_method_86_code
def yX3_unreadies : MethodName := ⟨RX3, "unreadies", "(I)V"⟩
def dkwX3_unreadies_1 : List UInt8 := [3, 79, 177]
abbrev dktX3_unreadies_1 : List UInt8 := dkwX3_unreadies_1 ++ []
def dkwX3_unreadies_0 : List UInt8 := [42, 27, 182, 0, 58, 153, 0, 21, 42, 27, 182, 0, 65, 154, 0, 13, 42, 180, 0, 7, 16, 40, 27, 96]
abbrev dktX3_unreadies_0 : List UInt8 := dkwX3_unreadies_0 ++ dktX3_unreadies_1
theorem dksX3_unreadies_0 : cX3_unreadies.data.toList.drop 0 = dktX3_unreadies_0 := by decide +kernel
theorem dksX3_unreadies_1 : cX3_unreadies.data.toList.drop 24 = dktX3_unreadies_1 := dk_seg dksX3_unreadies_0 24 rfl rfl
theorem dX3_unreadies_0 : decode cX3_unreadies 0 = .ok (.aload_n 0, 1) := dk_42 (dk_at dksX3_unreadies_0 0 rfl rfl)
theorem dX3_unreadies_1 : decode cX3_unreadies 1 = .ok (.iload_n 1, 1) := dk_27 (dk_at dksX3_unreadies_0 1 rfl rfl)
theorem dX3_unreadies_2 : decode cX3_unreadies 2 = .ok (.invokevirtual 58, 3) := dk_182 0 58 (dk_at dksX3_unreadies_0 2 rfl rfl)
theorem dX3_unreadies_5 : decode cX3_unreadies 5 = .ok (.ifCond .eq 21, 3) := dk_153 0 21 (dk_at dksX3_unreadies_0 5 rfl rfl)
theorem dX3_unreadies_8 : decode cX3_unreadies 8 = .ok (.aload_n 0, 1) := dk_42 (dk_at dksX3_unreadies_0 8 rfl rfl)
theorem dX3_unreadies_9 : decode cX3_unreadies 9 = .ok (.iload_n 1, 1) := dk_27 (dk_at dksX3_unreadies_0 9 rfl rfl)
theorem dX3_unreadies_10 : decode cX3_unreadies 10 = .ok (.invokevirtual 65, 3) := dk_182 0 65 (dk_at dksX3_unreadies_0 10 rfl rfl)
theorem dX3_unreadies_13 : decode cX3_unreadies 13 = .ok (.ifCond .ne 13, 3) := dk_154 0 13 (dk_at dksX3_unreadies_0 13 rfl rfl)
theorem dX3_unreadies_16 : decode cX3_unreadies 16 = .ok (.aload_n 0, 1) := dk_42 (dk_at dksX3_unreadies_0 16 rfl rfl)
theorem dX3_unreadies_17 : decode cX3_unreadies 17 = .ok (.getfield 7, 3) := dk_180 0 7 (dk_at dksX3_unreadies_0 17 rfl rfl)
theorem dX3_unreadies_20 : decode cX3_unreadies 20 = .ok (.bipush 40, 2) := dk_16 40 (dk_at dksX3_unreadies_0 20 rfl rfl)
theorem dX3_unreadies_22 : decode cX3_unreadies 22 = .ok (.iload_n 1, 1) := dk_27 (dk_at dksX3_unreadies_0 22 rfl rfl)
theorem dX3_unreadies_23 : decode cX3_unreadies 23 = .ok (.iadd, 1) := dk_96 (dk_at dksX3_unreadies_0 23 rfl rfl)
theorem dX3_unreadies_24 : decode cX3_unreadies 24 = .ok (.iconst 0, 1) := dk_3 (dk_at dksX3_unreadies_1 0 rfl rfl)
theorem dX3_unreadies_25 : decode cX3_unreadies 25 = .ok (.iastore, 1) := dk_79 (dk_at dksX3_unreadies_1 1 rfl rfl)
theorem dX3_unreadies_26 : decode cX3_unreadies 26 = .ok (.return_, 1) := dk_177 (dk_at dksX3_unreadies_1 2 rfl rfl)
abbrev cX3_moves : ByteArray := prog_17_method_89_code
def yX3_moves : MethodName := ⟨RX3, "moves", "()I"⟩
def dkwX3_moves_6 : List UInt8 := [167, 0, 5, 21, 4, 62, 167, 255, 117, 28, 172]
abbrev dktX3_moves_6 : List UInt8 := dkwX3_moves_6 ++ []
def dkwX3_moves_5 : List UInt8 := [182, 1, 67, 132, 2, 1, 132, 7, 1, 167, 255, 190, 21, 5, 153, 0, 13, 42, 180, 0, 7, 16, 88, 46]
abbrev dktX3_moves_5 : List UInt8 := dkwX3_moves_5 ++ dktX3_moves_6
def dkwX3_moves_4 : List UInt8 := [167, 0, 30, 42, 180, 0, 7, 16, 76, 21, 7, 96, 42, 180, 0, 7, 3, 46, 79, 42, 8, 21, 7, 3]
abbrev dktX3_moves_4 : List UInt8 := dkwX3_moves_4 ++ dktX3_moves_5
def dkwX3_moves_3 : List UInt8 := [153, 0, 60, 42, 21, 7, 182, 0, 65, 154, 0, 45, 21, 7, 21, 4, 160, 0, 11, 21, 5, 154, 0, 6]
abbrev dktX3_moves_3 : List UInt8 := dkwX3_moves_3 ++ dktX3_moves_4
def dkwX3_moves_2 : List UInt8 := [54, 5, 42, 29, 21, 4, 182, 1, 108, 54, 6, 29, 54, 7, 21, 7, 21, 4, 163, 0, 65, 21, 6]
abbrev dktX3_moves_2 : List UInt8 := dkwX3_moves_2 ++ dktX3_moves_3
def dkwX3_moves_1 : List UInt8 := [182, 1, 38, 54, 4, 21, 4, 42, 180, 0, 7, 16, 88, 46, 4, 100, 160, 0, 7, 4, 167, 0, 4, 3]
abbrev dktX3_moves_1 : List UInt8 := dkwX3_moves_1 ++ dktX3_moves_2
def dkwX3_moves_0 : List UInt8 := [42, 182, 1, 35, 60, 3, 61, 3, 62, 29, 42, 180, 0, 7, 16, 88, 46, 162, 0, 134, 42, 29, 27]
abbrev dktX3_moves_0 : List UInt8 := dkwX3_moves_0 ++ dktX3_moves_1
theorem dksX3_moves_0 : cX3_moves.data.toList.drop 0 = dktX3_moves_0 := by decide +kernel
theorem dksX3_moves_1 : cX3_moves.data.toList.drop 23 = dktX3_moves_1 := dk_seg dksX3_moves_0 23 rfl rfl
theorem dksX3_moves_2 : cX3_moves.data.toList.drop 47 = dktX3_moves_2 := dk_seg dksX3_moves_1 24 rfl rfl
theorem dksX3_moves_3 : cX3_moves.data.toList.drop 70 = dktX3_moves_3 := dk_seg dksX3_moves_2 23 rfl rfl
theorem dksX3_moves_4 : cX3_moves.data.toList.drop 94 = dktX3_moves_4 := dk_seg dksX3_moves_3 24 rfl rfl
theorem dksX3_moves_5 : cX3_moves.data.toList.drop 118 = dktX3_moves_5 := dk_seg dksX3_moves_4 24 rfl rfl
theorem dksX3_moves_6 : cX3_moves.data.toList.drop 142 = dktX3_moves_6 := dk_seg dksX3_moves_5 24 rfl rfl
theorem dX3_moves_0 : decode cX3_moves 0 = .ok (.aload_n 0, 1) := dk_42 (dk_at dksX3_moves_0 0 rfl rfl)
theorem dX3_moves_1 : decode cX3_moves 1 = .ok (.invokevirtual 291, 3) := dk_182 1 35 (dk_at dksX3_moves_0 1 rfl rfl)
theorem dX3_moves_4 : decode cX3_moves 4 = .ok (.istore_n 1, 1) := dk_60 (dk_at dksX3_moves_0 4 rfl rfl)
theorem dX3_moves_5 : decode cX3_moves 5 = .ok (.iconst 0, 1) := dk_3 (dk_at dksX3_moves_0 5 rfl rfl)
theorem dX3_moves_6 : decode cX3_moves 6 = .ok (.istore_n 2, 1) := dk_61 (dk_at dksX3_moves_0 6 rfl rfl)
theorem dX3_moves_7 : decode cX3_moves 7 = .ok (.iconst 0, 1) := dk_3 (dk_at dksX3_moves_0 7 rfl rfl)
theorem dX3_moves_8 : decode cX3_moves 8 = .ok (.istore_n 3, 1) := dk_62 (dk_at dksX3_moves_0 8 rfl rfl)
theorem dX3_moves_9 : decode cX3_moves 9 = .ok (.iload_n 3, 1) := dk_29 (dk_at dksX3_moves_0 9 rfl rfl)
theorem dX3_moves_10 : decode cX3_moves 10 = .ok (.aload_n 0, 1) := dk_42 (dk_at dksX3_moves_0 10 rfl rfl)
theorem dX3_moves_11 : decode cX3_moves 11 = .ok (.getfield 7, 3) := dk_180 0 7 (dk_at dksX3_moves_0 11 rfl rfl)
theorem dX3_moves_14 : decode cX3_moves 14 = .ok (.bipush 88, 2) := dk_16 88 (dk_at dksX3_moves_0 14 rfl rfl)
theorem dX3_moves_16 : decode cX3_moves 16 = .ok (.iaload, 1) := dk_46 (dk_at dksX3_moves_0 16 rfl rfl)
theorem dX3_moves_17 : decode cX3_moves 17 = .ok (.if_icmp .ge 134, 3) := dk_162 0 134 (dk_at dksX3_moves_0 17 rfl rfl)
theorem dX3_moves_20 : decode cX3_moves 20 = .ok (.aload_n 0, 1) := dk_42 (dk_at dksX3_moves_0 20 rfl rfl)
theorem dX3_moves_21 : decode cX3_moves 21 = .ok (.iload_n 3, 1) := dk_29 (dk_at dksX3_moves_0 21 rfl rfl)
theorem dX3_moves_22 : decode cX3_moves 22 = .ok (.iload_n 1, 1) := dk_27 (dk_at dksX3_moves_0 22 rfl rfl)
theorem dX3_moves_23 : decode cX3_moves 23 = .ok (.invokevirtual 294, 3) := dk_182 1 38 (dk_at dksX3_moves_1 0 rfl rfl)
theorem dX3_moves_26 : decode cX3_moves 26 = .ok (.istore 4, 2) := dk_54 4 (dk_at dksX3_moves_1 3 rfl rfl)
theorem dX3_moves_28 : decode cX3_moves 28 = .ok (.iload 4, 2) := dk_21 4 (dk_at dksX3_moves_1 5 rfl rfl)
theorem dX3_moves_30 : decode cX3_moves 30 = .ok (.aload_n 0, 1) := dk_42 (dk_at dksX3_moves_1 7 rfl rfl)
theorem dX3_moves_31 : decode cX3_moves 31 = .ok (.getfield 7, 3) := dk_180 0 7 (dk_at dksX3_moves_1 8 rfl rfl)
theorem dX3_moves_34 : decode cX3_moves 34 = .ok (.bipush 88, 2) := dk_16 88 (dk_at dksX3_moves_1 11 rfl rfl)
theorem dX3_moves_36 : decode cX3_moves 36 = .ok (.iaload, 1) := dk_46 (dk_at dksX3_moves_1 13 rfl rfl)
theorem dX3_moves_37 : decode cX3_moves 37 = .ok (.iconst 1, 1) := dk_4 (dk_at dksX3_moves_1 14 rfl rfl)
theorem dX3_moves_38 : decode cX3_moves 38 = .ok (.isub, 1) := dk_100 (dk_at dksX3_moves_1 15 rfl rfl)
theorem dX3_moves_39 : decode cX3_moves 39 = .ok (.if_icmp .ne 7, 3) := dk_160 0 7 (dk_at dksX3_moves_1 16 rfl rfl)
theorem dX3_moves_42 : decode cX3_moves 42 = .ok (.iconst 1, 1) := dk_4 (dk_at dksX3_moves_1 19 rfl rfl)
theorem dX3_moves_43 : decode cX3_moves 43 = .ok (.goto 4, 3) := dk_167 0 4 (dk_at dksX3_moves_1 20 rfl rfl)
theorem dX3_moves_46 : decode cX3_moves 46 = .ok (.iconst 0, 1) := dk_3 (dk_at dksX3_moves_1 23 rfl rfl)
theorem dX3_moves_47 : decode cX3_moves 47 = .ok (.istore 5, 2) := dk_54 5 (dk_at dksX3_moves_2 0 rfl rfl)
theorem dX3_moves_49 : decode cX3_moves 49 = .ok (.aload_n 0, 1) := dk_42 (dk_at dksX3_moves_2 2 rfl rfl)
theorem dX3_moves_50 : decode cX3_moves 50 = .ok (.iload_n 3, 1) := dk_29 (dk_at dksX3_moves_2 3 rfl rfl)
theorem dX3_moves_51 : decode cX3_moves 51 = .ok (.iload 4, 2) := dk_21 4 (dk_at dksX3_moves_2 4 rfl rfl)
theorem dX3_moves_53 : decode cX3_moves 53 = .ok (.invokevirtual 364, 3) := dk_182 1 108 (dk_at dksX3_moves_2 6 rfl rfl)
theorem dX3_moves_56 : decode cX3_moves 56 = .ok (.istore 6, 2) := dk_54 6 (dk_at dksX3_moves_2 9 rfl rfl)
theorem dX3_moves_58 : decode cX3_moves 58 = .ok (.iload_n 3, 1) := dk_29 (dk_at dksX3_moves_2 11 rfl rfl)
theorem dX3_moves_59 : decode cX3_moves 59 = .ok (.istore 7, 2) := dk_54 7 (dk_at dksX3_moves_2 12 rfl rfl)
theorem dX3_moves_61 : decode cX3_moves 61 = .ok (.iload 7, 2) := dk_21 7 (dk_at dksX3_moves_2 14 rfl rfl)
theorem dX3_moves_63 : decode cX3_moves 63 = .ok (.iload 4, 2) := dk_21 4 (dk_at dksX3_moves_2 16 rfl rfl)
theorem dX3_moves_65 : decode cX3_moves 65 = .ok (.if_icmp .gt 65, 3) := dk_163 0 65 (dk_at dksX3_moves_2 18 rfl rfl)
theorem dX3_moves_68 : decode cX3_moves 68 = .ok (.iload 6, 2) := dk_21 6 (dk_at dksX3_moves_2 21 rfl rfl)
theorem dX3_moves_70 : decode cX3_moves 70 = .ok (.ifCond .eq 60, 3) := dk_153 0 60 (dk_at dksX3_moves_3 0 rfl rfl)
theorem dX3_moves_73 : decode cX3_moves 73 = .ok (.aload_n 0, 1) := dk_42 (dk_at dksX3_moves_3 3 rfl rfl)
theorem dX3_moves_74 : decode cX3_moves 74 = .ok (.iload 7, 2) := dk_21 7 (dk_at dksX3_moves_3 4 rfl rfl)
theorem dX3_moves_76 : decode cX3_moves 76 = .ok (.invokevirtual 65, 3) := dk_182 0 65 (dk_at dksX3_moves_3 6 rfl rfl)
theorem dX3_moves_79 : decode cX3_moves 79 = .ok (.ifCond .ne 45, 3) := dk_154 0 45 (dk_at dksX3_moves_3 9 rfl rfl)
theorem dX3_moves_82 : decode cX3_moves 82 = .ok (.iload 7, 2) := dk_21 7 (dk_at dksX3_moves_3 12 rfl rfl)
theorem dX3_moves_84 : decode cX3_moves 84 = .ok (.iload 4, 2) := dk_21 4 (dk_at dksX3_moves_3 14 rfl rfl)
theorem dX3_moves_86 : decode cX3_moves 86 = .ok (.if_icmp .ne 11, 3) := dk_160 0 11 (dk_at dksX3_moves_3 16 rfl rfl)
theorem dX3_moves_89 : decode cX3_moves 89 = .ok (.iload 5, 2) := dk_21 5 (dk_at dksX3_moves_3 19 rfl rfl)
theorem dX3_moves_91 : decode cX3_moves 91 = .ok (.ifCond .ne 6, 3) := dk_154 0 6 (dk_at dksX3_moves_3 21 rfl rfl)
theorem dX3_moves_94 : decode cX3_moves 94 = .ok (.goto 30, 3) := dk_167 0 30 (dk_at dksX3_moves_4 0 rfl rfl)
theorem dX3_moves_97 : decode cX3_moves 97 = .ok (.aload_n 0, 1) := dk_42 (dk_at dksX3_moves_4 3 rfl rfl)
theorem dX3_moves_98 : decode cX3_moves 98 = .ok (.getfield 7, 3) := dk_180 0 7 (dk_at dksX3_moves_4 4 rfl rfl)
theorem dX3_moves_101 : decode cX3_moves 101 = .ok (.bipush 76, 2) := dk_16 76 (dk_at dksX3_moves_4 7 rfl rfl)
theorem dX3_moves_103 : decode cX3_moves 103 = .ok (.iload 7, 2) := dk_21 7 (dk_at dksX3_moves_4 9 rfl rfl)
theorem dX3_moves_105 : decode cX3_moves 105 = .ok (.iadd, 1) := dk_96 (dk_at dksX3_moves_4 11 rfl rfl)
theorem dX3_moves_106 : decode cX3_moves 106 = .ok (.aload_n 0, 1) := dk_42 (dk_at dksX3_moves_4 12 rfl rfl)
theorem dX3_moves_107 : decode cX3_moves 107 = .ok (.getfield 7, 3) := dk_180 0 7 (dk_at dksX3_moves_4 13 rfl rfl)
theorem dX3_moves_110 : decode cX3_moves 110 = .ok (.iconst 0, 1) := dk_3 (dk_at dksX3_moves_4 16 rfl rfl)
theorem dX3_moves_111 : decode cX3_moves 111 = .ok (.iaload, 1) := dk_46 (dk_at dksX3_moves_4 17 rfl rfl)
theorem dX3_moves_112 : decode cX3_moves 112 = .ok (.iastore, 1) := dk_79 (dk_at dksX3_moves_4 18 rfl rfl)
theorem dX3_moves_113 : decode cX3_moves 113 = .ok (.aload_n 0, 1) := dk_42 (dk_at dksX3_moves_4 19 rfl rfl)
theorem dX3_moves_114 : decode cX3_moves 114 = .ok (.iconst 5, 1) := dk_8 (dk_at dksX3_moves_4 20 rfl rfl)
theorem dX3_moves_115 : decode cX3_moves 115 = .ok (.iload 7, 2) := dk_21 7 (dk_at dksX3_moves_4 21 rfl rfl)
theorem dX3_moves_117 : decode cX3_moves 117 = .ok (.iconst 0, 1) := dk_3 (dk_at dksX3_moves_4 23 rfl rfl)
theorem dX3_moves_118 : decode cX3_moves 118 = .ok (.invokevirtual 323, 3) := dk_182 1 67 (dk_at dksX3_moves_5 0 rfl rfl)
theorem dX3_moves_121 : decode cX3_moves 121 = .ok (.iinc 2 1, 3) := dk_132 2 1 (dk_at dksX3_moves_5 3 rfl rfl)
theorem dX3_moves_124 : decode cX3_moves 124 = .ok (.iinc 7 1, 3) := dk_132 7 1 (dk_at dksX3_moves_5 6 rfl rfl)
theorem dX3_moves_127 : decode cX3_moves 127 = .ok (.goto (-66), 3) := dk_167 255 190 (dk_at dksX3_moves_5 9 rfl rfl)
theorem dX3_moves_130 : decode cX3_moves 130 = .ok (.iload 5, 2) := dk_21 5 (dk_at dksX3_moves_5 12 rfl rfl)
theorem dX3_moves_132 : decode cX3_moves 132 = .ok (.ifCond .eq 13, 3) := dk_153 0 13 (dk_at dksX3_moves_5 14 rfl rfl)
theorem dX3_moves_135 : decode cX3_moves 135 = .ok (.aload_n 0, 1) := dk_42 (dk_at dksX3_moves_5 17 rfl rfl)
theorem dX3_moves_136 : decode cX3_moves 136 = .ok (.getfield 7, 3) := dk_180 0 7 (dk_at dksX3_moves_5 18 rfl rfl)
theorem dX3_moves_139 : decode cX3_moves 139 = .ok (.bipush 88, 2) := dk_16 88 (dk_at dksX3_moves_5 21 rfl rfl)
theorem dX3_moves_141 : decode cX3_moves 141 = .ok (.iaload, 1) := dk_46 (dk_at dksX3_moves_5 23 rfl rfl)
theorem dX3_moves_142 : decode cX3_moves 142 = .ok (.goto 5, 3) := dk_167 0 5 (dk_at dksX3_moves_6 0 rfl rfl)
theorem dX3_moves_145 : decode cX3_moves 145 = .ok (.iload 4, 2) := dk_21 4 (dk_at dksX3_moves_6 3 rfl rfl)
theorem dX3_moves_147 : decode cX3_moves 147 = .ok (.istore_n 3, 1) := dk_62 (dk_at dksX3_moves_6 5 rfl rfl)
theorem dX3_moves_148 : decode cX3_moves 148 = .ok (.goto (-139), 3) := dk_167 255 117 (dk_at dksX3_moves_6 6 rfl rfl)
theorem dX3_moves_151 : decode cX3_moves 151 = .ok (.iload_n 2, 1) := dk_28 (dk_at dksX3_moves_6 9 rfl rfl)
theorem dX3_moves_152 : decode cX3_moves 152 = .ok (.ireturn, 1) := dk_172 (dk_at dksX3_moves_6 10 rfl rfl)
abbrev cX3_canMove : ByteArray := prog_17_method_88_code
def yX3_canMove : MethodName := ⟨RX3, "canMove", "(II)Z"⟩
def dkwX3_canMove_1 : List UInt8 := [28, 162, 0, 13, 42, 29, 182, 1, 105, 154, 0, 5, 3, 172, 132, 3, 1, 167, 255, 217, 4, 172]
abbrev dktX3_canMove_1 : List UInt8 := dkwX3_canMove_1 ++ []
def dkwX3_canMove_0 : List UInt8 := [27, 62, 29, 28, 163, 0, 40, 42, 29, 182, 1, 41, 153, 0, 24, 42, 29, 182, 0, 62, 154, 0, 16, 29]
abbrev dktX3_canMove_0 : List UInt8 := dkwX3_canMove_0 ++ dktX3_canMove_1
theorem dksX3_canMove_0 : cX3_canMove.data.toList.drop 0 = dktX3_canMove_0 := by decide +kernel
theorem dksX3_canMove_1 : cX3_canMove.data.toList.drop 24 = dktX3_canMove_1 := dk_seg dksX3_canMove_0 24 rfl rfl
theorem dX3_canMove_0 : decode cX3_canMove 0 = .ok (.iload_n 1, 1) := dk_27 (dk_at dksX3_canMove_0 0 rfl rfl)
theorem dX3_canMove_1 : decode cX3_canMove 1 = .ok (.istore_n 3, 1) := dk_62 (dk_at dksX3_canMove_0 1 rfl rfl)
theorem dX3_canMove_2 : decode cX3_canMove 2 = .ok (.iload_n 3, 1) := dk_29 (dk_at dksX3_canMove_0 2 rfl rfl)
theorem dX3_canMove_3 : decode cX3_canMove 3 = .ok (.iload_n 2, 1) := dk_28 (dk_at dksX3_canMove_0 3 rfl rfl)
theorem dX3_canMove_4 : decode cX3_canMove 4 = .ok (.if_icmp .gt 40, 3) := dk_163 0 40 (dk_at dksX3_canMove_0 4 rfl rfl)
theorem dX3_canMove_7 : decode cX3_canMove 7 = .ok (.aload_n 0, 1) := dk_42 (dk_at dksX3_canMove_0 7 rfl rfl)
theorem dX3_canMove_8 : decode cX3_canMove 8 = .ok (.iload_n 3, 1) := dk_29 (dk_at dksX3_canMove_0 8 rfl rfl)
theorem dX3_canMove_9 : decode cX3_canMove 9 = .ok (.invokevirtual 297, 3) := dk_182 1 41 (dk_at dksX3_canMove_0 9 rfl rfl)
theorem dX3_canMove_12 : decode cX3_canMove 12 = .ok (.ifCond .eq 24, 3) := dk_153 0 24 (dk_at dksX3_canMove_0 12 rfl rfl)
theorem dX3_canMove_15 : decode cX3_canMove 15 = .ok (.aload_n 0, 1) := dk_42 (dk_at dksX3_canMove_0 15 rfl rfl)
theorem dX3_canMove_16 : decode cX3_canMove 16 = .ok (.iload_n 3, 1) := dk_29 (dk_at dksX3_canMove_0 16 rfl rfl)
theorem dX3_canMove_17 : decode cX3_canMove 17 = .ok (.invokevirtual 62, 3) := dk_182 0 62 (dk_at dksX3_canMove_0 17 rfl rfl)
theorem dX3_canMove_20 : decode cX3_canMove 20 = .ok (.ifCond .ne 16, 3) := dk_154 0 16 (dk_at dksX3_canMove_0 20 rfl rfl)
theorem dX3_canMove_23 : decode cX3_canMove 23 = .ok (.iload_n 3, 1) := dk_29 (dk_at dksX3_canMove_0 23 rfl rfl)
theorem dX3_canMove_24 : decode cX3_canMove 24 = .ok (.iload_n 2, 1) := dk_28 (dk_at dksX3_canMove_1 0 rfl rfl)
theorem dX3_canMove_25 : decode cX3_canMove 25 = .ok (.if_icmp .ge 13, 3) := dk_162 0 13 (dk_at dksX3_canMove_1 1 rfl rfl)
theorem dX3_canMove_28 : decode cX3_canMove 28 = .ok (.aload_n 0, 1) := dk_42 (dk_at dksX3_canMove_1 4 rfl rfl)
theorem dX3_canMove_29 : decode cX3_canMove 29 = .ok (.iload_n 3, 1) := dk_29 (dk_at dksX3_canMove_1 5 rfl rfl)
theorem dX3_canMove_30 : decode cX3_canMove 30 = .ok (.invokevirtual 361, 3) := dk_182 1 105 (dk_at dksX3_canMove_1 6 rfl rfl)
theorem dX3_canMove_33 : decode cX3_canMove 33 = .ok (.ifCond .ne 5, 3) := dk_154 0 5 (dk_at dksX3_canMove_1 9 rfl rfl)
theorem dX3_canMove_36 : decode cX3_canMove 36 = .ok (.iconst 0, 1) := dk_3 (dk_at dksX3_canMove_1 12 rfl rfl)
theorem dX3_canMove_37 : decode cX3_canMove 37 = .ok (.ireturn, 1) := dk_172 (dk_at dksX3_canMove_1 13 rfl rfl)
theorem dX3_canMove_38 : decode cX3_canMove 38 = .ok (.iinc 3 1, 3) := dk_132 3 1 (dk_at dksX3_canMove_1 14 rfl rfl)
theorem dX3_canMove_41 : decode cX3_canMove 41 = .ok (.goto (-39), 3) := dk_167 255 217 (dk_at dksX3_canMove_1 17 rfl rfl)
theorem dX3_canMove_44 : decode cX3_canMove 44 = .ok (.iconst 1, 1) := dk_4 (dk_at dksX3_canMove_1 20 rfl rfl)
theorem dX3_canMove_45 : decode cX3_canMove 45 = .ok (.ireturn, 1) := dk_172 (dk_at dksX3_canMove_1 21 rfl rfl)
abbrev cX3_canPay : ByteArray := prog_17_method_67_code
def yX3_canPay : MethodName := ⟨RX3, "canPay", "(I)Z"⟩
def dkwX3_canPay_2 : List UInt8 := [96, 46, 96, 163, 0, 7, 4, 167, 0, 4, 3, 172]
abbrev dktX3_canPay_2 : List UInt8 := dkwX3_canPay_2 ++ []
def dkwX3_canPay_1 : List UInt8 := [46, 42, 180, 0, 7, 16, 16, 27, 96, 46, 27, 154, 0, 7, 3, 167, 0, 11, 42, 180, 0, 7, 7, 27]
abbrev dktX3_canPay_1 : List UInt8 := dkwX3_canPay_1 ++ dktX3_canPay_2
def dkwX3_canPay_0 : List UInt8 := [27, 42, 180, 0, 7, 16, 88, 46, 4, 100, 160, 0, 5, 4, 172, 42, 180, 0, 7, 7, 27, 96, 4, 96]
abbrev dktX3_canPay_0 : List UInt8 := dkwX3_canPay_0 ++ dktX3_canPay_1
theorem dksX3_canPay_0 : cX3_canPay.data.toList.drop 0 = dktX3_canPay_0 := by decide +kernel
theorem dksX3_canPay_1 : cX3_canPay.data.toList.drop 24 = dktX3_canPay_1 := dk_seg dksX3_canPay_0 24 rfl rfl
theorem dksX3_canPay_2 : cX3_canPay.data.toList.drop 48 = dktX3_canPay_2 := dk_seg dksX3_canPay_1 24 rfl rfl
theorem dX3_canPay_0 : decode cX3_canPay 0 = .ok (.iload_n 1, 1) := dk_27 (dk_at dksX3_canPay_0 0 rfl rfl)
theorem dX3_canPay_1 : decode cX3_canPay 1 = .ok (.aload_n 0, 1) := dk_42 (dk_at dksX3_canPay_0 1 rfl rfl)
theorem dX3_canPay_2 : decode cX3_canPay 2 = .ok (.getfield 7, 3) := dk_180 0 7 (dk_at dksX3_canPay_0 2 rfl rfl)
theorem dX3_canPay_5 : decode cX3_canPay 5 = .ok (.bipush 88, 2) := dk_16 88 (dk_at dksX3_canPay_0 5 rfl rfl)
theorem dX3_canPay_7 : decode cX3_canPay 7 = .ok (.iaload, 1) := dk_46 (dk_at dksX3_canPay_0 7 rfl rfl)
theorem dX3_canPay_8 : decode cX3_canPay 8 = .ok (.iconst 1, 1) := dk_4 (dk_at dksX3_canPay_0 8 rfl rfl)
theorem dX3_canPay_9 : decode cX3_canPay 9 = .ok (.isub, 1) := dk_100 (dk_at dksX3_canPay_0 9 rfl rfl)
theorem dX3_canPay_10 : decode cX3_canPay 10 = .ok (.if_icmp .ne 5, 3) := dk_160 0 5 (dk_at dksX3_canPay_0 10 rfl rfl)
theorem dX3_canPay_13 : decode cX3_canPay 13 = .ok (.iconst 1, 1) := dk_4 (dk_at dksX3_canPay_0 13 rfl rfl)
theorem dX3_canPay_14 : decode cX3_canPay 14 = .ok (.ireturn, 1) := dk_172 (dk_at dksX3_canPay_0 14 rfl rfl)
theorem dX3_canPay_15 : decode cX3_canPay 15 = .ok (.aload_n 0, 1) := dk_42 (dk_at dksX3_canPay_0 15 rfl rfl)
theorem dX3_canPay_16 : decode cX3_canPay 16 = .ok (.getfield 7, 3) := dk_180 0 7 (dk_at dksX3_canPay_0 16 rfl rfl)
theorem dX3_canPay_19 : decode cX3_canPay 19 = .ok (.iconst 4, 1) := dk_7 (dk_at dksX3_canPay_0 19 rfl rfl)
theorem dX3_canPay_20 : decode cX3_canPay 20 = .ok (.iload_n 1, 1) := dk_27 (dk_at dksX3_canPay_0 20 rfl rfl)
theorem dX3_canPay_21 : decode cX3_canPay 21 = .ok (.iadd, 1) := dk_96 (dk_at dksX3_canPay_0 21 rfl rfl)
theorem dX3_canPay_22 : decode cX3_canPay 22 = .ok (.iconst 1, 1) := dk_4 (dk_at dksX3_canPay_0 22 rfl rfl)
theorem dX3_canPay_23 : decode cX3_canPay 23 = .ok (.iadd, 1) := dk_96 (dk_at dksX3_canPay_0 23 rfl rfl)
theorem dX3_canPay_24 : decode cX3_canPay 24 = .ok (.iaload, 1) := dk_46 (dk_at dksX3_canPay_1 0 rfl rfl)
theorem dX3_canPay_25 : decode cX3_canPay 25 = .ok (.aload_n 0, 1) := dk_42 (dk_at dksX3_canPay_1 1 rfl rfl)
theorem dX3_canPay_26 : decode cX3_canPay 26 = .ok (.getfield 7, 3) := dk_180 0 7 (dk_at dksX3_canPay_1 2 rfl rfl)
theorem dX3_canPay_29 : decode cX3_canPay 29 = .ok (.bipush 16, 2) := dk_16 16 (dk_at dksX3_canPay_1 5 rfl rfl)
theorem dX3_canPay_31 : decode cX3_canPay 31 = .ok (.iload_n 1, 1) := dk_27 (dk_at dksX3_canPay_1 7 rfl rfl)
theorem dX3_canPay_32 : decode cX3_canPay 32 = .ok (.iadd, 1) := dk_96 (dk_at dksX3_canPay_1 8 rfl rfl)
theorem dX3_canPay_33 : decode cX3_canPay 33 = .ok (.iaload, 1) := dk_46 (dk_at dksX3_canPay_1 9 rfl rfl)
theorem dX3_canPay_34 : decode cX3_canPay 34 = .ok (.iload_n 1, 1) := dk_27 (dk_at dksX3_canPay_1 10 rfl rfl)
theorem dX3_canPay_35 : decode cX3_canPay 35 = .ok (.ifCond .ne 7, 3) := dk_154 0 7 (dk_at dksX3_canPay_1 11 rfl rfl)
theorem dX3_canPay_38 : decode cX3_canPay 38 = .ok (.iconst 0, 1) := dk_3 (dk_at dksX3_canPay_1 14 rfl rfl)
theorem dX3_canPay_39 : decode cX3_canPay 39 = .ok (.goto 11, 3) := dk_167 0 11 (dk_at dksX3_canPay_1 15 rfl rfl)
theorem dX3_canPay_42 : decode cX3_canPay 42 = .ok (.aload_n 0, 1) := dk_42 (dk_at dksX3_canPay_1 18 rfl rfl)
theorem dX3_canPay_43 : decode cX3_canPay 43 = .ok (.getfield 7, 3) := dk_180 0 7 (dk_at dksX3_canPay_1 19 rfl rfl)
theorem dX3_canPay_46 : decode cX3_canPay 46 = .ok (.iconst 4, 1) := dk_7 (dk_at dksX3_canPay_1 22 rfl rfl)
theorem dX3_canPay_47 : decode cX3_canPay 47 = .ok (.iload_n 1, 1) := dk_27 (dk_at dksX3_canPay_1 23 rfl rfl)
theorem dX3_canPay_48 : decode cX3_canPay 48 = .ok (.iadd, 1) := dk_96 (dk_at dksX3_canPay_2 0 rfl rfl)
theorem dX3_canPay_49 : decode cX3_canPay 49 = .ok (.iaload, 1) := dk_46 (dk_at dksX3_canPay_2 1 rfl rfl)
theorem dX3_canPay_50 : decode cX3_canPay 50 = .ok (.iadd, 1) := dk_96 (dk_at dksX3_canPay_2 2 rfl rfl)
theorem dX3_canPay_51 : decode cX3_canPay 51 = .ok (.if_icmp .gt 7, 3) := dk_163 0 7 (dk_at dksX3_canPay_2 3 rfl rfl)
theorem dX3_canPay_54 : decode cX3_canPay 54 = .ok (.iconst 1, 1) := dk_4 (dk_at dksX3_canPay_2 6 rfl rfl)
theorem dX3_canPay_55 : decode cX3_canPay 55 = .ok (.goto 4, 3) := dk_167 0 4 (dk_at dksX3_canPay_2 7 rfl rfl)
theorem dX3_canPay_58 : decode cX3_canPay 58 = .ok (.iconst 0, 1) := dk_3 (dk_at dksX3_canPay_2 10 rfl rfl)
theorem dX3_canPay_59 : decode cX3_canPay 59 = .ok (.ireturn, 1) := dk_172 (dk_at dksX3_canPay_2 11 rfl rfl)
abbrev cX3_costOf : ByteArray := prog_17_method_66_code
def yX3_costOf : MethodName := ⟨RX3, "costOf", "(I)I"⟩
def dkwX3_costOf_0 : List UInt8 := [42, 16, 23, 27, 6, 16, 99, 182, 1, 53, 172]
abbrev dktX3_costOf_0 : List UInt8 := dkwX3_costOf_0 ++ []
theorem dksX3_costOf_0 : cX3_costOf.data.toList.drop 0 = dktX3_costOf_0 := by decide +kernel
theorem dX3_costOf_0 : decode cX3_costOf 0 = .ok (.aload_n 0, 1) := dk_42 (dk_at dksX3_costOf_0 0 rfl rfl)
theorem dX3_costOf_1 : decode cX3_costOf 1 = .ok (.bipush 23, 2) := dk_16 23 (dk_at dksX3_costOf_0 1 rfl rfl)
theorem dX3_costOf_3 : decode cX3_costOf 3 = .ok (.iload_n 1, 1) := dk_27 (dk_at dksX3_costOf_0 3 rfl rfl)
theorem dX3_costOf_4 : decode cX3_costOf 4 = .ok (.iconst 3, 1) := dk_6 (dk_at dksX3_costOf_0 4 rfl rfl)
theorem dX3_costOf_5 : decode cX3_costOf 5 = .ok (.bipush 99, 2) := dk_16 99 (dk_at dksX3_costOf_0 5 rfl rfl)
theorem dX3_costOf_7 : decode cX3_costOf 7 = .ok (.invokevirtual 309, 3) := dk_182 1 53 (dk_at dksX3_costOf_0 7 rfl rfl)
theorem dX3_costOf_10 : decode cX3_costOf 10 = .ok (.ireturn, 1) := dk_172 (dk_at dksX3_costOf_0 10 rfl rfl)
abbrev cX3_of : ByteArray := prog_17_method_92_code
def yX3_of : MethodName := ⟨RX3, "of", "(II)I"⟩
def dkwX3_of_5 : List UInt8 := [6, 162, 0, 7, 28, 167, 0, 6, 28, 4, 100, 104, 96, 27, 96, 46, 167, 0, 6, 19, 1, 135, 172]
abbrev dktX3_of_5 : List UInt8 := dkwX3_of_5 ++ []
def dkwX3_of_4 : List UInt8 := [42, 27, 182, 1, 44, 172, 28, 3, 16, 7, 184, 0, 54, 153, 0, 30, 42, 180, 0, 7, 7, 16, 12, 28]
abbrev dktX3_of_4 : List UInt8 := dkwX3_of_4 ++ dktX3_of_5
def dkwX3_of_3 : List UInt8 := [182, 1, 64, 172, 42, 27, 182, 1, 129, 172, 42, 27, 182, 1, 105, 153, 0, 7, 4, 167, 0, 4, 3, 172]
abbrev dktX3_of_3 : List UInt8 := dkwX3_of_3 ++ dktX3_of_4
def dkwX3_of_2 : List UInt8 := [42, 180, 0, 7, 16, 93, 27, 96, 46, 172, 42, 27, 182, 1, 114, 172, 42, 27, 182, 1, 120, 172, 42, 27]
abbrev dktX3_of_2 : List UInt8 := dkwX3_of_2 ++ dktX3_of_3
def dkwX3_of_1 : List UInt8 := [170, 0, 0, 0, 0, 0, 113, 0, 0, 0, 3, 0, 0, 0, 13, 0, 0, 0, 59, 0, 0, 0, 113, 0, 0, 0, 113, 0, 0, 0, 113, 0, 0, 0, 113, 0, 0, 0, 69, 0, 0, 0, 75, 0, 0, 0, 81, 0, 0, 0, 87, 0, 0, 0, 93, 0, 0, 0, 107]
abbrev dktX3_of_1 : List UInt8 := dkwX3_of_1 ++ dktX3_of_2
def dkwX3_of_0 : List UInt8 := [42, 27, 182, 0, 58, 154, 0, 7, 19, 1, 135, 172, 28]
abbrev dktX3_of_0 : List UInt8 := dkwX3_of_0 ++ dktX3_of_1
theorem dksX3_of_0 : cX3_of.data.toList.drop 0 = dktX3_of_0 := by decide +kernel
theorem dksX3_of_1 : cX3_of.data.toList.drop 13 = dktX3_of_1 := dk_seg dksX3_of_0 13 rfl rfl
theorem dksX3_of_2 : cX3_of.data.toList.drop 72 = dktX3_of_2 := dk_seg dksX3_of_1 59 rfl rfl
theorem dksX3_of_3 : cX3_of.data.toList.drop 96 = dktX3_of_3 := dk_seg dksX3_of_2 24 rfl rfl
theorem dksX3_of_4 : cX3_of.data.toList.drop 120 = dktX3_of_4 := dk_seg dksX3_of_3 24 rfl rfl
theorem dksX3_of_5 : cX3_of.data.toList.drop 144 = dktX3_of_5 := dk_seg dksX3_of_4 24 rfl rfl
theorem dX3_of_0 : decode cX3_of 0 = .ok (.aload_n 0, 1) := dk_42 (dk_at dksX3_of_0 0 rfl rfl)
theorem dX3_of_1 : decode cX3_of 1 = .ok (.iload_n 1, 1) := dk_27 (dk_at dksX3_of_0 1 rfl rfl)
theorem dX3_of_2 : decode cX3_of 2 = .ok (.invokevirtual 58, 3) := dk_182 0 58 (dk_at dksX3_of_0 2 rfl rfl)
theorem dX3_of_5 : decode cX3_of 5 = .ok (.ifCond .ne 7, 3) := dk_154 0 7 (dk_at dksX3_of_0 5 rfl rfl)
theorem dX3_of_8 : decode cX3_of 8 = .ok (.ldc_w 391, 3) := dk_19 1 135 (dk_at dksX3_of_0 8 rfl rfl)
theorem dX3_of_11 : decode cX3_of 11 = .ok (.ireturn, 1) := dk_172 (dk_at dksX3_of_0 11 rfl rfl)
theorem dX3_of_12 : decode cX3_of 12 = .ok (.iload_n 2, 1) := dk_28 (dk_at dksX3_of_0 12 rfl rfl)
theorem dX3_of_13 : decode cX3_of 13 = .ok (.tableswitch 113 3 13 #[59, 113, 113, 113, 113, 69, 75, 81, 87, 93, 107], 59) := by decide +kernel
theorem dX3_of_72 : decode cX3_of 72 = .ok (.aload_n 0, 1) := dk_42 (dk_at dksX3_of_2 0 rfl rfl)
theorem dX3_of_73 : decode cX3_of 73 = .ok (.getfield 7, 3) := dk_180 0 7 (dk_at dksX3_of_2 1 rfl rfl)
theorem dX3_of_76 : decode cX3_of 76 = .ok (.bipush 93, 2) := dk_16 93 (dk_at dksX3_of_2 4 rfl rfl)
theorem dX3_of_78 : decode cX3_of 78 = .ok (.iload_n 1, 1) := dk_27 (dk_at dksX3_of_2 6 rfl rfl)
theorem dX3_of_79 : decode cX3_of 79 = .ok (.iadd, 1) := dk_96 (dk_at dksX3_of_2 7 rfl rfl)
theorem dX3_of_80 : decode cX3_of 80 = .ok (.iaload, 1) := dk_46 (dk_at dksX3_of_2 8 rfl rfl)
theorem dX3_of_81 : decode cX3_of 81 = .ok (.ireturn, 1) := dk_172 (dk_at dksX3_of_2 9 rfl rfl)
theorem dX3_of_82 : decode cX3_of 82 = .ok (.aload_n 0, 1) := dk_42 (dk_at dksX3_of_2 10 rfl rfl)
theorem dX3_of_83 : decode cX3_of 83 = .ok (.iload_n 1, 1) := dk_27 (dk_at dksX3_of_2 11 rfl rfl)
theorem dX3_of_84 : decode cX3_of 84 = .ok (.invokevirtual 370, 3) := dk_182 1 114 (dk_at dksX3_of_2 12 rfl rfl)
theorem dX3_of_87 : decode cX3_of 87 = .ok (.ireturn, 1) := dk_172 (dk_at dksX3_of_2 15 rfl rfl)
theorem dX3_of_88 : decode cX3_of 88 = .ok (.aload_n 0, 1) := dk_42 (dk_at dksX3_of_2 16 rfl rfl)
theorem dX3_of_89 : decode cX3_of 89 = .ok (.iload_n 1, 1) := dk_27 (dk_at dksX3_of_2 17 rfl rfl)
theorem dX3_of_90 : decode cX3_of 90 = .ok (.invokevirtual 376, 3) := dk_182 1 120 (dk_at dksX3_of_2 18 rfl rfl)
theorem dX3_of_93 : decode cX3_of 93 = .ok (.ireturn, 1) := dk_172 (dk_at dksX3_of_2 21 rfl rfl)
theorem dX3_of_94 : decode cX3_of 94 = .ok (.aload_n 0, 1) := dk_42 (dk_at dksX3_of_2 22 rfl rfl)
theorem dX3_of_95 : decode cX3_of 95 = .ok (.iload_n 1, 1) := dk_27 (dk_at dksX3_of_2 23 rfl rfl)
theorem dX3_of_96 : decode cX3_of 96 = .ok (.invokevirtual 320, 3) := dk_182 1 64 (dk_at dksX3_of_3 0 rfl rfl)
theorem dX3_of_99 : decode cX3_of 99 = .ok (.ireturn, 1) := dk_172 (dk_at dksX3_of_3 3 rfl rfl)
theorem dX3_of_100 : decode cX3_of 100 = .ok (.aload_n 0, 1) := dk_42 (dk_at dksX3_of_3 4 rfl rfl)
theorem dX3_of_101 : decode cX3_of 101 = .ok (.iload_n 1, 1) := dk_27 (dk_at dksX3_of_3 5 rfl rfl)
theorem dX3_of_102 : decode cX3_of 102 = .ok (.invokevirtual 385, 3) := dk_182 1 129 (dk_at dksX3_of_3 6 rfl rfl)
theorem dX3_of_105 : decode cX3_of 105 = .ok (.ireturn, 1) := dk_172 (dk_at dksX3_of_3 9 rfl rfl)
theorem dX3_of_106 : decode cX3_of 106 = .ok (.aload_n 0, 1) := dk_42 (dk_at dksX3_of_3 10 rfl rfl)
theorem dX3_of_107 : decode cX3_of 107 = .ok (.iload_n 1, 1) := dk_27 (dk_at dksX3_of_3 11 rfl rfl)
theorem dX3_of_108 : decode cX3_of 108 = .ok (.invokevirtual 361, 3) := dk_182 1 105 (dk_at dksX3_of_3 12 rfl rfl)
theorem dX3_of_111 : decode cX3_of 111 = .ok (.ifCond .eq 7, 3) := dk_153 0 7 (dk_at dksX3_of_3 15 rfl rfl)
theorem dX3_of_114 : decode cX3_of 114 = .ok (.iconst 1, 1) := dk_4 (dk_at dksX3_of_3 18 rfl rfl)
theorem dX3_of_115 : decode cX3_of 115 = .ok (.goto 4, 3) := dk_167 0 4 (dk_at dksX3_of_3 19 rfl rfl)
theorem dX3_of_118 : decode cX3_of 118 = .ok (.iconst 0, 1) := dk_3 (dk_at dksX3_of_3 22 rfl rfl)
theorem dX3_of_119 : decode cX3_of 119 = .ok (.ireturn, 1) := dk_172 (dk_at dksX3_of_3 23 rfl rfl)
theorem dX3_of_120 : decode cX3_of 120 = .ok (.aload_n 0, 1) := dk_42 (dk_at dksX3_of_4 0 rfl rfl)
theorem dX3_of_121 : decode cX3_of 121 = .ok (.iload_n 1, 1) := dk_27 (dk_at dksX3_of_4 1 rfl rfl)
theorem dX3_of_122 : decode cX3_of 122 = .ok (.invokevirtual 300, 3) := dk_182 1 44 (dk_at dksX3_of_4 2 rfl rfl)
theorem dX3_of_125 : decode cX3_of 125 = .ok (.ireturn, 1) := dk_172 (dk_at dksX3_of_4 5 rfl rfl)
theorem dX3_of_126 : decode cX3_of 126 = .ok (.iload_n 2, 1) := dk_28 (dk_at dksX3_of_4 6 rfl rfl)
theorem dX3_of_127 : decode cX3_of 127 = .ok (.iconst 0, 1) := dk_3 (dk_at dksX3_of_4 7 rfl rfl)
theorem dX3_of_128 : decode cX3_of 128 = .ok (.bipush 7, 2) := dk_16 7 (dk_at dksX3_of_4 8 rfl rfl)
theorem dX3_of_130 : decode cX3_of 130 = .ok (.invokestatic 54, 3) := dk_184 0 54 (dk_at dksX3_of_4 10 rfl rfl)
theorem dX3_of_133 : decode cX3_of 133 = .ok (.ifCond .eq 30, 3) := dk_153 0 30 (dk_at dksX3_of_4 13 rfl rfl)
theorem dX3_of_136 : decode cX3_of 136 = .ok (.aload_n 0, 1) := dk_42 (dk_at dksX3_of_4 16 rfl rfl)
theorem dX3_of_137 : decode cX3_of 137 = .ok (.getfield 7, 3) := dk_180 0 7 (dk_at dksX3_of_4 17 rfl rfl)
theorem dX3_of_140 : decode cX3_of 140 = .ok (.iconst 4, 1) := dk_7 (dk_at dksX3_of_4 20 rfl rfl)
theorem dX3_of_141 : decode cX3_of 141 = .ok (.bipush 12, 2) := dk_16 12 (dk_at dksX3_of_4 21 rfl rfl)
theorem dX3_of_143 : decode cX3_of 143 = .ok (.iload_n 2, 1) := dk_28 (dk_at dksX3_of_4 23 rfl rfl)
theorem dX3_of_144 : decode cX3_of 144 = .ok (.iconst 3, 1) := dk_6 (dk_at dksX3_of_5 0 rfl rfl)
theorem dX3_of_145 : decode cX3_of 145 = .ok (.if_icmp .ge 7, 3) := dk_162 0 7 (dk_at dksX3_of_5 1 rfl rfl)
theorem dX3_of_148 : decode cX3_of 148 = .ok (.iload_n 2, 1) := dk_28 (dk_at dksX3_of_5 4 rfl rfl)
theorem dX3_of_149 : decode cX3_of 149 = .ok (.goto 6, 3) := dk_167 0 6 (dk_at dksX3_of_5 5 rfl rfl)
theorem dX3_of_152 : decode cX3_of 152 = .ok (.iload_n 2, 1) := dk_28 (dk_at dksX3_of_5 8 rfl rfl)
theorem dX3_of_153 : decode cX3_of 153 = .ok (.iconst 1, 1) := dk_4 (dk_at dksX3_of_5 9 rfl rfl)
theorem dX3_of_154 : decode cX3_of 154 = .ok (.isub, 1) := dk_100 (dk_at dksX3_of_5 10 rfl rfl)
theorem dX3_of_155 : decode cX3_of 155 = .ok (.imul, 1) := dk_104 (dk_at dksX3_of_5 11 rfl rfl)
theorem dX3_of_156 : decode cX3_of 156 = .ok (.iadd, 1) := dk_96 (dk_at dksX3_of_5 12 rfl rfl)
theorem dX3_of_157 : decode cX3_of 157 = .ok (.iload_n 1, 1) := dk_27 (dk_at dksX3_of_5 13 rfl rfl)
theorem dX3_of_158 : decode cX3_of 158 = .ok (.iadd, 1) := dk_96 (dk_at dksX3_of_5 14 rfl rfl)
theorem dX3_of_159 : decode cX3_of 159 = .ok (.iaload, 1) := dk_46 (dk_at dksX3_of_5 15 rfl rfl)
theorem dX3_of_160 : decode cX3_of 160 = .ok (.goto 6, 3) := dk_167 0 6 (dk_at dksX3_of_5 16 rfl rfl)
theorem dX3_of_163 : decode cX3_of 163 = .ok (.ldc_w 391, 3) := dk_19 1 135 (dk_at dksX3_of_5 19 rfl rfl)
theorem dX3_of_166 : decode cX3_of 166 = .ok (.ireturn, 1) := dk_172 (dk_at dksX3_of_5 22 rfl rfl)
abbrev cX3_phone : ByteArray := prog_17_method_94_code
def yX3_phone : MethodName := ⟨RX3, "phone", "(II)I"⟩
def dkwX3_phone_2 : List UInt8 := [46, 172]
abbrev dktX3_phone_2 : List UInt8 := dkwX3_phone_2 ++ []
def dkwX3_phone_1 : List UInt8 := [42, 27, 3, 17, 3, 232, 182, 1, 136, 167, 0, 16, 42, 180, 0, 7, 16, 105, 5, 27, 104, 96, 28, 96]
abbrev dktX3_phone_1 : List UInt8 := dkwX3_phone_1 ++ dktX3_phone_2
def dkwX3_phone_0 : List UInt8 := [42, 27, 182, 0, 58, 153, 0, 12, 28, 3, 5, 184, 0, 54, 154, 0, 5, 2, 172, 28, 5, 160, 0, 15]
abbrev dktX3_phone_0 : List UInt8 := dkwX3_phone_0 ++ dktX3_phone_1
theorem dksX3_phone_0 : cX3_phone.data.toList.drop 0 = dktX3_phone_0 := by decide +kernel
theorem dksX3_phone_1 : cX3_phone.data.toList.drop 24 = dktX3_phone_1 := dk_seg dksX3_phone_0 24 rfl rfl
theorem dksX3_phone_2 : cX3_phone.data.toList.drop 48 = dktX3_phone_2 := dk_seg dksX3_phone_1 24 rfl rfl
theorem dX3_phone_0 : decode cX3_phone 0 = .ok (.aload_n 0, 1) := dk_42 (dk_at dksX3_phone_0 0 rfl rfl)
theorem dX3_phone_1 : decode cX3_phone 1 = .ok (.iload_n 1, 1) := dk_27 (dk_at dksX3_phone_0 1 rfl rfl)
theorem dX3_phone_2 : decode cX3_phone 2 = .ok (.invokevirtual 58, 3) := dk_182 0 58 (dk_at dksX3_phone_0 2 rfl rfl)
theorem dX3_phone_5 : decode cX3_phone 5 = .ok (.ifCond .eq 12, 3) := dk_153 0 12 (dk_at dksX3_phone_0 5 rfl rfl)
theorem dX3_phone_8 : decode cX3_phone 8 = .ok (.iload_n 2, 1) := dk_28 (dk_at dksX3_phone_0 8 rfl rfl)
theorem dX3_phone_9 : decode cX3_phone 9 = .ok (.iconst 0, 1) := dk_3 (dk_at dksX3_phone_0 9 rfl rfl)
theorem dX3_phone_10 : decode cX3_phone 10 = .ok (.iconst 2, 1) := dk_5 (dk_at dksX3_phone_0 10 rfl rfl)
theorem dX3_phone_11 : decode cX3_phone 11 = .ok (.invokestatic 54, 3) := dk_184 0 54 (dk_at dksX3_phone_0 11 rfl rfl)
theorem dX3_phone_14 : decode cX3_phone 14 = .ok (.ifCond .ne 5, 3) := dk_154 0 5 (dk_at dksX3_phone_0 14 rfl rfl)
theorem dX3_phone_17 : decode cX3_phone 17 = .ok (.iconst (-1), 1) := dk_2 (dk_at dksX3_phone_0 17 rfl rfl)
theorem dX3_phone_18 : decode cX3_phone 18 = .ok (.ireturn, 1) := dk_172 (dk_at dksX3_phone_0 18 rfl rfl)
theorem dX3_phone_19 : decode cX3_phone 19 = .ok (.iload_n 2, 1) := dk_28 (dk_at dksX3_phone_0 19 rfl rfl)
theorem dX3_phone_20 : decode cX3_phone 20 = .ok (.iconst 2, 1) := dk_5 (dk_at dksX3_phone_0 20 rfl rfl)
theorem dX3_phone_21 : decode cX3_phone 21 = .ok (.if_icmp .ne 15, 3) := dk_160 0 15 (dk_at dksX3_phone_0 21 rfl rfl)
theorem dX3_phone_24 : decode cX3_phone 24 = .ok (.aload_n 0, 1) := dk_42 (dk_at dksX3_phone_1 0 rfl rfl)
theorem dX3_phone_25 : decode cX3_phone 25 = .ok (.iload_n 1, 1) := dk_27 (dk_at dksX3_phone_1 1 rfl rfl)
theorem dX3_phone_26 : decode cX3_phone 26 = .ok (.iconst 0, 1) := dk_3 (dk_at dksX3_phone_1 2 rfl rfl)
theorem dX3_phone_27 : decode cX3_phone 27 = .ok (.sipush 1000, 3) := dk_17 3 232 (dk_at dksX3_phone_1 3 rfl rfl)
theorem dX3_phone_30 : decode cX3_phone 30 = .ok (.invokevirtual 392, 3) := dk_182 1 136 (dk_at dksX3_phone_1 6 rfl rfl)
theorem dX3_phone_33 : decode cX3_phone 33 = .ok (.goto 16, 3) := dk_167 0 16 (dk_at dksX3_phone_1 9 rfl rfl)
theorem dX3_phone_36 : decode cX3_phone 36 = .ok (.aload_n 0, 1) := dk_42 (dk_at dksX3_phone_1 12 rfl rfl)
theorem dX3_phone_37 : decode cX3_phone 37 = .ok (.getfield 7, 3) := dk_180 0 7 (dk_at dksX3_phone_1 13 rfl rfl)
theorem dX3_phone_40 : decode cX3_phone 40 = .ok (.bipush 105, 2) := dk_16 105 (dk_at dksX3_phone_1 16 rfl rfl)
theorem dX3_phone_42 : decode cX3_phone 42 = .ok (.iconst 2, 1) := dk_5 (dk_at dksX3_phone_1 18 rfl rfl)
theorem dX3_phone_43 : decode cX3_phone 43 = .ok (.iload_n 1, 1) := dk_27 (dk_at dksX3_phone_1 19 rfl rfl)
theorem dX3_phone_44 : decode cX3_phone 44 = .ok (.imul, 1) := dk_104 (dk_at dksX3_phone_1 20 rfl rfl)
theorem dX3_phone_45 : decode cX3_phone 45 = .ok (.iadd, 1) := dk_96 (dk_at dksX3_phone_1 21 rfl rfl)
theorem dX3_phone_46 : decode cX3_phone 46 = .ok (.iload_n 2, 1) := dk_28 (dk_at dksX3_phone_1 22 rfl rfl)
theorem dX3_phone_47 : decode cX3_phone 47 = .ok (.iadd, 1) := dk_96 (dk_at dksX3_phone_1 23 rfl rfl)
theorem dX3_phone_48 : decode cX3_phone 48 = .ok (.iaload, 1) := dk_46 (dk_at dksX3_phone_2 0 rfl rfl)
theorem dX3_phone_49 : decode cX3_phone 49 = .ok (.ireturn, 1) := dk_172 (dk_at dksX3_phone_2 1 rfl rfl)
abbrev cX3_recordsOf : ByteArray := prog_17_method_93_code
def yX3_recordsOf : MethodName := ⟨RX3, "recordsOf", "(III)I"⟩
def dkwX3_recordsOf_3 : List UInt8 := [167, 255, 191, 21, 4, 172]
abbrev dktX3_recordsOf_3 : List UInt8 := dkwX3_recordsOf_3 ++ []
def dkwX3_recordsOf_2 : List UInt8 := [21, 5, 104, 96, 46, 28, 29, 184, 0, 54, 153, 0, 7, 4, 167, 0, 4, 3, 96, 54, 4, 132, 5, 1]
abbrev dktX3_recordsOf_2 : List UInt8 := dkwX3_recordsOf_2 ++ dktX3_recordsOf_3
def dkwX3_recordsOf_1 : List UInt8 := [17, 0, 209, 5, 21, 5, 104, 96, 4, 96, 46, 27, 160, 0, 28, 42, 180, 0, 7, 17, 0, 209, 5]
abbrev dktX3_recordsOf_1 : List UInt8 := dkwX3_recordsOf_1 ++ dktX3_recordsOf_2
def dkwX3_recordsOf_0 : List UInt8 := [3, 54, 4, 3, 54, 5, 21, 5, 42, 180, 0, 7, 16, 92, 46, 162, 0, 59, 21, 4, 42, 180, 0, 7]
abbrev dktX3_recordsOf_0 : List UInt8 := dkwX3_recordsOf_0 ++ dktX3_recordsOf_1
theorem dksX3_recordsOf_0 : cX3_recordsOf.data.toList.drop 0 = dktX3_recordsOf_0 := by decide +kernel
theorem dksX3_recordsOf_1 : cX3_recordsOf.data.toList.drop 24 = dktX3_recordsOf_1 := dk_seg dksX3_recordsOf_0 24 rfl rfl
theorem dksX3_recordsOf_2 : cX3_recordsOf.data.toList.drop 47 = dktX3_recordsOf_2 := dk_seg dksX3_recordsOf_1 23 rfl rfl
theorem dksX3_recordsOf_3 : cX3_recordsOf.data.toList.drop 71 = dktX3_recordsOf_3 := dk_seg dksX3_recordsOf_2 24 rfl rfl
theorem dX3_recordsOf_0 : decode cX3_recordsOf 0 = .ok (.iconst 0, 1) := dk_3 (dk_at dksX3_recordsOf_0 0 rfl rfl)
theorem dX3_recordsOf_1 : decode cX3_recordsOf 1 = .ok (.istore 4, 2) := dk_54 4 (dk_at dksX3_recordsOf_0 1 rfl rfl)
theorem dX3_recordsOf_3 : decode cX3_recordsOf 3 = .ok (.iconst 0, 1) := dk_3 (dk_at dksX3_recordsOf_0 3 rfl rfl)
theorem dX3_recordsOf_4 : decode cX3_recordsOf 4 = .ok (.istore 5, 2) := dk_54 5 (dk_at dksX3_recordsOf_0 4 rfl rfl)
theorem dX3_recordsOf_6 : decode cX3_recordsOf 6 = .ok (.iload 5, 2) := dk_21 5 (dk_at dksX3_recordsOf_0 6 rfl rfl)
theorem dX3_recordsOf_8 : decode cX3_recordsOf 8 = .ok (.aload_n 0, 1) := dk_42 (dk_at dksX3_recordsOf_0 8 rfl rfl)
theorem dX3_recordsOf_9 : decode cX3_recordsOf 9 = .ok (.getfield 7, 3) := dk_180 0 7 (dk_at dksX3_recordsOf_0 9 rfl rfl)
theorem dX3_recordsOf_12 : decode cX3_recordsOf 12 = .ok (.bipush 92, 2) := dk_16 92 (dk_at dksX3_recordsOf_0 12 rfl rfl)
theorem dX3_recordsOf_14 : decode cX3_recordsOf 14 = .ok (.iaload, 1) := dk_46 (dk_at dksX3_recordsOf_0 14 rfl rfl)
theorem dX3_recordsOf_15 : decode cX3_recordsOf 15 = .ok (.if_icmp .ge 59, 3) := dk_162 0 59 (dk_at dksX3_recordsOf_0 15 rfl rfl)
theorem dX3_recordsOf_18 : decode cX3_recordsOf 18 = .ok (.iload 4, 2) := dk_21 4 (dk_at dksX3_recordsOf_0 18 rfl rfl)
theorem dX3_recordsOf_20 : decode cX3_recordsOf 20 = .ok (.aload_n 0, 1) := dk_42 (dk_at dksX3_recordsOf_0 20 rfl rfl)
theorem dX3_recordsOf_21 : decode cX3_recordsOf 21 = .ok (.getfield 7, 3) := dk_180 0 7 (dk_at dksX3_recordsOf_0 21 rfl rfl)
theorem dX3_recordsOf_24 : decode cX3_recordsOf 24 = .ok (.sipush 209, 3) := dk_17 0 209 (dk_at dksX3_recordsOf_1 0 rfl rfl)
theorem dX3_recordsOf_27 : decode cX3_recordsOf 27 = .ok (.iconst 2, 1) := dk_5 (dk_at dksX3_recordsOf_1 3 rfl rfl)
theorem dX3_recordsOf_28 : decode cX3_recordsOf 28 = .ok (.iload 5, 2) := dk_21 5 (dk_at dksX3_recordsOf_1 4 rfl rfl)
theorem dX3_recordsOf_30 : decode cX3_recordsOf 30 = .ok (.imul, 1) := dk_104 (dk_at dksX3_recordsOf_1 6 rfl rfl)
theorem dX3_recordsOf_31 : decode cX3_recordsOf 31 = .ok (.iadd, 1) := dk_96 (dk_at dksX3_recordsOf_1 7 rfl rfl)
theorem dX3_recordsOf_32 : decode cX3_recordsOf 32 = .ok (.iconst 1, 1) := dk_4 (dk_at dksX3_recordsOf_1 8 rfl rfl)
theorem dX3_recordsOf_33 : decode cX3_recordsOf 33 = .ok (.iadd, 1) := dk_96 (dk_at dksX3_recordsOf_1 9 rfl rfl)
theorem dX3_recordsOf_34 : decode cX3_recordsOf 34 = .ok (.iaload, 1) := dk_46 (dk_at dksX3_recordsOf_1 10 rfl rfl)
theorem dX3_recordsOf_35 : decode cX3_recordsOf 35 = .ok (.iload_n 1, 1) := dk_27 (dk_at dksX3_recordsOf_1 11 rfl rfl)
theorem dX3_recordsOf_36 : decode cX3_recordsOf 36 = .ok (.if_icmp .ne 28, 3) := dk_160 0 28 (dk_at dksX3_recordsOf_1 12 rfl rfl)
theorem dX3_recordsOf_39 : decode cX3_recordsOf 39 = .ok (.aload_n 0, 1) := dk_42 (dk_at dksX3_recordsOf_1 15 rfl rfl)
theorem dX3_recordsOf_40 : decode cX3_recordsOf 40 = .ok (.getfield 7, 3) := dk_180 0 7 (dk_at dksX3_recordsOf_1 16 rfl rfl)
theorem dX3_recordsOf_43 : decode cX3_recordsOf 43 = .ok (.sipush 209, 3) := dk_17 0 209 (dk_at dksX3_recordsOf_1 19 rfl rfl)
theorem dX3_recordsOf_46 : decode cX3_recordsOf 46 = .ok (.iconst 2, 1) := dk_5 (dk_at dksX3_recordsOf_1 22 rfl rfl)
theorem dX3_recordsOf_47 : decode cX3_recordsOf 47 = .ok (.iload 5, 2) := dk_21 5 (dk_at dksX3_recordsOf_2 0 rfl rfl)
theorem dX3_recordsOf_49 : decode cX3_recordsOf 49 = .ok (.imul, 1) := dk_104 (dk_at dksX3_recordsOf_2 2 rfl rfl)
theorem dX3_recordsOf_50 : decode cX3_recordsOf 50 = .ok (.iadd, 1) := dk_96 (dk_at dksX3_recordsOf_2 3 rfl rfl)
theorem dX3_recordsOf_51 : decode cX3_recordsOf 51 = .ok (.iaload, 1) := dk_46 (dk_at dksX3_recordsOf_2 4 rfl rfl)
theorem dX3_recordsOf_52 : decode cX3_recordsOf 52 = .ok (.iload_n 2, 1) := dk_28 (dk_at dksX3_recordsOf_2 5 rfl rfl)
theorem dX3_recordsOf_53 : decode cX3_recordsOf 53 = .ok (.iload_n 3, 1) := dk_29 (dk_at dksX3_recordsOf_2 6 rfl rfl)
theorem dX3_recordsOf_54 : decode cX3_recordsOf 54 = .ok (.invokestatic 54, 3) := dk_184 0 54 (dk_at dksX3_recordsOf_2 7 rfl rfl)
theorem dX3_recordsOf_57 : decode cX3_recordsOf 57 = .ok (.ifCond .eq 7, 3) := dk_153 0 7 (dk_at dksX3_recordsOf_2 10 rfl rfl)
theorem dX3_recordsOf_60 : decode cX3_recordsOf 60 = .ok (.iconst 1, 1) := dk_4 (dk_at dksX3_recordsOf_2 13 rfl rfl)
theorem dX3_recordsOf_61 : decode cX3_recordsOf 61 = .ok (.goto 4, 3) := dk_167 0 4 (dk_at dksX3_recordsOf_2 14 rfl rfl)
theorem dX3_recordsOf_64 : decode cX3_recordsOf 64 = .ok (.iconst 0, 1) := dk_3 (dk_at dksX3_recordsOf_2 17 rfl rfl)
theorem dX3_recordsOf_65 : decode cX3_recordsOf 65 = .ok (.iadd, 1) := dk_96 (dk_at dksX3_recordsOf_2 18 rfl rfl)
theorem dX3_recordsOf_66 : decode cX3_recordsOf 66 = .ok (.istore 4, 2) := dk_54 4 (dk_at dksX3_recordsOf_2 19 rfl rfl)
theorem dX3_recordsOf_68 : decode cX3_recordsOf 68 = .ok (.iinc 5 1, 3) := dk_132 5 1 (dk_at dksX3_recordsOf_2 21 rfl rfl)
theorem dX3_recordsOf_71 : decode cX3_recordsOf 71 = .ok (.goto (-65), 3) := dk_167 255 191 (dk_at dksX3_recordsOf_3 0 rfl rfl)
theorem dX3_recordsOf_74 : decode cX3_recordsOf 74 = .ok (.iload 4, 2) := dk_21 4 (dk_at dksX3_recordsOf_3 3 rfl rfl)
theorem dX3_recordsOf_76 : decode cX3_recordsOf 76 = .ok (.ireturn, 1) := dk_172 (dk_at dksX3_recordsOf_3 5 rfl rfl)
abbrev cX3_book : ByteArray := prog_17_method_95_code
def yX3_book : MethodName := ⟨RX3, "book", "(II)I"⟩
def dkwX3_book_1 : List UInt8 := [153, 0, 20, 42, 180, 0, 7, 17, 0, 241, 7, 27, 104, 96, 28, 96, 46, 167, 0, 4, 2, 172]
abbrev dktX3_book_1 : List UInt8 := dkwX3_book_1 ++ []
def dkwX3_book_0 : List UInt8 := [27, 3, 42, 180, 0, 7, 6, 46, 4, 100, 184, 0, 54, 153, 0, 29, 28, 3, 6, 184, 0, 54]
abbrev dktX3_book_0 : List UInt8 := dkwX3_book_0 ++ dktX3_book_1
theorem dksX3_book_0 : cX3_book.data.toList.drop 0 = dktX3_book_0 := by decide +kernel
theorem dksX3_book_1 : cX3_book.data.toList.drop 22 = dktX3_book_1 := dk_seg dksX3_book_0 22 rfl rfl
theorem dX3_book_0 : decode cX3_book 0 = .ok (.iload_n 1, 1) := dk_27 (dk_at dksX3_book_0 0 rfl rfl)
theorem dX3_book_1 : decode cX3_book 1 = .ok (.iconst 0, 1) := dk_3 (dk_at dksX3_book_0 1 rfl rfl)
theorem dX3_book_2 : decode cX3_book 2 = .ok (.aload_n 0, 1) := dk_42 (dk_at dksX3_book_0 2 rfl rfl)
theorem dX3_book_3 : decode cX3_book 3 = .ok (.getfield 7, 3) := dk_180 0 7 (dk_at dksX3_book_0 3 rfl rfl)
theorem dX3_book_6 : decode cX3_book 6 = .ok (.iconst 3, 1) := dk_6 (dk_at dksX3_book_0 6 rfl rfl)
theorem dX3_book_7 : decode cX3_book 7 = .ok (.iaload, 1) := dk_46 (dk_at dksX3_book_0 7 rfl rfl)
theorem dX3_book_8 : decode cX3_book 8 = .ok (.iconst 1, 1) := dk_4 (dk_at dksX3_book_0 8 rfl rfl)
theorem dX3_book_9 : decode cX3_book 9 = .ok (.isub, 1) := dk_100 (dk_at dksX3_book_0 9 rfl rfl)
theorem dX3_book_10 : decode cX3_book 10 = .ok (.invokestatic 54, 3) := dk_184 0 54 (dk_at dksX3_book_0 10 rfl rfl)
theorem dX3_book_13 : decode cX3_book 13 = .ok (.ifCond .eq 29, 3) := dk_153 0 29 (dk_at dksX3_book_0 13 rfl rfl)
theorem dX3_book_16 : decode cX3_book 16 = .ok (.iload_n 2, 1) := dk_28 (dk_at dksX3_book_0 16 rfl rfl)
theorem dX3_book_17 : decode cX3_book 17 = .ok (.iconst 0, 1) := dk_3 (dk_at dksX3_book_0 17 rfl rfl)
theorem dX3_book_18 : decode cX3_book 18 = .ok (.iconst 3, 1) := dk_6 (dk_at dksX3_book_0 18 rfl rfl)
theorem dX3_book_19 : decode cX3_book 19 = .ok (.invokestatic 54, 3) := dk_184 0 54 (dk_at dksX3_book_0 19 rfl rfl)
theorem dX3_book_22 : decode cX3_book 22 = .ok (.ifCond .eq 20, 3) := dk_153 0 20 (dk_at dksX3_book_1 0 rfl rfl)
theorem dX3_book_25 : decode cX3_book 25 = .ok (.aload_n 0, 1) := dk_42 (dk_at dksX3_book_1 3 rfl rfl)
theorem dX3_book_26 : decode cX3_book 26 = .ok (.getfield 7, 3) := dk_180 0 7 (dk_at dksX3_book_1 4 rfl rfl)
theorem dX3_book_29 : decode cX3_book 29 = .ok (.sipush 241, 3) := dk_17 0 241 (dk_at dksX3_book_1 7 rfl rfl)
theorem dX3_book_32 : decode cX3_book 32 = .ok (.iconst 4, 1) := dk_7 (dk_at dksX3_book_1 10 rfl rfl)
theorem dX3_book_33 : decode cX3_book 33 = .ok (.iload_n 1, 1) := dk_27 (dk_at dksX3_book_1 11 rfl rfl)
theorem dX3_book_34 : decode cX3_book 34 = .ok (.imul, 1) := dk_104 (dk_at dksX3_book_1 12 rfl rfl)
theorem dX3_book_35 : decode cX3_book 35 = .ok (.iadd, 1) := dk_96 (dk_at dksX3_book_1 13 rfl rfl)
theorem dX3_book_36 : decode cX3_book 36 = .ok (.iload_n 2, 1) := dk_28 (dk_at dksX3_book_1 14 rfl rfl)
theorem dX3_book_37 : decode cX3_book 37 = .ok (.iadd, 1) := dk_96 (dk_at dksX3_book_1 15 rfl rfl)
theorem dX3_book_38 : decode cX3_book 38 = .ok (.iaload, 1) := dk_46 (dk_at dksX3_book_1 16 rfl rfl)
theorem dX3_book_39 : decode cX3_book 39 = .ok (.goto 4, 3) := dk_167 0 4 (dk_at dksX3_book_1 17 rfl rfl)
theorem dX3_book_42 : decode cX3_book 42 = .ok (.iconst (-1), 1) := dk_2 (dk_at dksX3_book_1 20 rfl rfl)
theorem dX3_book_43 : decode cX3_book 43 = .ok (.ireturn, 1) := dk_172 (dk_at dksX3_book_1 21 rfl rfl)
abbrev cX3_goes : ByteArray := prog_17_method_98_code
def yX3_goes : MethodName := ⟨RX3, "goes", "(II)I"⟩
def dkwX3_goes_5 : List UInt8 := [21, 4, 42, 180, 0, 19, 21, 4, 46, 79, 132, 4, 1, 167, 255, 232, 29, 172]
abbrev dktX3_goes_5 : List UInt8 := dkwX3_goes_5 ++ []
def dkwX3_goes_4 : List UInt8 := [167, 0, 9, 42, 180, 0, 7, 4, 46, 62, 3, 54, 4, 21, 4, 16, 88, 162, 0, 23, 42, 180, 0, 7]
abbrev dktX3_goes_4 : List UInt8 := dkwX3_goes_4 ++ dktX3_goes_5
def dkwX3_goes_3 : List UInt8 := [154, 0, 13, 42, 182, 1, 139, 184, 1, 142, 167, 0, 21, 28, 4, 160, 0, 10, 42, 182, 1, 145]
abbrev dktX3_goes_3 : List UInt8 := dkwX3_goes_3 ++ dktX3_goes_4
def dkwX3_goes_2 : List UInt8 := [42, 3, 181, 1, 57, 3, 62, 29, 27, 162, 0, 14, 42, 182, 1, 132, 87, 132, 3, 1, 167, 255, 243, 28]
abbrev dktX3_goes_2 : List UInt8 := dkwX3_goes_2 ++ dktX3_goes_3
def dkwX3_goes_1 : List UInt8 := [29, 16, 88, 162, 0, 21, 42, 180, 0, 19, 29, 42, 180, 0, 7, 29, 46, 79, 132, 3, 1, 167, 255, 235]
abbrev dktX3_goes_1 : List UInt8 := dkwX3_goes_1 ++ dktX3_goes_2
def dkwX3_goes_0 : List UInt8 := [27, 4, 16, 99, 184, 0, 54, 153, 0, 12, 28, 3, 5, 184, 0, 54, 154, 0, 6, 16, 254, 172, 3, 62]
abbrev dktX3_goes_0 : List UInt8 := dkwX3_goes_0 ++ dktX3_goes_1
theorem dksX3_goes_0 : cX3_goes.data.toList.drop 0 = dktX3_goes_0 := by decide +kernel
theorem dksX3_goes_1 : cX3_goes.data.toList.drop 24 = dktX3_goes_1 := dk_seg dksX3_goes_0 24 rfl rfl
theorem dksX3_goes_2 : cX3_goes.data.toList.drop 48 = dktX3_goes_2 := dk_seg dksX3_goes_1 24 rfl rfl
theorem dksX3_goes_3 : cX3_goes.data.toList.drop 72 = dktX3_goes_3 := dk_seg dksX3_goes_2 24 rfl rfl
theorem dksX3_goes_4 : cX3_goes.data.toList.drop 94 = dktX3_goes_4 := dk_seg dksX3_goes_3 22 rfl rfl
theorem dksX3_goes_5 : cX3_goes.data.toList.drop 118 = dktX3_goes_5 := dk_seg dksX3_goes_4 24 rfl rfl
theorem dX3_goes_0 : decode cX3_goes 0 = .ok (.iload_n 1, 1) := dk_27 (dk_at dksX3_goes_0 0 rfl rfl)
theorem dX3_goes_1 : decode cX3_goes 1 = .ok (.iconst 1, 1) := dk_4 (dk_at dksX3_goes_0 1 rfl rfl)
theorem dX3_goes_2 : decode cX3_goes 2 = .ok (.bipush 99, 2) := dk_16 99 (dk_at dksX3_goes_0 2 rfl rfl)
theorem dX3_goes_4 : decode cX3_goes 4 = .ok (.invokestatic 54, 3) := dk_184 0 54 (dk_at dksX3_goes_0 4 rfl rfl)
theorem dX3_goes_7 : decode cX3_goes 7 = .ok (.ifCond .eq 12, 3) := dk_153 0 12 (dk_at dksX3_goes_0 7 rfl rfl)
theorem dX3_goes_10 : decode cX3_goes 10 = .ok (.iload_n 2, 1) := dk_28 (dk_at dksX3_goes_0 10 rfl rfl)
theorem dX3_goes_11 : decode cX3_goes 11 = .ok (.iconst 0, 1) := dk_3 (dk_at dksX3_goes_0 11 rfl rfl)
theorem dX3_goes_12 : decode cX3_goes 12 = .ok (.iconst 2, 1) := dk_5 (dk_at dksX3_goes_0 12 rfl rfl)
theorem dX3_goes_13 : decode cX3_goes 13 = .ok (.invokestatic 54, 3) := dk_184 0 54 (dk_at dksX3_goes_0 13 rfl rfl)
theorem dX3_goes_16 : decode cX3_goes 16 = .ok (.ifCond .ne 6, 3) := dk_154 0 6 (dk_at dksX3_goes_0 16 rfl rfl)
theorem dX3_goes_19 : decode cX3_goes 19 = .ok (.bipush (-2), 2) := dk_16 254 (dk_at dksX3_goes_0 19 rfl rfl)
theorem dX3_goes_21 : decode cX3_goes 21 = .ok (.ireturn, 1) := dk_172 (dk_at dksX3_goes_0 21 rfl rfl)
theorem dX3_goes_22 : decode cX3_goes 22 = .ok (.iconst 0, 1) := dk_3 (dk_at dksX3_goes_0 22 rfl rfl)
theorem dX3_goes_23 : decode cX3_goes 23 = .ok (.istore_n 3, 1) := dk_62 (dk_at dksX3_goes_0 23 rfl rfl)
theorem dX3_goes_24 : decode cX3_goes 24 = .ok (.iload_n 3, 1) := dk_29 (dk_at dksX3_goes_1 0 rfl rfl)
theorem dX3_goes_25 : decode cX3_goes 25 = .ok (.bipush 88, 2) := dk_16 88 (dk_at dksX3_goes_1 1 rfl rfl)
theorem dX3_goes_27 : decode cX3_goes 27 = .ok (.if_icmp .ge 21, 3) := dk_162 0 21 (dk_at dksX3_goes_1 3 rfl rfl)
theorem dX3_goes_30 : decode cX3_goes 30 = .ok (.aload_n 0, 1) := dk_42 (dk_at dksX3_goes_1 6 rfl rfl)
theorem dX3_goes_31 : decode cX3_goes 31 = .ok (.getfield 19, 3) := dk_180 0 19 (dk_at dksX3_goes_1 7 rfl rfl)
theorem dX3_goes_34 : decode cX3_goes 34 = .ok (.iload_n 3, 1) := dk_29 (dk_at dksX3_goes_1 10 rfl rfl)
theorem dX3_goes_35 : decode cX3_goes 35 = .ok (.aload_n 0, 1) := dk_42 (dk_at dksX3_goes_1 11 rfl rfl)
theorem dX3_goes_36 : decode cX3_goes 36 = .ok (.getfield 7, 3) := dk_180 0 7 (dk_at dksX3_goes_1 12 rfl rfl)
theorem dX3_goes_39 : decode cX3_goes 39 = .ok (.iload_n 3, 1) := dk_29 (dk_at dksX3_goes_1 15 rfl rfl)
theorem dX3_goes_40 : decode cX3_goes 40 = .ok (.iaload, 1) := dk_46 (dk_at dksX3_goes_1 16 rfl rfl)
theorem dX3_goes_41 : decode cX3_goes 41 = .ok (.iastore, 1) := dk_79 (dk_at dksX3_goes_1 17 rfl rfl)
theorem dX3_goes_42 : decode cX3_goes 42 = .ok (.iinc 3 1, 3) := dk_132 3 1 (dk_at dksX3_goes_1 18 rfl rfl)
theorem dX3_goes_45 : decode cX3_goes 45 = .ok (.goto (-21), 3) := dk_167 255 235 (dk_at dksX3_goes_1 21 rfl rfl)
theorem dX3_goes_48 : decode cX3_goes 48 = .ok (.aload_n 0, 1) := dk_42 (dk_at dksX3_goes_2 0 rfl rfl)
theorem dX3_goes_49 : decode cX3_goes 49 = .ok (.iconst 0, 1) := dk_3 (dk_at dksX3_goes_2 1 rfl rfl)
theorem dX3_goes_50 : decode cX3_goes 50 = .ok (.putfield 313, 3) := dk_181 1 57 (dk_at dksX3_goes_2 2 rfl rfl)
theorem dX3_goes_53 : decode cX3_goes 53 = .ok (.iconst 0, 1) := dk_3 (dk_at dksX3_goes_2 5 rfl rfl)
theorem dX3_goes_54 : decode cX3_goes 54 = .ok (.istore_n 3, 1) := dk_62 (dk_at dksX3_goes_2 6 rfl rfl)
theorem dX3_goes_55 : decode cX3_goes 55 = .ok (.iload_n 3, 1) := dk_29 (dk_at dksX3_goes_2 7 rfl rfl)
theorem dX3_goes_56 : decode cX3_goes 56 = .ok (.iload_n 1, 1) := dk_27 (dk_at dksX3_goes_2 8 rfl rfl)
theorem dX3_goes_57 : decode cX3_goes 57 = .ok (.if_icmp .ge 14, 3) := dk_162 0 14 (dk_at dksX3_goes_2 9 rfl rfl)
theorem dX3_goes_60 : decode cX3_goes 60 = .ok (.aload_n 0, 1) := dk_42 (dk_at dksX3_goes_2 12 rfl rfl)
theorem dX3_goes_61 : decode cX3_goes 61 = .ok (.invokevirtual 388, 3) := dk_182 1 132 (dk_at dksX3_goes_2 13 rfl rfl)
theorem dX3_goes_64 : decode cX3_goes 64 = .ok (.pop, 1) := dk_87 (dk_at dksX3_goes_2 16 rfl rfl)
theorem dX3_goes_65 : decode cX3_goes 65 = .ok (.iinc 3 1, 3) := dk_132 3 1 (dk_at dksX3_goes_2 17 rfl rfl)
theorem dX3_goes_68 : decode cX3_goes 68 = .ok (.goto (-13), 3) := dk_167 255 243 (dk_at dksX3_goes_2 20 rfl rfl)
theorem dX3_goes_71 : decode cX3_goes 71 = .ok (.iload_n 2, 1) := dk_28 (dk_at dksX3_goes_2 23 rfl rfl)
theorem dX3_goes_72 : decode cX3_goes 72 = .ok (.ifCond .ne 13, 3) := dk_154 0 13 (dk_at dksX3_goes_3 0 rfl rfl)
theorem dX3_goes_75 : decode cX3_goes 75 = .ok (.aload_n 0, 1) := dk_42 (dk_at dksX3_goes_3 3 rfl rfl)
theorem dX3_goes_76 : decode cX3_goes 76 = .ok (.invokevirtual 395, 3) := dk_182 1 139 (dk_at dksX3_goes_3 4 rfl rfl)
theorem dX3_goes_79 : decode cX3_goes 79 = .ok (.invokestatic 398, 3) := dk_184 1 142 (dk_at dksX3_goes_3 7 rfl rfl)
theorem dX3_goes_82 : decode cX3_goes 82 = .ok (.goto 21, 3) := dk_167 0 21 (dk_at dksX3_goes_3 10 rfl rfl)
theorem dX3_goes_85 : decode cX3_goes 85 = .ok (.iload_n 2, 1) := dk_28 (dk_at dksX3_goes_3 13 rfl rfl)
theorem dX3_goes_86 : decode cX3_goes 86 = .ok (.iconst 1, 1) := dk_4 (dk_at dksX3_goes_3 14 rfl rfl)
theorem dX3_goes_87 : decode cX3_goes 87 = .ok (.if_icmp .ne 10, 3) := dk_160 0 10 (dk_at dksX3_goes_3 15 rfl rfl)
theorem dX3_goes_90 : decode cX3_goes 90 = .ok (.aload_n 0, 1) := dk_42 (dk_at dksX3_goes_3 18 rfl rfl)
theorem dX3_goes_91 : decode cX3_goes 91 = .ok (.invokevirtual 401, 3) := dk_182 1 145 (dk_at dksX3_goes_3 19 rfl rfl)
theorem dX3_goes_94 : decode cX3_goes 94 = .ok (.goto 9, 3) := dk_167 0 9 (dk_at dksX3_goes_4 0 rfl rfl)
theorem dX3_goes_97 : decode cX3_goes 97 = .ok (.aload_n 0, 1) := dk_42 (dk_at dksX3_goes_4 3 rfl rfl)
theorem dX3_goes_98 : decode cX3_goes 98 = .ok (.getfield 7, 3) := dk_180 0 7 (dk_at dksX3_goes_4 4 rfl rfl)
theorem dX3_goes_101 : decode cX3_goes 101 = .ok (.iconst 1, 1) := dk_4 (dk_at dksX3_goes_4 7 rfl rfl)
theorem dX3_goes_102 : decode cX3_goes 102 = .ok (.iaload, 1) := dk_46 (dk_at dksX3_goes_4 8 rfl rfl)
theorem dX3_goes_103 : decode cX3_goes 103 = .ok (.istore_n 3, 1) := dk_62 (dk_at dksX3_goes_4 9 rfl rfl)
theorem dX3_goes_104 : decode cX3_goes 104 = .ok (.iconst 0, 1) := dk_3 (dk_at dksX3_goes_4 10 rfl rfl)
theorem dX3_goes_105 : decode cX3_goes 105 = .ok (.istore 4, 2) := dk_54 4 (dk_at dksX3_goes_4 11 rfl rfl)
theorem dX3_goes_107 : decode cX3_goes 107 = .ok (.iload 4, 2) := dk_21 4 (dk_at dksX3_goes_4 13 rfl rfl)
theorem dX3_goes_109 : decode cX3_goes 109 = .ok (.bipush 88, 2) := dk_16 88 (dk_at dksX3_goes_4 15 rfl rfl)
theorem dX3_goes_111 : decode cX3_goes 111 = .ok (.if_icmp .ge 23, 3) := dk_162 0 23 (dk_at dksX3_goes_4 17 rfl rfl)
theorem dX3_goes_114 : decode cX3_goes 114 = .ok (.aload_n 0, 1) := dk_42 (dk_at dksX3_goes_4 20 rfl rfl)
theorem dX3_goes_115 : decode cX3_goes 115 = .ok (.getfield 7, 3) := dk_180 0 7 (dk_at dksX3_goes_4 21 rfl rfl)
theorem dX3_goes_118 : decode cX3_goes 118 = .ok (.iload 4, 2) := dk_21 4 (dk_at dksX3_goes_5 0 rfl rfl)
theorem dX3_goes_120 : decode cX3_goes 120 = .ok (.aload_n 0, 1) := dk_42 (dk_at dksX3_goes_5 2 rfl rfl)
theorem dX3_goes_121 : decode cX3_goes 121 = .ok (.getfield 19, 3) := dk_180 0 19 (dk_at dksX3_goes_5 3 rfl rfl)
theorem dX3_goes_124 : decode cX3_goes 124 = .ok (.iload 4, 2) := dk_21 4 (dk_at dksX3_goes_5 6 rfl rfl)
theorem dX3_goes_126 : decode cX3_goes 126 = .ok (.iaload, 1) := dk_46 (dk_at dksX3_goes_5 8 rfl rfl)
theorem dX3_goes_127 : decode cX3_goes 127 = .ok (.iastore, 1) := dk_79 (dk_at dksX3_goes_5 9 rfl rfl)
theorem dX3_goes_128 : decode cX3_goes 128 = .ok (.iinc 4 1, 3) := dk_132 4 1 (dk_at dksX3_goes_5 10 rfl rfl)
theorem dX3_goes_131 : decode cX3_goes 131 = .ok (.goto (-24), 3) := dk_167 255 232 (dk_at dksX3_goes_5 13 rfl rfl)
theorem dX3_goes_134 : decode cX3_goes 134 = .ok (.iload_n 3, 1) := dk_29 (dk_at dksX3_goes_5 16 rfl rfl)
theorem dX3_goes_135 : decode cX3_goes 135 = .ok (.ireturn, 1) := dk_172 (dk_at dksX3_goes_5 17 rfl rfl)
abbrev cX3_movedOnes : ByteArray := prog_17_method_96_code
def yX3_movedOnes : MethodName := ⟨RX3, "movedOnes", "()I"⟩
def dkwX3_movedOnes_1 : List UInt8 := [4, 28, 120, 167, 0, 4, 3, 128, 60, 132, 2, 1, 167, 255, 224, 27, 172]
abbrev dktX3_movedOnes_1 : List UInt8 := dkwX3_movedOnes_1 ++ []
def dkwX3_movedOnes_0 : List UInt8 := [3, 60, 3, 61, 28, 42, 180, 0, 7, 16, 88, 46, 162, 0, 27, 27, 42, 28, 182, 0, 65, 153, 0, 9]
abbrev dktX3_movedOnes_0 : List UInt8 := dkwX3_movedOnes_0 ++ dktX3_movedOnes_1
theorem dksX3_movedOnes_0 : cX3_movedOnes.data.toList.drop 0 = dktX3_movedOnes_0 := by decide +kernel
theorem dksX3_movedOnes_1 : cX3_movedOnes.data.toList.drop 24 = dktX3_movedOnes_1 := dk_seg dksX3_movedOnes_0 24 rfl rfl
theorem dX3_movedOnes_0 : decode cX3_movedOnes 0 = .ok (.iconst 0, 1) := dk_3 (dk_at dksX3_movedOnes_0 0 rfl rfl)
theorem dX3_movedOnes_1 : decode cX3_movedOnes 1 = .ok (.istore_n 1, 1) := dk_60 (dk_at dksX3_movedOnes_0 1 rfl rfl)
theorem dX3_movedOnes_2 : decode cX3_movedOnes 2 = .ok (.iconst 0, 1) := dk_3 (dk_at dksX3_movedOnes_0 2 rfl rfl)
theorem dX3_movedOnes_3 : decode cX3_movedOnes 3 = .ok (.istore_n 2, 1) := dk_61 (dk_at dksX3_movedOnes_0 3 rfl rfl)
theorem dX3_movedOnes_4 : decode cX3_movedOnes 4 = .ok (.iload_n 2, 1) := dk_28 (dk_at dksX3_movedOnes_0 4 rfl rfl)
theorem dX3_movedOnes_5 : decode cX3_movedOnes 5 = .ok (.aload_n 0, 1) := dk_42 (dk_at dksX3_movedOnes_0 5 rfl rfl)
theorem dX3_movedOnes_6 : decode cX3_movedOnes 6 = .ok (.getfield 7, 3) := dk_180 0 7 (dk_at dksX3_movedOnes_0 6 rfl rfl)
theorem dX3_movedOnes_9 : decode cX3_movedOnes 9 = .ok (.bipush 88, 2) := dk_16 88 (dk_at dksX3_movedOnes_0 9 rfl rfl)
theorem dX3_movedOnes_11 : decode cX3_movedOnes 11 = .ok (.iaload, 1) := dk_46 (dk_at dksX3_movedOnes_0 11 rfl rfl)
theorem dX3_movedOnes_12 : decode cX3_movedOnes 12 = .ok (.if_icmp .ge 27, 3) := dk_162 0 27 (dk_at dksX3_movedOnes_0 12 rfl rfl)
theorem dX3_movedOnes_15 : decode cX3_movedOnes 15 = .ok (.iload_n 1, 1) := dk_27 (dk_at dksX3_movedOnes_0 15 rfl rfl)
theorem dX3_movedOnes_16 : decode cX3_movedOnes 16 = .ok (.aload_n 0, 1) := dk_42 (dk_at dksX3_movedOnes_0 16 rfl rfl)
theorem dX3_movedOnes_17 : decode cX3_movedOnes 17 = .ok (.iload_n 2, 1) := dk_28 (dk_at dksX3_movedOnes_0 17 rfl rfl)
theorem dX3_movedOnes_18 : decode cX3_movedOnes 18 = .ok (.invokevirtual 65, 3) := dk_182 0 65 (dk_at dksX3_movedOnes_0 18 rfl rfl)
theorem dX3_movedOnes_21 : decode cX3_movedOnes 21 = .ok (.ifCond .eq 9, 3) := dk_153 0 9 (dk_at dksX3_movedOnes_0 21 rfl rfl)
theorem dX3_movedOnes_24 : decode cX3_movedOnes 24 = .ok (.iconst 1, 1) := dk_4 (dk_at dksX3_movedOnes_1 0 rfl rfl)
theorem dX3_movedOnes_25 : decode cX3_movedOnes 25 = .ok (.iload_n 2, 1) := dk_28 (dk_at dksX3_movedOnes_1 1 rfl rfl)
theorem dX3_movedOnes_26 : decode cX3_movedOnes 26 = .ok (.ishl, 1) := dk_120 (dk_at dksX3_movedOnes_1 2 rfl rfl)
theorem dX3_movedOnes_27 : decode cX3_movedOnes 27 = .ok (.goto 4, 3) := dk_167 0 4 (dk_at dksX3_movedOnes_1 3 rfl rfl)
theorem dX3_movedOnes_30 : decode cX3_movedOnes 30 = .ok (.iconst 0, 1) := dk_3 (dk_at dksX3_movedOnes_1 6 rfl rfl)
theorem dX3_movedOnes_31 : decode cX3_movedOnes 31 = .ok (.ior, 1) := dk_128 (dk_at dksX3_movedOnes_1 7 rfl rfl)
theorem dX3_movedOnes_32 : decode cX3_movedOnes 32 = .ok (.istore_n 1, 1) := dk_60 (dk_at dksX3_movedOnes_1 8 rfl rfl)
theorem dX3_movedOnes_33 : decode cX3_movedOnes 33 = .ok (.iinc 2 1, 3) := dk_132 2 1 (dk_at dksX3_movedOnes_1 9 rfl rfl)
theorem dX3_movedOnes_36 : decode cX3_movedOnes 36 = .ok (.goto (-32), 3) := dk_167 255 224 (dk_at dksX3_movedOnes_1 12 rfl rfl)
theorem dX3_movedOnes_39 : decode cX3_movedOnes 39 = .ok (.iload_n 1, 1) := dk_27 (dk_at dksX3_movedOnes_1 15 rfl rfl)
theorem dX3_movedOnes_40 : decode cX3_movedOnes 40 = .ok (.ireturn, 1) := dk_172 (dk_at dksX3_movedOnes_1 16 rfl rfl)
abbrev cX3_count : ByteArray := prog_17_method_12_code
def yX3_count : MethodName := ⟨RX3, "count", "(I)I"⟩
def dkwX3_count_1 : List UInt8 := [27, 172]
abbrev dktX3_count_1 : List UInt8 := dkwX3_count_1 ++ []
def dkwX3_count_0 : List UInt8 := [3, 60, 3, 61, 28, 16, 12, 162, 0, 17, 27, 26, 28, 122, 4, 126, 96, 60, 132, 2, 1, 167, 255, 239]
abbrev dktX3_count_0 : List UInt8 := dkwX3_count_0 ++ dktX3_count_1
theorem dksX3_count_0 : cX3_count.data.toList.drop 0 = dktX3_count_0 := by decide +kernel
theorem dksX3_count_1 : cX3_count.data.toList.drop 24 = dktX3_count_1 := dk_seg dksX3_count_0 24 rfl rfl
theorem dX3_count_0 : decode cX3_count 0 = .ok (.iconst 0, 1) := dk_3 (dk_at dksX3_count_0 0 rfl rfl)
theorem dX3_count_1 : decode cX3_count 1 = .ok (.istore_n 1, 1) := dk_60 (dk_at dksX3_count_0 1 rfl rfl)
theorem dX3_count_2 : decode cX3_count 2 = .ok (.iconst 0, 1) := dk_3 (dk_at dksX3_count_0 2 rfl rfl)
theorem dX3_count_3 : decode cX3_count 3 = .ok (.istore_n 2, 1) := dk_61 (dk_at dksX3_count_0 3 rfl rfl)
theorem dX3_count_4 : decode cX3_count 4 = .ok (.iload_n 2, 1) := dk_28 (dk_at dksX3_count_0 4 rfl rfl)
theorem dX3_count_5 : decode cX3_count 5 = .ok (.bipush 12, 2) := dk_16 12 (dk_at dksX3_count_0 5 rfl rfl)
theorem dX3_count_7 : decode cX3_count 7 = .ok (.if_icmp .ge 17, 3) := dk_162 0 17 (dk_at dksX3_count_0 7 rfl rfl)
theorem dX3_count_10 : decode cX3_count 10 = .ok (.iload_n 1, 1) := dk_27 (dk_at dksX3_count_0 10 rfl rfl)
theorem dX3_count_11 : decode cX3_count 11 = .ok (.iload_n 0, 1) := dk_26 (dk_at dksX3_count_0 11 rfl rfl)
theorem dX3_count_12 : decode cX3_count 12 = .ok (.iload_n 2, 1) := dk_28 (dk_at dksX3_count_0 12 rfl rfl)
theorem dX3_count_13 : decode cX3_count 13 = .ok (.ishr, 1) := dk_122 (dk_at dksX3_count_0 13 rfl rfl)
theorem dX3_count_14 : decode cX3_count 14 = .ok (.iconst 1, 1) := dk_4 (dk_at dksX3_count_0 14 rfl rfl)
theorem dX3_count_15 : decode cX3_count 15 = .ok (.iand, 1) := dk_126 (dk_at dksX3_count_0 15 rfl rfl)
theorem dX3_count_16 : decode cX3_count 16 = .ok (.iadd, 1) := dk_96 (dk_at dksX3_count_0 16 rfl rfl)
theorem dX3_count_17 : decode cX3_count 17 = .ok (.istore_n 1, 1) := dk_60 (dk_at dksX3_count_0 17 rfl rfl)
theorem dX3_count_18 : decode cX3_count 18 = .ok (.iinc 2 1, 3) := dk_132 2 1 (dk_at dksX3_count_0 18 rfl rfl)
theorem dX3_count_21 : decode cX3_count 21 = .ok (.goto (-17), 3) := dk_167 255 239 (dk_at dksX3_count_0 21 rfl rfl)
theorem dX3_count_24 : decode cX3_count 24 = .ok (.iload_n 1, 1) := dk_27 (dk_at dksX3_count_1 0 rfl rfl)
theorem dX3_count_25 : decode cX3_count 25 = .ok (.ireturn, 1) := dk_172 (dk_at dksX3_count_1 1 rfl rfl)
abbrev cX3_latestMoved : ByteArray := prog_17_method_97_code
def yX3_latestMoved : MethodName := ⟨RX3, "latestMoved", "()I"⟩
def dkwX3_latestMoved_1 : List UInt8 := [172, 27, 42, 180, 0, 7, 16, 76, 28, 96, 46, 184, 0, 51, 60, 132, 2, 1, 167, 255, 218, 27, 172]
abbrev dktX3_latestMoved_1 : List UInt8 := dkwX3_latestMoved_1 ++ []
def dkwX3_latestMoved_0 : List UInt8 := [2, 60, 3, 61, 28, 42, 180, 0, 7, 16, 88, 46, 162, 0, 33, 42, 28, 182, 0, 65, 154, 0, 5, 2]
abbrev dktX3_latestMoved_0 : List UInt8 := dkwX3_latestMoved_0 ++ dktX3_latestMoved_1
theorem dksX3_latestMoved_0 : cX3_latestMoved.data.toList.drop 0 = dktX3_latestMoved_0 := by decide +kernel
theorem dksX3_latestMoved_1 : cX3_latestMoved.data.toList.drop 24 = dktX3_latestMoved_1 := dk_seg dksX3_latestMoved_0 24 rfl rfl
theorem dX3_latestMoved_0 : decode cX3_latestMoved 0 = .ok (.iconst (-1), 1) := dk_2 (dk_at dksX3_latestMoved_0 0 rfl rfl)
theorem dX3_latestMoved_1 : decode cX3_latestMoved 1 = .ok (.istore_n 1, 1) := dk_60 (dk_at dksX3_latestMoved_0 1 rfl rfl)
theorem dX3_latestMoved_2 : decode cX3_latestMoved 2 = .ok (.iconst 0, 1) := dk_3 (dk_at dksX3_latestMoved_0 2 rfl rfl)
theorem dX3_latestMoved_3 : decode cX3_latestMoved 3 = .ok (.istore_n 2, 1) := dk_61 (dk_at dksX3_latestMoved_0 3 rfl rfl)
theorem dX3_latestMoved_4 : decode cX3_latestMoved 4 = .ok (.iload_n 2, 1) := dk_28 (dk_at dksX3_latestMoved_0 4 rfl rfl)
theorem dX3_latestMoved_5 : decode cX3_latestMoved 5 = .ok (.aload_n 0, 1) := dk_42 (dk_at dksX3_latestMoved_0 5 rfl rfl)
theorem dX3_latestMoved_6 : decode cX3_latestMoved 6 = .ok (.getfield 7, 3) := dk_180 0 7 (dk_at dksX3_latestMoved_0 6 rfl rfl)
theorem dX3_latestMoved_9 : decode cX3_latestMoved 9 = .ok (.bipush 88, 2) := dk_16 88 (dk_at dksX3_latestMoved_0 9 rfl rfl)
theorem dX3_latestMoved_11 : decode cX3_latestMoved 11 = .ok (.iaload, 1) := dk_46 (dk_at dksX3_latestMoved_0 11 rfl rfl)
theorem dX3_latestMoved_12 : decode cX3_latestMoved 12 = .ok (.if_icmp .ge 33, 3) := dk_162 0 33 (dk_at dksX3_latestMoved_0 12 rfl rfl)
theorem dX3_latestMoved_15 : decode cX3_latestMoved 15 = .ok (.aload_n 0, 1) := dk_42 (dk_at dksX3_latestMoved_0 15 rfl rfl)
theorem dX3_latestMoved_16 : decode cX3_latestMoved 16 = .ok (.iload_n 2, 1) := dk_28 (dk_at dksX3_latestMoved_0 16 rfl rfl)
theorem dX3_latestMoved_17 : decode cX3_latestMoved 17 = .ok (.invokevirtual 65, 3) := dk_182 0 65 (dk_at dksX3_latestMoved_0 17 rfl rfl)
theorem dX3_latestMoved_20 : decode cX3_latestMoved 20 = .ok (.ifCond .ne 5, 3) := dk_154 0 5 (dk_at dksX3_latestMoved_0 20 rfl rfl)
theorem dX3_latestMoved_23 : decode cX3_latestMoved 23 = .ok (.iconst (-1), 1) := dk_2 (dk_at dksX3_latestMoved_0 23 rfl rfl)
theorem dX3_latestMoved_24 : decode cX3_latestMoved 24 = .ok (.ireturn, 1) := dk_172 (dk_at dksX3_latestMoved_1 0 rfl rfl)
theorem dX3_latestMoved_25 : decode cX3_latestMoved 25 = .ok (.iload_n 1, 1) := dk_27 (dk_at dksX3_latestMoved_1 1 rfl rfl)
theorem dX3_latestMoved_26 : decode cX3_latestMoved 26 = .ok (.aload_n 0, 1) := dk_42 (dk_at dksX3_latestMoved_1 2 rfl rfl)
theorem dX3_latestMoved_27 : decode cX3_latestMoved 27 = .ok (.getfield 7, 3) := dk_180 0 7 (dk_at dksX3_latestMoved_1 3 rfl rfl)
theorem dX3_latestMoved_30 : decode cX3_latestMoved 30 = .ok (.bipush 76, 2) := dk_16 76 (dk_at dksX3_latestMoved_1 6 rfl rfl)
theorem dX3_latestMoved_32 : decode cX3_latestMoved 32 = .ok (.iload_n 2, 1) := dk_28 (dk_at dksX3_latestMoved_1 8 rfl rfl)
theorem dX3_latestMoved_33 : decode cX3_latestMoved 33 = .ok (.iadd, 1) := dk_96 (dk_at dksX3_latestMoved_1 9 rfl rfl)
theorem dX3_latestMoved_34 : decode cX3_latestMoved 34 = .ok (.iaload, 1) := dk_46 (dk_at dksX3_latestMoved_1 10 rfl rfl)
theorem dX3_latestMoved_35 : decode cX3_latestMoved 35 = .ok (.invokestatic 51, 3) := dk_184 0 51 (dk_at dksX3_latestMoved_1 11 rfl rfl)
theorem dX3_latestMoved_38 : decode cX3_latestMoved 38 = .ok (.istore_n 1, 1) := dk_60 (dk_at dksX3_latestMoved_1 14 rfl rfl)
theorem dX3_latestMoved_39 : decode cX3_latestMoved 39 = .ok (.iinc 2 1, 3) := dk_132 2 1 (dk_at dksX3_latestMoved_1 15 rfl rfl)
theorem dX3_latestMoved_42 : decode cX3_latestMoved 42 = .ok (.goto (-38), 3) := dk_167 255 218 (dk_at dksX3_latestMoved_1 18 rfl rfl)
theorem dX3_latestMoved_45 : decode cX3_latestMoved 45 = .ok (.iload_n 1, 1) := dk_27 (dk_at dksX3_latestMoved_1 21 rfl rfl)
theorem dX3_latestMoved_46 : decode cX3_latestMoved 46 = .ok (.ireturn, 1) := dk_172 (dk_at dksX3_latestMoved_1 22 rfl rfl)
abbrev cX3_odds : ByteArray := prog_17_method_102_code
def yX3_odds : MethodName := ⟨RX3, "odds", "(I)I"⟩
def dkwX3_odds_1 : List UInt8 := [182, 1, 159, 136, 167, 0, 4, 2, 172]
abbrev dktX3_odds_1 : List UInt8 := dkwX3_odds_1 ++ []
def dkwX3_odds_0 : List UInt8 := [27, 4, 16, 60, 184, 0, 54, 153, 0, 22, 42, 3, 42, 180, 0, 7, 16, 88, 46, 4, 100, 27]
abbrev dktX3_odds_0 : List UInt8 := dkwX3_odds_0 ++ dktX3_odds_1
theorem dksX3_odds_0 : cX3_odds.data.toList.drop 0 = dktX3_odds_0 := by decide +kernel
theorem dksX3_odds_1 : cX3_odds.data.toList.drop 22 = dktX3_odds_1 := dk_seg dksX3_odds_0 22 rfl rfl
theorem dX3_odds_0 : decode cX3_odds 0 = .ok (.iload_n 1, 1) := dk_27 (dk_at dksX3_odds_0 0 rfl rfl)
theorem dX3_odds_1 : decode cX3_odds 1 = .ok (.iconst 1, 1) := dk_4 (dk_at dksX3_odds_0 1 rfl rfl)
theorem dX3_odds_2 : decode cX3_odds 2 = .ok (.bipush 60, 2) := dk_16 60 (dk_at dksX3_odds_0 2 rfl rfl)
theorem dX3_odds_4 : decode cX3_odds 4 = .ok (.invokestatic 54, 3) := dk_184 0 54 (dk_at dksX3_odds_0 4 rfl rfl)
theorem dX3_odds_7 : decode cX3_odds 7 = .ok (.ifCond .eq 22, 3) := dk_153 0 22 (dk_at dksX3_odds_0 7 rfl rfl)
theorem dX3_odds_10 : decode cX3_odds 10 = .ok (.aload_n 0, 1) := dk_42 (dk_at dksX3_odds_0 10 rfl rfl)
theorem dX3_odds_11 : decode cX3_odds 11 = .ok (.iconst 0, 1) := dk_3 (dk_at dksX3_odds_0 11 rfl rfl)
theorem dX3_odds_12 : decode cX3_odds 12 = .ok (.aload_n 0, 1) := dk_42 (dk_at dksX3_odds_0 12 rfl rfl)
theorem dX3_odds_13 : decode cX3_odds 13 = .ok (.getfield 7, 3) := dk_180 0 7 (dk_at dksX3_odds_0 13 rfl rfl)
theorem dX3_odds_16 : decode cX3_odds 16 = .ok (.bipush 88, 2) := dk_16 88 (dk_at dksX3_odds_0 16 rfl rfl)
theorem dX3_odds_18 : decode cX3_odds 18 = .ok (.iaload, 1) := dk_46 (dk_at dksX3_odds_0 18 rfl rfl)
theorem dX3_odds_19 : decode cX3_odds 19 = .ok (.iconst 1, 1) := dk_4 (dk_at dksX3_odds_0 19 rfl rfl)
theorem dX3_odds_20 : decode cX3_odds 20 = .ok (.isub, 1) := dk_100 (dk_at dksX3_odds_0 20 rfl rfl)
theorem dX3_odds_21 : decode cX3_odds 21 = .ok (.iload_n 1, 1) := dk_27 (dk_at dksX3_odds_0 21 rfl rfl)
theorem dX3_odds_22 : decode cX3_odds 22 = .ok (.invokevirtual 415, 3) := dk_182 1 159 (dk_at dksX3_odds_1 0 rfl rfl)
theorem dX3_odds_25 : decode cX3_odds 25 = .ok (.l2i, 1) := dk_136 (dk_at dksX3_odds_1 3 rfl rfl)
theorem dX3_odds_26 : decode cX3_odds 26 = .ok (.goto 4, 3) := dk_167 0 4 (dk_at dksX3_odds_1 4 rfl rfl)
theorem dX3_odds_29 : decode cX3_odds 29 = .ok (.iconst (-1), 1) := dk_2 (dk_at dksX3_odds_1 7 rfl rfl)
theorem dX3_odds_30 : decode cX3_odds 30 = .ok (.ireturn, 1) := dk_172 (dk_at dksX3_odds_1 8 rfl rfl)
abbrev cX3_allBy : ByteArray := prog_17_method_101_code
def yX3_allBy : MethodName := ⟨RX3, "allBy", "(III)J"⟩
def dkwX3_allBy_2 : List UInt8 := [132, 6, 1, 167, 255, 213, 22, 4, 173]
abbrev dktX3_allBy_2 : List UInt8 := dkwX3_allBy_2 ++ []
def dkwX3_allBy_1 : List UInt8 := [21, 6, 182, 0, 62, 153, 0, 19, 22, 4, 42, 21, 6, 29, 182, 1, 156, 105, 20, 1, 148, 109, 55, 4]
abbrev dktX3_allBy_1 : List UInt8 := dkwX3_allBy_1 ++ dktX3_allBy_2
def dkwX3_allBy_0 : List UInt8 := [20, 1, 148, 55, 4, 27, 54, 6, 21, 6, 28, 163, 0, 43, 42, 21, 6, 182, 1, 41, 153, 0, 12, 42]
abbrev dktX3_allBy_0 : List UInt8 := dkwX3_allBy_0 ++ dktX3_allBy_1
theorem dksX3_allBy_0 : cX3_allBy.data.toList.drop 0 = dktX3_allBy_0 := by decide +kernel
theorem dksX3_allBy_1 : cX3_allBy.data.toList.drop 24 = dktX3_allBy_1 := dk_seg dksX3_allBy_0 24 rfl rfl
theorem dksX3_allBy_2 : cX3_allBy.data.toList.drop 48 = dktX3_allBy_2 := dk_seg dksX3_allBy_1 24 rfl rfl
theorem dX3_allBy_0 : decode cX3_allBy 0 = .ok (.ldc2_w 404, 3) := dk_20 1 148 (dk_at dksX3_allBy_0 0 rfl rfl)
theorem dX3_allBy_3 : decode cX3_allBy 3 = .ok (.lstore 4, 2) := dk_55 4 (dk_at dksX3_allBy_0 3 rfl rfl)
theorem dX3_allBy_5 : decode cX3_allBy 5 = .ok (.iload_n 1, 1) := dk_27 (dk_at dksX3_allBy_0 5 rfl rfl)
theorem dX3_allBy_6 : decode cX3_allBy 6 = .ok (.istore 6, 2) := dk_54 6 (dk_at dksX3_allBy_0 6 rfl rfl)
theorem dX3_allBy_8 : decode cX3_allBy 8 = .ok (.iload 6, 2) := dk_21 6 (dk_at dksX3_allBy_0 8 rfl rfl)
theorem dX3_allBy_10 : decode cX3_allBy 10 = .ok (.iload_n 2, 1) := dk_28 (dk_at dksX3_allBy_0 10 rfl rfl)
theorem dX3_allBy_11 : decode cX3_allBy 11 = .ok (.if_icmp .gt 43, 3) := dk_163 0 43 (dk_at dksX3_allBy_0 11 rfl rfl)
theorem dX3_allBy_14 : decode cX3_allBy 14 = .ok (.aload_n 0, 1) := dk_42 (dk_at dksX3_allBy_0 14 rfl rfl)
theorem dX3_allBy_15 : decode cX3_allBy 15 = .ok (.iload 6, 2) := dk_21 6 (dk_at dksX3_allBy_0 15 rfl rfl)
theorem dX3_allBy_17 : decode cX3_allBy 17 = .ok (.invokevirtual 297, 3) := dk_182 1 41 (dk_at dksX3_allBy_0 17 rfl rfl)
theorem dX3_allBy_20 : decode cX3_allBy 20 = .ok (.ifCond .eq 12, 3) := dk_153 0 12 (dk_at dksX3_allBy_0 20 rfl rfl)
theorem dX3_allBy_23 : decode cX3_allBy 23 = .ok (.aload_n 0, 1) := dk_42 (dk_at dksX3_allBy_0 23 rfl rfl)
theorem dX3_allBy_24 : decode cX3_allBy 24 = .ok (.iload 6, 2) := dk_21 6 (dk_at dksX3_allBy_1 0 rfl rfl)
theorem dX3_allBy_26 : decode cX3_allBy 26 = .ok (.invokevirtual 62, 3) := dk_182 0 62 (dk_at dksX3_allBy_1 2 rfl rfl)
theorem dX3_allBy_29 : decode cX3_allBy 29 = .ok (.ifCond .eq 19, 3) := dk_153 0 19 (dk_at dksX3_allBy_1 5 rfl rfl)
theorem dX3_allBy_32 : decode cX3_allBy 32 = .ok (.lload 4, 2) := dk_22 4 (dk_at dksX3_allBy_1 8 rfl rfl)
theorem dX3_allBy_34 : decode cX3_allBy 34 = .ok (.aload_n 0, 1) := dk_42 (dk_at dksX3_allBy_1 10 rfl rfl)
theorem dX3_allBy_35 : decode cX3_allBy 35 = .ok (.iload 6, 2) := dk_21 6 (dk_at dksX3_allBy_1 11 rfl rfl)
theorem dX3_allBy_37 : decode cX3_allBy 37 = .ok (.iload_n 3, 1) := dk_29 (dk_at dksX3_allBy_1 13 rfl rfl)
theorem dX3_allBy_38 : decode cX3_allBy 38 = .ok (.invokevirtual 412, 3) := dk_182 1 156 (dk_at dksX3_allBy_1 14 rfl rfl)
theorem dX3_allBy_41 : decode cX3_allBy 41 = .ok (.lmul, 1) := dk_105 (dk_at dksX3_allBy_1 17 rfl rfl)
theorem dX3_allBy_42 : decode cX3_allBy 42 = .ok (.ldc2_w 404, 3) := dk_20 1 148 (dk_at dksX3_allBy_1 18 rfl rfl)
theorem dX3_allBy_45 : decode cX3_allBy 45 = .ok (.ldiv, 1) := dk_109 (dk_at dksX3_allBy_1 21 rfl rfl)
theorem dX3_allBy_46 : decode cX3_allBy 46 = .ok (.lstore 4, 2) := dk_55 4 (dk_at dksX3_allBy_1 22 rfl rfl)
theorem dX3_allBy_48 : decode cX3_allBy 48 = .ok (.iinc 6 1, 3) := dk_132 6 1 (dk_at dksX3_allBy_2 0 rfl rfl)
theorem dX3_allBy_51 : decode cX3_allBy 51 = .ok (.goto (-43), 3) := dk_167 255 213 (dk_at dksX3_allBy_2 3 rfl rfl)
theorem dX3_allBy_54 : decode cX3_allBy 54 = .ok (.lload 4, 2) := dk_22 4 (dk_at dksX3_allBy_2 6 rfl rfl)
theorem dX3_allBy_56 : decode cX3_allBy 56 = .ok (.lreturn, 1) := dk_173 (dk_at dksX3_allBy_2 8 rfl rfl)
abbrev cX3_readyBy : ByteArray := prog_17_method_100_code
def yX3_readyBy : MethodName := ⟨RX3, "readyBy", "(II)J"⟩
def dkwX3_readyBy_1 : List UInt8 := [167, 0, 12, 42, 27, 182, 1, 114, 28, 184, 1, 152, 173]
abbrev dktX3_readyBy_1 : List UInt8 := dkwX3_readyBy_1 ++ []
def dkwX3_readyBy_0 : List UInt8 := [42, 27, 182, 0, 62, 153, 0, 7, 9, 167, 0, 26, 42, 27, 182, 1, 41, 153, 0, 9, 20, 1, 148]
abbrev dktX3_readyBy_0 : List UInt8 := dkwX3_readyBy_0 ++ dktX3_readyBy_1
theorem dksX3_readyBy_0 : cX3_readyBy.data.toList.drop 0 = dktX3_readyBy_0 := by decide +kernel
theorem dksX3_readyBy_1 : cX3_readyBy.data.toList.drop 23 = dktX3_readyBy_1 := dk_seg dksX3_readyBy_0 23 rfl rfl
theorem dX3_readyBy_0 : decode cX3_readyBy 0 = .ok (.aload_n 0, 1) := dk_42 (dk_at dksX3_readyBy_0 0 rfl rfl)
theorem dX3_readyBy_1 : decode cX3_readyBy 1 = .ok (.iload_n 1, 1) := dk_27 (dk_at dksX3_readyBy_0 1 rfl rfl)
theorem dX3_readyBy_2 : decode cX3_readyBy 2 = .ok (.invokevirtual 62, 3) := dk_182 0 62 (dk_at dksX3_readyBy_0 2 rfl rfl)
theorem dX3_readyBy_5 : decode cX3_readyBy 5 = .ok (.ifCond .eq 7, 3) := dk_153 0 7 (dk_at dksX3_readyBy_0 5 rfl rfl)
theorem dX3_readyBy_8 : decode cX3_readyBy 8 = .ok (.lconst 0, 1) := dk_9 (dk_at dksX3_readyBy_0 8 rfl rfl)
theorem dX3_readyBy_9 : decode cX3_readyBy 9 = .ok (.goto 26, 3) := dk_167 0 26 (dk_at dksX3_readyBy_0 9 rfl rfl)
theorem dX3_readyBy_12 : decode cX3_readyBy 12 = .ok (.aload_n 0, 1) := dk_42 (dk_at dksX3_readyBy_0 12 rfl rfl)
theorem dX3_readyBy_13 : decode cX3_readyBy 13 = .ok (.iload_n 1, 1) := dk_27 (dk_at dksX3_readyBy_0 13 rfl rfl)
theorem dX3_readyBy_14 : decode cX3_readyBy 14 = .ok (.invokevirtual 297, 3) := dk_182 1 41 (dk_at dksX3_readyBy_0 14 rfl rfl)
theorem dX3_readyBy_17 : decode cX3_readyBy 17 = .ok (.ifCond .eq 9, 3) := dk_153 0 9 (dk_at dksX3_readyBy_0 17 rfl rfl)
theorem dX3_readyBy_20 : decode cX3_readyBy 20 = .ok (.ldc2_w 404, 3) := dk_20 1 148 (dk_at dksX3_readyBy_0 20 rfl rfl)
theorem dX3_readyBy_23 : decode cX3_readyBy 23 = .ok (.goto 12, 3) := dk_167 0 12 (dk_at dksX3_readyBy_1 0 rfl rfl)
theorem dX3_readyBy_26 : decode cX3_readyBy 26 = .ok (.aload_n 0, 1) := dk_42 (dk_at dksX3_readyBy_1 3 rfl rfl)
theorem dX3_readyBy_27 : decode cX3_readyBy 27 = .ok (.iload_n 1, 1) := dk_27 (dk_at dksX3_readyBy_1 4 rfl rfl)
theorem dX3_readyBy_28 : decode cX3_readyBy 28 = .ok (.invokevirtual 370, 3) := dk_182 1 114 (dk_at dksX3_readyBy_1 5 rfl rfl)
theorem dX3_readyBy_31 : decode cX3_readyBy 31 = .ok (.iload_n 2, 1) := dk_28 (dk_at dksX3_readyBy_1 8 rfl rfl)
theorem dX3_readyBy_32 : decode cX3_readyBy 32 = .ok (.invokestatic 408, 3) := dk_184 1 152 (dk_at dksX3_readyBy_1 9 rfl rfl)
theorem dX3_readyBy_35 : decode cX3_readyBy 35 = .ok (.lreturn, 1) := dk_173 (dk_at dksX3_readyBy_1 12 rfl rfl)
abbrev cX3_sureBy : ByteArray := prog_17_method_99_code
def yX3_sureBy : MethodName := ⟨RX3, "sureBy", "(II)J"⟩
def dkwX3_sureBy_1 : List UInt8 := [109, 65, 132, 4, 1, 167, 255, 234, 20, 1, 148, 32, 101, 173]
abbrev dktX3_sureBy_1 : List UInt8 := dkwX3_sureBy_1 ++ []
def dkwX3_sureBy_0 : List UInt8 := [20, 1, 148, 65, 3, 54, 4, 21, 4, 27, 162, 0, 22, 32, 17, 3, 232, 26, 100, 133, 105, 20, 1, 150]
abbrev dktX3_sureBy_0 : List UInt8 := dkwX3_sureBy_0 ++ dktX3_sureBy_1
theorem dksX3_sureBy_0 : cX3_sureBy.data.toList.drop 0 = dktX3_sureBy_0 := by decide +kernel
theorem dksX3_sureBy_1 : cX3_sureBy.data.toList.drop 24 = dktX3_sureBy_1 := dk_seg dksX3_sureBy_0 24 rfl rfl
theorem dX3_sureBy_0 : decode cX3_sureBy 0 = .ok (.ldc2_w 404, 3) := dk_20 1 148 (dk_at dksX3_sureBy_0 0 rfl rfl)
theorem dX3_sureBy_3 : decode cX3_sureBy 3 = .ok (.lstore_n 2, 1) := dk_65 (dk_at dksX3_sureBy_0 3 rfl rfl)
theorem dX3_sureBy_4 : decode cX3_sureBy 4 = .ok (.iconst 0, 1) := dk_3 (dk_at dksX3_sureBy_0 4 rfl rfl)
theorem dX3_sureBy_5 : decode cX3_sureBy 5 = .ok (.istore 4, 2) := dk_54 4 (dk_at dksX3_sureBy_0 5 rfl rfl)
theorem dX3_sureBy_7 : decode cX3_sureBy 7 = .ok (.iload 4, 2) := dk_21 4 (dk_at dksX3_sureBy_0 7 rfl rfl)
theorem dX3_sureBy_9 : decode cX3_sureBy 9 = .ok (.iload_n 1, 1) := dk_27 (dk_at dksX3_sureBy_0 9 rfl rfl)
theorem dX3_sureBy_10 : decode cX3_sureBy 10 = .ok (.if_icmp .ge 22, 3) := dk_162 0 22 (dk_at dksX3_sureBy_0 10 rfl rfl)
theorem dX3_sureBy_13 : decode cX3_sureBy 13 = .ok (.lload_n 2, 1) := dk_32 (dk_at dksX3_sureBy_0 13 rfl rfl)
theorem dX3_sureBy_14 : decode cX3_sureBy 14 = .ok (.sipush 1000, 3) := dk_17 3 232 (dk_at dksX3_sureBy_0 14 rfl rfl)
theorem dX3_sureBy_17 : decode cX3_sureBy 17 = .ok (.iload_n 0, 1) := dk_26 (dk_at dksX3_sureBy_0 17 rfl rfl)
theorem dX3_sureBy_18 : decode cX3_sureBy 18 = .ok (.isub, 1) := dk_100 (dk_at dksX3_sureBy_0 18 rfl rfl)
theorem dX3_sureBy_19 : decode cX3_sureBy 19 = .ok (.i2l, 1) := dk_133 (dk_at dksX3_sureBy_0 19 rfl rfl)
theorem dX3_sureBy_20 : decode cX3_sureBy 20 = .ok (.lmul, 1) := dk_105 (dk_at dksX3_sureBy_0 20 rfl rfl)
theorem dX3_sureBy_21 : decode cX3_sureBy 21 = .ok (.ldc2_w 406, 3) := dk_20 1 150 (dk_at dksX3_sureBy_0 21 rfl rfl)
theorem dX3_sureBy_24 : decode cX3_sureBy 24 = .ok (.ldiv, 1) := dk_109 (dk_at dksX3_sureBy_1 0 rfl rfl)
theorem dX3_sureBy_25 : decode cX3_sureBy 25 = .ok (.lstore_n 2, 1) := dk_65 (dk_at dksX3_sureBy_1 1 rfl rfl)
theorem dX3_sureBy_26 : decode cX3_sureBy 26 = .ok (.iinc 4 1, 3) := dk_132 4 1 (dk_at dksX3_sureBy_1 2 rfl rfl)
theorem dX3_sureBy_29 : decode cX3_sureBy 29 = .ok (.goto (-22), 3) := dk_167 255 234 (dk_at dksX3_sureBy_1 5 rfl rfl)
theorem dX3_sureBy_32 : decode cX3_sureBy 32 = .ok (.ldc2_w 404, 3) := dk_20 1 148 (dk_at dksX3_sureBy_1 8 rfl rfl)
theorem dX3_sureBy_35 : decode cX3_sureBy 35 = .ok (.lload_n 2, 1) := dk_32 (dk_at dksX3_sureBy_1 11 rfl rfl)
theorem dX3_sureBy_36 : decode cX3_sureBy 36 = .ok (.lsub, 1) := dk_101 (dk_at dksX3_sureBy_1 12 rfl rfl)
theorem dX3_sureBy_37 : decode cX3_sureBy 37 = .ok (.lreturn, 1) := dk_173 (dk_at dksX3_sureBy_1 13 rfl rfl)
abbrev cX3_holds : ByteArray := prog_17_method_103_code
def yX3_holds : MethodName := ⟨RX3, "holds", "(II)I"⟩
def dkwX3_holds_4 : List UInt8 := [182, 1, 156, 136, 172]
abbrev dktX3_holds_4 : List UInt8 := dkwX3_holds_4 ++ []
def dkwX3_holds_3 : List UInt8 := [132, 4, 1, 167, 255, 207, 29, 2, 159, 0, 7, 28, 154, 0, 7, 29, 167, 0, 10, 42, 29, 27]
abbrev dktX3_holds_3 : List UInt8 := dkwX3_holds_3 ++ dktX3_holds_4
def dkwX3_holds_2 : List UInt8 := [2, 159, 0, 20, 42, 21, 4, 27, 182, 1, 156, 42, 29, 27, 182, 1, 156, 148, 156, 0, 6, 21, 4, 62]
abbrev dktX3_holds_2 : List UInt8 := dkwX3_holds_2 ++ dktX3_holds_3
def dkwX3_holds_1 : List UInt8 := [54, 4, 21, 4, 42, 180, 0, 7, 16, 88, 46, 162, 0, 43, 42, 21, 4, 182, 1, 41, 154, 0, 28, 29]
abbrev dktX3_holds_1 : List UInt8 := dkwX3_holds_1 ++ dktX3_holds_2
def dkwX3_holds_0 : List UInt8 := [27, 4, 16, 60, 184, 0, 54, 153, 0, 12, 28, 3, 4, 184, 0, 54, 154, 0, 5, 2, 172, 2, 62, 3]
abbrev dktX3_holds_0 : List UInt8 := dkwX3_holds_0 ++ dktX3_holds_1
theorem dksX3_holds_0 : cX3_holds.data.toList.drop 0 = dktX3_holds_0 := by decide +kernel
theorem dksX3_holds_1 : cX3_holds.data.toList.drop 24 = dktX3_holds_1 := dk_seg dksX3_holds_0 24 rfl rfl
theorem dksX3_holds_2 : cX3_holds.data.toList.drop 48 = dktX3_holds_2 := dk_seg dksX3_holds_1 24 rfl rfl
theorem dksX3_holds_3 : cX3_holds.data.toList.drop 72 = dktX3_holds_3 := dk_seg dksX3_holds_2 24 rfl rfl
theorem dksX3_holds_4 : cX3_holds.data.toList.drop 94 = dktX3_holds_4 := dk_seg dksX3_holds_3 22 rfl rfl
theorem dX3_holds_0 : decode cX3_holds 0 = .ok (.iload_n 1, 1) := dk_27 (dk_at dksX3_holds_0 0 rfl rfl)
theorem dX3_holds_1 : decode cX3_holds 1 = .ok (.iconst 1, 1) := dk_4 (dk_at dksX3_holds_0 1 rfl rfl)
theorem dX3_holds_2 : decode cX3_holds 2 = .ok (.bipush 60, 2) := dk_16 60 (dk_at dksX3_holds_0 2 rfl rfl)
theorem dX3_holds_4 : decode cX3_holds 4 = .ok (.invokestatic 54, 3) := dk_184 0 54 (dk_at dksX3_holds_0 4 rfl rfl)
theorem dX3_holds_7 : decode cX3_holds 7 = .ok (.ifCond .eq 12, 3) := dk_153 0 12 (dk_at dksX3_holds_0 7 rfl rfl)
theorem dX3_holds_10 : decode cX3_holds 10 = .ok (.iload_n 2, 1) := dk_28 (dk_at dksX3_holds_0 10 rfl rfl)
theorem dX3_holds_11 : decode cX3_holds 11 = .ok (.iconst 0, 1) := dk_3 (dk_at dksX3_holds_0 11 rfl rfl)
theorem dX3_holds_12 : decode cX3_holds 12 = .ok (.iconst 1, 1) := dk_4 (dk_at dksX3_holds_0 12 rfl rfl)
theorem dX3_holds_13 : decode cX3_holds 13 = .ok (.invokestatic 54, 3) := dk_184 0 54 (dk_at dksX3_holds_0 13 rfl rfl)
theorem dX3_holds_16 : decode cX3_holds 16 = .ok (.ifCond .ne 5, 3) := dk_154 0 5 (dk_at dksX3_holds_0 16 rfl rfl)
theorem dX3_holds_19 : decode cX3_holds 19 = .ok (.iconst (-1), 1) := dk_2 (dk_at dksX3_holds_0 19 rfl rfl)
theorem dX3_holds_20 : decode cX3_holds 20 = .ok (.ireturn, 1) := dk_172 (dk_at dksX3_holds_0 20 rfl rfl)
theorem dX3_holds_21 : decode cX3_holds 21 = .ok (.iconst (-1), 1) := dk_2 (dk_at dksX3_holds_0 21 rfl rfl)
theorem dX3_holds_22 : decode cX3_holds 22 = .ok (.istore_n 3, 1) := dk_62 (dk_at dksX3_holds_0 22 rfl rfl)
theorem dX3_holds_23 : decode cX3_holds 23 = .ok (.iconst 0, 1) := dk_3 (dk_at dksX3_holds_0 23 rfl rfl)
theorem dX3_holds_24 : decode cX3_holds 24 = .ok (.istore 4, 2) := dk_54 4 (dk_at dksX3_holds_1 0 rfl rfl)
theorem dX3_holds_26 : decode cX3_holds 26 = .ok (.iload 4, 2) := dk_21 4 (dk_at dksX3_holds_1 2 rfl rfl)
theorem dX3_holds_28 : decode cX3_holds 28 = .ok (.aload_n 0, 1) := dk_42 (dk_at dksX3_holds_1 4 rfl rfl)
theorem dX3_holds_29 : decode cX3_holds 29 = .ok (.getfield 7, 3) := dk_180 0 7 (dk_at dksX3_holds_1 5 rfl rfl)
theorem dX3_holds_32 : decode cX3_holds 32 = .ok (.bipush 88, 2) := dk_16 88 (dk_at dksX3_holds_1 8 rfl rfl)
theorem dX3_holds_34 : decode cX3_holds 34 = .ok (.iaload, 1) := dk_46 (dk_at dksX3_holds_1 10 rfl rfl)
theorem dX3_holds_35 : decode cX3_holds 35 = .ok (.if_icmp .ge 43, 3) := dk_162 0 43 (dk_at dksX3_holds_1 11 rfl rfl)
theorem dX3_holds_38 : decode cX3_holds 38 = .ok (.aload_n 0, 1) := dk_42 (dk_at dksX3_holds_1 14 rfl rfl)
theorem dX3_holds_39 : decode cX3_holds 39 = .ok (.iload 4, 2) := dk_21 4 (dk_at dksX3_holds_1 15 rfl rfl)
theorem dX3_holds_41 : decode cX3_holds 41 = .ok (.invokevirtual 297, 3) := dk_182 1 41 (dk_at dksX3_holds_1 17 rfl rfl)
theorem dX3_holds_44 : decode cX3_holds 44 = .ok (.ifCond .ne 28, 3) := dk_154 0 28 (dk_at dksX3_holds_1 20 rfl rfl)
theorem dX3_holds_47 : decode cX3_holds 47 = .ok (.iload_n 3, 1) := dk_29 (dk_at dksX3_holds_1 23 rfl rfl)
theorem dX3_holds_48 : decode cX3_holds 48 = .ok (.iconst (-1), 1) := dk_2 (dk_at dksX3_holds_2 0 rfl rfl)
theorem dX3_holds_49 : decode cX3_holds 49 = .ok (.if_icmp .eq 20, 3) := dk_159 0 20 (dk_at dksX3_holds_2 1 rfl rfl)
theorem dX3_holds_52 : decode cX3_holds 52 = .ok (.aload_n 0, 1) := dk_42 (dk_at dksX3_holds_2 4 rfl rfl)
theorem dX3_holds_53 : decode cX3_holds 53 = .ok (.iload 4, 2) := dk_21 4 (dk_at dksX3_holds_2 5 rfl rfl)
theorem dX3_holds_55 : decode cX3_holds 55 = .ok (.iload_n 1, 1) := dk_27 (dk_at dksX3_holds_2 7 rfl rfl)
theorem dX3_holds_56 : decode cX3_holds 56 = .ok (.invokevirtual 412, 3) := dk_182 1 156 (dk_at dksX3_holds_2 8 rfl rfl)
theorem dX3_holds_59 : decode cX3_holds 59 = .ok (.aload_n 0, 1) := dk_42 (dk_at dksX3_holds_2 11 rfl rfl)
theorem dX3_holds_60 : decode cX3_holds 60 = .ok (.iload_n 3, 1) := dk_29 (dk_at dksX3_holds_2 12 rfl rfl)
theorem dX3_holds_61 : decode cX3_holds 61 = .ok (.iload_n 1, 1) := dk_27 (dk_at dksX3_holds_2 13 rfl rfl)
theorem dX3_holds_62 : decode cX3_holds 62 = .ok (.invokevirtual 412, 3) := dk_182 1 156 (dk_at dksX3_holds_2 14 rfl rfl)
theorem dX3_holds_65 : decode cX3_holds 65 = .ok (.lcmp, 1) := dk_148 (dk_at dksX3_holds_2 17 rfl rfl)
theorem dX3_holds_66 : decode cX3_holds 66 = .ok (.ifCond .ge 6, 3) := dk_156 0 6 (dk_at dksX3_holds_2 18 rfl rfl)
theorem dX3_holds_69 : decode cX3_holds 69 = .ok (.iload 4, 2) := dk_21 4 (dk_at dksX3_holds_2 21 rfl rfl)
theorem dX3_holds_71 : decode cX3_holds 71 = .ok (.istore_n 3, 1) := dk_62 (dk_at dksX3_holds_2 23 rfl rfl)
theorem dX3_holds_72 : decode cX3_holds 72 = .ok (.iinc 4 1, 3) := dk_132 4 1 (dk_at dksX3_holds_3 0 rfl rfl)
theorem dX3_holds_75 : decode cX3_holds 75 = .ok (.goto (-49), 3) := dk_167 255 207 (dk_at dksX3_holds_3 3 rfl rfl)
theorem dX3_holds_78 : decode cX3_holds 78 = .ok (.iload_n 3, 1) := dk_29 (dk_at dksX3_holds_3 6 rfl rfl)
theorem dX3_holds_79 : decode cX3_holds 79 = .ok (.iconst (-1), 1) := dk_2 (dk_at dksX3_holds_3 7 rfl rfl)
theorem dX3_holds_80 : decode cX3_holds 80 = .ok (.if_icmp .eq 7, 3) := dk_159 0 7 (dk_at dksX3_holds_3 8 rfl rfl)
theorem dX3_holds_83 : decode cX3_holds 83 = .ok (.iload_n 2, 1) := dk_28 (dk_at dksX3_holds_3 11 rfl rfl)
theorem dX3_holds_84 : decode cX3_holds 84 = .ok (.ifCond .ne 7, 3) := dk_154 0 7 (dk_at dksX3_holds_3 12 rfl rfl)
theorem dX3_holds_87 : decode cX3_holds 87 = .ok (.iload_n 3, 1) := dk_29 (dk_at dksX3_holds_3 15 rfl rfl)
theorem dX3_holds_88 : decode cX3_holds 88 = .ok (.goto 10, 3) := dk_167 0 10 (dk_at dksX3_holds_3 16 rfl rfl)
theorem dX3_holds_91 : decode cX3_holds 91 = .ok (.aload_n 0, 1) := dk_42 (dk_at dksX3_holds_3 19 rfl rfl)
theorem dX3_holds_92 : decode cX3_holds 92 = .ok (.iload_n 3, 1) := dk_29 (dk_at dksX3_holds_3 20 rfl rfl)
theorem dX3_holds_93 : decode cX3_holds 93 = .ok (.iload_n 1, 1) := dk_27 (dk_at dksX3_holds_3 21 rfl rfl)
theorem dX3_holds_94 : decode cX3_holds 94 = .ok (.invokevirtual 412, 3) := dk_182 1 156 (dk_at dksX3_holds_4 0 rfl rfl)
theorem dX3_holds_97 : decode cX3_holds 97 = .ok (.l2i, 1) := dk_136 (dk_at dksX3_holds_4 3 rfl rfl)
theorem dX3_holds_98 : decode cX3_holds 98 = .ok (.ireturn, 1) := dk_172 (dk_at dksX3_holds_4 4 rfl rfl)
abbrev cX3_many : ByteArray := prog_17_method_104_code
def yX3_many : MethodName := ⟨RX3, "many", "(II)I"⟩
def dkwX3_many_3 : List UInt8 := [167, 255, 216, 21, 5, 172]
abbrev dktX3_many_3 : List UInt8 := dkwX3_many_3 ++ []
def dkwX3_many_2 : List UInt8 := [109, 20, 1, 163, 148, 155, 0, 21, 33, 27, 28, 184, 1, 152, 105, 20, 1, 148, 109, 66, 132, 5, 1]
abbrev dktX3_many_2 : List UInt8 := dkwX3_many_2 ++ dktX3_many_3
def dkwX3_many_1 : List UInt8 := [20, 1, 148, 66, 3, 54, 5, 21, 5, 16, 60, 162, 0, 39, 33, 27, 28, 184, 1, 152, 105, 20, 1, 148]
abbrev dktX3_many_1 : List UInt8 := dkwX3_many_1 ++ dktX3_many_2
def dkwX3_many_0 : List UInt8 := [27, 3, 17, 3, 232, 184, 0, 54, 153, 0, 13, 28, 4, 16, 60, 184, 0, 54, 154, 0, 5, 2, 172]
abbrev dktX3_many_0 : List UInt8 := dkwX3_many_0 ++ dktX3_many_1
theorem dksX3_many_0 : cX3_many.data.toList.drop 0 = dktX3_many_0 := by decide +kernel
theorem dksX3_many_1 : cX3_many.data.toList.drop 23 = dktX3_many_1 := dk_seg dksX3_many_0 23 rfl rfl
theorem dksX3_many_2 : cX3_many.data.toList.drop 47 = dktX3_many_2 := dk_seg dksX3_many_1 24 rfl rfl
theorem dksX3_many_3 : cX3_many.data.toList.drop 70 = dktX3_many_3 := dk_seg dksX3_many_2 23 rfl rfl
theorem dX3_many_0 : decode cX3_many 0 = .ok (.iload_n 1, 1) := dk_27 (dk_at dksX3_many_0 0 rfl rfl)
theorem dX3_many_1 : decode cX3_many 1 = .ok (.iconst 0, 1) := dk_3 (dk_at dksX3_many_0 1 rfl rfl)
theorem dX3_many_2 : decode cX3_many 2 = .ok (.sipush 1000, 3) := dk_17 3 232 (dk_at dksX3_many_0 2 rfl rfl)
theorem dX3_many_5 : decode cX3_many 5 = .ok (.invokestatic 54, 3) := dk_184 0 54 (dk_at dksX3_many_0 5 rfl rfl)
theorem dX3_many_8 : decode cX3_many 8 = .ok (.ifCond .eq 13, 3) := dk_153 0 13 (dk_at dksX3_many_0 8 rfl rfl)
theorem dX3_many_11 : decode cX3_many 11 = .ok (.iload_n 2, 1) := dk_28 (dk_at dksX3_many_0 11 rfl rfl)
theorem dX3_many_12 : decode cX3_many 12 = .ok (.iconst 1, 1) := dk_4 (dk_at dksX3_many_0 12 rfl rfl)
theorem dX3_many_13 : decode cX3_many 13 = .ok (.bipush 60, 2) := dk_16 60 (dk_at dksX3_many_0 13 rfl rfl)
theorem dX3_many_15 : decode cX3_many 15 = .ok (.invokestatic 54, 3) := dk_184 0 54 (dk_at dksX3_many_0 15 rfl rfl)
theorem dX3_many_18 : decode cX3_many 18 = .ok (.ifCond .ne 5, 3) := dk_154 0 5 (dk_at dksX3_many_0 18 rfl rfl)
theorem dX3_many_21 : decode cX3_many 21 = .ok (.iconst (-1), 1) := dk_2 (dk_at dksX3_many_0 21 rfl rfl)
theorem dX3_many_22 : decode cX3_many 22 = .ok (.ireturn, 1) := dk_172 (dk_at dksX3_many_0 22 rfl rfl)
theorem dX3_many_23 : decode cX3_many 23 = .ok (.ldc2_w 404, 3) := dk_20 1 148 (dk_at dksX3_many_1 0 rfl rfl)
theorem dX3_many_26 : decode cX3_many 26 = .ok (.lstore_n 3, 1) := dk_66 (dk_at dksX3_many_1 3 rfl rfl)
theorem dX3_many_27 : decode cX3_many 27 = .ok (.iconst 0, 1) := dk_3 (dk_at dksX3_many_1 4 rfl rfl)
theorem dX3_many_28 : decode cX3_many 28 = .ok (.istore 5, 2) := dk_54 5 (dk_at dksX3_many_1 5 rfl rfl)
theorem dX3_many_30 : decode cX3_many 30 = .ok (.iload 5, 2) := dk_21 5 (dk_at dksX3_many_1 7 rfl rfl)
theorem dX3_many_32 : decode cX3_many 32 = .ok (.bipush 60, 2) := dk_16 60 (dk_at dksX3_many_1 9 rfl rfl)
theorem dX3_many_34 : decode cX3_many 34 = .ok (.if_icmp .ge 39, 3) := dk_162 0 39 (dk_at dksX3_many_1 11 rfl rfl)
theorem dX3_many_37 : decode cX3_many 37 = .ok (.lload_n 3, 1) := dk_33 (dk_at dksX3_many_1 14 rfl rfl)
theorem dX3_many_38 : decode cX3_many 38 = .ok (.iload_n 1, 1) := dk_27 (dk_at dksX3_many_1 15 rfl rfl)
theorem dX3_many_39 : decode cX3_many 39 = .ok (.iload_n 2, 1) := dk_28 (dk_at dksX3_many_1 16 rfl rfl)
theorem dX3_many_40 : decode cX3_many 40 = .ok (.invokestatic 408, 3) := dk_184 1 152 (dk_at dksX3_many_1 17 rfl rfl)
theorem dX3_many_43 : decode cX3_many 43 = .ok (.lmul, 1) := dk_105 (dk_at dksX3_many_1 20 rfl rfl)
theorem dX3_many_44 : decode cX3_many 44 = .ok (.ldc2_w 404, 3) := dk_20 1 148 (dk_at dksX3_many_1 21 rfl rfl)
theorem dX3_many_47 : decode cX3_many 47 = .ok (.ldiv, 1) := dk_109 (dk_at dksX3_many_2 0 rfl rfl)
theorem dX3_many_48 : decode cX3_many 48 = .ok (.ldc2_w 419, 3) := dk_20 1 163 (dk_at dksX3_many_2 1 rfl rfl)
theorem dX3_many_51 : decode cX3_many 51 = .ok (.lcmp, 1) := dk_148 (dk_at dksX3_many_2 4 rfl rfl)
theorem dX3_many_52 : decode cX3_many 52 = .ok (.ifCond .lt 21, 3) := dk_155 0 21 (dk_at dksX3_many_2 5 rfl rfl)
theorem dX3_many_55 : decode cX3_many 55 = .ok (.lload_n 3, 1) := dk_33 (dk_at dksX3_many_2 8 rfl rfl)
theorem dX3_many_56 : decode cX3_many 56 = .ok (.iload_n 1, 1) := dk_27 (dk_at dksX3_many_2 9 rfl rfl)
theorem dX3_many_57 : decode cX3_many 57 = .ok (.iload_n 2, 1) := dk_28 (dk_at dksX3_many_2 10 rfl rfl)
theorem dX3_many_58 : decode cX3_many 58 = .ok (.invokestatic 408, 3) := dk_184 1 152 (dk_at dksX3_many_2 11 rfl rfl)
theorem dX3_many_61 : decode cX3_many 61 = .ok (.lmul, 1) := dk_105 (dk_at dksX3_many_2 14 rfl rfl)
theorem dX3_many_62 : decode cX3_many 62 = .ok (.ldc2_w 404, 3) := dk_20 1 148 (dk_at dksX3_many_2 15 rfl rfl)
theorem dX3_many_65 : decode cX3_many 65 = .ok (.ldiv, 1) := dk_109 (dk_at dksX3_many_2 18 rfl rfl)
theorem dX3_many_66 : decode cX3_many 66 = .ok (.lstore_n 3, 1) := dk_66 (dk_at dksX3_many_2 19 rfl rfl)
theorem dX3_many_67 : decode cX3_many 67 = .ok (.iinc 5 1, 3) := dk_132 5 1 (dk_at dksX3_many_2 20 rfl rfl)
theorem dX3_many_70 : decode cX3_many 70 = .ok (.goto (-40), 3) := dk_167 255 216 (dk_at dksX3_many_3 0 rfl rfl)
theorem dX3_many_73 : decode cX3_many 73 = .ok (.iload 5, 2) := dk_21 5 (dk_at dksX3_many_3 3 rfl rfl)
theorem dX3_many_75 : decode cX3_many 75 = .ok (.ireturn, 1) := dk_172 (dk_at dksX3_many_3 5 rfl rfl)
abbrev cX3_soon : ByteArray := prog_17_method_106_code
def yX3_soon : MethodName := ⟨RX3, "soon", "(I)I"⟩
def dkwX3_soon_2 : List UInt8 := [167, 255, 224, 2, 172]
abbrev dktX3_soon_2 : List UInt8 := dkwX3_soon_2 ++ []
def dkwX3_soon_1 : List UInt8 := [180, 0, 7, 16, 88, 46, 4, 100, 28, 182, 1, 159, 27, 133, 148, 155, 0, 5, 28, 172, 132, 2, 1]
abbrev dktX3_soon_1 : List UInt8 := dkwX3_soon_1 ++ dktX3_soon_2
def dkwX3_soon_0 : List UInt8 := [27, 3, 19, 1, 165, 184, 0, 54, 154, 0, 5, 2, 172, 4, 61, 28, 16, 60, 163, 0, 32, 42, 3, 42]
abbrev dktX3_soon_0 : List UInt8 := dkwX3_soon_0 ++ dktX3_soon_1
theorem dksX3_soon_0 : cX3_soon.data.toList.drop 0 = dktX3_soon_0 := by decide +kernel
theorem dksX3_soon_1 : cX3_soon.data.toList.drop 24 = dktX3_soon_1 := dk_seg dksX3_soon_0 24 rfl rfl
theorem dksX3_soon_2 : cX3_soon.data.toList.drop 47 = dktX3_soon_2 := dk_seg dksX3_soon_1 23 rfl rfl
theorem dX3_soon_0 : decode cX3_soon 0 = .ok (.iload_n 1, 1) := dk_27 (dk_at dksX3_soon_0 0 rfl rfl)
theorem dX3_soon_1 : decode cX3_soon 1 = .ok (.iconst 0, 1) := dk_3 (dk_at dksX3_soon_0 1 rfl rfl)
theorem dX3_soon_2 : decode cX3_soon 2 = .ok (.ldc_w 421, 3) := dk_19 1 165 (dk_at dksX3_soon_0 2 rfl rfl)
theorem dX3_soon_5 : decode cX3_soon 5 = .ok (.invokestatic 54, 3) := dk_184 0 54 (dk_at dksX3_soon_0 5 rfl rfl)
theorem dX3_soon_8 : decode cX3_soon 8 = .ok (.ifCond .ne 5, 3) := dk_154 0 5 (dk_at dksX3_soon_0 8 rfl rfl)
theorem dX3_soon_11 : decode cX3_soon 11 = .ok (.iconst (-1), 1) := dk_2 (dk_at dksX3_soon_0 11 rfl rfl)
theorem dX3_soon_12 : decode cX3_soon 12 = .ok (.ireturn, 1) := dk_172 (dk_at dksX3_soon_0 12 rfl rfl)
theorem dX3_soon_13 : decode cX3_soon 13 = .ok (.iconst 1, 1) := dk_4 (dk_at dksX3_soon_0 13 rfl rfl)
theorem dX3_soon_14 : decode cX3_soon 14 = .ok (.istore_n 2, 1) := dk_61 (dk_at dksX3_soon_0 14 rfl rfl)
theorem dX3_soon_15 : decode cX3_soon 15 = .ok (.iload_n 2, 1) := dk_28 (dk_at dksX3_soon_0 15 rfl rfl)
theorem dX3_soon_16 : decode cX3_soon 16 = .ok (.bipush 60, 2) := dk_16 60 (dk_at dksX3_soon_0 16 rfl rfl)
theorem dX3_soon_18 : decode cX3_soon 18 = .ok (.if_icmp .gt 32, 3) := dk_163 0 32 (dk_at dksX3_soon_0 18 rfl rfl)
theorem dX3_soon_21 : decode cX3_soon 21 = .ok (.aload_n 0, 1) := dk_42 (dk_at dksX3_soon_0 21 rfl rfl)
theorem dX3_soon_22 : decode cX3_soon 22 = .ok (.iconst 0, 1) := dk_3 (dk_at dksX3_soon_0 22 rfl rfl)
theorem dX3_soon_23 : decode cX3_soon 23 = .ok (.aload_n 0, 1) := dk_42 (dk_at dksX3_soon_0 23 rfl rfl)
theorem dX3_soon_24 : decode cX3_soon 24 = .ok (.getfield 7, 3) := dk_180 0 7 (dk_at dksX3_soon_1 0 rfl rfl)
theorem dX3_soon_27 : decode cX3_soon 27 = .ok (.bipush 88, 2) := dk_16 88 (dk_at dksX3_soon_1 3 rfl rfl)
theorem dX3_soon_29 : decode cX3_soon 29 = .ok (.iaload, 1) := dk_46 (dk_at dksX3_soon_1 5 rfl rfl)
theorem dX3_soon_30 : decode cX3_soon 30 = .ok (.iconst 1, 1) := dk_4 (dk_at dksX3_soon_1 6 rfl rfl)
theorem dX3_soon_31 : decode cX3_soon 31 = .ok (.isub, 1) := dk_100 (dk_at dksX3_soon_1 7 rfl rfl)
theorem dX3_soon_32 : decode cX3_soon 32 = .ok (.iload_n 2, 1) := dk_28 (dk_at dksX3_soon_1 8 rfl rfl)
theorem dX3_soon_33 : decode cX3_soon 33 = .ok (.invokevirtual 415, 3) := dk_182 1 159 (dk_at dksX3_soon_1 9 rfl rfl)
theorem dX3_soon_36 : decode cX3_soon 36 = .ok (.iload_n 1, 1) := dk_27 (dk_at dksX3_soon_1 12 rfl rfl)
theorem dX3_soon_37 : decode cX3_soon 37 = .ok (.i2l, 1) := dk_133 (dk_at dksX3_soon_1 13 rfl rfl)
theorem dX3_soon_38 : decode cX3_soon 38 = .ok (.lcmp, 1) := dk_148 (dk_at dksX3_soon_1 14 rfl rfl)
theorem dX3_soon_39 : decode cX3_soon 39 = .ok (.ifCond .lt 5, 3) := dk_155 0 5 (dk_at dksX3_soon_1 15 rfl rfl)
theorem dX3_soon_42 : decode cX3_soon 42 = .ok (.iload_n 2, 1) := dk_28 (dk_at dksX3_soon_1 18 rfl rfl)
theorem dX3_soon_43 : decode cX3_soon 43 = .ok (.ireturn, 1) := dk_172 (dk_at dksX3_soon_1 19 rfl rfl)
theorem dX3_soon_44 : decode cX3_soon 44 = .ok (.iinc 2 1, 3) := dk_132 2 1 (dk_at dksX3_soon_1 20 rfl rfl)
theorem dX3_soon_47 : decode cX3_soon 47 = .ok (.goto (-32), 3) := dk_167 255 224 (dk_at dksX3_soon_2 0 rfl rfl)
theorem dX3_soon_50 : decode cX3_soon 50 = .ok (.iconst (-1), 1) := dk_2 (dk_at dksX3_soon_2 3 rfl rfl)
theorem dX3_soon_51 : decode cX3_soon 51 = .ok (.ireturn, 1) := dk_172 (dk_at dksX3_soon_2 4 rfl rfl)
abbrev cX3_hurry : ByteArray := prog_17_method_108_code
def yX3_hurry : MethodName := ⟨RX3, "hurry", "(II)I"⟩
def dkwX3_hurry_3 : List UInt8 := [132, 4, 1, 167, 255, 221, 28, 154, 0, 7, 29, 167, 0, 10, 42, 29, 27, 182, 1, 166, 136, 172]
abbrev dktX3_hurry_3 : List UInt8 := dkwX3_hurry_3 ++ []
def dkwX3_hurry_2 : List UInt8 := [162, 0, 29, 42, 21, 4, 27, 182, 1, 166, 42, 29, 27, 182, 1, 166, 148, 158, 0, 6, 21, 4, 62]
abbrev dktX3_hurry_2 : List UInt8 := dkwX3_hurry_2 ++ dktX3_hurry_3
def dkwX3_hurry_1 : List UInt8 := [16, 88, 46, 154, 0, 5, 2, 172, 3, 62, 4, 54, 4, 21, 4, 42, 180, 0, 7, 16, 88, 46]
abbrev dktX3_hurry_1 : List UInt8 := dkwX3_hurry_1 ++ dktX3_hurry_2
def dkwX3_hurry_0 : List UInt8 := [27, 4, 16, 60, 184, 0, 54, 153, 0, 22, 28, 3, 4, 184, 0, 54, 153, 0, 13, 42, 180, 0, 7]
abbrev dktX3_hurry_0 : List UInt8 := dkwX3_hurry_0 ++ dktX3_hurry_1
theorem dksX3_hurry_0 : cX3_hurry.data.toList.drop 0 = dktX3_hurry_0 := by decide +kernel
theorem dksX3_hurry_1 : cX3_hurry.data.toList.drop 23 = dktX3_hurry_1 := dk_seg dksX3_hurry_0 23 rfl rfl
theorem dksX3_hurry_2 : cX3_hurry.data.toList.drop 45 = dktX3_hurry_2 := dk_seg dksX3_hurry_1 22 rfl rfl
theorem dksX3_hurry_3 : cX3_hurry.data.toList.drop 68 = dktX3_hurry_3 := dk_seg dksX3_hurry_2 23 rfl rfl
theorem dX3_hurry_0 : decode cX3_hurry 0 = .ok (.iload_n 1, 1) := dk_27 (dk_at dksX3_hurry_0 0 rfl rfl)
theorem dX3_hurry_1 : decode cX3_hurry 1 = .ok (.iconst 1, 1) := dk_4 (dk_at dksX3_hurry_0 1 rfl rfl)
theorem dX3_hurry_2 : decode cX3_hurry 2 = .ok (.bipush 60, 2) := dk_16 60 (dk_at dksX3_hurry_0 2 rfl rfl)
theorem dX3_hurry_4 : decode cX3_hurry 4 = .ok (.invokestatic 54, 3) := dk_184 0 54 (dk_at dksX3_hurry_0 4 rfl rfl)
theorem dX3_hurry_7 : decode cX3_hurry 7 = .ok (.ifCond .eq 22, 3) := dk_153 0 22 (dk_at dksX3_hurry_0 7 rfl rfl)
theorem dX3_hurry_10 : decode cX3_hurry 10 = .ok (.iload_n 2, 1) := dk_28 (dk_at dksX3_hurry_0 10 rfl rfl)
theorem dX3_hurry_11 : decode cX3_hurry 11 = .ok (.iconst 0, 1) := dk_3 (dk_at dksX3_hurry_0 11 rfl rfl)
theorem dX3_hurry_12 : decode cX3_hurry 12 = .ok (.iconst 1, 1) := dk_4 (dk_at dksX3_hurry_0 12 rfl rfl)
theorem dX3_hurry_13 : decode cX3_hurry 13 = .ok (.invokestatic 54, 3) := dk_184 0 54 (dk_at dksX3_hurry_0 13 rfl rfl)
theorem dX3_hurry_16 : decode cX3_hurry 16 = .ok (.ifCond .eq 13, 3) := dk_153 0 13 (dk_at dksX3_hurry_0 16 rfl rfl)
theorem dX3_hurry_19 : decode cX3_hurry 19 = .ok (.aload_n 0, 1) := dk_42 (dk_at dksX3_hurry_0 19 rfl rfl)
theorem dX3_hurry_20 : decode cX3_hurry 20 = .ok (.getfield 7, 3) := dk_180 0 7 (dk_at dksX3_hurry_0 20 rfl rfl)
theorem dX3_hurry_23 : decode cX3_hurry 23 = .ok (.bipush 88, 2) := dk_16 88 (dk_at dksX3_hurry_1 0 rfl rfl)
theorem dX3_hurry_25 : decode cX3_hurry 25 = .ok (.iaload, 1) := dk_46 (dk_at dksX3_hurry_1 2 rfl rfl)
theorem dX3_hurry_26 : decode cX3_hurry 26 = .ok (.ifCond .ne 5, 3) := dk_154 0 5 (dk_at dksX3_hurry_1 3 rfl rfl)
theorem dX3_hurry_29 : decode cX3_hurry 29 = .ok (.iconst (-1), 1) := dk_2 (dk_at dksX3_hurry_1 6 rfl rfl)
theorem dX3_hurry_30 : decode cX3_hurry 30 = .ok (.ireturn, 1) := dk_172 (dk_at dksX3_hurry_1 7 rfl rfl)
theorem dX3_hurry_31 : decode cX3_hurry 31 = .ok (.iconst 0, 1) := dk_3 (dk_at dksX3_hurry_1 8 rfl rfl)
theorem dX3_hurry_32 : decode cX3_hurry 32 = .ok (.istore_n 3, 1) := dk_62 (dk_at dksX3_hurry_1 9 rfl rfl)
theorem dX3_hurry_33 : decode cX3_hurry 33 = .ok (.iconst 1, 1) := dk_4 (dk_at dksX3_hurry_1 10 rfl rfl)
theorem dX3_hurry_34 : decode cX3_hurry 34 = .ok (.istore 4, 2) := dk_54 4 (dk_at dksX3_hurry_1 11 rfl rfl)
theorem dX3_hurry_36 : decode cX3_hurry 36 = .ok (.iload 4, 2) := dk_21 4 (dk_at dksX3_hurry_1 13 rfl rfl)
theorem dX3_hurry_38 : decode cX3_hurry 38 = .ok (.aload_n 0, 1) := dk_42 (dk_at dksX3_hurry_1 15 rfl rfl)
theorem dX3_hurry_39 : decode cX3_hurry 39 = .ok (.getfield 7, 3) := dk_180 0 7 (dk_at dksX3_hurry_1 16 rfl rfl)
theorem dX3_hurry_42 : decode cX3_hurry 42 = .ok (.bipush 88, 2) := dk_16 88 (dk_at dksX3_hurry_1 19 rfl rfl)
theorem dX3_hurry_44 : decode cX3_hurry 44 = .ok (.iaload, 1) := dk_46 (dk_at dksX3_hurry_1 21 rfl rfl)
theorem dX3_hurry_45 : decode cX3_hurry 45 = .ok (.if_icmp .ge 29, 3) := dk_162 0 29 (dk_at dksX3_hurry_2 0 rfl rfl)
theorem dX3_hurry_48 : decode cX3_hurry 48 = .ok (.aload_n 0, 1) := dk_42 (dk_at dksX3_hurry_2 3 rfl rfl)
theorem dX3_hurry_49 : decode cX3_hurry 49 = .ok (.iload 4, 2) := dk_21 4 (dk_at dksX3_hurry_2 4 rfl rfl)
theorem dX3_hurry_51 : decode cX3_hurry 51 = .ok (.iload_n 1, 1) := dk_27 (dk_at dksX3_hurry_2 6 rfl rfl)
theorem dX3_hurry_52 : decode cX3_hurry 52 = .ok (.invokevirtual 422, 3) := dk_182 1 166 (dk_at dksX3_hurry_2 7 rfl rfl)
theorem dX3_hurry_55 : decode cX3_hurry 55 = .ok (.aload_n 0, 1) := dk_42 (dk_at dksX3_hurry_2 10 rfl rfl)
theorem dX3_hurry_56 : decode cX3_hurry 56 = .ok (.iload_n 3, 1) := dk_29 (dk_at dksX3_hurry_2 11 rfl rfl)
theorem dX3_hurry_57 : decode cX3_hurry 57 = .ok (.iload_n 1, 1) := dk_27 (dk_at dksX3_hurry_2 12 rfl rfl)
theorem dX3_hurry_58 : decode cX3_hurry 58 = .ok (.invokevirtual 422, 3) := dk_182 1 166 (dk_at dksX3_hurry_2 13 rfl rfl)
theorem dX3_hurry_61 : decode cX3_hurry 61 = .ok (.lcmp, 1) := dk_148 (dk_at dksX3_hurry_2 16 rfl rfl)
theorem dX3_hurry_62 : decode cX3_hurry 62 = .ok (.ifCond .le 6, 3) := dk_158 0 6 (dk_at dksX3_hurry_2 17 rfl rfl)
theorem dX3_hurry_65 : decode cX3_hurry 65 = .ok (.iload 4, 2) := dk_21 4 (dk_at dksX3_hurry_2 20 rfl rfl)
theorem dX3_hurry_67 : decode cX3_hurry 67 = .ok (.istore_n 3, 1) := dk_62 (dk_at dksX3_hurry_2 22 rfl rfl)
theorem dX3_hurry_68 : decode cX3_hurry 68 = .ok (.iinc 4 1, 3) := dk_132 4 1 (dk_at dksX3_hurry_3 0 rfl rfl)
theorem dX3_hurry_71 : decode cX3_hurry 71 = .ok (.goto (-35), 3) := dk_167 255 221 (dk_at dksX3_hurry_3 3 rfl rfl)
theorem dX3_hurry_74 : decode cX3_hurry 74 = .ok (.iload_n 2, 1) := dk_28 (dk_at dksX3_hurry_3 6 rfl rfl)
theorem dX3_hurry_75 : decode cX3_hurry 75 = .ok (.ifCond .ne 7, 3) := dk_154 0 7 (dk_at dksX3_hurry_3 7 rfl rfl)
theorem dX3_hurry_78 : decode cX3_hurry 78 = .ok (.iload_n 3, 1) := dk_29 (dk_at dksX3_hurry_3 10 rfl rfl)
theorem dX3_hurry_79 : decode cX3_hurry 79 = .ok (.goto 10, 3) := dk_167 0 10 (dk_at dksX3_hurry_3 11 rfl rfl)
theorem dX3_hurry_82 : decode cX3_hurry 82 = .ok (.aload_n 0, 1) := dk_42 (dk_at dksX3_hurry_3 14 rfl rfl)
theorem dX3_hurry_83 : decode cX3_hurry 83 = .ok (.iload_n 3, 1) := dk_29 (dk_at dksX3_hurry_3 15 rfl rfl)
theorem dX3_hurry_84 : decode cX3_hurry 84 = .ok (.iload_n 1, 1) := dk_27 (dk_at dksX3_hurry_3 16 rfl rfl)
theorem dX3_hurry_85 : decode cX3_hurry 85 = .ok (.invokevirtual 422, 3) := dk_182 1 166 (dk_at dksX3_hurry_3 17 rfl rfl)
theorem dX3_hurry_88 : decode cX3_hurry 88 = .ok (.l2i, 1) := dk_136 (dk_at dksX3_hurry_3 20 rfl rfl)
theorem dX3_hurry_89 : decode cX3_hurry 89 = .ok (.ireturn, 1) := dk_172 (dk_at dksX3_hurry_3 21 rfl rfl)
abbrev cX3_hurriedBy : ByteArray := prog_17_method_107_code
def yX3_hurriedBy : MethodName := ⟨RX3, "hurriedBy", "(II)J"⟩
def dkwX3_hurriedBy_2 : List UInt8 := [22, 4, 173]
abbrev dktX3_hurriedBy_2 : List UInt8 := dkwX3_hurriedBy_2 ++ []
def dkwX3_hurriedBy_1 : List UInt8 := [180, 0, 7, 16, 88, 46, 4, 100, 28, 182, 1, 159, 55, 4, 42, 180, 0, 7, 16, 93, 27, 96, 29, 79]
abbrev dktX3_hurriedBy_1 : List UInt8 := dkwX3_hurriedBy_1 ++ dktX3_hurriedBy_2
def dkwX3_hurriedBy_0 : List UInt8 := [42, 180, 0, 7, 16, 93, 27, 96, 46, 62, 42, 180, 0, 7, 16, 93, 27, 96, 3, 79, 42, 3, 42]
abbrev dktX3_hurriedBy_0 : List UInt8 := dkwX3_hurriedBy_0 ++ dktX3_hurriedBy_1
theorem dksX3_hurriedBy_0 : cX3_hurriedBy.data.toList.drop 0 = dktX3_hurriedBy_0 := by decide +kernel
theorem dksX3_hurriedBy_1 : cX3_hurriedBy.data.toList.drop 23 = dktX3_hurriedBy_1 := dk_seg dksX3_hurriedBy_0 23 rfl rfl
theorem dksX3_hurriedBy_2 : cX3_hurriedBy.data.toList.drop 47 = dktX3_hurriedBy_2 := dk_seg dksX3_hurriedBy_1 24 rfl rfl
theorem dX3_hurriedBy_0 : decode cX3_hurriedBy 0 = .ok (.aload_n 0, 1) := dk_42 (dk_at dksX3_hurriedBy_0 0 rfl rfl)
theorem dX3_hurriedBy_1 : decode cX3_hurriedBy 1 = .ok (.getfield 7, 3) := dk_180 0 7 (dk_at dksX3_hurriedBy_0 1 rfl rfl)
theorem dX3_hurriedBy_4 : decode cX3_hurriedBy 4 = .ok (.bipush 93, 2) := dk_16 93 (dk_at dksX3_hurriedBy_0 4 rfl rfl)
theorem dX3_hurriedBy_6 : decode cX3_hurriedBy 6 = .ok (.iload_n 1, 1) := dk_27 (dk_at dksX3_hurriedBy_0 6 rfl rfl)
theorem dX3_hurriedBy_7 : decode cX3_hurriedBy 7 = .ok (.iadd, 1) := dk_96 (dk_at dksX3_hurriedBy_0 7 rfl rfl)
theorem dX3_hurriedBy_8 : decode cX3_hurriedBy 8 = .ok (.iaload, 1) := dk_46 (dk_at dksX3_hurriedBy_0 8 rfl rfl)
theorem dX3_hurriedBy_9 : decode cX3_hurriedBy 9 = .ok (.istore_n 3, 1) := dk_62 (dk_at dksX3_hurriedBy_0 9 rfl rfl)
theorem dX3_hurriedBy_10 : decode cX3_hurriedBy 10 = .ok (.aload_n 0, 1) := dk_42 (dk_at dksX3_hurriedBy_0 10 rfl rfl)
theorem dX3_hurriedBy_11 : decode cX3_hurriedBy 11 = .ok (.getfield 7, 3) := dk_180 0 7 (dk_at dksX3_hurriedBy_0 11 rfl rfl)
theorem dX3_hurriedBy_14 : decode cX3_hurriedBy 14 = .ok (.bipush 93, 2) := dk_16 93 (dk_at dksX3_hurriedBy_0 14 rfl rfl)
theorem dX3_hurriedBy_16 : decode cX3_hurriedBy 16 = .ok (.iload_n 1, 1) := dk_27 (dk_at dksX3_hurriedBy_0 16 rfl rfl)
theorem dX3_hurriedBy_17 : decode cX3_hurriedBy 17 = .ok (.iadd, 1) := dk_96 (dk_at dksX3_hurriedBy_0 17 rfl rfl)
theorem dX3_hurriedBy_18 : decode cX3_hurriedBy 18 = .ok (.iconst 0, 1) := dk_3 (dk_at dksX3_hurriedBy_0 18 rfl rfl)
theorem dX3_hurriedBy_19 : decode cX3_hurriedBy 19 = .ok (.iastore, 1) := dk_79 (dk_at dksX3_hurriedBy_0 19 rfl rfl)
theorem dX3_hurriedBy_20 : decode cX3_hurriedBy 20 = .ok (.aload_n 0, 1) := dk_42 (dk_at dksX3_hurriedBy_0 20 rfl rfl)
theorem dX3_hurriedBy_21 : decode cX3_hurriedBy 21 = .ok (.iconst 0, 1) := dk_3 (dk_at dksX3_hurriedBy_0 21 rfl rfl)
theorem dX3_hurriedBy_22 : decode cX3_hurriedBy 22 = .ok (.aload_n 0, 1) := dk_42 (dk_at dksX3_hurriedBy_0 22 rfl rfl)
theorem dX3_hurriedBy_23 : decode cX3_hurriedBy 23 = .ok (.getfield 7, 3) := dk_180 0 7 (dk_at dksX3_hurriedBy_1 0 rfl rfl)
theorem dX3_hurriedBy_26 : decode cX3_hurriedBy 26 = .ok (.bipush 88, 2) := dk_16 88 (dk_at dksX3_hurriedBy_1 3 rfl rfl)
theorem dX3_hurriedBy_28 : decode cX3_hurriedBy 28 = .ok (.iaload, 1) := dk_46 (dk_at dksX3_hurriedBy_1 5 rfl rfl)
theorem dX3_hurriedBy_29 : decode cX3_hurriedBy 29 = .ok (.iconst 1, 1) := dk_4 (dk_at dksX3_hurriedBy_1 6 rfl rfl)
theorem dX3_hurriedBy_30 : decode cX3_hurriedBy 30 = .ok (.isub, 1) := dk_100 (dk_at dksX3_hurriedBy_1 7 rfl rfl)
theorem dX3_hurriedBy_31 : decode cX3_hurriedBy 31 = .ok (.iload_n 2, 1) := dk_28 (dk_at dksX3_hurriedBy_1 8 rfl rfl)
theorem dX3_hurriedBy_32 : decode cX3_hurriedBy 32 = .ok (.invokevirtual 415, 3) := dk_182 1 159 (dk_at dksX3_hurriedBy_1 9 rfl rfl)
theorem dX3_hurriedBy_35 : decode cX3_hurriedBy 35 = .ok (.lstore 4, 2) := dk_55 4 (dk_at dksX3_hurriedBy_1 12 rfl rfl)
theorem dX3_hurriedBy_37 : decode cX3_hurriedBy 37 = .ok (.aload_n 0, 1) := dk_42 (dk_at dksX3_hurriedBy_1 14 rfl rfl)
theorem dX3_hurriedBy_38 : decode cX3_hurriedBy 38 = .ok (.getfield 7, 3) := dk_180 0 7 (dk_at dksX3_hurriedBy_1 15 rfl rfl)
theorem dX3_hurriedBy_41 : decode cX3_hurriedBy 41 = .ok (.bipush 93, 2) := dk_16 93 (dk_at dksX3_hurriedBy_1 18 rfl rfl)
theorem dX3_hurriedBy_43 : decode cX3_hurriedBy 43 = .ok (.iload_n 1, 1) := dk_27 (dk_at dksX3_hurriedBy_1 20 rfl rfl)
theorem dX3_hurriedBy_44 : decode cX3_hurriedBy 44 = .ok (.iadd, 1) := dk_96 (dk_at dksX3_hurriedBy_1 21 rfl rfl)
theorem dX3_hurriedBy_45 : decode cX3_hurriedBy 45 = .ok (.iload_n 3, 1) := dk_29 (dk_at dksX3_hurriedBy_1 22 rfl rfl)
theorem dX3_hurriedBy_46 : decode cX3_hurriedBy 46 = .ok (.iastore, 1) := dk_79 (dk_at dksX3_hurriedBy_1 23 rfl rfl)
theorem dX3_hurriedBy_47 : decode cX3_hurriedBy 47 = .ok (.lload 4, 2) := dk_22 4 (dk_at dksX3_hurriedBy_2 0 rfl rfl)
theorem dX3_hurriedBy_49 : decode cX3_hurriedBy 49 = .ok (.lreturn, 1) := dk_173 (dk_at dksX3_hurriedBy_2 2 rfl rfl)
abbrev cX3_split : ByteArray := prog_17_method_109_code
def yX3_split : MethodName := ⟨RX3, "split", "(II)I"⟩
def dkwX3_split_4 : List UInt8 := [132, 6, 1, 167, 255, 192, 29, 2, 159, 0, 7, 28, 154, 0, 7, 29, 167, 0, 6, 22, 4, 136, 172]
abbrev dktX3_split_4 : List UInt8 := dkwX3_split_4 ++ []
def dkwX3_split_3 : List UInt8 := [20, 1, 169, 55, 7, 22, 7, 22, 4, 148, 157, 0, 6, 167, 0, 10, 22, 7, 55, 4, 21, 6, 62]
abbrev dktX3_split_3 : List UInt8 := dkwX3_split_3 ++ dktX3_split_4
def dkwX3_split_2 : List UInt8 := [182, 1, 80, 153, 0, 20, 42, 42, 182, 1, 35, 4, 21, 6, 120, 128, 27, 182, 1, 171, 167, 0, 6]
abbrev dktX3_split_2 : List UInt8 := dkwX3_split_2 ++ dktX3_split_3
def dkwX3_split_1 : List UInt8 := [20, 1, 169, 55, 4, 3, 54, 6, 21, 6, 42, 180, 0, 7, 16, 88, 46, 162, 0, 58, 42, 21, 6]
abbrev dktX3_split_1 : List UInt8 := dkwX3_split_1 ++ dktX3_split_2
def dkwX3_split_0 : List UInt8 := [27, 4, 16, 60, 184, 0, 54, 153, 0, 12, 28, 3, 4, 184, 0, 54, 154, 0, 5, 2, 172, 2, 62]
abbrev dktX3_split_0 : List UInt8 := dkwX3_split_0 ++ dktX3_split_1
theorem dksX3_split_0 : cX3_split.data.toList.drop 0 = dktX3_split_0 := by decide +kernel
theorem dksX3_split_1 : cX3_split.data.toList.drop 23 = dktX3_split_1 := dk_seg dksX3_split_0 23 rfl rfl
theorem dksX3_split_2 : cX3_split.data.toList.drop 46 = dktX3_split_2 := dk_seg dksX3_split_1 23 rfl rfl
theorem dksX3_split_3 : cX3_split.data.toList.drop 69 = dktX3_split_3 := dk_seg dksX3_split_2 23 rfl rfl
theorem dksX3_split_4 : cX3_split.data.toList.drop 92 = dktX3_split_4 := dk_seg dksX3_split_3 23 rfl rfl
theorem dX3_split_0 : decode cX3_split 0 = .ok (.iload_n 1, 1) := dk_27 (dk_at dksX3_split_0 0 rfl rfl)
theorem dX3_split_1 : decode cX3_split 1 = .ok (.iconst 1, 1) := dk_4 (dk_at dksX3_split_0 1 rfl rfl)
theorem dX3_split_2 : decode cX3_split 2 = .ok (.bipush 60, 2) := dk_16 60 (dk_at dksX3_split_0 2 rfl rfl)
theorem dX3_split_4 : decode cX3_split 4 = .ok (.invokestatic 54, 3) := dk_184 0 54 (dk_at dksX3_split_0 4 rfl rfl)
theorem dX3_split_7 : decode cX3_split 7 = .ok (.ifCond .eq 12, 3) := dk_153 0 12 (dk_at dksX3_split_0 7 rfl rfl)
theorem dX3_split_10 : decode cX3_split 10 = .ok (.iload_n 2, 1) := dk_28 (dk_at dksX3_split_0 10 rfl rfl)
theorem dX3_split_11 : decode cX3_split 11 = .ok (.iconst 0, 1) := dk_3 (dk_at dksX3_split_0 11 rfl rfl)
theorem dX3_split_12 : decode cX3_split 12 = .ok (.iconst 1, 1) := dk_4 (dk_at dksX3_split_0 12 rfl rfl)
theorem dX3_split_13 : decode cX3_split 13 = .ok (.invokestatic 54, 3) := dk_184 0 54 (dk_at dksX3_split_0 13 rfl rfl)
theorem dX3_split_16 : decode cX3_split 16 = .ok (.ifCond .ne 5, 3) := dk_154 0 5 (dk_at dksX3_split_0 16 rfl rfl)
theorem dX3_split_19 : decode cX3_split 19 = .ok (.iconst (-1), 1) := dk_2 (dk_at dksX3_split_0 19 rfl rfl)
theorem dX3_split_20 : decode cX3_split 20 = .ok (.ireturn, 1) := dk_172 (dk_at dksX3_split_0 20 rfl rfl)
theorem dX3_split_21 : decode cX3_split 21 = .ok (.iconst (-1), 1) := dk_2 (dk_at dksX3_split_0 21 rfl rfl)
theorem dX3_split_22 : decode cX3_split 22 = .ok (.istore_n 3, 1) := dk_62 (dk_at dksX3_split_0 22 rfl rfl)
theorem dX3_split_23 : decode cX3_split 23 = .ok (.ldc2_w 425, 3) := dk_20 1 169 (dk_at dksX3_split_1 0 rfl rfl)
theorem dX3_split_26 : decode cX3_split 26 = .ok (.lstore 4, 2) := dk_55 4 (dk_at dksX3_split_1 3 rfl rfl)
theorem dX3_split_28 : decode cX3_split 28 = .ok (.iconst 0, 1) := dk_3 (dk_at dksX3_split_1 5 rfl rfl)
theorem dX3_split_29 : decode cX3_split 29 = .ok (.istore 6, 2) := dk_54 6 (dk_at dksX3_split_1 6 rfl rfl)
theorem dX3_split_31 : decode cX3_split 31 = .ok (.iload 6, 2) := dk_21 6 (dk_at dksX3_split_1 8 rfl rfl)
theorem dX3_split_33 : decode cX3_split 33 = .ok (.aload_n 0, 1) := dk_42 (dk_at dksX3_split_1 10 rfl rfl)
theorem dX3_split_34 : decode cX3_split 34 = .ok (.getfield 7, 3) := dk_180 0 7 (dk_at dksX3_split_1 11 rfl rfl)
theorem dX3_split_37 : decode cX3_split 37 = .ok (.bipush 88, 2) := dk_16 88 (dk_at dksX3_split_1 14 rfl rfl)
theorem dX3_split_39 : decode cX3_split 39 = .ok (.iaload, 1) := dk_46 (dk_at dksX3_split_1 16 rfl rfl)
theorem dX3_split_40 : decode cX3_split 40 = .ok (.if_icmp .ge 58, 3) := dk_162 0 58 (dk_at dksX3_split_1 17 rfl rfl)
theorem dX3_split_43 : decode cX3_split 43 = .ok (.aload_n 0, 1) := dk_42 (dk_at dksX3_split_1 20 rfl rfl)
theorem dX3_split_44 : decode cX3_split 44 = .ok (.iload 6, 2) := dk_21 6 (dk_at dksX3_split_1 21 rfl rfl)
theorem dX3_split_46 : decode cX3_split 46 = .ok (.invokevirtual 336, 3) := dk_182 1 80 (dk_at dksX3_split_2 0 rfl rfl)
theorem dX3_split_49 : decode cX3_split 49 = .ok (.ifCond .eq 20, 3) := dk_153 0 20 (dk_at dksX3_split_2 3 rfl rfl)
theorem dX3_split_52 : decode cX3_split 52 = .ok (.aload_n 0, 1) := dk_42 (dk_at dksX3_split_2 6 rfl rfl)
theorem dX3_split_53 : decode cX3_split 53 = .ok (.aload_n 0, 1) := dk_42 (dk_at dksX3_split_2 7 rfl rfl)
theorem dX3_split_54 : decode cX3_split 54 = .ok (.invokevirtual 291, 3) := dk_182 1 35 (dk_at dksX3_split_2 8 rfl rfl)
theorem dX3_split_57 : decode cX3_split 57 = .ok (.iconst 1, 1) := dk_4 (dk_at dksX3_split_2 11 rfl rfl)
theorem dX3_split_58 : decode cX3_split 58 = .ok (.iload 6, 2) := dk_21 6 (dk_at dksX3_split_2 12 rfl rfl)
theorem dX3_split_60 : decode cX3_split 60 = .ok (.ishl, 1) := dk_120 (dk_at dksX3_split_2 14 rfl rfl)
theorem dX3_split_61 : decode cX3_split 61 = .ok (.ior, 1) := dk_128 (dk_at dksX3_split_2 15 rfl rfl)
theorem dX3_split_62 : decode cX3_split 62 = .ok (.iload_n 1, 1) := dk_27 (dk_at dksX3_split_2 16 rfl rfl)
theorem dX3_split_63 : decode cX3_split 63 = .ok (.invokevirtual 427, 3) := dk_182 1 171 (dk_at dksX3_split_2 17 rfl rfl)
theorem dX3_split_66 : decode cX3_split 66 = .ok (.goto 6, 3) := dk_167 0 6 (dk_at dksX3_split_2 20 rfl rfl)
theorem dX3_split_69 : decode cX3_split 69 = .ok (.ldc2_w 425, 3) := dk_20 1 169 (dk_at dksX3_split_3 0 rfl rfl)
theorem dX3_split_72 : decode cX3_split 72 = .ok (.lstore 7, 2) := dk_55 7 (dk_at dksX3_split_3 3 rfl rfl)
theorem dX3_split_74 : decode cX3_split 74 = .ok (.lload 7, 2) := dk_22 7 (dk_at dksX3_split_3 5 rfl rfl)
theorem dX3_split_76 : decode cX3_split 76 = .ok (.lload 4, 2) := dk_22 4 (dk_at dksX3_split_3 7 rfl rfl)
theorem dX3_split_78 : decode cX3_split 78 = .ok (.lcmp, 1) := dk_148 (dk_at dksX3_split_3 9 rfl rfl)
theorem dX3_split_79 : decode cX3_split 79 = .ok (.ifCond .gt 6, 3) := dk_157 0 6 (dk_at dksX3_split_3 10 rfl rfl)
theorem dX3_split_82 : decode cX3_split 82 = .ok (.goto 10, 3) := dk_167 0 10 (dk_at dksX3_split_3 13 rfl rfl)
theorem dX3_split_85 : decode cX3_split 85 = .ok (.lload 7, 2) := dk_22 7 (dk_at dksX3_split_3 16 rfl rfl)
theorem dX3_split_87 : decode cX3_split 87 = .ok (.lstore 4, 2) := dk_55 4 (dk_at dksX3_split_3 18 rfl rfl)
theorem dX3_split_89 : decode cX3_split 89 = .ok (.iload 6, 2) := dk_21 6 (dk_at dksX3_split_3 20 rfl rfl)
theorem dX3_split_91 : decode cX3_split 91 = .ok (.istore_n 3, 1) := dk_62 (dk_at dksX3_split_3 22 rfl rfl)
theorem dX3_split_92 : decode cX3_split 92 = .ok (.iinc 6 1, 3) := dk_132 6 1 (dk_at dksX3_split_4 0 rfl rfl)
theorem dX3_split_95 : decode cX3_split 95 = .ok (.goto (-64), 3) := dk_167 255 192 (dk_at dksX3_split_4 3 rfl rfl)
theorem dX3_split_98 : decode cX3_split 98 = .ok (.iload_n 3, 1) := dk_29 (dk_at dksX3_split_4 6 rfl rfl)
theorem dX3_split_99 : decode cX3_split 99 = .ok (.iconst (-1), 1) := dk_2 (dk_at dksX3_split_4 7 rfl rfl)
theorem dX3_split_100 : decode cX3_split 100 = .ok (.if_icmp .eq 7, 3) := dk_159 0 7 (dk_at dksX3_split_4 8 rfl rfl)
theorem dX3_split_103 : decode cX3_split 103 = .ok (.iload_n 2, 1) := dk_28 (dk_at dksX3_split_4 11 rfl rfl)
theorem dX3_split_104 : decode cX3_split 104 = .ok (.ifCond .ne 7, 3) := dk_154 0 7 (dk_at dksX3_split_4 12 rfl rfl)
theorem dX3_split_107 : decode cX3_split 107 = .ok (.iload_n 3, 1) := dk_29 (dk_at dksX3_split_4 15 rfl rfl)
theorem dX3_split_108 : decode cX3_split 108 = .ok (.goto 6, 3) := dk_167 0 6 (dk_at dksX3_split_4 16 rfl rfl)
theorem dX3_split_111 : decode cX3_split 111 = .ok (.lload 4, 2) := dk_22 4 (dk_at dksX3_split_4 19 rfl rfl)
theorem dX3_split_113 : decode cX3_split 113 = .ok (.l2i, 1) := dk_136 (dk_at dksX3_split_4 21 rfl rfl)
theorem dX3_split_114 : decode cX3_split 114 = .ok (.ireturn, 1) := dk_172 (dk_at dksX3_split_4 22 rfl rfl)
abbrev cX3_leastBy : ByteArray := prog_17_method_105_code
def yX3_leastBy : MethodName := ⟨RX3, "leastBy", "(II)J"⟩
def dkwX3_leastBy_3 : List UInt8 := [180, 0, 7, 16, 88, 46, 167, 0, 5, 21, 6, 54, 5, 167, 255, 182, 33, 173]
abbrev dktX3_leastBy_3 : List UInt8 := dkwX3_leastBy_3 ++ []
def dkwX3_leastBy_2 : List UInt8 := [22, 7, 167, 0, 4, 33, 66, 21, 6, 42, 180, 0, 7, 16, 88, 46, 4, 100, 160, 0, 13, 42]
abbrev dktX3_leastBy_2 : List UInt8 := dkwX3_leastBy_2 ++ dktX3_leastBy_3
def dkwX3_leastBy_1 : List UInt8 := [182, 1, 38, 54, 6, 42, 21, 5, 21, 6, 28, 182, 1, 159, 55, 7, 22, 7, 33, 148, 156, 0, 8]
abbrev dktX3_leastBy_1 : List UInt8 := dkwX3_leastBy_1 ++ dktX3_leastBy_2
def dkwX3_leastBy_0 : List UInt8 := [20, 1, 148, 66, 3, 54, 5, 21, 5, 42, 180, 0, 7, 16, 88, 46, 162, 0, 68, 42, 21, 5, 27]
abbrev dktX3_leastBy_0 : List UInt8 := dkwX3_leastBy_0 ++ dktX3_leastBy_1
theorem dksX3_leastBy_0 : cX3_leastBy.data.toList.drop 0 = dktX3_leastBy_0 := by decide +kernel
theorem dksX3_leastBy_1 : cX3_leastBy.data.toList.drop 23 = dktX3_leastBy_1 := dk_seg dksX3_leastBy_0 23 rfl rfl
theorem dksX3_leastBy_2 : cX3_leastBy.data.toList.drop 46 = dktX3_leastBy_2 := dk_seg dksX3_leastBy_1 23 rfl rfl
theorem dksX3_leastBy_3 : cX3_leastBy.data.toList.drop 68 = dktX3_leastBy_3 := dk_seg dksX3_leastBy_2 22 rfl rfl
theorem dX3_leastBy_0 : decode cX3_leastBy 0 = .ok (.ldc2_w 404, 3) := dk_20 1 148 (dk_at dksX3_leastBy_0 0 rfl rfl)
theorem dX3_leastBy_3 : decode cX3_leastBy 3 = .ok (.lstore_n 3, 1) := dk_66 (dk_at dksX3_leastBy_0 3 rfl rfl)
theorem dX3_leastBy_4 : decode cX3_leastBy 4 = .ok (.iconst 0, 1) := dk_3 (dk_at dksX3_leastBy_0 4 rfl rfl)
theorem dX3_leastBy_5 : decode cX3_leastBy 5 = .ok (.istore 5, 2) := dk_54 5 (dk_at dksX3_leastBy_0 5 rfl rfl)
theorem dX3_leastBy_7 : decode cX3_leastBy 7 = .ok (.iload 5, 2) := dk_21 5 (dk_at dksX3_leastBy_0 7 rfl rfl)
theorem dX3_leastBy_9 : decode cX3_leastBy 9 = .ok (.aload_n 0, 1) := dk_42 (dk_at dksX3_leastBy_0 9 rfl rfl)
theorem dX3_leastBy_10 : decode cX3_leastBy 10 = .ok (.getfield 7, 3) := dk_180 0 7 (dk_at dksX3_leastBy_0 10 rfl rfl)
theorem dX3_leastBy_13 : decode cX3_leastBy 13 = .ok (.bipush 88, 2) := dk_16 88 (dk_at dksX3_leastBy_0 13 rfl rfl)
theorem dX3_leastBy_15 : decode cX3_leastBy 15 = .ok (.iaload, 1) := dk_46 (dk_at dksX3_leastBy_0 15 rfl rfl)
theorem dX3_leastBy_16 : decode cX3_leastBy 16 = .ok (.if_icmp .ge 68, 3) := dk_162 0 68 (dk_at dksX3_leastBy_0 16 rfl rfl)
theorem dX3_leastBy_19 : decode cX3_leastBy 19 = .ok (.aload_n 0, 1) := dk_42 (dk_at dksX3_leastBy_0 19 rfl rfl)
theorem dX3_leastBy_20 : decode cX3_leastBy 20 = .ok (.iload 5, 2) := dk_21 5 (dk_at dksX3_leastBy_0 20 rfl rfl)
theorem dX3_leastBy_22 : decode cX3_leastBy 22 = .ok (.iload_n 1, 1) := dk_27 (dk_at dksX3_leastBy_0 22 rfl rfl)
theorem dX3_leastBy_23 : decode cX3_leastBy 23 = .ok (.invokevirtual 294, 3) := dk_182 1 38 (dk_at dksX3_leastBy_1 0 rfl rfl)
theorem dX3_leastBy_26 : decode cX3_leastBy 26 = .ok (.istore 6, 2) := dk_54 6 (dk_at dksX3_leastBy_1 3 rfl rfl)
theorem dX3_leastBy_28 : decode cX3_leastBy 28 = .ok (.aload_n 0, 1) := dk_42 (dk_at dksX3_leastBy_1 5 rfl rfl)
theorem dX3_leastBy_29 : decode cX3_leastBy 29 = .ok (.iload 5, 2) := dk_21 5 (dk_at dksX3_leastBy_1 6 rfl rfl)
theorem dX3_leastBy_31 : decode cX3_leastBy 31 = .ok (.iload 6, 2) := dk_21 6 (dk_at dksX3_leastBy_1 8 rfl rfl)
theorem dX3_leastBy_33 : decode cX3_leastBy 33 = .ok (.iload_n 2, 1) := dk_28 (dk_at dksX3_leastBy_1 10 rfl rfl)
theorem dX3_leastBy_34 : decode cX3_leastBy 34 = .ok (.invokevirtual 415, 3) := dk_182 1 159 (dk_at dksX3_leastBy_1 11 rfl rfl)
theorem dX3_leastBy_37 : decode cX3_leastBy 37 = .ok (.lstore 7, 2) := dk_55 7 (dk_at dksX3_leastBy_1 14 rfl rfl)
theorem dX3_leastBy_39 : decode cX3_leastBy 39 = .ok (.lload 7, 2) := dk_22 7 (dk_at dksX3_leastBy_1 16 rfl rfl)
theorem dX3_leastBy_41 : decode cX3_leastBy 41 = .ok (.lload_n 3, 1) := dk_33 (dk_at dksX3_leastBy_1 18 rfl rfl)
theorem dX3_leastBy_42 : decode cX3_leastBy 42 = .ok (.lcmp, 1) := dk_148 (dk_at dksX3_leastBy_1 19 rfl rfl)
theorem dX3_leastBy_43 : decode cX3_leastBy 43 = .ok (.ifCond .ge 8, 3) := dk_156 0 8 (dk_at dksX3_leastBy_1 20 rfl rfl)
theorem dX3_leastBy_46 : decode cX3_leastBy 46 = .ok (.lload 7, 2) := dk_22 7 (dk_at dksX3_leastBy_2 0 rfl rfl)
theorem dX3_leastBy_48 : decode cX3_leastBy 48 = .ok (.goto 4, 3) := dk_167 0 4 (dk_at dksX3_leastBy_2 2 rfl rfl)
theorem dX3_leastBy_51 : decode cX3_leastBy 51 = .ok (.lload_n 3, 1) := dk_33 (dk_at dksX3_leastBy_2 5 rfl rfl)
theorem dX3_leastBy_52 : decode cX3_leastBy 52 = .ok (.lstore_n 3, 1) := dk_66 (dk_at dksX3_leastBy_2 6 rfl rfl)
theorem dX3_leastBy_53 : decode cX3_leastBy 53 = .ok (.iload 6, 2) := dk_21 6 (dk_at dksX3_leastBy_2 7 rfl rfl)
theorem dX3_leastBy_55 : decode cX3_leastBy 55 = .ok (.aload_n 0, 1) := dk_42 (dk_at dksX3_leastBy_2 9 rfl rfl)
theorem dX3_leastBy_56 : decode cX3_leastBy 56 = .ok (.getfield 7, 3) := dk_180 0 7 (dk_at dksX3_leastBy_2 10 rfl rfl)
theorem dX3_leastBy_59 : decode cX3_leastBy 59 = .ok (.bipush 88, 2) := dk_16 88 (dk_at dksX3_leastBy_2 13 rfl rfl)
theorem dX3_leastBy_61 : decode cX3_leastBy 61 = .ok (.iaload, 1) := dk_46 (dk_at dksX3_leastBy_2 15 rfl rfl)
theorem dX3_leastBy_62 : decode cX3_leastBy 62 = .ok (.iconst 1, 1) := dk_4 (dk_at dksX3_leastBy_2 16 rfl rfl)
theorem dX3_leastBy_63 : decode cX3_leastBy 63 = .ok (.isub, 1) := dk_100 (dk_at dksX3_leastBy_2 17 rfl rfl)
theorem dX3_leastBy_64 : decode cX3_leastBy 64 = .ok (.if_icmp .ne 13, 3) := dk_160 0 13 (dk_at dksX3_leastBy_2 18 rfl rfl)
theorem dX3_leastBy_67 : decode cX3_leastBy 67 = .ok (.aload_n 0, 1) := dk_42 (dk_at dksX3_leastBy_2 21 rfl rfl)
theorem dX3_leastBy_68 : decode cX3_leastBy 68 = .ok (.getfield 7, 3) := dk_180 0 7 (dk_at dksX3_leastBy_3 0 rfl rfl)
theorem dX3_leastBy_71 : decode cX3_leastBy 71 = .ok (.bipush 88, 2) := dk_16 88 (dk_at dksX3_leastBy_3 3 rfl rfl)
theorem dX3_leastBy_73 : decode cX3_leastBy 73 = .ok (.iaload, 1) := dk_46 (dk_at dksX3_leastBy_3 5 rfl rfl)
theorem dX3_leastBy_74 : decode cX3_leastBy 74 = .ok (.goto 5, 3) := dk_167 0 5 (dk_at dksX3_leastBy_3 6 rfl rfl)
theorem dX3_leastBy_77 : decode cX3_leastBy 77 = .ok (.iload 6, 2) := dk_21 6 (dk_at dksX3_leastBy_3 9 rfl rfl)
theorem dX3_leastBy_79 : decode cX3_leastBy 79 = .ok (.istore 5, 2) := dk_54 5 (dk_at dksX3_leastBy_3 11 rfl rfl)
theorem dX3_leastBy_81 : decode cX3_leastBy 81 = .ok (.goto (-74), 3) := dk_167 255 182 (dk_at dksX3_leastBy_3 13 rfl rfl)
theorem dX3_leastBy_84 : decode cX3_leastBy 84 = .ok (.lload_n 3, 1) := dk_33 (dk_at dksX3_leastBy_3 16 rfl rfl)
theorem dX3_leastBy_85 : decode cX3_leastBy 85 = .ok (.lreturn, 1) := dk_173 (dk_at dksX3_leastBy_3 17 rfl rfl)
abbrev cX3_bridges : ByteArray := prog_17_method_112_code
def yX3_bridges : MethodName := ⟨RX3, "bridges", "(III)I"⟩
def dkwX3_bridges_7 : List UInt8 := [182, 1, 177, 104, 172]
abbrev dktX3_bridges_7 : List UInt8 := dkwX3_bridges_7 ++ []
def dkwX3_bridges_6 : List UInt8 := [167, 255, 160, 21, 5, 2, 159, 0, 8, 29, 4, 160, 0, 8, 21, 5, 167, 0, 11, 27, 42, 21, 5]
abbrev dktX3_bridges_6 : List UInt8 := dkwX3_bridges_6 ++ dktX3_bridges_7
def dkwX3_bridges_5 : List UInt8 := [21, 6, 128, 27, 182, 1, 171, 28, 133, 148, 156, 0, 6, 167, 0, 7, 21, 6, 54, 5, 132, 6, 1]
abbrev dktX3_bridges_5 : List UInt8 := dkwX3_bridges_5 ++ dktX3_bridges_6
def dkwX3_bridges_4 : List UInt8 := [21, 7, 154, 0, 16, 21, 6, 184, 1, 142, 21, 5, 184, 1, 142, 162, 0, 28, 42, 42, 182, 1, 35]
abbrev dktX3_bridges_4 : List UInt8 := dkwX3_bridges_4 ++ dktX3_bridges_5
def dkwX3_bridges_3 : List UInt8 := [167, 0, 16, 42, 21, 6, 182, 1, 177, 42, 21, 5, 182, 1, 177, 100, 54, 7, 21, 7, 157, 0, 46]
abbrev dktX3_bridges_3 : List UInt8 := dkwX3_bridges_3 ++ dktX3_bridges_4
def dkwX3_bridges_2 : List UInt8 := [163, 0, 95, 21, 6, 21, 4, 2, 130, 126, 153, 0, 6, 167, 0, 76, 21, 5, 2, 160, 0, 7, 2]
abbrev dktX3_bridges_2 : List UInt8 := dkwX3_bridges_2 ++ dktX3_bridges_3
def dkwX3_bridges_1 : List UInt8 := [184, 0, 54, 154, 0, 5, 2, 172, 42, 182, 1, 174, 54, 4, 2, 54, 5, 3, 54, 6, 21, 6, 21, 4]
abbrev dktX3_bridges_1 : List UInt8 := dkwX3_bridges_1 ++ dktX3_bridges_2
def dkwX3_bridges_0 : List UInt8 := [27, 4, 16, 60, 184, 0, 54, 153, 0, 23, 28, 3, 19, 1, 165, 184, 0, 54, 153, 0, 12, 29, 3, 4]
abbrev dktX3_bridges_0 : List UInt8 := dkwX3_bridges_0 ++ dktX3_bridges_1
theorem dksX3_bridges_0 : cX3_bridges.data.toList.drop 0 = dktX3_bridges_0 := by decide +kernel
theorem dksX3_bridges_1 : cX3_bridges.data.toList.drop 24 = dktX3_bridges_1 := dk_seg dksX3_bridges_0 24 rfl rfl
theorem dksX3_bridges_2 : cX3_bridges.data.toList.drop 48 = dktX3_bridges_2 := dk_seg dksX3_bridges_1 24 rfl rfl
theorem dksX3_bridges_3 : cX3_bridges.data.toList.drop 71 = dktX3_bridges_3 := dk_seg dksX3_bridges_2 23 rfl rfl
theorem dksX3_bridges_4 : cX3_bridges.data.toList.drop 94 = dktX3_bridges_4 := dk_seg dksX3_bridges_3 23 rfl rfl
theorem dksX3_bridges_5 : cX3_bridges.data.toList.drop 117 = dktX3_bridges_5 := dk_seg dksX3_bridges_4 23 rfl rfl
theorem dksX3_bridges_6 : cX3_bridges.data.toList.drop 140 = dktX3_bridges_6 := dk_seg dksX3_bridges_5 23 rfl rfl
theorem dksX3_bridges_7 : cX3_bridges.data.toList.drop 163 = dktX3_bridges_7 := dk_seg dksX3_bridges_6 23 rfl rfl
theorem dX3_bridges_0 : decode cX3_bridges 0 = .ok (.iload_n 1, 1) := dk_27 (dk_at dksX3_bridges_0 0 rfl rfl)
theorem dX3_bridges_1 : decode cX3_bridges 1 = .ok (.iconst 1, 1) := dk_4 (dk_at dksX3_bridges_0 1 rfl rfl)
theorem dX3_bridges_2 : decode cX3_bridges 2 = .ok (.bipush 60, 2) := dk_16 60 (dk_at dksX3_bridges_0 2 rfl rfl)
theorem dX3_bridges_4 : decode cX3_bridges 4 = .ok (.invokestatic 54, 3) := dk_184 0 54 (dk_at dksX3_bridges_0 4 rfl rfl)
theorem dX3_bridges_7 : decode cX3_bridges 7 = .ok (.ifCond .eq 23, 3) := dk_153 0 23 (dk_at dksX3_bridges_0 7 rfl rfl)
theorem dX3_bridges_10 : decode cX3_bridges 10 = .ok (.iload_n 2, 1) := dk_28 (dk_at dksX3_bridges_0 10 rfl rfl)
theorem dX3_bridges_11 : decode cX3_bridges 11 = .ok (.iconst 0, 1) := dk_3 (dk_at dksX3_bridges_0 11 rfl rfl)
theorem dX3_bridges_12 : decode cX3_bridges 12 = .ok (.ldc_w 421, 3) := dk_19 1 165 (dk_at dksX3_bridges_0 12 rfl rfl)
theorem dX3_bridges_15 : decode cX3_bridges 15 = .ok (.invokestatic 54, 3) := dk_184 0 54 (dk_at dksX3_bridges_0 15 rfl rfl)
theorem dX3_bridges_18 : decode cX3_bridges 18 = .ok (.ifCond .eq 12, 3) := dk_153 0 12 (dk_at dksX3_bridges_0 18 rfl rfl)
theorem dX3_bridges_21 : decode cX3_bridges 21 = .ok (.iload_n 3, 1) := dk_29 (dk_at dksX3_bridges_0 21 rfl rfl)
theorem dX3_bridges_22 : decode cX3_bridges 22 = .ok (.iconst 0, 1) := dk_3 (dk_at dksX3_bridges_0 22 rfl rfl)
theorem dX3_bridges_23 : decode cX3_bridges 23 = .ok (.iconst 1, 1) := dk_4 (dk_at dksX3_bridges_0 23 rfl rfl)
theorem dX3_bridges_24 : decode cX3_bridges 24 = .ok (.invokestatic 54, 3) := dk_184 0 54 (dk_at dksX3_bridges_1 0 rfl rfl)
theorem dX3_bridges_27 : decode cX3_bridges 27 = .ok (.ifCond .ne 5, 3) := dk_154 0 5 (dk_at dksX3_bridges_1 3 rfl rfl)
theorem dX3_bridges_30 : decode cX3_bridges 30 = .ok (.iconst (-1), 1) := dk_2 (dk_at dksX3_bridges_1 6 rfl rfl)
theorem dX3_bridges_31 : decode cX3_bridges 31 = .ok (.ireturn, 1) := dk_172 (dk_at dksX3_bridges_1 7 rfl rfl)
theorem dX3_bridges_32 : decode cX3_bridges 32 = .ok (.aload_n 0, 1) := dk_42 (dk_at dksX3_bridges_1 8 rfl rfl)
theorem dX3_bridges_33 : decode cX3_bridges 33 = .ok (.invokevirtual 430, 3) := dk_182 1 174 (dk_at dksX3_bridges_1 9 rfl rfl)
theorem dX3_bridges_36 : decode cX3_bridges 36 = .ok (.istore 4, 2) := dk_54 4 (dk_at dksX3_bridges_1 12 rfl rfl)
theorem dX3_bridges_38 : decode cX3_bridges 38 = .ok (.iconst (-1), 1) := dk_2 (dk_at dksX3_bridges_1 14 rfl rfl)
theorem dX3_bridges_39 : decode cX3_bridges 39 = .ok (.istore 5, 2) := dk_54 5 (dk_at dksX3_bridges_1 15 rfl rfl)
theorem dX3_bridges_41 : decode cX3_bridges 41 = .ok (.iconst 0, 1) := dk_3 (dk_at dksX3_bridges_1 17 rfl rfl)
theorem dX3_bridges_42 : decode cX3_bridges 42 = .ok (.istore 6, 2) := dk_54 6 (dk_at dksX3_bridges_1 18 rfl rfl)
theorem dX3_bridges_44 : decode cX3_bridges 44 = .ok (.iload 6, 2) := dk_21 6 (dk_at dksX3_bridges_1 20 rfl rfl)
theorem dX3_bridges_46 : decode cX3_bridges 46 = .ok (.iload 4, 2) := dk_21 4 (dk_at dksX3_bridges_1 22 rfl rfl)
theorem dX3_bridges_48 : decode cX3_bridges 48 = .ok (.if_icmp .gt 95, 3) := dk_163 0 95 (dk_at dksX3_bridges_2 0 rfl rfl)
theorem dX3_bridges_51 : decode cX3_bridges 51 = .ok (.iload 6, 2) := dk_21 6 (dk_at dksX3_bridges_2 3 rfl rfl)
theorem dX3_bridges_53 : decode cX3_bridges 53 = .ok (.iload 4, 2) := dk_21 4 (dk_at dksX3_bridges_2 5 rfl rfl)
theorem dX3_bridges_55 : decode cX3_bridges 55 = .ok (.iconst (-1), 1) := dk_2 (dk_at dksX3_bridges_2 7 rfl rfl)
theorem dX3_bridges_56 : decode cX3_bridges 56 = .ok (.ixor, 1) := dk_130 (dk_at dksX3_bridges_2 8 rfl rfl)
theorem dX3_bridges_57 : decode cX3_bridges 57 = .ok (.iand, 1) := dk_126 (dk_at dksX3_bridges_2 9 rfl rfl)
theorem dX3_bridges_58 : decode cX3_bridges 58 = .ok (.ifCond .eq 6, 3) := dk_153 0 6 (dk_at dksX3_bridges_2 10 rfl rfl)
theorem dX3_bridges_61 : decode cX3_bridges 61 = .ok (.goto 76, 3) := dk_167 0 76 (dk_at dksX3_bridges_2 13 rfl rfl)
theorem dX3_bridges_64 : decode cX3_bridges 64 = .ok (.iload 5, 2) := dk_21 5 (dk_at dksX3_bridges_2 16 rfl rfl)
theorem dX3_bridges_66 : decode cX3_bridges 66 = .ok (.iconst (-1), 1) := dk_2 (dk_at dksX3_bridges_2 18 rfl rfl)
theorem dX3_bridges_67 : decode cX3_bridges 67 = .ok (.if_icmp .ne 7, 3) := dk_160 0 7 (dk_at dksX3_bridges_2 19 rfl rfl)
theorem dX3_bridges_70 : decode cX3_bridges 70 = .ok (.iconst (-1), 1) := dk_2 (dk_at dksX3_bridges_2 22 rfl rfl)
theorem dX3_bridges_71 : decode cX3_bridges 71 = .ok (.goto 16, 3) := dk_167 0 16 (dk_at dksX3_bridges_3 0 rfl rfl)
theorem dX3_bridges_74 : decode cX3_bridges 74 = .ok (.aload_n 0, 1) := dk_42 (dk_at dksX3_bridges_3 3 rfl rfl)
theorem dX3_bridges_75 : decode cX3_bridges 75 = .ok (.iload 6, 2) := dk_21 6 (dk_at dksX3_bridges_3 4 rfl rfl)
theorem dX3_bridges_77 : decode cX3_bridges 77 = .ok (.invokevirtual 433, 3) := dk_182 1 177 (dk_at dksX3_bridges_3 6 rfl rfl)
theorem dX3_bridges_80 : decode cX3_bridges 80 = .ok (.aload_n 0, 1) := dk_42 (dk_at dksX3_bridges_3 9 rfl rfl)
theorem dX3_bridges_81 : decode cX3_bridges 81 = .ok (.iload 5, 2) := dk_21 5 (dk_at dksX3_bridges_3 10 rfl rfl)
theorem dX3_bridges_83 : decode cX3_bridges 83 = .ok (.invokevirtual 433, 3) := dk_182 1 177 (dk_at dksX3_bridges_3 12 rfl rfl)
theorem dX3_bridges_86 : decode cX3_bridges 86 = .ok (.isub, 1) := dk_100 (dk_at dksX3_bridges_3 15 rfl rfl)
theorem dX3_bridges_87 : decode cX3_bridges 87 = .ok (.istore 7, 2) := dk_54 7 (dk_at dksX3_bridges_3 16 rfl rfl)
theorem dX3_bridges_89 : decode cX3_bridges 89 = .ok (.iload 7, 2) := dk_21 7 (dk_at dksX3_bridges_3 18 rfl rfl)
theorem dX3_bridges_91 : decode cX3_bridges 91 = .ok (.ifCond .gt 46, 3) := dk_157 0 46 (dk_at dksX3_bridges_3 20 rfl rfl)
theorem dX3_bridges_94 : decode cX3_bridges 94 = .ok (.iload 7, 2) := dk_21 7 (dk_at dksX3_bridges_4 0 rfl rfl)
theorem dX3_bridges_96 : decode cX3_bridges 96 = .ok (.ifCond .ne 16, 3) := dk_154 0 16 (dk_at dksX3_bridges_4 2 rfl rfl)
theorem dX3_bridges_99 : decode cX3_bridges 99 = .ok (.iload 6, 2) := dk_21 6 (dk_at dksX3_bridges_4 5 rfl rfl)
theorem dX3_bridges_101 : decode cX3_bridges 101 = .ok (.invokestatic 398, 3) := dk_184 1 142 (dk_at dksX3_bridges_4 7 rfl rfl)
theorem dX3_bridges_104 : decode cX3_bridges 104 = .ok (.iload 5, 2) := dk_21 5 (dk_at dksX3_bridges_4 10 rfl rfl)
theorem dX3_bridges_106 : decode cX3_bridges 106 = .ok (.invokestatic 398, 3) := dk_184 1 142 (dk_at dksX3_bridges_4 12 rfl rfl)
theorem dX3_bridges_109 : decode cX3_bridges 109 = .ok (.if_icmp .ge 28, 3) := dk_162 0 28 (dk_at dksX3_bridges_4 15 rfl rfl)
theorem dX3_bridges_112 : decode cX3_bridges 112 = .ok (.aload_n 0, 1) := dk_42 (dk_at dksX3_bridges_4 18 rfl rfl)
theorem dX3_bridges_113 : decode cX3_bridges 113 = .ok (.aload_n 0, 1) := dk_42 (dk_at dksX3_bridges_4 19 rfl rfl)
theorem dX3_bridges_114 : decode cX3_bridges 114 = .ok (.invokevirtual 291, 3) := dk_182 1 35 (dk_at dksX3_bridges_4 20 rfl rfl)
theorem dX3_bridges_117 : decode cX3_bridges 117 = .ok (.iload 6, 2) := dk_21 6 (dk_at dksX3_bridges_5 0 rfl rfl)
theorem dX3_bridges_119 : decode cX3_bridges 119 = .ok (.ior, 1) := dk_128 (dk_at dksX3_bridges_5 2 rfl rfl)
theorem dX3_bridges_120 : decode cX3_bridges 120 = .ok (.iload_n 1, 1) := dk_27 (dk_at dksX3_bridges_5 3 rfl rfl)
theorem dX3_bridges_121 : decode cX3_bridges 121 = .ok (.invokevirtual 427, 3) := dk_182 1 171 (dk_at dksX3_bridges_5 4 rfl rfl)
theorem dX3_bridges_124 : decode cX3_bridges 124 = .ok (.iload_n 2, 1) := dk_28 (dk_at dksX3_bridges_5 7 rfl rfl)
theorem dX3_bridges_125 : decode cX3_bridges 125 = .ok (.i2l, 1) := dk_133 (dk_at dksX3_bridges_5 8 rfl rfl)
theorem dX3_bridges_126 : decode cX3_bridges 126 = .ok (.lcmp, 1) := dk_148 (dk_at dksX3_bridges_5 9 rfl rfl)
theorem dX3_bridges_127 : decode cX3_bridges 127 = .ok (.ifCond .ge 6, 3) := dk_156 0 6 (dk_at dksX3_bridges_5 10 rfl rfl)
theorem dX3_bridges_130 : decode cX3_bridges 130 = .ok (.goto 7, 3) := dk_167 0 7 (dk_at dksX3_bridges_5 13 rfl rfl)
theorem dX3_bridges_133 : decode cX3_bridges 133 = .ok (.iload 6, 2) := dk_21 6 (dk_at dksX3_bridges_5 16 rfl rfl)
theorem dX3_bridges_135 : decode cX3_bridges 135 = .ok (.istore 5, 2) := dk_54 5 (dk_at dksX3_bridges_5 18 rfl rfl)
theorem dX3_bridges_137 : decode cX3_bridges 137 = .ok (.iinc 6 1, 3) := dk_132 6 1 (dk_at dksX3_bridges_5 20 rfl rfl)
theorem dX3_bridges_140 : decode cX3_bridges 140 = .ok (.goto (-96), 3) := dk_167 255 160 (dk_at dksX3_bridges_6 0 rfl rfl)
theorem dX3_bridges_143 : decode cX3_bridges 143 = .ok (.iload 5, 2) := dk_21 5 (dk_at dksX3_bridges_6 3 rfl rfl)
theorem dX3_bridges_145 : decode cX3_bridges 145 = .ok (.iconst (-1), 1) := dk_2 (dk_at dksX3_bridges_6 5 rfl rfl)
theorem dX3_bridges_146 : decode cX3_bridges 146 = .ok (.if_icmp .eq 8, 3) := dk_159 0 8 (dk_at dksX3_bridges_6 6 rfl rfl)
theorem dX3_bridges_149 : decode cX3_bridges 149 = .ok (.iload_n 3, 1) := dk_29 (dk_at dksX3_bridges_6 9 rfl rfl)
theorem dX3_bridges_150 : decode cX3_bridges 150 = .ok (.iconst 1, 1) := dk_4 (dk_at dksX3_bridges_6 10 rfl rfl)
theorem dX3_bridges_151 : decode cX3_bridges 151 = .ok (.if_icmp .ne 8, 3) := dk_160 0 8 (dk_at dksX3_bridges_6 11 rfl rfl)
theorem dX3_bridges_154 : decode cX3_bridges 154 = .ok (.iload 5, 2) := dk_21 5 (dk_at dksX3_bridges_6 14 rfl rfl)
theorem dX3_bridges_156 : decode cX3_bridges 156 = .ok (.goto 11, 3) := dk_167 0 11 (dk_at dksX3_bridges_6 16 rfl rfl)
theorem dX3_bridges_159 : decode cX3_bridges 159 = .ok (.iload_n 1, 1) := dk_27 (dk_at dksX3_bridges_6 19 rfl rfl)
theorem dX3_bridges_160 : decode cX3_bridges 160 = .ok (.aload_n 0, 1) := dk_42 (dk_at dksX3_bridges_6 20 rfl rfl)
theorem dX3_bridges_161 : decode cX3_bridges 161 = .ok (.iload 5, 2) := dk_21 5 (dk_at dksX3_bridges_6 21 rfl rfl)
theorem dX3_bridges_163 : decode cX3_bridges 163 = .ok (.invokevirtual 433, 3) := dk_182 1 177 (dk_at dksX3_bridges_7 0 rfl rfl)
theorem dX3_bridges_166 : decode cX3_bridges 166 = .ok (.imul, 1) := dk_104 (dk_at dksX3_bridges_7 3 rfl rfl)
theorem dX3_bridges_167 : decode cX3_bridges 167 = .ok (.ireturn, 1) := dk_172 (dk_at dksX3_bridges_7 4 rfl rfl)
abbrev cX3_bridgeable : ByteArray := prog_17_method_111_code
def yX3_bridgeable : MethodName := ⟨RX3, "bridgeable", "()I"⟩
def dkwX3_bridgeable_1 : List UInt8 := [4, 28, 120, 167, 0, 4, 3, 128, 60, 132, 2, 1, 167, 255, 224, 27, 172]
abbrev dktX3_bridgeable_1 : List UInt8 := dkwX3_bridgeable_1 ++ []
def dkwX3_bridgeable_0 : List UInt8 := [3, 60, 3, 61, 28, 42, 180, 0, 7, 16, 88, 46, 162, 0, 27, 27, 42, 28, 182, 1, 80, 153, 0, 9]
abbrev dktX3_bridgeable_0 : List UInt8 := dkwX3_bridgeable_0 ++ dktX3_bridgeable_1
theorem dksX3_bridgeable_0 : cX3_bridgeable.data.toList.drop 0 = dktX3_bridgeable_0 := by decide +kernel
theorem dksX3_bridgeable_1 : cX3_bridgeable.data.toList.drop 24 = dktX3_bridgeable_1 := dk_seg dksX3_bridgeable_0 24 rfl rfl
theorem dX3_bridgeable_0 : decode cX3_bridgeable 0 = .ok (.iconst 0, 1) := dk_3 (dk_at dksX3_bridgeable_0 0 rfl rfl)
theorem dX3_bridgeable_1 : decode cX3_bridgeable 1 = .ok (.istore_n 1, 1) := dk_60 (dk_at dksX3_bridgeable_0 1 rfl rfl)
theorem dX3_bridgeable_2 : decode cX3_bridgeable 2 = .ok (.iconst 0, 1) := dk_3 (dk_at dksX3_bridgeable_0 2 rfl rfl)
theorem dX3_bridgeable_3 : decode cX3_bridgeable 3 = .ok (.istore_n 2, 1) := dk_61 (dk_at dksX3_bridgeable_0 3 rfl rfl)
theorem dX3_bridgeable_4 : decode cX3_bridgeable 4 = .ok (.iload_n 2, 1) := dk_28 (dk_at dksX3_bridgeable_0 4 rfl rfl)
theorem dX3_bridgeable_5 : decode cX3_bridgeable 5 = .ok (.aload_n 0, 1) := dk_42 (dk_at dksX3_bridgeable_0 5 rfl rfl)
theorem dX3_bridgeable_6 : decode cX3_bridgeable 6 = .ok (.getfield 7, 3) := dk_180 0 7 (dk_at dksX3_bridgeable_0 6 rfl rfl)
theorem dX3_bridgeable_9 : decode cX3_bridgeable 9 = .ok (.bipush 88, 2) := dk_16 88 (dk_at dksX3_bridgeable_0 9 rfl rfl)
theorem dX3_bridgeable_11 : decode cX3_bridgeable 11 = .ok (.iaload, 1) := dk_46 (dk_at dksX3_bridgeable_0 11 rfl rfl)
theorem dX3_bridgeable_12 : decode cX3_bridgeable 12 = .ok (.if_icmp .ge 27, 3) := dk_162 0 27 (dk_at dksX3_bridgeable_0 12 rfl rfl)
theorem dX3_bridgeable_15 : decode cX3_bridgeable 15 = .ok (.iload_n 1, 1) := dk_27 (dk_at dksX3_bridgeable_0 15 rfl rfl)
theorem dX3_bridgeable_16 : decode cX3_bridgeable 16 = .ok (.aload_n 0, 1) := dk_42 (dk_at dksX3_bridgeable_0 16 rfl rfl)
theorem dX3_bridgeable_17 : decode cX3_bridgeable 17 = .ok (.iload_n 2, 1) := dk_28 (dk_at dksX3_bridgeable_0 17 rfl rfl)
theorem dX3_bridgeable_18 : decode cX3_bridgeable 18 = .ok (.invokevirtual 336, 3) := dk_182 1 80 (dk_at dksX3_bridgeable_0 18 rfl rfl)
theorem dX3_bridgeable_21 : decode cX3_bridgeable 21 = .ok (.ifCond .eq 9, 3) := dk_153 0 9 (dk_at dksX3_bridgeable_0 21 rfl rfl)
theorem dX3_bridgeable_24 : decode cX3_bridgeable 24 = .ok (.iconst 1, 1) := dk_4 (dk_at dksX3_bridgeable_1 0 rfl rfl)
theorem dX3_bridgeable_25 : decode cX3_bridgeable 25 = .ok (.iload_n 2, 1) := dk_28 (dk_at dksX3_bridgeable_1 1 rfl rfl)
theorem dX3_bridgeable_26 : decode cX3_bridgeable 26 = .ok (.ishl, 1) := dk_120 (dk_at dksX3_bridgeable_1 2 rfl rfl)
theorem dX3_bridgeable_27 : decode cX3_bridgeable 27 = .ok (.goto 4, 3) := dk_167 0 4 (dk_at dksX3_bridgeable_1 3 rfl rfl)
theorem dX3_bridgeable_30 : decode cX3_bridgeable 30 = .ok (.iconst 0, 1) := dk_3 (dk_at dksX3_bridgeable_1 6 rfl rfl)
theorem dX3_bridgeable_31 : decode cX3_bridgeable 31 = .ok (.ior, 1) := dk_128 (dk_at dksX3_bridgeable_1 7 rfl rfl)
theorem dX3_bridgeable_32 : decode cX3_bridgeable 32 = .ok (.istore_n 1, 1) := dk_60 (dk_at dksX3_bridgeable_1 8 rfl rfl)
theorem dX3_bridgeable_33 : decode cX3_bridgeable 33 = .ok (.iinc 2 1, 3) := dk_132 2 1 (dk_at dksX3_bridgeable_1 9 rfl rfl)
theorem dX3_bridgeable_36 : decode cX3_bridgeable 36 = .ok (.goto (-32), 3) := dk_167 255 224 (dk_at dksX3_bridgeable_1 12 rfl rfl)
theorem dX3_bridgeable_39 : decode cX3_bridgeable 39 = .ok (.iload_n 1, 1) := dk_27 (dk_at dksX3_bridgeable_1 15 rfl rfl)
theorem dX3_bridgeable_40 : decode cX3_bridgeable 40 = .ok (.ireturn, 1) := dk_172 (dk_at dksX3_bridgeable_1 16 rfl rfl)
abbrev cX3_costsOf : ByteArray := prog_17_method_110_code
def yX3_costsOf : MethodName := ⟨RX3, "costsOf", "(I)I"⟩
def dkwX3_costsOf_1 : List UInt8 := [160, 0, 11, 42, 29, 182, 1, 129, 167, 0, 4, 3, 96, 61, 132, 3, 1, 167, 255, 221, 28, 172]
abbrev dktX3_costsOf_1 : List UInt8 := dkwX3_costsOf_1 ++ []
def dkwX3_costsOf_0 : List UInt8 := [3, 61, 3, 62, 29, 42, 180, 0, 7, 16, 88, 46, 162, 0, 30, 28, 27, 29, 122, 4, 126, 4]
abbrev dktX3_costsOf_0 : List UInt8 := dkwX3_costsOf_0 ++ dktX3_costsOf_1
theorem dksX3_costsOf_0 : cX3_costsOf.data.toList.drop 0 = dktX3_costsOf_0 := by decide +kernel
theorem dksX3_costsOf_1 : cX3_costsOf.data.toList.drop 22 = dktX3_costsOf_1 := dk_seg dksX3_costsOf_0 22 rfl rfl
theorem dX3_costsOf_0 : decode cX3_costsOf 0 = .ok (.iconst 0, 1) := dk_3 (dk_at dksX3_costsOf_0 0 rfl rfl)
theorem dX3_costsOf_1 : decode cX3_costsOf 1 = .ok (.istore_n 2, 1) := dk_61 (dk_at dksX3_costsOf_0 1 rfl rfl)
theorem dX3_costsOf_2 : decode cX3_costsOf 2 = .ok (.iconst 0, 1) := dk_3 (dk_at dksX3_costsOf_0 2 rfl rfl)
theorem dX3_costsOf_3 : decode cX3_costsOf 3 = .ok (.istore_n 3, 1) := dk_62 (dk_at dksX3_costsOf_0 3 rfl rfl)
theorem dX3_costsOf_4 : decode cX3_costsOf 4 = .ok (.iload_n 3, 1) := dk_29 (dk_at dksX3_costsOf_0 4 rfl rfl)
theorem dX3_costsOf_5 : decode cX3_costsOf 5 = .ok (.aload_n 0, 1) := dk_42 (dk_at dksX3_costsOf_0 5 rfl rfl)
theorem dX3_costsOf_6 : decode cX3_costsOf 6 = .ok (.getfield 7, 3) := dk_180 0 7 (dk_at dksX3_costsOf_0 6 rfl rfl)
theorem dX3_costsOf_9 : decode cX3_costsOf 9 = .ok (.bipush 88, 2) := dk_16 88 (dk_at dksX3_costsOf_0 9 rfl rfl)
theorem dX3_costsOf_11 : decode cX3_costsOf 11 = .ok (.iaload, 1) := dk_46 (dk_at dksX3_costsOf_0 11 rfl rfl)
theorem dX3_costsOf_12 : decode cX3_costsOf 12 = .ok (.if_icmp .ge 30, 3) := dk_162 0 30 (dk_at dksX3_costsOf_0 12 rfl rfl)
theorem dX3_costsOf_15 : decode cX3_costsOf 15 = .ok (.iload_n 2, 1) := dk_28 (dk_at dksX3_costsOf_0 15 rfl rfl)
theorem dX3_costsOf_16 : decode cX3_costsOf 16 = .ok (.iload_n 1, 1) := dk_27 (dk_at dksX3_costsOf_0 16 rfl rfl)
theorem dX3_costsOf_17 : decode cX3_costsOf 17 = .ok (.iload_n 3, 1) := dk_29 (dk_at dksX3_costsOf_0 17 rfl rfl)
theorem dX3_costsOf_18 : decode cX3_costsOf 18 = .ok (.ishr, 1) := dk_122 (dk_at dksX3_costsOf_0 18 rfl rfl)
theorem dX3_costsOf_19 : decode cX3_costsOf 19 = .ok (.iconst 1, 1) := dk_4 (dk_at dksX3_costsOf_0 19 rfl rfl)
theorem dX3_costsOf_20 : decode cX3_costsOf 20 = .ok (.iand, 1) := dk_126 (dk_at dksX3_costsOf_0 20 rfl rfl)
theorem dX3_costsOf_21 : decode cX3_costsOf 21 = .ok (.iconst 1, 1) := dk_4 (dk_at dksX3_costsOf_0 21 rfl rfl)
theorem dX3_costsOf_22 : decode cX3_costsOf 22 = .ok (.if_icmp .ne 11, 3) := dk_160 0 11 (dk_at dksX3_costsOf_1 0 rfl rfl)
theorem dX3_costsOf_25 : decode cX3_costsOf 25 = .ok (.aload_n 0, 1) := dk_42 (dk_at dksX3_costsOf_1 3 rfl rfl)
theorem dX3_costsOf_26 : decode cX3_costsOf 26 = .ok (.iload_n 3, 1) := dk_29 (dk_at dksX3_costsOf_1 4 rfl rfl)
theorem dX3_costsOf_27 : decode cX3_costsOf 27 = .ok (.invokevirtual 385, 3) := dk_182 1 129 (dk_at dksX3_costsOf_1 5 rfl rfl)
theorem dX3_costsOf_30 : decode cX3_costsOf 30 = .ok (.goto 4, 3) := dk_167 0 4 (dk_at dksX3_costsOf_1 8 rfl rfl)
theorem dX3_costsOf_33 : decode cX3_costsOf 33 = .ok (.iconst 0, 1) := dk_3 (dk_at dksX3_costsOf_1 11 rfl rfl)
theorem dX3_costsOf_34 : decode cX3_costsOf 34 = .ok (.iadd, 1) := dk_96 (dk_at dksX3_costsOf_1 12 rfl rfl)
theorem dX3_costsOf_35 : decode cX3_costsOf 35 = .ok (.istore_n 2, 1) := dk_61 (dk_at dksX3_costsOf_1 13 rfl rfl)
theorem dX3_costsOf_36 : decode cX3_costsOf 36 = .ok (.iinc 3 1, 3) := dk_132 3 1 (dk_at dksX3_costsOf_1 14 rfl rfl)
theorem dX3_costsOf_39 : decode cX3_costsOf 39 = .ok (.goto (-35), 3) := dk_167 255 221 (dk_at dksX3_costsOf_1 17 rfl rfl)
theorem dX3_costsOf_42 : decode cX3_costsOf 42 = .ok (.iload_n 2, 1) := dk_28 (dk_at dksX3_costsOf_1 20 rfl rfl)
theorem dX3_costsOf_43 : decode cX3_costsOf 43 = .ok (.ireturn, 1) := dk_172 (dk_at dksX3_costsOf_1 21 rfl rfl)
abbrev cX3_share : ByteArray := prog_17_method_115_code
def yX3_share : MethodName := ⟨RX3, "share", "(II)I"⟩
def dkwX3_share_7 : List UInt8 := [167, 0, 4, 29, 172]
abbrev dktX3_share_7 : List UInt8 := dkwX3_share_7 ++ []
def dkwX3_share_6 : List UInt8 := [163, 0, 15, 42, 180, 0, 7, 16, 28, 28, 96, 46, 167, 0, 15, 21, 4, 158, 0, 9, 29, 4, 96]
abbrev dktX3_share_6 : List UInt8 := dkwX3_share_6 ++ dktX3_share_7
def dkwX3_share_5 : List UInt8 := [42, 28, 182, 1, 180, 154, 0, 7, 3, 167, 0, 40, 42, 180, 0, 7, 16, 28, 28, 96, 46, 29]
abbrev dktX3_share_5 : List UInt8 := dkwX3_share_5 ++ dktX3_share_6
def dkwX3_share_4 : List UInt8 := [16, 28, 21, 5, 96, 46, 29, 164, 0, 7, 4, 167, 0, 4, 3, 100, 54, 4, 132, 5, 1, 167, 255, 214]
abbrev dktX3_share_4 : List UInt8 := dkwX3_share_4 ++ dktX3_share_5
def dkwX3_share_3 : List UInt8 := [54, 5, 21, 5, 28, 162, 0, 42, 21, 4, 42, 21, 5, 182, 1, 180, 153, 0, 21, 42, 180, 0, 7]
abbrev dktX3_share_3 : List UInt8 := dkwX3_share_3 ++ dktX3_share_4
def dkwX3_share_2 : List UInt8 := [182, 1, 183, 27, 163, 0, 9, 132, 3, 1, 167, 255, 235, 27, 42, 29, 182, 1, 183, 100, 54, 4, 3]
abbrev dktX3_share_2 : List UInt8 := dkwX3_share_2 ++ dktX3_share_3
def dkwX3_share_1 : List UInt8 := [182, 1, 183, 27, 162, 0, 5, 2, 172, 3, 62, 29, 17, 3, 231, 162, 0, 20, 42, 29, 4, 96]
abbrev dktX3_share_1 : List UInt8 := dkwX3_share_1 ++ dktX3_share_2
def dkwX3_share_0 : List UInt8 := [27, 3, 17, 39, 15, 184, 0, 54, 153, 0, 22, 42, 28, 182, 0, 58, 153, 0, 14, 42, 17, 3, 231]
abbrev dktX3_share_0 : List UInt8 := dkwX3_share_0 ++ dktX3_share_1
theorem dksX3_share_0 : cX3_share.data.toList.drop 0 = dktX3_share_0 := by decide +kernel
theorem dksX3_share_1 : cX3_share.data.toList.drop 23 = dktX3_share_1 := dk_seg dksX3_share_0 23 rfl rfl
theorem dksX3_share_2 : cX3_share.data.toList.drop 45 = dktX3_share_2 := dk_seg dksX3_share_1 22 rfl rfl
theorem dksX3_share_3 : cX3_share.data.toList.drop 68 = dktX3_share_3 := dk_seg dksX3_share_2 23 rfl rfl
theorem dksX3_share_4 : cX3_share.data.toList.drop 91 = dktX3_share_4 := dk_seg dksX3_share_3 23 rfl rfl
theorem dksX3_share_5 : cX3_share.data.toList.drop 115 = dktX3_share_5 := dk_seg dksX3_share_4 24 rfl rfl
theorem dksX3_share_6 : cX3_share.data.toList.drop 137 = dktX3_share_6 := dk_seg dksX3_share_5 22 rfl rfl
theorem dksX3_share_7 : cX3_share.data.toList.drop 160 = dktX3_share_7 := dk_seg dksX3_share_6 23 rfl rfl
theorem dX3_share_0 : decode cX3_share 0 = .ok (.iload_n 1, 1) := dk_27 (dk_at dksX3_share_0 0 rfl rfl)
theorem dX3_share_1 : decode cX3_share 1 = .ok (.iconst 0, 1) := dk_3 (dk_at dksX3_share_0 1 rfl rfl)
theorem dX3_share_2 : decode cX3_share 2 = .ok (.sipush 9999, 3) := dk_17 39 15 (dk_at dksX3_share_0 2 rfl rfl)
theorem dX3_share_5 : decode cX3_share 5 = .ok (.invokestatic 54, 3) := dk_184 0 54 (dk_at dksX3_share_0 5 rfl rfl)
theorem dX3_share_8 : decode cX3_share 8 = .ok (.ifCond .eq 22, 3) := dk_153 0 22 (dk_at dksX3_share_0 8 rfl rfl)
theorem dX3_share_11 : decode cX3_share 11 = .ok (.aload_n 0, 1) := dk_42 (dk_at dksX3_share_0 11 rfl rfl)
theorem dX3_share_12 : decode cX3_share 12 = .ok (.iload_n 2, 1) := dk_28 (dk_at dksX3_share_0 12 rfl rfl)
theorem dX3_share_13 : decode cX3_share 13 = .ok (.invokevirtual 58, 3) := dk_182 0 58 (dk_at dksX3_share_0 13 rfl rfl)
theorem dX3_share_16 : decode cX3_share 16 = .ok (.ifCond .eq 14, 3) := dk_153 0 14 (dk_at dksX3_share_0 16 rfl rfl)
theorem dX3_share_19 : decode cX3_share 19 = .ok (.aload_n 0, 1) := dk_42 (dk_at dksX3_share_0 19 rfl rfl)
theorem dX3_share_20 : decode cX3_share 20 = .ok (.sipush 999, 3) := dk_17 3 231 (dk_at dksX3_share_0 20 rfl rfl)
theorem dX3_share_23 : decode cX3_share 23 = .ok (.invokevirtual 439, 3) := dk_182 1 183 (dk_at dksX3_share_1 0 rfl rfl)
theorem dX3_share_26 : decode cX3_share 26 = .ok (.iload_n 1, 1) := dk_27 (dk_at dksX3_share_1 3 rfl rfl)
theorem dX3_share_27 : decode cX3_share 27 = .ok (.if_icmp .ge 5, 3) := dk_162 0 5 (dk_at dksX3_share_1 4 rfl rfl)
theorem dX3_share_30 : decode cX3_share 30 = .ok (.iconst (-1), 1) := dk_2 (dk_at dksX3_share_1 7 rfl rfl)
theorem dX3_share_31 : decode cX3_share 31 = .ok (.ireturn, 1) := dk_172 (dk_at dksX3_share_1 8 rfl rfl)
theorem dX3_share_32 : decode cX3_share 32 = .ok (.iconst 0, 1) := dk_3 (dk_at dksX3_share_1 9 rfl rfl)
theorem dX3_share_33 : decode cX3_share 33 = .ok (.istore_n 3, 1) := dk_62 (dk_at dksX3_share_1 10 rfl rfl)
theorem dX3_share_34 : decode cX3_share 34 = .ok (.iload_n 3, 1) := dk_29 (dk_at dksX3_share_1 11 rfl rfl)
theorem dX3_share_35 : decode cX3_share 35 = .ok (.sipush 999, 3) := dk_17 3 231 (dk_at dksX3_share_1 12 rfl rfl)
theorem dX3_share_38 : decode cX3_share 38 = .ok (.if_icmp .ge 20, 3) := dk_162 0 20 (dk_at dksX3_share_1 15 rfl rfl)
theorem dX3_share_41 : decode cX3_share 41 = .ok (.aload_n 0, 1) := dk_42 (dk_at dksX3_share_1 18 rfl rfl)
theorem dX3_share_42 : decode cX3_share 42 = .ok (.iload_n 3, 1) := dk_29 (dk_at dksX3_share_1 19 rfl rfl)
theorem dX3_share_43 : decode cX3_share 43 = .ok (.iconst 1, 1) := dk_4 (dk_at dksX3_share_1 20 rfl rfl)
theorem dX3_share_44 : decode cX3_share 44 = .ok (.iadd, 1) := dk_96 (dk_at dksX3_share_1 21 rfl rfl)
theorem dX3_share_45 : decode cX3_share 45 = .ok (.invokevirtual 439, 3) := dk_182 1 183 (dk_at dksX3_share_2 0 rfl rfl)
theorem dX3_share_48 : decode cX3_share 48 = .ok (.iload_n 1, 1) := dk_27 (dk_at dksX3_share_2 3 rfl rfl)
theorem dX3_share_49 : decode cX3_share 49 = .ok (.if_icmp .gt 9, 3) := dk_163 0 9 (dk_at dksX3_share_2 4 rfl rfl)
theorem dX3_share_52 : decode cX3_share 52 = .ok (.iinc 3 1, 3) := dk_132 3 1 (dk_at dksX3_share_2 7 rfl rfl)
theorem dX3_share_55 : decode cX3_share 55 = .ok (.goto (-21), 3) := dk_167 255 235 (dk_at dksX3_share_2 10 rfl rfl)
theorem dX3_share_58 : decode cX3_share 58 = .ok (.iload_n 1, 1) := dk_27 (dk_at dksX3_share_2 13 rfl rfl)
theorem dX3_share_59 : decode cX3_share 59 = .ok (.aload_n 0, 1) := dk_42 (dk_at dksX3_share_2 14 rfl rfl)
theorem dX3_share_60 : decode cX3_share 60 = .ok (.iload_n 3, 1) := dk_29 (dk_at dksX3_share_2 15 rfl rfl)
theorem dX3_share_61 : decode cX3_share 61 = .ok (.invokevirtual 439, 3) := dk_182 1 183 (dk_at dksX3_share_2 16 rfl rfl)
theorem dX3_share_64 : decode cX3_share 64 = .ok (.isub, 1) := dk_100 (dk_at dksX3_share_2 19 rfl rfl)
theorem dX3_share_65 : decode cX3_share 65 = .ok (.istore 4, 2) := dk_54 4 (dk_at dksX3_share_2 20 rfl rfl)
theorem dX3_share_67 : decode cX3_share 67 = .ok (.iconst 0, 1) := dk_3 (dk_at dksX3_share_2 22 rfl rfl)
theorem dX3_share_68 : decode cX3_share 68 = .ok (.istore 5, 2) := dk_54 5 (dk_at dksX3_share_3 0 rfl rfl)
theorem dX3_share_70 : decode cX3_share 70 = .ok (.iload 5, 2) := dk_21 5 (dk_at dksX3_share_3 2 rfl rfl)
theorem dX3_share_72 : decode cX3_share 72 = .ok (.iload_n 2, 1) := dk_28 (dk_at dksX3_share_3 4 rfl rfl)
theorem dX3_share_73 : decode cX3_share 73 = .ok (.if_icmp .ge 42, 3) := dk_162 0 42 (dk_at dksX3_share_3 5 rfl rfl)
theorem dX3_share_76 : decode cX3_share 76 = .ok (.iload 4, 2) := dk_21 4 (dk_at dksX3_share_3 8 rfl rfl)
theorem dX3_share_78 : decode cX3_share 78 = .ok (.aload_n 0, 1) := dk_42 (dk_at dksX3_share_3 10 rfl rfl)
theorem dX3_share_79 : decode cX3_share 79 = .ok (.iload 5, 2) := dk_21 5 (dk_at dksX3_share_3 11 rfl rfl)
theorem dX3_share_81 : decode cX3_share 81 = .ok (.invokevirtual 436, 3) := dk_182 1 180 (dk_at dksX3_share_3 13 rfl rfl)
theorem dX3_share_84 : decode cX3_share 84 = .ok (.ifCond .eq 21, 3) := dk_153 0 21 (dk_at dksX3_share_3 16 rfl rfl)
theorem dX3_share_87 : decode cX3_share 87 = .ok (.aload_n 0, 1) := dk_42 (dk_at dksX3_share_3 19 rfl rfl)
theorem dX3_share_88 : decode cX3_share 88 = .ok (.getfield 7, 3) := dk_180 0 7 (dk_at dksX3_share_3 20 rfl rfl)
theorem dX3_share_91 : decode cX3_share 91 = .ok (.bipush 28, 2) := dk_16 28 (dk_at dksX3_share_4 0 rfl rfl)
theorem dX3_share_93 : decode cX3_share 93 = .ok (.iload 5, 2) := dk_21 5 (dk_at dksX3_share_4 2 rfl rfl)
theorem dX3_share_95 : decode cX3_share 95 = .ok (.iadd, 1) := dk_96 (dk_at dksX3_share_4 4 rfl rfl)
theorem dX3_share_96 : decode cX3_share 96 = .ok (.iaload, 1) := dk_46 (dk_at dksX3_share_4 5 rfl rfl)
theorem dX3_share_97 : decode cX3_share 97 = .ok (.iload_n 3, 1) := dk_29 (dk_at dksX3_share_4 6 rfl rfl)
theorem dX3_share_98 : decode cX3_share 98 = .ok (.if_icmp .le 7, 3) := dk_164 0 7 (dk_at dksX3_share_4 7 rfl rfl)
theorem dX3_share_101 : decode cX3_share 101 = .ok (.iconst 1, 1) := dk_4 (dk_at dksX3_share_4 10 rfl rfl)
theorem dX3_share_102 : decode cX3_share 102 = .ok (.goto 4, 3) := dk_167 0 4 (dk_at dksX3_share_4 11 rfl rfl)
theorem dX3_share_105 : decode cX3_share 105 = .ok (.iconst 0, 1) := dk_3 (dk_at dksX3_share_4 14 rfl rfl)
theorem dX3_share_106 : decode cX3_share 106 = .ok (.isub, 1) := dk_100 (dk_at dksX3_share_4 15 rfl rfl)
theorem dX3_share_107 : decode cX3_share 107 = .ok (.istore 4, 2) := dk_54 4 (dk_at dksX3_share_4 16 rfl rfl)
theorem dX3_share_109 : decode cX3_share 109 = .ok (.iinc 5 1, 3) := dk_132 5 1 (dk_at dksX3_share_4 18 rfl rfl)
theorem dX3_share_112 : decode cX3_share 112 = .ok (.goto (-42), 3) := dk_167 255 214 (dk_at dksX3_share_4 21 rfl rfl)
theorem dX3_share_115 : decode cX3_share 115 = .ok (.aload_n 0, 1) := dk_42 (dk_at dksX3_share_5 0 rfl rfl)
theorem dX3_share_116 : decode cX3_share 116 = .ok (.iload_n 2, 1) := dk_28 (dk_at dksX3_share_5 1 rfl rfl)
theorem dX3_share_117 : decode cX3_share 117 = .ok (.invokevirtual 436, 3) := dk_182 1 180 (dk_at dksX3_share_5 2 rfl rfl)
theorem dX3_share_120 : decode cX3_share 120 = .ok (.ifCond .ne 7, 3) := dk_154 0 7 (dk_at dksX3_share_5 5 rfl rfl)
theorem dX3_share_123 : decode cX3_share 123 = .ok (.iconst 0, 1) := dk_3 (dk_at dksX3_share_5 8 rfl rfl)
theorem dX3_share_124 : decode cX3_share 124 = .ok (.goto 40, 3) := dk_167 0 40 (dk_at dksX3_share_5 9 rfl rfl)
theorem dX3_share_127 : decode cX3_share 127 = .ok (.aload_n 0, 1) := dk_42 (dk_at dksX3_share_5 12 rfl rfl)
theorem dX3_share_128 : decode cX3_share 128 = .ok (.getfield 7, 3) := dk_180 0 7 (dk_at dksX3_share_5 13 rfl rfl)
theorem dX3_share_131 : decode cX3_share 131 = .ok (.bipush 28, 2) := dk_16 28 (dk_at dksX3_share_5 16 rfl rfl)
theorem dX3_share_133 : decode cX3_share 133 = .ok (.iload_n 2, 1) := dk_28 (dk_at dksX3_share_5 18 rfl rfl)
theorem dX3_share_134 : decode cX3_share 134 = .ok (.iadd, 1) := dk_96 (dk_at dksX3_share_5 19 rfl rfl)
theorem dX3_share_135 : decode cX3_share 135 = .ok (.iaload, 1) := dk_46 (dk_at dksX3_share_5 20 rfl rfl)
theorem dX3_share_136 : decode cX3_share 136 = .ok (.iload_n 3, 1) := dk_29 (dk_at dksX3_share_5 21 rfl rfl)
theorem dX3_share_137 : decode cX3_share 137 = .ok (.if_icmp .gt 15, 3) := dk_163 0 15 (dk_at dksX3_share_6 0 rfl rfl)
theorem dX3_share_140 : decode cX3_share 140 = .ok (.aload_n 0, 1) := dk_42 (dk_at dksX3_share_6 3 rfl rfl)
theorem dX3_share_141 : decode cX3_share 141 = .ok (.getfield 7, 3) := dk_180 0 7 (dk_at dksX3_share_6 4 rfl rfl)
theorem dX3_share_144 : decode cX3_share 144 = .ok (.bipush 28, 2) := dk_16 28 (dk_at dksX3_share_6 7 rfl rfl)
theorem dX3_share_146 : decode cX3_share 146 = .ok (.iload_n 2, 1) := dk_28 (dk_at dksX3_share_6 9 rfl rfl)
theorem dX3_share_147 : decode cX3_share 147 = .ok (.iadd, 1) := dk_96 (dk_at dksX3_share_6 10 rfl rfl)
theorem dX3_share_148 : decode cX3_share 148 = .ok (.iaload, 1) := dk_46 (dk_at dksX3_share_6 11 rfl rfl)
theorem dX3_share_149 : decode cX3_share 149 = .ok (.goto 15, 3) := dk_167 0 15 (dk_at dksX3_share_6 12 rfl rfl)
theorem dX3_share_152 : decode cX3_share 152 = .ok (.iload 4, 2) := dk_21 4 (dk_at dksX3_share_6 15 rfl rfl)
theorem dX3_share_154 : decode cX3_share 154 = .ok (.ifCond .le 9, 3) := dk_158 0 9 (dk_at dksX3_share_6 17 rfl rfl)
theorem dX3_share_157 : decode cX3_share 157 = .ok (.iload_n 3, 1) := dk_29 (dk_at dksX3_share_6 20 rfl rfl)
theorem dX3_share_158 : decode cX3_share 158 = .ok (.iconst 1, 1) := dk_4 (dk_at dksX3_share_6 21 rfl rfl)
theorem dX3_share_159 : decode cX3_share 159 = .ok (.iadd, 1) := dk_96 (dk_at dksX3_share_6 22 rfl rfl)
theorem dX3_share_160 : decode cX3_share 160 = .ok (.goto 4, 3) := dk_167 0 4 (dk_at dksX3_share_7 0 rfl rfl)
theorem dX3_share_163 : decode cX3_share 163 = .ok (.iload_n 3, 1) := dk_29 (dk_at dksX3_share_7 3 rfl rfl)
theorem dX3_share_164 : decode cX3_share 164 = .ok (.ireturn, 1) := dk_172 (dk_at dksX3_share_7 4 rfl rfl)
abbrev cX3_givenBy : ByteArray := prog_17_method_114_code
def yX3_givenBy : MethodName := ⟨RX3, "givenBy", "(I)I"⟩
def dkwX3_givenBy_2 : List UInt8 := [167, 255, 214, 28, 172]
abbrev dktX3_givenBy_2 : List UInt8 := dkwX3_givenBy_2 ++ []
def dkwX3_givenBy_1 : List UInt8 := [27, 42, 180, 0, 7, 16, 28, 29, 96, 46, 184, 0, 47, 167, 0, 4, 3, 96, 61, 132, 3, 1]
abbrev dktX3_givenBy_1 : List UInt8 := dkwX3_givenBy_1 ++ dktX3_givenBy_2
def dkwX3_givenBy_0 : List UInt8 := [3, 61, 3, 62, 29, 42, 180, 0, 7, 16, 88, 46, 162, 0, 37, 28, 42, 29, 182, 1, 180, 153, 0, 19]
abbrev dktX3_givenBy_0 : List UInt8 := dkwX3_givenBy_0 ++ dktX3_givenBy_1
theorem dksX3_givenBy_0 : cX3_givenBy.data.toList.drop 0 = dktX3_givenBy_0 := by decide +kernel
theorem dksX3_givenBy_1 : cX3_givenBy.data.toList.drop 24 = dktX3_givenBy_1 := dk_seg dksX3_givenBy_0 24 rfl rfl
theorem dksX3_givenBy_2 : cX3_givenBy.data.toList.drop 46 = dktX3_givenBy_2 := dk_seg dksX3_givenBy_1 22 rfl rfl
theorem dX3_givenBy_0 : decode cX3_givenBy 0 = .ok (.iconst 0, 1) := dk_3 (dk_at dksX3_givenBy_0 0 rfl rfl)
theorem dX3_givenBy_1 : decode cX3_givenBy 1 = .ok (.istore_n 2, 1) := dk_61 (dk_at dksX3_givenBy_0 1 rfl rfl)
theorem dX3_givenBy_2 : decode cX3_givenBy 2 = .ok (.iconst 0, 1) := dk_3 (dk_at dksX3_givenBy_0 2 rfl rfl)
theorem dX3_givenBy_3 : decode cX3_givenBy 3 = .ok (.istore_n 3, 1) := dk_62 (dk_at dksX3_givenBy_0 3 rfl rfl)
theorem dX3_givenBy_4 : decode cX3_givenBy 4 = .ok (.iload_n 3, 1) := dk_29 (dk_at dksX3_givenBy_0 4 rfl rfl)
theorem dX3_givenBy_5 : decode cX3_givenBy 5 = .ok (.aload_n 0, 1) := dk_42 (dk_at dksX3_givenBy_0 5 rfl rfl)
theorem dX3_givenBy_6 : decode cX3_givenBy 6 = .ok (.getfield 7, 3) := dk_180 0 7 (dk_at dksX3_givenBy_0 6 rfl rfl)
theorem dX3_givenBy_9 : decode cX3_givenBy 9 = .ok (.bipush 88, 2) := dk_16 88 (dk_at dksX3_givenBy_0 9 rfl rfl)
theorem dX3_givenBy_11 : decode cX3_givenBy 11 = .ok (.iaload, 1) := dk_46 (dk_at dksX3_givenBy_0 11 rfl rfl)
theorem dX3_givenBy_12 : decode cX3_givenBy 12 = .ok (.if_icmp .ge 37, 3) := dk_162 0 37 (dk_at dksX3_givenBy_0 12 rfl rfl)
theorem dX3_givenBy_15 : decode cX3_givenBy 15 = .ok (.iload_n 2, 1) := dk_28 (dk_at dksX3_givenBy_0 15 rfl rfl)
theorem dX3_givenBy_16 : decode cX3_givenBy 16 = .ok (.aload_n 0, 1) := dk_42 (dk_at dksX3_givenBy_0 16 rfl rfl)
theorem dX3_givenBy_17 : decode cX3_givenBy 17 = .ok (.iload_n 3, 1) := dk_29 (dk_at dksX3_givenBy_0 17 rfl rfl)
theorem dX3_givenBy_18 : decode cX3_givenBy 18 = .ok (.invokevirtual 436, 3) := dk_182 1 180 (dk_at dksX3_givenBy_0 18 rfl rfl)
theorem dX3_givenBy_21 : decode cX3_givenBy 21 = .ok (.ifCond .eq 19, 3) := dk_153 0 19 (dk_at dksX3_givenBy_0 21 rfl rfl)
theorem dX3_givenBy_24 : decode cX3_givenBy 24 = .ok (.iload_n 1, 1) := dk_27 (dk_at dksX3_givenBy_1 0 rfl rfl)
theorem dX3_givenBy_25 : decode cX3_givenBy 25 = .ok (.aload_n 0, 1) := dk_42 (dk_at dksX3_givenBy_1 1 rfl rfl)
theorem dX3_givenBy_26 : decode cX3_givenBy 26 = .ok (.getfield 7, 3) := dk_180 0 7 (dk_at dksX3_givenBy_1 2 rfl rfl)
theorem dX3_givenBy_29 : decode cX3_givenBy 29 = .ok (.bipush 28, 2) := dk_16 28 (dk_at dksX3_givenBy_1 5 rfl rfl)
theorem dX3_givenBy_31 : decode cX3_givenBy 31 = .ok (.iload_n 3, 1) := dk_29 (dk_at dksX3_givenBy_1 7 rfl rfl)
theorem dX3_givenBy_32 : decode cX3_givenBy 32 = .ok (.iadd, 1) := dk_96 (dk_at dksX3_givenBy_1 8 rfl rfl)
theorem dX3_givenBy_33 : decode cX3_givenBy 33 = .ok (.iaload, 1) := dk_46 (dk_at dksX3_givenBy_1 9 rfl rfl)
theorem dX3_givenBy_34 : decode cX3_givenBy 34 = .ok (.invokestatic 47, 3) := dk_184 0 47 (dk_at dksX3_givenBy_1 10 rfl rfl)
theorem dX3_givenBy_37 : decode cX3_givenBy 37 = .ok (.goto 4, 3) := dk_167 0 4 (dk_at dksX3_givenBy_1 13 rfl rfl)
theorem dX3_givenBy_40 : decode cX3_givenBy 40 = .ok (.iconst 0, 1) := dk_3 (dk_at dksX3_givenBy_1 16 rfl rfl)
theorem dX3_givenBy_41 : decode cX3_givenBy 41 = .ok (.iadd, 1) := dk_96 (dk_at dksX3_givenBy_1 17 rfl rfl)
theorem dX3_givenBy_42 : decode cX3_givenBy 42 = .ok (.istore_n 2, 1) := dk_61 (dk_at dksX3_givenBy_1 18 rfl rfl)
theorem dX3_givenBy_43 : decode cX3_givenBy 43 = .ok (.iinc 3 1, 3) := dk_132 3 1 (dk_at dksX3_givenBy_1 19 rfl rfl)
theorem dX3_givenBy_46 : decode cX3_givenBy 46 = .ok (.goto (-42), 3) := dk_167 255 214 (dk_at dksX3_givenBy_2 0 rfl rfl)
theorem dX3_givenBy_49 : decode cX3_givenBy 49 = .ok (.iload_n 2, 1) := dk_28 (dk_at dksX3_givenBy_2 3 rfl rfl)
theorem dX3_givenBy_50 : decode cX3_givenBy 50 = .ok (.ireturn, 1) := dk_172 (dk_at dksX3_givenBy_2 4 rfl rfl)
abbrev cX3_isGiving : ByteArray := prog_17_method_113_code
def yX3_isGiving : MethodName := ⟨RX3, "isGiving", "(I)Z"⟩
def dkwX3_isGiving_1 : List UInt8 := [3, 172]
abbrev dktX3_isGiving_1 : List UInt8 := dkwX3_isGiving_1 ++ []
def dkwX3_isGiving_0 : List UInt8 := [42, 27, 182, 1, 61, 153, 0, 19, 42, 180, 0, 7, 16, 28, 27, 96, 46, 158, 0, 7, 4, 167, 0, 4]
abbrev dktX3_isGiving_0 : List UInt8 := dkwX3_isGiving_0 ++ dktX3_isGiving_1
theorem dksX3_isGiving_0 : cX3_isGiving.data.toList.drop 0 = dktX3_isGiving_0 := by decide +kernel
theorem dksX3_isGiving_1 : cX3_isGiving.data.toList.drop 24 = dktX3_isGiving_1 := dk_seg dksX3_isGiving_0 24 rfl rfl
theorem dX3_isGiving_0 : decode cX3_isGiving 0 = .ok (.aload_n 0, 1) := dk_42 (dk_at dksX3_isGiving_0 0 rfl rfl)
theorem dX3_isGiving_1 : decode cX3_isGiving 1 = .ok (.iload_n 1, 1) := dk_27 (dk_at dksX3_isGiving_0 1 rfl rfl)
theorem dX3_isGiving_2 : decode cX3_isGiving 2 = .ok (.invokevirtual 317, 3) := dk_182 1 61 (dk_at dksX3_isGiving_0 2 rfl rfl)
theorem dX3_isGiving_5 : decode cX3_isGiving 5 = .ok (.ifCond .eq 19, 3) := dk_153 0 19 (dk_at dksX3_isGiving_0 5 rfl rfl)
theorem dX3_isGiving_8 : decode cX3_isGiving 8 = .ok (.aload_n 0, 1) := dk_42 (dk_at dksX3_isGiving_0 8 rfl rfl)
theorem dX3_isGiving_9 : decode cX3_isGiving 9 = .ok (.getfield 7, 3) := dk_180 0 7 (dk_at dksX3_isGiving_0 9 rfl rfl)
theorem dX3_isGiving_12 : decode cX3_isGiving 12 = .ok (.bipush 28, 2) := dk_16 28 (dk_at dksX3_isGiving_0 12 rfl rfl)
theorem dX3_isGiving_14 : decode cX3_isGiving 14 = .ok (.iload_n 1, 1) := dk_27 (dk_at dksX3_isGiving_0 14 rfl rfl)
theorem dX3_isGiving_15 : decode cX3_isGiving 15 = .ok (.iadd, 1) := dk_96 (dk_at dksX3_isGiving_0 15 rfl rfl)
theorem dX3_isGiving_16 : decode cX3_isGiving 16 = .ok (.iaload, 1) := dk_46 (dk_at dksX3_isGiving_0 16 rfl rfl)
theorem dX3_isGiving_17 : decode cX3_isGiving 17 = .ok (.ifCond .le 7, 3) := dk_158 0 7 (dk_at dksX3_isGiving_0 17 rfl rfl)
theorem dX3_isGiving_20 : decode cX3_isGiving 20 = .ok (.iconst 1, 1) := dk_4 (dk_at dksX3_isGiving_0 20 rfl rfl)
theorem dX3_isGiving_21 : decode cX3_isGiving 21 = .ok (.goto 4, 3) := dk_167 0 4 (dk_at dksX3_isGiving_0 21 rfl rfl)
theorem dX3_isGiving_24 : decode cX3_isGiving 24 = .ok (.iconst 0, 1) := dk_3 (dk_at dksX3_isGiving_1 0 rfl rfl)
theorem dX3_isGiving_25 : decode cX3_isGiving 25 = .ok (.ireturn, 1) := dk_172 (dk_at dksX3_isGiving_1 1 rfl rfl)
abbrev cX3_along : ByteArray := prog_17_method_116_code
def yX3_along : MethodName := ⟨RX3, "along", "(III)I"⟩
def dkwX3_along_5 : List UInt8 := [172]
abbrev dktX3_along_5 : List UInt8 := dkwX3_along_5 ++ []
def dkwX3_along_4 : List UInt8 := [167, 0, 4, 3, 96, 54, 5, 132, 6, 1, 167, 255, 193, 29, 154, 0, 8, 21, 4, 167, 0, 5, 21, 5]
abbrev dktX3_along_4 : List UInt8 := dkwX3_along_4 ++ dktX3_along_5
def dkwX3_along_3 : List UInt8 := [184, 0, 47, 167, 0, 4, 3, 54, 7, 21, 4, 21, 7, 100, 54, 4, 21, 5, 21, 7, 158, 0, 7, 4]
abbrev dktX3_along_3 : List UInt8 := dkwX3_along_3 ++ dktX3_along_4
def dkwX3_along_2 : List UInt8 := [16, 88, 46, 162, 0, 57, 42, 21, 6, 182, 1, 61, 153, 0, 17, 21, 4, 42, 21, 6, 182, 1, 64]
abbrev dktX3_along_2 : List UInt8 := dkwX3_along_2 ++ dktX3_along_3
def dkwX3_along_1 : List UInt8 := [184, 0, 54, 154, 0, 5, 2, 172, 28, 54, 4, 3, 54, 5, 27, 54, 6, 21, 6, 42, 180, 0, 7]
abbrev dktX3_along_1 : List UInt8 := dkwX3_along_1 ++ dktX3_along_2
def dkwX3_along_0 : List UInt8 := [42, 27, 182, 0, 58, 153, 0, 23, 28, 3, 17, 3, 231, 184, 0, 54, 153, 0, 12, 29, 3, 4]
abbrev dktX3_along_0 : List UInt8 := dkwX3_along_0 ++ dktX3_along_1
theorem dksX3_along_0 : cX3_along.data.toList.drop 0 = dktX3_along_0 := by decide +kernel
theorem dksX3_along_1 : cX3_along.data.toList.drop 22 = dktX3_along_1 := dk_seg dksX3_along_0 22 rfl rfl
theorem dksX3_along_2 : cX3_along.data.toList.drop 45 = dktX3_along_2 := dk_seg dksX3_along_1 23 rfl rfl
theorem dksX3_along_3 : cX3_along.data.toList.drop 68 = dktX3_along_3 := dk_seg dksX3_along_2 23 rfl rfl
theorem dksX3_along_4 : cX3_along.data.toList.drop 92 = dktX3_along_4 := dk_seg dksX3_along_3 24 rfl rfl
theorem dksX3_along_5 : cX3_along.data.toList.drop 116 = dktX3_along_5 := dk_seg dksX3_along_4 24 rfl rfl
theorem dX3_along_0 : decode cX3_along 0 = .ok (.aload_n 0, 1) := dk_42 (dk_at dksX3_along_0 0 rfl rfl)
theorem dX3_along_1 : decode cX3_along 1 = .ok (.iload_n 1, 1) := dk_27 (dk_at dksX3_along_0 1 rfl rfl)
theorem dX3_along_2 : decode cX3_along 2 = .ok (.invokevirtual 58, 3) := dk_182 0 58 (dk_at dksX3_along_0 2 rfl rfl)
theorem dX3_along_5 : decode cX3_along 5 = .ok (.ifCond .eq 23, 3) := dk_153 0 23 (dk_at dksX3_along_0 5 rfl rfl)
theorem dX3_along_8 : decode cX3_along 8 = .ok (.iload_n 2, 1) := dk_28 (dk_at dksX3_along_0 8 rfl rfl)
theorem dX3_along_9 : decode cX3_along 9 = .ok (.iconst 0, 1) := dk_3 (dk_at dksX3_along_0 9 rfl rfl)
theorem dX3_along_10 : decode cX3_along 10 = .ok (.sipush 999, 3) := dk_17 3 231 (dk_at dksX3_along_0 10 rfl rfl)
theorem dX3_along_13 : decode cX3_along 13 = .ok (.invokestatic 54, 3) := dk_184 0 54 (dk_at dksX3_along_0 13 rfl rfl)
theorem dX3_along_16 : decode cX3_along 16 = .ok (.ifCond .eq 12, 3) := dk_153 0 12 (dk_at dksX3_along_0 16 rfl rfl)
theorem dX3_along_19 : decode cX3_along 19 = .ok (.iload_n 3, 1) := dk_29 (dk_at dksX3_along_0 19 rfl rfl)
theorem dX3_along_20 : decode cX3_along 20 = .ok (.iconst 0, 1) := dk_3 (dk_at dksX3_along_0 20 rfl rfl)
theorem dX3_along_21 : decode cX3_along 21 = .ok (.iconst 1, 1) := dk_4 (dk_at dksX3_along_0 21 rfl rfl)
theorem dX3_along_22 : decode cX3_along 22 = .ok (.invokestatic 54, 3) := dk_184 0 54 (dk_at dksX3_along_1 0 rfl rfl)
theorem dX3_along_25 : decode cX3_along 25 = .ok (.ifCond .ne 5, 3) := dk_154 0 5 (dk_at dksX3_along_1 3 rfl rfl)
theorem dX3_along_28 : decode cX3_along 28 = .ok (.iconst (-1), 1) := dk_2 (dk_at dksX3_along_1 6 rfl rfl)
theorem dX3_along_29 : decode cX3_along 29 = .ok (.ireturn, 1) := dk_172 (dk_at dksX3_along_1 7 rfl rfl)
theorem dX3_along_30 : decode cX3_along 30 = .ok (.iload_n 2, 1) := dk_28 (dk_at dksX3_along_1 8 rfl rfl)
theorem dX3_along_31 : decode cX3_along 31 = .ok (.istore 4, 2) := dk_54 4 (dk_at dksX3_along_1 9 rfl rfl)
theorem dX3_along_33 : decode cX3_along 33 = .ok (.iconst 0, 1) := dk_3 (dk_at dksX3_along_1 11 rfl rfl)
theorem dX3_along_34 : decode cX3_along 34 = .ok (.istore 5, 2) := dk_54 5 (dk_at dksX3_along_1 12 rfl rfl)
theorem dX3_along_36 : decode cX3_along 36 = .ok (.iload_n 1, 1) := dk_27 (dk_at dksX3_along_1 14 rfl rfl)
theorem dX3_along_37 : decode cX3_along 37 = .ok (.istore 6, 2) := dk_54 6 (dk_at dksX3_along_1 15 rfl rfl)
theorem dX3_along_39 : decode cX3_along 39 = .ok (.iload 6, 2) := dk_21 6 (dk_at dksX3_along_1 17 rfl rfl)
theorem dX3_along_41 : decode cX3_along 41 = .ok (.aload_n 0, 1) := dk_42 (dk_at dksX3_along_1 19 rfl rfl)
theorem dX3_along_42 : decode cX3_along 42 = .ok (.getfield 7, 3) := dk_180 0 7 (dk_at dksX3_along_1 20 rfl rfl)
theorem dX3_along_45 : decode cX3_along 45 = .ok (.bipush 88, 2) := dk_16 88 (dk_at dksX3_along_2 0 rfl rfl)
theorem dX3_along_47 : decode cX3_along 47 = .ok (.iaload, 1) := dk_46 (dk_at dksX3_along_2 2 rfl rfl)
theorem dX3_along_48 : decode cX3_along 48 = .ok (.if_icmp .ge 57, 3) := dk_162 0 57 (dk_at dksX3_along_2 3 rfl rfl)
theorem dX3_along_51 : decode cX3_along 51 = .ok (.aload_n 0, 1) := dk_42 (dk_at dksX3_along_2 6 rfl rfl)
theorem dX3_along_52 : decode cX3_along 52 = .ok (.iload 6, 2) := dk_21 6 (dk_at dksX3_along_2 7 rfl rfl)
theorem dX3_along_54 : decode cX3_along 54 = .ok (.invokevirtual 317, 3) := dk_182 1 61 (dk_at dksX3_along_2 9 rfl rfl)
theorem dX3_along_57 : decode cX3_along 57 = .ok (.ifCond .eq 17, 3) := dk_153 0 17 (dk_at dksX3_along_2 12 rfl rfl)
theorem dX3_along_60 : decode cX3_along 60 = .ok (.iload 4, 2) := dk_21 4 (dk_at dksX3_along_2 15 rfl rfl)
theorem dX3_along_62 : decode cX3_along 62 = .ok (.aload_n 0, 1) := dk_42 (dk_at dksX3_along_2 17 rfl rfl)
theorem dX3_along_63 : decode cX3_along 63 = .ok (.iload 6, 2) := dk_21 6 (dk_at dksX3_along_2 18 rfl rfl)
theorem dX3_along_65 : decode cX3_along 65 = .ok (.invokevirtual 320, 3) := dk_182 1 64 (dk_at dksX3_along_2 20 rfl rfl)
theorem dX3_along_68 : decode cX3_along 68 = .ok (.invokestatic 47, 3) := dk_184 0 47 (dk_at dksX3_along_3 0 rfl rfl)
theorem dX3_along_71 : decode cX3_along 71 = .ok (.goto 4, 3) := dk_167 0 4 (dk_at dksX3_along_3 3 rfl rfl)
theorem dX3_along_74 : decode cX3_along 74 = .ok (.iconst 0, 1) := dk_3 (dk_at dksX3_along_3 6 rfl rfl)
theorem dX3_along_75 : decode cX3_along 75 = .ok (.istore 7, 2) := dk_54 7 (dk_at dksX3_along_3 7 rfl rfl)
theorem dX3_along_77 : decode cX3_along 77 = .ok (.iload 4, 2) := dk_21 4 (dk_at dksX3_along_3 9 rfl rfl)
theorem dX3_along_79 : decode cX3_along 79 = .ok (.iload 7, 2) := dk_21 7 (dk_at dksX3_along_3 11 rfl rfl)
theorem dX3_along_81 : decode cX3_along 81 = .ok (.isub, 1) := dk_100 (dk_at dksX3_along_3 13 rfl rfl)
theorem dX3_along_82 : decode cX3_along 82 = .ok (.istore 4, 2) := dk_54 4 (dk_at dksX3_along_3 14 rfl rfl)
theorem dX3_along_84 : decode cX3_along 84 = .ok (.iload 5, 2) := dk_21 5 (dk_at dksX3_along_3 16 rfl rfl)
theorem dX3_along_86 : decode cX3_along 86 = .ok (.iload 7, 2) := dk_21 7 (dk_at dksX3_along_3 18 rfl rfl)
theorem dX3_along_88 : decode cX3_along 88 = .ok (.ifCond .le 7, 3) := dk_158 0 7 (dk_at dksX3_along_3 20 rfl rfl)
theorem dX3_along_91 : decode cX3_along 91 = .ok (.iconst 1, 1) := dk_4 (dk_at dksX3_along_3 23 rfl rfl)
theorem dX3_along_92 : decode cX3_along 92 = .ok (.goto 4, 3) := dk_167 0 4 (dk_at dksX3_along_4 0 rfl rfl)
theorem dX3_along_95 : decode cX3_along 95 = .ok (.iconst 0, 1) := dk_3 (dk_at dksX3_along_4 3 rfl rfl)
theorem dX3_along_96 : decode cX3_along 96 = .ok (.iadd, 1) := dk_96 (dk_at dksX3_along_4 4 rfl rfl)
theorem dX3_along_97 : decode cX3_along 97 = .ok (.istore 5, 2) := dk_54 5 (dk_at dksX3_along_4 5 rfl rfl)
theorem dX3_along_99 : decode cX3_along 99 = .ok (.iinc 6 1, 3) := dk_132 6 1 (dk_at dksX3_along_4 7 rfl rfl)
theorem dX3_along_102 : decode cX3_along 102 = .ok (.goto (-63), 3) := dk_167 255 193 (dk_at dksX3_along_4 10 rfl rfl)
theorem dX3_along_105 : decode cX3_along 105 = .ok (.iload_n 3, 1) := dk_29 (dk_at dksX3_along_4 13 rfl rfl)
theorem dX3_along_106 : decode cX3_along 106 = .ok (.ifCond .ne 8, 3) := dk_154 0 8 (dk_at dksX3_along_4 14 rfl rfl)
theorem dX3_along_109 : decode cX3_along 109 = .ok (.iload 4, 2) := dk_21 4 (dk_at dksX3_along_4 17 rfl rfl)
theorem dX3_along_111 : decode cX3_along 111 = .ok (.goto 5, 3) := dk_167 0 5 (dk_at dksX3_along_4 19 rfl rfl)
theorem dX3_along_114 : decode cX3_along 114 = .ok (.iload 5, 2) := dk_21 5 (dk_at dksX3_along_4 22 rfl rfl)
theorem dX3_along_116 : decode cX3_along 116 = .ok (.ireturn, 1) := dk_172 (dk_at dksX3_along_5 0 rfl rfl)
abbrev cX3_choice : ByteArray := prog_17_method_118_code
def yX3_choice : MethodName := ⟨RX3, "choice", "(IIII)I"⟩
def dkwX3_choice_5 : List UInt8 := [156, 0, 9, 3, 54, 7, 5, 54, 8, 21, 4, 154, 0, 8, 21, 8, 167, 0, 5, 21, 7, 172]
abbrev dktX3_choice_5 : List UInt8 := dkwX3_choice_5 ++ []
def dkwX3_choice_4 : List UInt8 := [21, 5, 54, 7, 3, 54, 8, 21, 6, 21, 7, 164, 0, 10, 21, 6, 54, 7, 4, 54, 8, 21, 7]
abbrev dktX3_choice_4 : List UInt8 := dkwX3_choice_4 ++ dktX3_choice_5
def dkwX3_choice_3 : List UInt8 := [100, 3, 21, 5, 184, 0, 51, 104, 96, 17, 3, 232, 184, 1, 186, 42, 27, 182, 1, 129, 100, 54, 6]
abbrev dktX3_choice_3 : List UInt8 := dkwX3_choice_3 ++ dktX3_choice_4
def dkwX3_choice_2 : List UInt8 := [16, 28, 27, 96, 46, 28, 100, 54, 5, 29, 42, 180, 0, 7, 16, 28, 27, 96, 46, 104, 17, 3, 232, 29]
abbrev dktX3_choice_2 : List UInt8 := dkwX3_choice_2 ++ dktX3_choice_3
def dkwX3_choice_1 : List UInt8 := [184, 0, 54, 153, 0, 13, 21, 4, 3, 4, 184, 0, 54, 154, 0, 7, 19, 1, 135, 172, 42, 180, 0, 7]
abbrev dktX3_choice_1 : List UInt8 := dkwX3_choice_1 ++ dktX3_choice_2
def dkwX3_choice_0 : List UInt8 := [42, 27, 182, 0, 58, 153, 0, 35, 28, 3, 17, 3, 231, 184, 0, 54, 153, 0, 24, 29, 3, 17, 3, 232]
abbrev dktX3_choice_0 : List UInt8 := dkwX3_choice_0 ++ dktX3_choice_1
theorem dksX3_choice_0 : cX3_choice.data.toList.drop 0 = dktX3_choice_0 := by decide +kernel
theorem dksX3_choice_1 : cX3_choice.data.toList.drop 24 = dktX3_choice_1 := dk_seg dksX3_choice_0 24 rfl rfl
theorem dksX3_choice_2 : cX3_choice.data.toList.drop 48 = dktX3_choice_2 := dk_seg dksX3_choice_1 24 rfl rfl
theorem dksX3_choice_3 : cX3_choice.data.toList.drop 72 = dktX3_choice_3 := dk_seg dksX3_choice_2 24 rfl rfl
theorem dksX3_choice_4 : cX3_choice.data.toList.drop 95 = dktX3_choice_4 := dk_seg dksX3_choice_3 23 rfl rfl
theorem dksX3_choice_5 : cX3_choice.data.toList.drop 118 = dktX3_choice_5 := dk_seg dksX3_choice_4 23 rfl rfl
theorem dX3_choice_0 : decode cX3_choice 0 = .ok (.aload_n 0, 1) := dk_42 (dk_at dksX3_choice_0 0 rfl rfl)
theorem dX3_choice_1 : decode cX3_choice 1 = .ok (.iload_n 1, 1) := dk_27 (dk_at dksX3_choice_0 1 rfl rfl)
theorem dX3_choice_2 : decode cX3_choice 2 = .ok (.invokevirtual 58, 3) := dk_182 0 58 (dk_at dksX3_choice_0 2 rfl rfl)
theorem dX3_choice_5 : decode cX3_choice 5 = .ok (.ifCond .eq 35, 3) := dk_153 0 35 (dk_at dksX3_choice_0 5 rfl rfl)
theorem dX3_choice_8 : decode cX3_choice 8 = .ok (.iload_n 2, 1) := dk_28 (dk_at dksX3_choice_0 8 rfl rfl)
theorem dX3_choice_9 : decode cX3_choice 9 = .ok (.iconst 0, 1) := dk_3 (dk_at dksX3_choice_0 9 rfl rfl)
theorem dX3_choice_10 : decode cX3_choice 10 = .ok (.sipush 999, 3) := dk_17 3 231 (dk_at dksX3_choice_0 10 rfl rfl)
theorem dX3_choice_13 : decode cX3_choice 13 = .ok (.invokestatic 54, 3) := dk_184 0 54 (dk_at dksX3_choice_0 13 rfl rfl)
theorem dX3_choice_16 : decode cX3_choice 16 = .ok (.ifCond .eq 24, 3) := dk_153 0 24 (dk_at dksX3_choice_0 16 rfl rfl)
theorem dX3_choice_19 : decode cX3_choice 19 = .ok (.iload_n 3, 1) := dk_29 (dk_at dksX3_choice_0 19 rfl rfl)
theorem dX3_choice_20 : decode cX3_choice 20 = .ok (.iconst 0, 1) := dk_3 (dk_at dksX3_choice_0 20 rfl rfl)
theorem dX3_choice_21 : decode cX3_choice 21 = .ok (.sipush 1000, 3) := dk_17 3 232 (dk_at dksX3_choice_0 21 rfl rfl)
theorem dX3_choice_24 : decode cX3_choice 24 = .ok (.invokestatic 54, 3) := dk_184 0 54 (dk_at dksX3_choice_1 0 rfl rfl)
theorem dX3_choice_27 : decode cX3_choice 27 = .ok (.ifCond .eq 13, 3) := dk_153 0 13 (dk_at dksX3_choice_1 3 rfl rfl)
theorem dX3_choice_30 : decode cX3_choice 30 = .ok (.iload 4, 2) := dk_21 4 (dk_at dksX3_choice_1 6 rfl rfl)
theorem dX3_choice_32 : decode cX3_choice 32 = .ok (.iconst 0, 1) := dk_3 (dk_at dksX3_choice_1 8 rfl rfl)
theorem dX3_choice_33 : decode cX3_choice 33 = .ok (.iconst 1, 1) := dk_4 (dk_at dksX3_choice_1 9 rfl rfl)
theorem dX3_choice_34 : decode cX3_choice 34 = .ok (.invokestatic 54, 3) := dk_184 0 54 (dk_at dksX3_choice_1 10 rfl rfl)
theorem dX3_choice_37 : decode cX3_choice 37 = .ok (.ifCond .ne 7, 3) := dk_154 0 7 (dk_at dksX3_choice_1 13 rfl rfl)
theorem dX3_choice_40 : decode cX3_choice 40 = .ok (.ldc_w 391, 3) := dk_19 1 135 (dk_at dksX3_choice_1 16 rfl rfl)
theorem dX3_choice_43 : decode cX3_choice 43 = .ok (.ireturn, 1) := dk_172 (dk_at dksX3_choice_1 19 rfl rfl)
theorem dX3_choice_44 : decode cX3_choice 44 = .ok (.aload_n 0, 1) := dk_42 (dk_at dksX3_choice_1 20 rfl rfl)
theorem dX3_choice_45 : decode cX3_choice 45 = .ok (.getfield 7, 3) := dk_180 0 7 (dk_at dksX3_choice_1 21 rfl rfl)
theorem dX3_choice_48 : decode cX3_choice 48 = .ok (.bipush 28, 2) := dk_16 28 (dk_at dksX3_choice_2 0 rfl rfl)
theorem dX3_choice_50 : decode cX3_choice 50 = .ok (.iload_n 1, 1) := dk_27 (dk_at dksX3_choice_2 2 rfl rfl)
theorem dX3_choice_51 : decode cX3_choice 51 = .ok (.iadd, 1) := dk_96 (dk_at dksX3_choice_2 3 rfl rfl)
theorem dX3_choice_52 : decode cX3_choice 52 = .ok (.iaload, 1) := dk_46 (dk_at dksX3_choice_2 4 rfl rfl)
theorem dX3_choice_53 : decode cX3_choice 53 = .ok (.iload_n 2, 1) := dk_28 (dk_at dksX3_choice_2 5 rfl rfl)
theorem dX3_choice_54 : decode cX3_choice 54 = .ok (.isub, 1) := dk_100 (dk_at dksX3_choice_2 6 rfl rfl)
theorem dX3_choice_55 : decode cX3_choice 55 = .ok (.istore 5, 2) := dk_54 5 (dk_at dksX3_choice_2 7 rfl rfl)
theorem dX3_choice_57 : decode cX3_choice 57 = .ok (.iload_n 3, 1) := dk_29 (dk_at dksX3_choice_2 9 rfl rfl)
theorem dX3_choice_58 : decode cX3_choice 58 = .ok (.aload_n 0, 1) := dk_42 (dk_at dksX3_choice_2 10 rfl rfl)
theorem dX3_choice_59 : decode cX3_choice 59 = .ok (.getfield 7, 3) := dk_180 0 7 (dk_at dksX3_choice_2 11 rfl rfl)
theorem dX3_choice_62 : decode cX3_choice 62 = .ok (.bipush 28, 2) := dk_16 28 (dk_at dksX3_choice_2 14 rfl rfl)
theorem dX3_choice_64 : decode cX3_choice 64 = .ok (.iload_n 1, 1) := dk_27 (dk_at dksX3_choice_2 16 rfl rfl)
theorem dX3_choice_65 : decode cX3_choice 65 = .ok (.iadd, 1) := dk_96 (dk_at dksX3_choice_2 17 rfl rfl)
theorem dX3_choice_66 : decode cX3_choice 66 = .ok (.iaload, 1) := dk_46 (dk_at dksX3_choice_2 18 rfl rfl)
theorem dX3_choice_67 : decode cX3_choice 67 = .ok (.imul, 1) := dk_104 (dk_at dksX3_choice_2 19 rfl rfl)
theorem dX3_choice_68 : decode cX3_choice 68 = .ok (.sipush 1000, 3) := dk_17 3 232 (dk_at dksX3_choice_2 20 rfl rfl)
theorem dX3_choice_71 : decode cX3_choice 71 = .ok (.iload_n 3, 1) := dk_29 (dk_at dksX3_choice_2 23 rfl rfl)
theorem dX3_choice_72 : decode cX3_choice 72 = .ok (.isub, 1) := dk_100 (dk_at dksX3_choice_3 0 rfl rfl)
theorem dX3_choice_73 : decode cX3_choice 73 = .ok (.iconst 0, 1) := dk_3 (dk_at dksX3_choice_3 1 rfl rfl)
theorem dX3_choice_74 : decode cX3_choice 74 = .ok (.iload 5, 2) := dk_21 5 (dk_at dksX3_choice_3 2 rfl rfl)
theorem dX3_choice_76 : decode cX3_choice 76 = .ok (.invokestatic 51, 3) := dk_184 0 51 (dk_at dksX3_choice_3 4 rfl rfl)
theorem dX3_choice_79 : decode cX3_choice 79 = .ok (.imul, 1) := dk_104 (dk_at dksX3_choice_3 7 rfl rfl)
theorem dX3_choice_80 : decode cX3_choice 80 = .ok (.iadd, 1) := dk_96 (dk_at dksX3_choice_3 8 rfl rfl)
theorem dX3_choice_81 : decode cX3_choice 81 = .ok (.sipush 1000, 3) := dk_17 3 232 (dk_at dksX3_choice_3 9 rfl rfl)
theorem dX3_choice_84 : decode cX3_choice 84 = .ok (.invokestatic 442, 3) := dk_184 1 186 (dk_at dksX3_choice_3 12 rfl rfl)
theorem dX3_choice_87 : decode cX3_choice 87 = .ok (.aload_n 0, 1) := dk_42 (dk_at dksX3_choice_3 15 rfl rfl)
theorem dX3_choice_88 : decode cX3_choice 88 = .ok (.iload_n 1, 1) := dk_27 (dk_at dksX3_choice_3 16 rfl rfl)
theorem dX3_choice_89 : decode cX3_choice 89 = .ok (.invokevirtual 385, 3) := dk_182 1 129 (dk_at dksX3_choice_3 17 rfl rfl)
theorem dX3_choice_92 : decode cX3_choice 92 = .ok (.isub, 1) := dk_100 (dk_at dksX3_choice_3 20 rfl rfl)
theorem dX3_choice_93 : decode cX3_choice 93 = .ok (.istore 6, 2) := dk_54 6 (dk_at dksX3_choice_3 21 rfl rfl)
theorem dX3_choice_95 : decode cX3_choice 95 = .ok (.iload 5, 2) := dk_21 5 (dk_at dksX3_choice_4 0 rfl rfl)
theorem dX3_choice_97 : decode cX3_choice 97 = .ok (.istore 7, 2) := dk_54 7 (dk_at dksX3_choice_4 2 rfl rfl)
theorem dX3_choice_99 : decode cX3_choice 99 = .ok (.iconst 0, 1) := dk_3 (dk_at dksX3_choice_4 4 rfl rfl)
theorem dX3_choice_100 : decode cX3_choice 100 = .ok (.istore 8, 2) := dk_54 8 (dk_at dksX3_choice_4 5 rfl rfl)
theorem dX3_choice_102 : decode cX3_choice 102 = .ok (.iload 6, 2) := dk_21 6 (dk_at dksX3_choice_4 7 rfl rfl)
theorem dX3_choice_104 : decode cX3_choice 104 = .ok (.iload 7, 2) := dk_21 7 (dk_at dksX3_choice_4 9 rfl rfl)
theorem dX3_choice_106 : decode cX3_choice 106 = .ok (.if_icmp .le 10, 3) := dk_164 0 10 (dk_at dksX3_choice_4 11 rfl rfl)
theorem dX3_choice_109 : decode cX3_choice 109 = .ok (.iload 6, 2) := dk_21 6 (dk_at dksX3_choice_4 14 rfl rfl)
theorem dX3_choice_111 : decode cX3_choice 111 = .ok (.istore 7, 2) := dk_54 7 (dk_at dksX3_choice_4 16 rfl rfl)
theorem dX3_choice_113 : decode cX3_choice 113 = .ok (.iconst 1, 1) := dk_4 (dk_at dksX3_choice_4 18 rfl rfl)
theorem dX3_choice_114 : decode cX3_choice 114 = .ok (.istore 8, 2) := dk_54 8 (dk_at dksX3_choice_4 19 rfl rfl)
theorem dX3_choice_116 : decode cX3_choice 116 = .ok (.iload 7, 2) := dk_21 7 (dk_at dksX3_choice_4 21 rfl rfl)
theorem dX3_choice_118 : decode cX3_choice 118 = .ok (.ifCond .ge 9, 3) := dk_156 0 9 (dk_at dksX3_choice_5 0 rfl rfl)
theorem dX3_choice_121 : decode cX3_choice 121 = .ok (.iconst 0, 1) := dk_3 (dk_at dksX3_choice_5 3 rfl rfl)
theorem dX3_choice_122 : decode cX3_choice 122 = .ok (.istore 7, 2) := dk_54 7 (dk_at dksX3_choice_5 4 rfl rfl)
theorem dX3_choice_124 : decode cX3_choice 124 = .ok (.iconst 2, 1) := dk_5 (dk_at dksX3_choice_5 6 rfl rfl)
theorem dX3_choice_125 : decode cX3_choice 125 = .ok (.istore 8, 2) := dk_54 8 (dk_at dksX3_choice_5 7 rfl rfl)
theorem dX3_choice_127 : decode cX3_choice 127 = .ok (.iload 4, 2) := dk_21 4 (dk_at dksX3_choice_5 9 rfl rfl)
theorem dX3_choice_129 : decode cX3_choice 129 = .ok (.ifCond .ne 8, 3) := dk_154 0 8 (dk_at dksX3_choice_5 11 rfl rfl)
theorem dX3_choice_132 : decode cX3_choice 132 = .ok (.iload 8, 2) := dk_21 8 (dk_at dksX3_choice_5 14 rfl rfl)
theorem dX3_choice_134 : decode cX3_choice 134 = .ok (.goto 5, 3) := dk_167 0 5 (dk_at dksX3_choice_5 16 rfl rfl)
theorem dX3_choice_137 : decode cX3_choice 137 = .ok (.iload 7, 2) := dk_21 7 (dk_at dksX3_choice_5 19 rfl rfl)
theorem dX3_choice_139 : decode cX3_choice 139 = .ok (.ireturn, 1) := dk_172 (dk_at dksX3_choice_5 21 rfl rfl)
abbrev cX3_downwards : ByteArray := prog_17_method_117_code
def yX3_downwards : MethodName := ⟨RX3, "downwards", "(II)I"⟩
def dkwX3_downwards_0 : List UInt8 := [26, 156, 0, 9, 26, 27, 112, 154, 0, 9, 26, 27, 108, 167, 0, 8, 26, 27, 108, 4, 100, 172]
abbrev dktX3_downwards_0 : List UInt8 := dkwX3_downwards_0 ++ []
theorem dksX3_downwards_0 : cX3_downwards.data.toList.drop 0 = dktX3_downwards_0 := by decide +kernel
theorem dX3_downwards_0 : decode cX3_downwards 0 = .ok (.iload_n 0, 1) := dk_26 (dk_at dksX3_downwards_0 0 rfl rfl)
theorem dX3_downwards_1 : decode cX3_downwards 1 = .ok (.ifCond .ge 9, 3) := dk_156 0 9 (dk_at dksX3_downwards_0 1 rfl rfl)
theorem dX3_downwards_4 : decode cX3_downwards 4 = .ok (.iload_n 0, 1) := dk_26 (dk_at dksX3_downwards_0 4 rfl rfl)
theorem dX3_downwards_5 : decode cX3_downwards 5 = .ok (.iload_n 1, 1) := dk_27 (dk_at dksX3_downwards_0 5 rfl rfl)
theorem dX3_downwards_6 : decode cX3_downwards 6 = .ok (.irem, 1) := dk_112 (dk_at dksX3_downwards_0 6 rfl rfl)
theorem dX3_downwards_7 : decode cX3_downwards 7 = .ok (.ifCond .ne 9, 3) := dk_154 0 9 (dk_at dksX3_downwards_0 7 rfl rfl)
theorem dX3_downwards_10 : decode cX3_downwards 10 = .ok (.iload_n 0, 1) := dk_26 (dk_at dksX3_downwards_0 10 rfl rfl)
theorem dX3_downwards_11 : decode cX3_downwards 11 = .ok (.iload_n 1, 1) := dk_27 (dk_at dksX3_downwards_0 11 rfl rfl)
theorem dX3_downwards_12 : decode cX3_downwards 12 = .ok (.idiv, 1) := dk_108 (dk_at dksX3_downwards_0 12 rfl rfl)
theorem dX3_downwards_13 : decode cX3_downwards 13 = .ok (.goto 8, 3) := dk_167 0 8 (dk_at dksX3_downwards_0 13 rfl rfl)
theorem dX3_downwards_16 : decode cX3_downwards 16 = .ok (.iload_n 0, 1) := dk_26 (dk_at dksX3_downwards_0 16 rfl rfl)
theorem dX3_downwards_17 : decode cX3_downwards 17 = .ok (.iload_n 1, 1) := dk_27 (dk_at dksX3_downwards_0 17 rfl rfl)
theorem dX3_downwards_18 : decode cX3_downwards 18 = .ok (.idiv, 1) := dk_108 (dk_at dksX3_downwards_0 18 rfl rfl)
theorem dX3_downwards_19 : decode cX3_downwards 19 = .ok (.iconst 1, 1) := dk_4 (dk_at dksX3_downwards_0 19 rfl rfl)
theorem dX3_downwards_20 : decode cX3_downwards 20 = .ok (.isub, 1) := dk_100 (dk_at dksX3_downwards_0 20 rfl rfl)
theorem dX3_downwards_21 : decode cX3_downwards 21 = .ok (.ireturn, 1) := dk_172 (dk_at dksX3_downwards_0 21 rfl rfl)
abbrev cX3_bluff : ByteArray := prog_17_method_119_code
def yX3_bluff : MethodName := ⟨RX3, "bluff", "(III)I"⟩
def dkwX3_bluff_3 : List UInt8 := [105, 22, 6, 109, 136, 172]
abbrev dktX3_bluff_3 : List UInt8 := dkwX3_bluff_3 ++ []
def dkwX3_bluff_2 : List UInt8 := [100, 133, 29, 133, 105, 97, 55, 6, 22, 6, 9, 148, 154, 0, 7, 2, 167, 0, 13, 20, 1, 148, 22, 4]
abbrev dktX3_bluff_2 : List UInt8 := dkwX3_bluff_2 ++ dktX3_bluff_3
def dkwX3_bluff_1 : List UInt8 := [17, 3, 232, 184, 0, 54, 154, 0, 5, 2, 172, 27, 133, 28, 133, 105, 55, 4, 22, 4, 17, 3, 232, 27]
abbrev dktX3_bluff_1 : List UInt8 := dkwX3_bluff_1 ++ dktX3_bluff_2
def dkwX3_bluff_0 : List UInt8 := [27, 3, 17, 3, 232, 184, 0, 54, 153, 0, 25, 28, 3, 17, 3, 232, 184, 0, 54, 153, 0, 14, 29, 3]
abbrev dktX3_bluff_0 : List UInt8 := dkwX3_bluff_0 ++ dktX3_bluff_1
theorem dksX3_bluff_0 : cX3_bluff.data.toList.drop 0 = dktX3_bluff_0 := by decide +kernel
theorem dksX3_bluff_1 : cX3_bluff.data.toList.drop 24 = dktX3_bluff_1 := dk_seg dksX3_bluff_0 24 rfl rfl
theorem dksX3_bluff_2 : cX3_bluff.data.toList.drop 48 = dktX3_bluff_2 := dk_seg dksX3_bluff_1 24 rfl rfl
theorem dksX3_bluff_3 : cX3_bluff.data.toList.drop 72 = dktX3_bluff_3 := dk_seg dksX3_bluff_2 24 rfl rfl
theorem dX3_bluff_0 : decode cX3_bluff 0 = .ok (.iload_n 1, 1) := dk_27 (dk_at dksX3_bluff_0 0 rfl rfl)
theorem dX3_bluff_1 : decode cX3_bluff 1 = .ok (.iconst 0, 1) := dk_3 (dk_at dksX3_bluff_0 1 rfl rfl)
theorem dX3_bluff_2 : decode cX3_bluff 2 = .ok (.sipush 1000, 3) := dk_17 3 232 (dk_at dksX3_bluff_0 2 rfl rfl)
theorem dX3_bluff_5 : decode cX3_bluff 5 = .ok (.invokestatic 54, 3) := dk_184 0 54 (dk_at dksX3_bluff_0 5 rfl rfl)
theorem dX3_bluff_8 : decode cX3_bluff 8 = .ok (.ifCond .eq 25, 3) := dk_153 0 25 (dk_at dksX3_bluff_0 8 rfl rfl)
theorem dX3_bluff_11 : decode cX3_bluff 11 = .ok (.iload_n 2, 1) := dk_28 (dk_at dksX3_bluff_0 11 rfl rfl)
theorem dX3_bluff_12 : decode cX3_bluff 12 = .ok (.iconst 0, 1) := dk_3 (dk_at dksX3_bluff_0 12 rfl rfl)
theorem dX3_bluff_13 : decode cX3_bluff 13 = .ok (.sipush 1000, 3) := dk_17 3 232 (dk_at dksX3_bluff_0 13 rfl rfl)
theorem dX3_bluff_16 : decode cX3_bluff 16 = .ok (.invokestatic 54, 3) := dk_184 0 54 (dk_at dksX3_bluff_0 16 rfl rfl)
theorem dX3_bluff_19 : decode cX3_bluff 19 = .ok (.ifCond .eq 14, 3) := dk_153 0 14 (dk_at dksX3_bluff_0 19 rfl rfl)
theorem dX3_bluff_22 : decode cX3_bluff 22 = .ok (.iload_n 3, 1) := dk_29 (dk_at dksX3_bluff_0 22 rfl rfl)
theorem dX3_bluff_23 : decode cX3_bluff 23 = .ok (.iconst 0, 1) := dk_3 (dk_at dksX3_bluff_0 23 rfl rfl)
theorem dX3_bluff_24 : decode cX3_bluff 24 = .ok (.sipush 1000, 3) := dk_17 3 232 (dk_at dksX3_bluff_1 0 rfl rfl)
theorem dX3_bluff_27 : decode cX3_bluff 27 = .ok (.invokestatic 54, 3) := dk_184 0 54 (dk_at dksX3_bluff_1 3 rfl rfl)
theorem dX3_bluff_30 : decode cX3_bluff 30 = .ok (.ifCond .ne 5, 3) := dk_154 0 5 (dk_at dksX3_bluff_1 6 rfl rfl)
theorem dX3_bluff_33 : decode cX3_bluff 33 = .ok (.iconst (-1), 1) := dk_2 (dk_at dksX3_bluff_1 9 rfl rfl)
theorem dX3_bluff_34 : decode cX3_bluff 34 = .ok (.ireturn, 1) := dk_172 (dk_at dksX3_bluff_1 10 rfl rfl)
theorem dX3_bluff_35 : decode cX3_bluff 35 = .ok (.iload_n 1, 1) := dk_27 (dk_at dksX3_bluff_1 11 rfl rfl)
theorem dX3_bluff_36 : decode cX3_bluff 36 = .ok (.i2l, 1) := dk_133 (dk_at dksX3_bluff_1 12 rfl rfl)
theorem dX3_bluff_37 : decode cX3_bluff 37 = .ok (.iload_n 2, 1) := dk_28 (dk_at dksX3_bluff_1 13 rfl rfl)
theorem dX3_bluff_38 : decode cX3_bluff 38 = .ok (.i2l, 1) := dk_133 (dk_at dksX3_bluff_1 14 rfl rfl)
theorem dX3_bluff_39 : decode cX3_bluff 39 = .ok (.lmul, 1) := dk_105 (dk_at dksX3_bluff_1 15 rfl rfl)
theorem dX3_bluff_40 : decode cX3_bluff 40 = .ok (.lstore 4, 2) := dk_55 4 (dk_at dksX3_bluff_1 16 rfl rfl)
theorem dX3_bluff_42 : decode cX3_bluff 42 = .ok (.lload 4, 2) := dk_22 4 (dk_at dksX3_bluff_1 18 rfl rfl)
theorem dX3_bluff_44 : decode cX3_bluff 44 = .ok (.sipush 1000, 3) := dk_17 3 232 (dk_at dksX3_bluff_1 20 rfl rfl)
theorem dX3_bluff_47 : decode cX3_bluff 47 = .ok (.iload_n 1, 1) := dk_27 (dk_at dksX3_bluff_1 23 rfl rfl)
theorem dX3_bluff_48 : decode cX3_bluff 48 = .ok (.isub, 1) := dk_100 (dk_at dksX3_bluff_2 0 rfl rfl)
theorem dX3_bluff_49 : decode cX3_bluff 49 = .ok (.i2l, 1) := dk_133 (dk_at dksX3_bluff_2 1 rfl rfl)
theorem dX3_bluff_50 : decode cX3_bluff 50 = .ok (.iload_n 3, 1) := dk_29 (dk_at dksX3_bluff_2 2 rfl rfl)
theorem dX3_bluff_51 : decode cX3_bluff 51 = .ok (.i2l, 1) := dk_133 (dk_at dksX3_bluff_2 3 rfl rfl)
theorem dX3_bluff_52 : decode cX3_bluff 52 = .ok (.lmul, 1) := dk_105 (dk_at dksX3_bluff_2 4 rfl rfl)
theorem dX3_bluff_53 : decode cX3_bluff 53 = .ok (.ladd, 1) := dk_97 (dk_at dksX3_bluff_2 5 rfl rfl)
theorem dX3_bluff_54 : decode cX3_bluff 54 = .ok (.lstore 6, 2) := dk_55 6 (dk_at dksX3_bluff_2 6 rfl rfl)
theorem dX3_bluff_56 : decode cX3_bluff 56 = .ok (.lload 6, 2) := dk_22 6 (dk_at dksX3_bluff_2 8 rfl rfl)
theorem dX3_bluff_58 : decode cX3_bluff 58 = .ok (.lconst 0, 1) := dk_9 (dk_at dksX3_bluff_2 10 rfl rfl)
theorem dX3_bluff_59 : decode cX3_bluff 59 = .ok (.lcmp, 1) := dk_148 (dk_at dksX3_bluff_2 11 rfl rfl)
theorem dX3_bluff_60 : decode cX3_bluff 60 = .ok (.ifCond .ne 7, 3) := dk_154 0 7 (dk_at dksX3_bluff_2 12 rfl rfl)
theorem dX3_bluff_63 : decode cX3_bluff 63 = .ok (.iconst (-1), 1) := dk_2 (dk_at dksX3_bluff_2 15 rfl rfl)
theorem dX3_bluff_64 : decode cX3_bluff 64 = .ok (.goto 13, 3) := dk_167 0 13 (dk_at dksX3_bluff_2 16 rfl rfl)
theorem dX3_bluff_67 : decode cX3_bluff 67 = .ok (.ldc2_w 404, 3) := dk_20 1 148 (dk_at dksX3_bluff_2 19 rfl rfl)
theorem dX3_bluff_70 : decode cX3_bluff 70 = .ok (.lload 4, 2) := dk_22 4 (dk_at dksX3_bluff_2 22 rfl rfl)
theorem dX3_bluff_72 : decode cX3_bluff 72 = .ok (.lmul, 1) := dk_105 (dk_at dksX3_bluff_3 0 rfl rfl)
theorem dX3_bluff_73 : decode cX3_bluff 73 = .ok (.lload 6, 2) := dk_22 6 (dk_at dksX3_bluff_3 1 rfl rfl)
theorem dX3_bluff_75 : decode cX3_bluff 75 = .ok (.ldiv, 1) := dk_109 (dk_at dksX3_bluff_3 3 rfl rfl)
theorem dX3_bluff_76 : decode cX3_bluff 76 = .ok (.l2i, 1) := dk_136 (dk_at dksX3_bluff_3 4 rfl rfl)
theorem dX3_bluff_77 : decode cX3_bluff 77 = .ok (.ireturn, 1) := dk_172 (dk_at dksX3_bluff_3 5 rfl rfl)
abbrev cX3_gap : ByteArray := prog_17_method_120_code
def yX3_gap : MethodName := ⟨RX3, "gap", "(I)I"⟩
def dkwX3_gap_2 : List UInt8 := [3, 167, 0, 11, 42, 180, 0, 7, 7, 27, 96, 46, 100, 172]
abbrev dktX3_gap_2 : List UInt8 := dkwX3_gap_2 ++ []
def dkwX3_gap_1 : List UInt8 := [42, 180, 0, 7, 7, 27, 96, 4, 96, 46, 42, 180, 0, 7, 16, 16, 27, 96, 46, 100, 27, 154, 0, 7]
abbrev dktX3_gap_1 : List UInt8 := dkwX3_gap_1 ++ dktX3_gap_2
def dkwX3_gap_0 : List UInt8 := [42, 27, 182, 0, 58, 154, 0, 7, 2, 167, 0, 52, 42, 27, 182, 1, 105, 153, 0, 7, 3, 167, 0, 40]
abbrev dktX3_gap_0 : List UInt8 := dkwX3_gap_0 ++ dktX3_gap_1
theorem dksX3_gap_0 : cX3_gap.data.toList.drop 0 = dktX3_gap_0 := by decide +kernel
theorem dksX3_gap_1 : cX3_gap.data.toList.drop 24 = dktX3_gap_1 := dk_seg dksX3_gap_0 24 rfl rfl
theorem dksX3_gap_2 : cX3_gap.data.toList.drop 48 = dktX3_gap_2 := dk_seg dksX3_gap_1 24 rfl rfl
theorem dX3_gap_0 : decode cX3_gap 0 = .ok (.aload_n 0, 1) := dk_42 (dk_at dksX3_gap_0 0 rfl rfl)
theorem dX3_gap_1 : decode cX3_gap 1 = .ok (.iload_n 1, 1) := dk_27 (dk_at dksX3_gap_0 1 rfl rfl)
theorem dX3_gap_2 : decode cX3_gap 2 = .ok (.invokevirtual 58, 3) := dk_182 0 58 (dk_at dksX3_gap_0 2 rfl rfl)
theorem dX3_gap_5 : decode cX3_gap 5 = .ok (.ifCond .ne 7, 3) := dk_154 0 7 (dk_at dksX3_gap_0 5 rfl rfl)
theorem dX3_gap_8 : decode cX3_gap 8 = .ok (.iconst (-1), 1) := dk_2 (dk_at dksX3_gap_0 8 rfl rfl)
theorem dX3_gap_9 : decode cX3_gap 9 = .ok (.goto 52, 3) := dk_167 0 52 (dk_at dksX3_gap_0 9 rfl rfl)
theorem dX3_gap_12 : decode cX3_gap 12 = .ok (.aload_n 0, 1) := dk_42 (dk_at dksX3_gap_0 12 rfl rfl)
theorem dX3_gap_13 : decode cX3_gap 13 = .ok (.iload_n 1, 1) := dk_27 (dk_at dksX3_gap_0 13 rfl rfl)
theorem dX3_gap_14 : decode cX3_gap 14 = .ok (.invokevirtual 361, 3) := dk_182 1 105 (dk_at dksX3_gap_0 14 rfl rfl)
theorem dX3_gap_17 : decode cX3_gap 17 = .ok (.ifCond .eq 7, 3) := dk_153 0 7 (dk_at dksX3_gap_0 17 rfl rfl)
theorem dX3_gap_20 : decode cX3_gap 20 = .ok (.iconst 0, 1) := dk_3 (dk_at dksX3_gap_0 20 rfl rfl)
theorem dX3_gap_21 : decode cX3_gap 21 = .ok (.goto 40, 3) := dk_167 0 40 (dk_at dksX3_gap_0 21 rfl rfl)
theorem dX3_gap_24 : decode cX3_gap 24 = .ok (.aload_n 0, 1) := dk_42 (dk_at dksX3_gap_1 0 rfl rfl)
theorem dX3_gap_25 : decode cX3_gap 25 = .ok (.getfield 7, 3) := dk_180 0 7 (dk_at dksX3_gap_1 1 rfl rfl)
theorem dX3_gap_28 : decode cX3_gap 28 = .ok (.iconst 4, 1) := dk_7 (dk_at dksX3_gap_1 4 rfl rfl)
theorem dX3_gap_29 : decode cX3_gap 29 = .ok (.iload_n 1, 1) := dk_27 (dk_at dksX3_gap_1 5 rfl rfl)
theorem dX3_gap_30 : decode cX3_gap 30 = .ok (.iadd, 1) := dk_96 (dk_at dksX3_gap_1 6 rfl rfl)
theorem dX3_gap_31 : decode cX3_gap 31 = .ok (.iconst 1, 1) := dk_4 (dk_at dksX3_gap_1 7 rfl rfl)
theorem dX3_gap_32 : decode cX3_gap 32 = .ok (.iadd, 1) := dk_96 (dk_at dksX3_gap_1 8 rfl rfl)
theorem dX3_gap_33 : decode cX3_gap 33 = .ok (.iaload, 1) := dk_46 (dk_at dksX3_gap_1 9 rfl rfl)
theorem dX3_gap_34 : decode cX3_gap 34 = .ok (.aload_n 0, 1) := dk_42 (dk_at dksX3_gap_1 10 rfl rfl)
theorem dX3_gap_35 : decode cX3_gap 35 = .ok (.getfield 7, 3) := dk_180 0 7 (dk_at dksX3_gap_1 11 rfl rfl)
theorem dX3_gap_38 : decode cX3_gap 38 = .ok (.bipush 16, 2) := dk_16 16 (dk_at dksX3_gap_1 14 rfl rfl)
theorem dX3_gap_40 : decode cX3_gap 40 = .ok (.iload_n 1, 1) := dk_27 (dk_at dksX3_gap_1 16 rfl rfl)
theorem dX3_gap_41 : decode cX3_gap 41 = .ok (.iadd, 1) := dk_96 (dk_at dksX3_gap_1 17 rfl rfl)
theorem dX3_gap_42 : decode cX3_gap 42 = .ok (.iaload, 1) := dk_46 (dk_at dksX3_gap_1 18 rfl rfl)
theorem dX3_gap_43 : decode cX3_gap 43 = .ok (.isub, 1) := dk_100 (dk_at dksX3_gap_1 19 rfl rfl)
theorem dX3_gap_44 : decode cX3_gap 44 = .ok (.iload_n 1, 1) := dk_27 (dk_at dksX3_gap_1 20 rfl rfl)
theorem dX3_gap_45 : decode cX3_gap 45 = .ok (.ifCond .ne 7, 3) := dk_154 0 7 (dk_at dksX3_gap_1 21 rfl rfl)
theorem dX3_gap_48 : decode cX3_gap 48 = .ok (.iconst 0, 1) := dk_3 (dk_at dksX3_gap_2 0 rfl rfl)
theorem dX3_gap_49 : decode cX3_gap 49 = .ok (.goto 11, 3) := dk_167 0 11 (dk_at dksX3_gap_2 1 rfl rfl)
theorem dX3_gap_52 : decode cX3_gap 52 = .ok (.aload_n 0, 1) := dk_42 (dk_at dksX3_gap_2 4 rfl rfl)
theorem dX3_gap_53 : decode cX3_gap 53 = .ok (.getfield 7, 3) := dk_180 0 7 (dk_at dksX3_gap_2 5 rfl rfl)
theorem dX3_gap_56 : decode cX3_gap 56 = .ok (.iconst 4, 1) := dk_7 (dk_at dksX3_gap_2 8 rfl rfl)
theorem dX3_gap_57 : decode cX3_gap 57 = .ok (.iload_n 1, 1) := dk_27 (dk_at dksX3_gap_2 9 rfl rfl)
theorem dX3_gap_58 : decode cX3_gap 58 = .ok (.iadd, 1) := dk_96 (dk_at dksX3_gap_2 10 rfl rfl)
theorem dX3_gap_59 : decode cX3_gap 59 = .ok (.iaload, 1) := dk_46 (dk_at dksX3_gap_2 11 rfl rfl)
theorem dX3_gap_60 : decode cX3_gap 60 = .ok (.isub, 1) := dk_100 (dk_at dksX3_gap_2 12 rfl rfl)
theorem dX3_gap_61 : decode cX3_gap 61 = .ok (.ireturn, 1) := dk_172 (dk_at dksX3_gap_2 13 rfl rfl)
abbrev cX3_runs : ByteArray := prog_17_method_122_code
def yX3_runs : MethodName := ⟨RX3, "runs", "(I)I"⟩
def dkwX3_runs_5 : List UInt8 := [154, 0, 7, 28, 167, 0, 14, 27, 4, 160, 0, 7, 29, 167, 0, 5, 21, 5, 172]
abbrev dktX3_runs_5 : List UInt8 := dkwX3_runs_5 ++ []
def dkwX3_runs_4 : List UInt8 := [180, 0, 7, 16, 16, 21, 5, 96, 46, 162, 0, 7, 21, 6, 54, 5, 132, 6, 1, 167, 255, 167, 27]
abbrev dktX3_runs_4 : List UInt8 := dkwX3_runs_4 ++ dktX3_runs_5
def dkwX3_runs_3 : List UInt8 := [21, 4, 158, 0, 36, 21, 5, 2, 159, 0, 26, 42, 180, 0, 7, 16, 16, 21, 6, 96, 46, 42]
abbrev dktX3_runs_3 : List UInt8 := dkwX3_runs_3 ++ dktX3_runs_4
def dkwX3_runs_2 : List UInt8 := [96, 167, 0, 4, 3, 54, 4, 21, 4, 28, 164, 0, 14, 21, 4, 61, 21, 6, 21, 4, 100, 4, 96, 62]
abbrev dktX3_runs_2 : List UInt8 := dkwX3_runs_2 ++ dktX3_runs_3
def dkwX3_runs_1 : List UInt8 := [21, 6, 42, 180, 0, 7, 16, 88, 46, 162, 0, 83, 42, 21, 6, 182, 1, 189, 153, 0, 10, 21, 4, 4]
abbrev dktX3_runs_1 : List UInt8 := dkwX3_runs_1 ++ dktX3_runs_2
def dkwX3_runs_0 : List UInt8 := [27, 3, 5, 184, 0, 54, 154, 0, 5, 2, 172, 3, 61, 2, 62, 3, 54, 4, 2, 54, 5, 3, 54, 6]
abbrev dktX3_runs_0 : List UInt8 := dkwX3_runs_0 ++ dktX3_runs_1
theorem dksX3_runs_0 : cX3_runs.data.toList.drop 0 = dktX3_runs_0 := by decide +kernel
theorem dksX3_runs_1 : cX3_runs.data.toList.drop 24 = dktX3_runs_1 := dk_seg dksX3_runs_0 24 rfl rfl
theorem dksX3_runs_2 : cX3_runs.data.toList.drop 48 = dktX3_runs_2 := dk_seg dksX3_runs_1 24 rfl rfl
theorem dksX3_runs_3 : cX3_runs.data.toList.drop 72 = dktX3_runs_3 := dk_seg dksX3_runs_2 24 rfl rfl
theorem dksX3_runs_4 : cX3_runs.data.toList.drop 94 = dktX3_runs_4 := dk_seg dksX3_runs_3 22 rfl rfl
theorem dksX3_runs_5 : cX3_runs.data.toList.drop 117 = dktX3_runs_5 := dk_seg dksX3_runs_4 23 rfl rfl
theorem dX3_runs_0 : decode cX3_runs 0 = .ok (.iload_n 1, 1) := dk_27 (dk_at dksX3_runs_0 0 rfl rfl)
theorem dX3_runs_1 : decode cX3_runs 1 = .ok (.iconst 0, 1) := dk_3 (dk_at dksX3_runs_0 1 rfl rfl)
theorem dX3_runs_2 : decode cX3_runs 2 = .ok (.iconst 2, 1) := dk_5 (dk_at dksX3_runs_0 2 rfl rfl)
theorem dX3_runs_3 : decode cX3_runs 3 = .ok (.invokestatic 54, 3) := dk_184 0 54 (dk_at dksX3_runs_0 3 rfl rfl)
theorem dX3_runs_6 : decode cX3_runs 6 = .ok (.ifCond .ne 5, 3) := dk_154 0 5 (dk_at dksX3_runs_0 6 rfl rfl)
theorem dX3_runs_9 : decode cX3_runs 9 = .ok (.iconst (-1), 1) := dk_2 (dk_at dksX3_runs_0 9 rfl rfl)
theorem dX3_runs_10 : decode cX3_runs 10 = .ok (.ireturn, 1) := dk_172 (dk_at dksX3_runs_0 10 rfl rfl)
theorem dX3_runs_11 : decode cX3_runs 11 = .ok (.iconst 0, 1) := dk_3 (dk_at dksX3_runs_0 11 rfl rfl)
theorem dX3_runs_12 : decode cX3_runs 12 = .ok (.istore_n 2, 1) := dk_61 (dk_at dksX3_runs_0 12 rfl rfl)
theorem dX3_runs_13 : decode cX3_runs 13 = .ok (.iconst (-1), 1) := dk_2 (dk_at dksX3_runs_0 13 rfl rfl)
theorem dX3_runs_14 : decode cX3_runs 14 = .ok (.istore_n 3, 1) := dk_62 (dk_at dksX3_runs_0 14 rfl rfl)
theorem dX3_runs_15 : decode cX3_runs 15 = .ok (.iconst 0, 1) := dk_3 (dk_at dksX3_runs_0 15 rfl rfl)
theorem dX3_runs_16 : decode cX3_runs 16 = .ok (.istore 4, 2) := dk_54 4 (dk_at dksX3_runs_0 16 rfl rfl)
theorem dX3_runs_18 : decode cX3_runs 18 = .ok (.iconst (-1), 1) := dk_2 (dk_at dksX3_runs_0 18 rfl rfl)
theorem dX3_runs_19 : decode cX3_runs 19 = .ok (.istore 5, 2) := dk_54 5 (dk_at dksX3_runs_0 19 rfl rfl)
theorem dX3_runs_21 : decode cX3_runs 21 = .ok (.iconst 0, 1) := dk_3 (dk_at dksX3_runs_0 21 rfl rfl)
theorem dX3_runs_22 : decode cX3_runs 22 = .ok (.istore 6, 2) := dk_54 6 (dk_at dksX3_runs_0 22 rfl rfl)
theorem dX3_runs_24 : decode cX3_runs 24 = .ok (.iload 6, 2) := dk_21 6 (dk_at dksX3_runs_1 0 rfl rfl)
theorem dX3_runs_26 : decode cX3_runs 26 = .ok (.aload_n 0, 1) := dk_42 (dk_at dksX3_runs_1 2 rfl rfl)
theorem dX3_runs_27 : decode cX3_runs 27 = .ok (.getfield 7, 3) := dk_180 0 7 (dk_at dksX3_runs_1 3 rfl rfl)
theorem dX3_runs_30 : decode cX3_runs 30 = .ok (.bipush 88, 2) := dk_16 88 (dk_at dksX3_runs_1 6 rfl rfl)
theorem dX3_runs_32 : decode cX3_runs 32 = .ok (.iaload, 1) := dk_46 (dk_at dksX3_runs_1 8 rfl rfl)
theorem dX3_runs_33 : decode cX3_runs 33 = .ok (.if_icmp .ge 83, 3) := dk_162 0 83 (dk_at dksX3_runs_1 9 rfl rfl)
theorem dX3_runs_36 : decode cX3_runs 36 = .ok (.aload_n 0, 1) := dk_42 (dk_at dksX3_runs_1 12 rfl rfl)
theorem dX3_runs_37 : decode cX3_runs 37 = .ok (.iload 6, 2) := dk_21 6 (dk_at dksX3_runs_1 13 rfl rfl)
theorem dX3_runs_39 : decode cX3_runs 39 = .ok (.invokevirtual 445, 3) := dk_182 1 189 (dk_at dksX3_runs_1 15 rfl rfl)
theorem dX3_runs_42 : decode cX3_runs 42 = .ok (.ifCond .eq 10, 3) := dk_153 0 10 (dk_at dksX3_runs_1 18 rfl rfl)
theorem dX3_runs_45 : decode cX3_runs 45 = .ok (.iload 4, 2) := dk_21 4 (dk_at dksX3_runs_1 21 rfl rfl)
theorem dX3_runs_47 : decode cX3_runs 47 = .ok (.iconst 1, 1) := dk_4 (dk_at dksX3_runs_1 23 rfl rfl)
theorem dX3_runs_48 : decode cX3_runs 48 = .ok (.iadd, 1) := dk_96 (dk_at dksX3_runs_2 0 rfl rfl)
theorem dX3_runs_49 : decode cX3_runs 49 = .ok (.goto 4, 3) := dk_167 0 4 (dk_at dksX3_runs_2 1 rfl rfl)
theorem dX3_runs_52 : decode cX3_runs 52 = .ok (.iconst 0, 1) := dk_3 (dk_at dksX3_runs_2 4 rfl rfl)
theorem dX3_runs_53 : decode cX3_runs 53 = .ok (.istore 4, 2) := dk_54 4 (dk_at dksX3_runs_2 5 rfl rfl)
theorem dX3_runs_55 : decode cX3_runs 55 = .ok (.iload 4, 2) := dk_21 4 (dk_at dksX3_runs_2 7 rfl rfl)
theorem dX3_runs_57 : decode cX3_runs 57 = .ok (.iload_n 2, 1) := dk_28 (dk_at dksX3_runs_2 9 rfl rfl)
theorem dX3_runs_58 : decode cX3_runs 58 = .ok (.if_icmp .le 14, 3) := dk_164 0 14 (dk_at dksX3_runs_2 10 rfl rfl)
theorem dX3_runs_61 : decode cX3_runs 61 = .ok (.iload 4, 2) := dk_21 4 (dk_at dksX3_runs_2 13 rfl rfl)
theorem dX3_runs_63 : decode cX3_runs 63 = .ok (.istore_n 2, 1) := dk_61 (dk_at dksX3_runs_2 15 rfl rfl)
theorem dX3_runs_64 : decode cX3_runs 64 = .ok (.iload 6, 2) := dk_21 6 (dk_at dksX3_runs_2 16 rfl rfl)
theorem dX3_runs_66 : decode cX3_runs 66 = .ok (.iload 4, 2) := dk_21 4 (dk_at dksX3_runs_2 18 rfl rfl)
theorem dX3_runs_68 : decode cX3_runs 68 = .ok (.isub, 1) := dk_100 (dk_at dksX3_runs_2 20 rfl rfl)
theorem dX3_runs_69 : decode cX3_runs 69 = .ok (.iconst 1, 1) := dk_4 (dk_at dksX3_runs_2 21 rfl rfl)
theorem dX3_runs_70 : decode cX3_runs 70 = .ok (.iadd, 1) := dk_96 (dk_at dksX3_runs_2 22 rfl rfl)
theorem dX3_runs_71 : decode cX3_runs 71 = .ok (.istore_n 3, 1) := dk_62 (dk_at dksX3_runs_2 23 rfl rfl)
theorem dX3_runs_72 : decode cX3_runs 72 = .ok (.iload 4, 2) := dk_21 4 (dk_at dksX3_runs_3 0 rfl rfl)
theorem dX3_runs_74 : decode cX3_runs 74 = .ok (.ifCond .le 36, 3) := dk_158 0 36 (dk_at dksX3_runs_3 2 rfl rfl)
theorem dX3_runs_77 : decode cX3_runs 77 = .ok (.iload 5, 2) := dk_21 5 (dk_at dksX3_runs_3 5 rfl rfl)
theorem dX3_runs_79 : decode cX3_runs 79 = .ok (.iconst (-1), 1) := dk_2 (dk_at dksX3_runs_3 7 rfl rfl)
theorem dX3_runs_80 : decode cX3_runs 80 = .ok (.if_icmp .eq 26, 3) := dk_159 0 26 (dk_at dksX3_runs_3 8 rfl rfl)
theorem dX3_runs_83 : decode cX3_runs 83 = .ok (.aload_n 0, 1) := dk_42 (dk_at dksX3_runs_3 11 rfl rfl)
theorem dX3_runs_84 : decode cX3_runs 84 = .ok (.getfield 7, 3) := dk_180 0 7 (dk_at dksX3_runs_3 12 rfl rfl)
theorem dX3_runs_87 : decode cX3_runs 87 = .ok (.bipush 16, 2) := dk_16 16 (dk_at dksX3_runs_3 15 rfl rfl)
theorem dX3_runs_89 : decode cX3_runs 89 = .ok (.iload 6, 2) := dk_21 6 (dk_at dksX3_runs_3 17 rfl rfl)
theorem dX3_runs_91 : decode cX3_runs 91 = .ok (.iadd, 1) := dk_96 (dk_at dksX3_runs_3 19 rfl rfl)
theorem dX3_runs_92 : decode cX3_runs 92 = .ok (.iaload, 1) := dk_46 (dk_at dksX3_runs_3 20 rfl rfl)
theorem dX3_runs_93 : decode cX3_runs 93 = .ok (.aload_n 0, 1) := dk_42 (dk_at dksX3_runs_3 21 rfl rfl)
theorem dX3_runs_94 : decode cX3_runs 94 = .ok (.getfield 7, 3) := dk_180 0 7 (dk_at dksX3_runs_4 0 rfl rfl)
theorem dX3_runs_97 : decode cX3_runs 97 = .ok (.bipush 16, 2) := dk_16 16 (dk_at dksX3_runs_4 3 rfl rfl)
theorem dX3_runs_99 : decode cX3_runs 99 = .ok (.iload 5, 2) := dk_21 5 (dk_at dksX3_runs_4 5 rfl rfl)
theorem dX3_runs_101 : decode cX3_runs 101 = .ok (.iadd, 1) := dk_96 (dk_at dksX3_runs_4 7 rfl rfl)
theorem dX3_runs_102 : decode cX3_runs 102 = .ok (.iaload, 1) := dk_46 (dk_at dksX3_runs_4 8 rfl rfl)
theorem dX3_runs_103 : decode cX3_runs 103 = .ok (.if_icmp .ge 7, 3) := dk_162 0 7 (dk_at dksX3_runs_4 9 rfl rfl)
theorem dX3_runs_106 : decode cX3_runs 106 = .ok (.iload 6, 2) := dk_21 6 (dk_at dksX3_runs_4 12 rfl rfl)
theorem dX3_runs_108 : decode cX3_runs 108 = .ok (.istore 5, 2) := dk_54 5 (dk_at dksX3_runs_4 14 rfl rfl)
theorem dX3_runs_110 : decode cX3_runs 110 = .ok (.iinc 6 1, 3) := dk_132 6 1 (dk_at dksX3_runs_4 16 rfl rfl)
theorem dX3_runs_113 : decode cX3_runs 113 = .ok (.goto (-89), 3) := dk_167 255 167 (dk_at dksX3_runs_4 19 rfl rfl)
theorem dX3_runs_116 : decode cX3_runs 116 = .ok (.iload_n 1, 1) := dk_27 (dk_at dksX3_runs_4 22 rfl rfl)
theorem dX3_runs_117 : decode cX3_runs 117 = .ok (.ifCond .ne 7, 3) := dk_154 0 7 (dk_at dksX3_runs_5 0 rfl rfl)
theorem dX3_runs_120 : decode cX3_runs 120 = .ok (.iload_n 2, 1) := dk_28 (dk_at dksX3_runs_5 3 rfl rfl)
theorem dX3_runs_121 : decode cX3_runs 121 = .ok (.goto 14, 3) := dk_167 0 14 (dk_at dksX3_runs_5 4 rfl rfl)
theorem dX3_runs_124 : decode cX3_runs 124 = .ok (.iload_n 1, 1) := dk_27 (dk_at dksX3_runs_5 7 rfl rfl)
theorem dX3_runs_125 : decode cX3_runs 125 = .ok (.iconst 1, 1) := dk_4 (dk_at dksX3_runs_5 8 rfl rfl)
theorem dX3_runs_126 : decode cX3_runs 126 = .ok (.if_icmp .ne 7, 3) := dk_160 0 7 (dk_at dksX3_runs_5 9 rfl rfl)
theorem dX3_runs_129 : decode cX3_runs 129 = .ok (.iload_n 3, 1) := dk_29 (dk_at dksX3_runs_5 12 rfl rfl)
theorem dX3_runs_130 : decode cX3_runs 130 = .ok (.goto 5, 3) := dk_167 0 5 (dk_at dksX3_runs_5 13 rfl rfl)
theorem dX3_runs_133 : decode cX3_runs 133 = .ok (.iload 5, 2) := dk_21 5 (dk_at dksX3_runs_5 16 rfl rfl)
theorem dX3_runs_135 : decode cX3_runs 135 = .ok (.ireturn, 1) := dk_172 (dk_at dksX3_runs_5 18 rfl rfl)
abbrev cX3_isRunning : ByteArray := prog_17_method_121_code
def yX3_isRunning : MethodName := ⟨RX3, "isRunning", "(I)Z"⟩
def dkwX3_isRunning_0 : List UInt8 := [42, 27, 182, 1, 61, 153, 0, 15, 42, 27, 182, 1, 105, 153, 0, 7, 4, 167, 0, 4, 3, 172]
abbrev dktX3_isRunning_0 : List UInt8 := dkwX3_isRunning_0 ++ []
theorem dksX3_isRunning_0 : cX3_isRunning.data.toList.drop 0 = dktX3_isRunning_0 := by decide +kernel
theorem dX3_isRunning_0 : decode cX3_isRunning 0 = .ok (.aload_n 0, 1) := dk_42 (dk_at dksX3_isRunning_0 0 rfl rfl)
theorem dX3_isRunning_1 : decode cX3_isRunning 1 = .ok (.iload_n 1, 1) := dk_27 (dk_at dksX3_isRunning_0 1 rfl rfl)
theorem dX3_isRunning_2 : decode cX3_isRunning 2 = .ok (.invokevirtual 317, 3) := dk_182 1 61 (dk_at dksX3_isRunning_0 2 rfl rfl)
theorem dX3_isRunning_5 : decode cX3_isRunning 5 = .ok (.ifCond .eq 15, 3) := dk_153 0 15 (dk_at dksX3_isRunning_0 5 rfl rfl)
theorem dX3_isRunning_8 : decode cX3_isRunning 8 = .ok (.aload_n 0, 1) := dk_42 (dk_at dksX3_isRunning_0 8 rfl rfl)
theorem dX3_isRunning_9 : decode cX3_isRunning 9 = .ok (.iload_n 1, 1) := dk_27 (dk_at dksX3_isRunning_0 9 rfl rfl)
theorem dX3_isRunning_10 : decode cX3_isRunning 10 = .ok (.invokevirtual 361, 3) := dk_182 1 105 (dk_at dksX3_isRunning_0 10 rfl rfl)
theorem dX3_isRunning_13 : decode cX3_isRunning 13 = .ok (.ifCond .eq 7, 3) := dk_153 0 7 (dk_at dksX3_isRunning_0 13 rfl rfl)
theorem dX3_isRunning_16 : decode cX3_isRunning 16 = .ok (.iconst 1, 1) := dk_4 (dk_at dksX3_isRunning_0 16 rfl rfl)
theorem dX3_isRunning_17 : decode cX3_isRunning 17 = .ok (.goto 4, 3) := dk_167 0 4 (dk_at dksX3_isRunning_0 17 rfl rfl)
theorem dX3_isRunning_20 : decode cX3_isRunning 20 = .ok (.iconst 0, 1) := dk_3 (dk_at dksX3_isRunning_0 20 rfl rfl)
theorem dX3_isRunning_21 : decode cX3_isRunning 21 = .ok (.ireturn, 1) := dk_172 (dk_at dksX3_isRunning_0 21 rfl rfl)
abbrev cX3_signs : ByteArray := prog_17_method_126_code
def yX3_signs : MethodName := ⟨RX3, "signs", "(I)I"⟩
def dkwX3_signs_5 : List UInt8 := [21, 5, 4, 21, 6, 120, 128, 54, 5, 132, 7, 1, 167, 255, 205, 21, 6, 172]
abbrev dktX3_signs_5 : List UInt8 := dkwX3_signs_5 ++ []
def dkwX3_signs_4 : List UInt8 := [54, 6, 21, 4, 42, 180, 0, 7, 16, 105, 5, 21, 6, 104, 96, 46, 184, 0, 51, 16, 10, 96, 54, 4]
abbrev dktX3_signs_4 : List UInt8 := dkwX3_signs_4 ++ dktX3_signs_5
def dkwX3_signs_3 : List UInt8 := [54, 5, 29, 54, 6, 16, 10, 54, 7, 21, 7, 27, 163, 0, 51, 42, 21, 4, 21, 5, 29, 182, 1, 199]
abbrev dktX3_signs_3 : List UInt8 := dkwX3_signs_3 ++ dktX3_signs_4
def dkwX3_signs_2 : List UInt8 := [16, 10, 16, 9, 42, 180, 0, 7, 16, 88, 46, 96, 184, 0, 54, 154, 0, 5, 2, 172, 3, 54, 4, 3]
abbrev dktX3_signs_2 : List UInt8 := dkwX3_signs_2 ++ dktX3_signs_3
def dkwX3_signs_1 : List UInt8 := [182, 1, 196, 172, 42, 180, 0, 44, 28, 46, 62, 29, 19, 1, 192, 159, 0, 26, 27, 153, 0, 24, 27]
abbrev dktX3_signs_1 : List UInt8 := dkwX3_signs_1 ++ dktX3_signs_2
def dkwX3_signs_0 : List UInt8 := [4, 42, 180, 0, 7, 16, 88, 46, 120, 4, 100, 61, 42, 3, 3, 182, 1, 193, 27, 4, 160, 0, 8, 42]
abbrev dktX3_signs_0 : List UInt8 := dkwX3_signs_0 ++ dktX3_signs_1
theorem dksX3_signs_0 : cX3_signs.data.toList.drop 0 = dktX3_signs_0 := by decide +kernel
theorem dksX3_signs_1 : cX3_signs.data.toList.drop 24 = dktX3_signs_1 := dk_seg dksX3_signs_0 24 rfl rfl
theorem dksX3_signs_2 : cX3_signs.data.toList.drop 47 = dktX3_signs_2 := dk_seg dksX3_signs_1 23 rfl rfl
theorem dksX3_signs_3 : cX3_signs.data.toList.drop 71 = dktX3_signs_3 := dk_seg dksX3_signs_2 24 rfl rfl
theorem dksX3_signs_4 : cX3_signs.data.toList.drop 95 = dktX3_signs_4 := dk_seg dksX3_signs_3 24 rfl rfl
theorem dksX3_signs_5 : cX3_signs.data.toList.drop 119 = dktX3_signs_5 := dk_seg dksX3_signs_4 24 rfl rfl
theorem dX3_signs_0 : decode cX3_signs 0 = .ok (.iconst 1, 1) := dk_4 (dk_at dksX3_signs_0 0 rfl rfl)
theorem dX3_signs_1 : decode cX3_signs 1 = .ok (.aload_n 0, 1) := dk_42 (dk_at dksX3_signs_0 1 rfl rfl)
theorem dX3_signs_2 : decode cX3_signs 2 = .ok (.getfield 7, 3) := dk_180 0 7 (dk_at dksX3_signs_0 2 rfl rfl)
theorem dX3_signs_5 : decode cX3_signs 5 = .ok (.bipush 88, 2) := dk_16 88 (dk_at dksX3_signs_0 5 rfl rfl)
theorem dX3_signs_7 : decode cX3_signs 7 = .ok (.iaload, 1) := dk_46 (dk_at dksX3_signs_0 7 rfl rfl)
theorem dX3_signs_8 : decode cX3_signs 8 = .ok (.ishl, 1) := dk_120 (dk_at dksX3_signs_0 8 rfl rfl)
theorem dX3_signs_9 : decode cX3_signs 9 = .ok (.iconst 1, 1) := dk_4 (dk_at dksX3_signs_0 9 rfl rfl)
theorem dX3_signs_10 : decode cX3_signs 10 = .ok (.isub, 1) := dk_100 (dk_at dksX3_signs_0 10 rfl rfl)
theorem dX3_signs_11 : decode cX3_signs 11 = .ok (.istore_n 2, 1) := dk_61 (dk_at dksX3_signs_0 11 rfl rfl)
theorem dX3_signs_12 : decode cX3_signs 12 = .ok (.aload_n 0, 1) := dk_42 (dk_at dksX3_signs_0 12 rfl rfl)
theorem dX3_signs_13 : decode cX3_signs 13 = .ok (.iconst 0, 1) := dk_3 (dk_at dksX3_signs_0 13 rfl rfl)
theorem dX3_signs_14 : decode cX3_signs 14 = .ok (.iconst 0, 1) := dk_3 (dk_at dksX3_signs_0 14 rfl rfl)
theorem dX3_signs_15 : decode cX3_signs 15 = .ok (.invokevirtual 449, 3) := dk_182 1 193 (dk_at dksX3_signs_0 15 rfl rfl)
theorem dX3_signs_18 : decode cX3_signs 18 = .ok (.iload_n 1, 1) := dk_27 (dk_at dksX3_signs_0 18 rfl rfl)
theorem dX3_signs_19 : decode cX3_signs 19 = .ok (.iconst 1, 1) := dk_4 (dk_at dksX3_signs_0 19 rfl rfl)
theorem dX3_signs_20 : decode cX3_signs 20 = .ok (.if_icmp .ne 8, 3) := dk_160 0 8 (dk_at dksX3_signs_0 20 rfl rfl)
theorem dX3_signs_23 : decode cX3_signs 23 = .ok (.aload_n 0, 1) := dk_42 (dk_at dksX3_signs_0 23 rfl rfl)
theorem dX3_signs_24 : decode cX3_signs 24 = .ok (.invokevirtual 452, 3) := dk_182 1 196 (dk_at dksX3_signs_1 0 rfl rfl)
theorem dX3_signs_27 : decode cX3_signs 27 = .ok (.ireturn, 1) := dk_172 (dk_at dksX3_signs_1 3 rfl rfl)
theorem dX3_signs_28 : decode cX3_signs 28 = .ok (.aload_n 0, 1) := dk_42 (dk_at dksX3_signs_1 4 rfl rfl)
theorem dX3_signs_29 : decode cX3_signs 29 = .ok (.getfield 44, 3) := dk_180 0 44 (dk_at dksX3_signs_1 5 rfl rfl)
theorem dX3_signs_32 : decode cX3_signs 32 = .ok (.iload_n 2, 1) := dk_28 (dk_at dksX3_signs_1 8 rfl rfl)
theorem dX3_signs_33 : decode cX3_signs 33 = .ok (.iaload, 1) := dk_46 (dk_at dksX3_signs_1 9 rfl rfl)
theorem dX3_signs_34 : decode cX3_signs 34 = .ok (.istore_n 3, 1) := dk_62 (dk_at dksX3_signs_1 10 rfl rfl)
theorem dX3_signs_35 : decode cX3_signs 35 = .ok (.iload_n 3, 1) := dk_29 (dk_at dksX3_signs_1 11 rfl rfl)
theorem dX3_signs_36 : decode cX3_signs 36 = .ok (.ldc_w 448, 3) := dk_19 1 192 (dk_at dksX3_signs_1 12 rfl rfl)
theorem dX3_signs_39 : decode cX3_signs 39 = .ok (.if_icmp .eq 26, 3) := dk_159 0 26 (dk_at dksX3_signs_1 15 rfl rfl)
theorem dX3_signs_42 : decode cX3_signs 42 = .ok (.iload_n 1, 1) := dk_27 (dk_at dksX3_signs_1 18 rfl rfl)
theorem dX3_signs_43 : decode cX3_signs 43 = .ok (.ifCond .eq 24, 3) := dk_153 0 24 (dk_at dksX3_signs_1 19 rfl rfl)
theorem dX3_signs_46 : decode cX3_signs 46 = .ok (.iload_n 1, 1) := dk_27 (dk_at dksX3_signs_1 22 rfl rfl)
theorem dX3_signs_47 : decode cX3_signs 47 = .ok (.bipush 10, 2) := dk_16 10 (dk_at dksX3_signs_2 0 rfl rfl)
theorem dX3_signs_49 : decode cX3_signs 49 = .ok (.bipush 9, 2) := dk_16 9 (dk_at dksX3_signs_2 2 rfl rfl)
theorem dX3_signs_51 : decode cX3_signs 51 = .ok (.aload_n 0, 1) := dk_42 (dk_at dksX3_signs_2 4 rfl rfl)
theorem dX3_signs_52 : decode cX3_signs 52 = .ok (.getfield 7, 3) := dk_180 0 7 (dk_at dksX3_signs_2 5 rfl rfl)
theorem dX3_signs_55 : decode cX3_signs 55 = .ok (.bipush 88, 2) := dk_16 88 (dk_at dksX3_signs_2 8 rfl rfl)
theorem dX3_signs_57 : decode cX3_signs 57 = .ok (.iaload, 1) := dk_46 (dk_at dksX3_signs_2 10 rfl rfl)
theorem dX3_signs_58 : decode cX3_signs 58 = .ok (.iadd, 1) := dk_96 (dk_at dksX3_signs_2 11 rfl rfl)
theorem dX3_signs_59 : decode cX3_signs 59 = .ok (.invokestatic 54, 3) := dk_184 0 54 (dk_at dksX3_signs_2 12 rfl rfl)
theorem dX3_signs_62 : decode cX3_signs 62 = .ok (.ifCond .ne 5, 3) := dk_154 0 5 (dk_at dksX3_signs_2 15 rfl rfl)
theorem dX3_signs_65 : decode cX3_signs 65 = .ok (.iconst (-1), 1) := dk_2 (dk_at dksX3_signs_2 18 rfl rfl)
theorem dX3_signs_66 : decode cX3_signs 66 = .ok (.ireturn, 1) := dk_172 (dk_at dksX3_signs_2 19 rfl rfl)
theorem dX3_signs_67 : decode cX3_signs 67 = .ok (.iconst 0, 1) := dk_3 (dk_at dksX3_signs_2 20 rfl rfl)
theorem dX3_signs_68 : decode cX3_signs 68 = .ok (.istore 4, 2) := dk_54 4 (dk_at dksX3_signs_2 21 rfl rfl)
theorem dX3_signs_70 : decode cX3_signs 70 = .ok (.iconst 0, 1) := dk_3 (dk_at dksX3_signs_2 23 rfl rfl)
theorem dX3_signs_71 : decode cX3_signs 71 = .ok (.istore 5, 2) := dk_54 5 (dk_at dksX3_signs_3 0 rfl rfl)
theorem dX3_signs_73 : decode cX3_signs 73 = .ok (.iload_n 3, 1) := dk_29 (dk_at dksX3_signs_3 2 rfl rfl)
theorem dX3_signs_74 : decode cX3_signs 74 = .ok (.istore 6, 2) := dk_54 6 (dk_at dksX3_signs_3 3 rfl rfl)
theorem dX3_signs_76 : decode cX3_signs 76 = .ok (.bipush 10, 2) := dk_16 10 (dk_at dksX3_signs_3 5 rfl rfl)
theorem dX3_signs_78 : decode cX3_signs 78 = .ok (.istore 7, 2) := dk_54 7 (dk_at dksX3_signs_3 7 rfl rfl)
theorem dX3_signs_80 : decode cX3_signs 80 = .ok (.iload 7, 2) := dk_21 7 (dk_at dksX3_signs_3 9 rfl rfl)
theorem dX3_signs_82 : decode cX3_signs 82 = .ok (.iload_n 1, 1) := dk_27 (dk_at dksX3_signs_3 11 rfl rfl)
theorem dX3_signs_83 : decode cX3_signs 83 = .ok (.if_icmp .gt 51, 3) := dk_163 0 51 (dk_at dksX3_signs_3 12 rfl rfl)
theorem dX3_signs_86 : decode cX3_signs 86 = .ok (.aload_n 0, 1) := dk_42 (dk_at dksX3_signs_3 15 rfl rfl)
theorem dX3_signs_87 : decode cX3_signs 87 = .ok (.iload 4, 2) := dk_21 4 (dk_at dksX3_signs_3 16 rfl rfl)
theorem dX3_signs_89 : decode cX3_signs 89 = .ok (.iload 5, 2) := dk_21 5 (dk_at dksX3_signs_3 18 rfl rfl)
theorem dX3_signs_91 : decode cX3_signs 91 = .ok (.iload_n 3, 1) := dk_29 (dk_at dksX3_signs_3 20 rfl rfl)
theorem dX3_signs_92 : decode cX3_signs 92 = .ok (.invokevirtual 455, 3) := dk_182 1 199 (dk_at dksX3_signs_3 21 rfl rfl)
theorem dX3_signs_95 : decode cX3_signs 95 = .ok (.istore 6, 2) := dk_54 6 (dk_at dksX3_signs_4 0 rfl rfl)
theorem dX3_signs_97 : decode cX3_signs 97 = .ok (.iload 4, 2) := dk_21 4 (dk_at dksX3_signs_4 2 rfl rfl)
theorem dX3_signs_99 : decode cX3_signs 99 = .ok (.aload_n 0, 1) := dk_42 (dk_at dksX3_signs_4 4 rfl rfl)
theorem dX3_signs_100 : decode cX3_signs 100 = .ok (.getfield 7, 3) := dk_180 0 7 (dk_at dksX3_signs_4 5 rfl rfl)
theorem dX3_signs_103 : decode cX3_signs 103 = .ok (.bipush 105, 2) := dk_16 105 (dk_at dksX3_signs_4 8 rfl rfl)
theorem dX3_signs_105 : decode cX3_signs 105 = .ok (.iconst 2, 1) := dk_5 (dk_at dksX3_signs_4 10 rfl rfl)
theorem dX3_signs_106 : decode cX3_signs 106 = .ok (.iload 6, 2) := dk_21 6 (dk_at dksX3_signs_4 11 rfl rfl)
theorem dX3_signs_108 : decode cX3_signs 108 = .ok (.imul, 1) := dk_104 (dk_at dksX3_signs_4 13 rfl rfl)
theorem dX3_signs_109 : decode cX3_signs 109 = .ok (.iadd, 1) := dk_96 (dk_at dksX3_signs_4 14 rfl rfl)
theorem dX3_signs_110 : decode cX3_signs 110 = .ok (.iaload, 1) := dk_46 (dk_at dksX3_signs_4 15 rfl rfl)
theorem dX3_signs_111 : decode cX3_signs 111 = .ok (.invokestatic 51, 3) := dk_184 0 51 (dk_at dksX3_signs_4 16 rfl rfl)
theorem dX3_signs_114 : decode cX3_signs 114 = .ok (.bipush 10, 2) := dk_16 10 (dk_at dksX3_signs_4 19 rfl rfl)
theorem dX3_signs_116 : decode cX3_signs 116 = .ok (.iadd, 1) := dk_96 (dk_at dksX3_signs_4 21 rfl rfl)
theorem dX3_signs_117 : decode cX3_signs 117 = .ok (.istore 4, 2) := dk_54 4 (dk_at dksX3_signs_4 22 rfl rfl)
theorem dX3_signs_119 : decode cX3_signs 119 = .ok (.iload 5, 2) := dk_21 5 (dk_at dksX3_signs_5 0 rfl rfl)
theorem dX3_signs_121 : decode cX3_signs 121 = .ok (.iconst 1, 1) := dk_4 (dk_at dksX3_signs_5 2 rfl rfl)
theorem dX3_signs_122 : decode cX3_signs 122 = .ok (.iload 6, 2) := dk_21 6 (dk_at dksX3_signs_5 3 rfl rfl)
theorem dX3_signs_124 : decode cX3_signs 124 = .ok (.ishl, 1) := dk_120 (dk_at dksX3_signs_5 5 rfl rfl)
theorem dX3_signs_125 : decode cX3_signs 125 = .ok (.ior, 1) := dk_128 (dk_at dksX3_signs_5 6 rfl rfl)
theorem dX3_signs_126 : decode cX3_signs 126 = .ok (.istore 5, 2) := dk_54 5 (dk_at dksX3_signs_5 7 rfl rfl)
theorem dX3_signs_128 : decode cX3_signs 128 = .ok (.iinc 7 1, 3) := dk_132 7 1 (dk_at dksX3_signs_5 9 rfl rfl)
theorem dX3_signs_131 : decode cX3_signs 131 = .ok (.goto (-51), 3) := dk_167 255 205 (dk_at dksX3_signs_5 12 rfl rfl)
theorem dX3_signs_134 : decode cX3_signs 134 = .ok (.iload 6, 2) := dk_21 6 (dk_at dksX3_signs_5 15 rfl rfl)
theorem dX3_signs_136 : decode cX3_signs 136 = .ok (.ireturn, 1) := dk_172 (dk_at dksX3_signs_5 17 rfl rfl)
abbrev cX3_laysSigns : ByteArray := prog_17_method_123_code
def yX3_laysSigns : MethodName := ⟨RX3, "laysSigns", "(II)V"⟩
def dkwX3_laysSigns_7 : List UInt8 := [167, 255, 146, 132, 4, 1, 167, 255, 100, 177]
abbrev dktX3_laysSigns_7 : List UInt8 := dkwX3_laysSigns_7 ++ []
def dkwX3_laysSigns_6 : List UInt8 := [42, 180, 0, 44, 21, 4, 42, 180, 0, 44, 21, 4, 46, 21, 6, 184, 0, 47, 79, 132, 5, 1]
abbrev dktX3_laysSigns_6 : List UInt8 := dkwX3_laysSigns_6 ++ dktX3_laysSigns_7
def dkwX3_laysSigns_5 : List UInt8 := [16, 10, 96, 54, 6, 21, 6, 42, 180, 0, 7, 16, 105, 5, 21, 5, 104, 96, 4, 96, 46, 163, 0, 22]
abbrev dktX3_laysSigns_5 : List UInt8 := dkwX3_laysSigns_5 ++ dktX3_laysSigns_6
def dkwX3_laysSigns_4 : List UInt8 := [4, 21, 5, 120, 2, 130, 126, 46, 42, 180, 0, 7, 16, 105, 5, 21, 5, 104, 96, 46, 184, 0, 51]
abbrev dktX3_laysSigns_4 : List UInt8 := dkwX3_laysSigns_4 ++ dktX3_laysSigns_5
def dkwX3_laysSigns_3 : List UInt8 := [4, 126, 153, 0, 88, 28, 21, 5, 122, 4, 126, 4, 160, 0, 6, 167, 0, 75, 42, 180, 0, 44, 21, 4]
abbrev dktX3_laysSigns_3 : List UInt8 := dkwX3_laysSigns_3 ++ dktX3_laysSigns_4
def dkwX3_laysSigns_2 : List UInt8 := [19, 1, 192, 79, 3, 54, 5, 21, 5, 42, 180, 0, 7, 16, 88, 46, 162, 0, 104, 21, 4, 21, 5, 122]
abbrev dktX3_laysSigns_2 : List UInt8 := dkwX3_laysSigns_2 ++ dktX3_laysSigns_3
def dkwX3_laysSigns_1 : List UInt8 := [126, 28, 159, 0, 6, 167, 0, 139, 42, 180, 0, 44, 21, 4, 21, 4, 28, 160, 0, 7, 27, 167, 0, 6]
abbrev dktX3_laysSigns_1 : List UInt8 := dkwX3_laysSigns_1 ++ dktX3_laysSigns_2
def dkwX3_laysSigns_0 : List UInt8 := [4, 42, 180, 0, 7, 16, 88, 46, 120, 4, 100, 62, 3, 54, 4, 21, 4, 29, 163, 0, 156, 21, 4, 28]
abbrev dktX3_laysSigns_0 : List UInt8 := dkwX3_laysSigns_0 ++ dktX3_laysSigns_1
theorem dksX3_laysSigns_0 : cX3_laysSigns.data.toList.drop 0 = dktX3_laysSigns_0 := by decide +kernel
theorem dksX3_laysSigns_1 : cX3_laysSigns.data.toList.drop 24 = dktX3_laysSigns_1 := dk_seg dksX3_laysSigns_0 24 rfl rfl
theorem dksX3_laysSigns_2 : cX3_laysSigns.data.toList.drop 48 = dktX3_laysSigns_2 := dk_seg dksX3_laysSigns_1 24 rfl rfl
theorem dksX3_laysSigns_3 : cX3_laysSigns.data.toList.drop 72 = dktX3_laysSigns_3 := dk_seg dksX3_laysSigns_2 24 rfl rfl
theorem dksX3_laysSigns_4 : cX3_laysSigns.data.toList.drop 96 = dktX3_laysSigns_4 := dk_seg dksX3_laysSigns_3 24 rfl rfl
theorem dksX3_laysSigns_5 : cX3_laysSigns.data.toList.drop 119 = dktX3_laysSigns_5 := dk_seg dksX3_laysSigns_4 23 rfl rfl
theorem dksX3_laysSigns_6 : cX3_laysSigns.data.toList.drop 143 = dktX3_laysSigns_6 := dk_seg dksX3_laysSigns_5 24 rfl rfl
theorem dksX3_laysSigns_7 : cX3_laysSigns.data.toList.drop 165 = dktX3_laysSigns_7 := dk_seg dksX3_laysSigns_6 22 rfl rfl
theorem dX3_laysSigns_0 : decode cX3_laysSigns 0 = .ok (.iconst 1, 1) := dk_4 (dk_at dksX3_laysSigns_0 0 rfl rfl)
theorem dX3_laysSigns_1 : decode cX3_laysSigns 1 = .ok (.aload_n 0, 1) := dk_42 (dk_at dksX3_laysSigns_0 1 rfl rfl)
theorem dX3_laysSigns_2 : decode cX3_laysSigns 2 = .ok (.getfield 7, 3) := dk_180 0 7 (dk_at dksX3_laysSigns_0 2 rfl rfl)
theorem dX3_laysSigns_5 : decode cX3_laysSigns 5 = .ok (.bipush 88, 2) := dk_16 88 (dk_at dksX3_laysSigns_0 5 rfl rfl)
theorem dX3_laysSigns_7 : decode cX3_laysSigns 7 = .ok (.iaload, 1) := dk_46 (dk_at dksX3_laysSigns_0 7 rfl rfl)
theorem dX3_laysSigns_8 : decode cX3_laysSigns 8 = .ok (.ishl, 1) := dk_120 (dk_at dksX3_laysSigns_0 8 rfl rfl)
theorem dX3_laysSigns_9 : decode cX3_laysSigns 9 = .ok (.iconst 1, 1) := dk_4 (dk_at dksX3_laysSigns_0 9 rfl rfl)
theorem dX3_laysSigns_10 : decode cX3_laysSigns 10 = .ok (.isub, 1) := dk_100 (dk_at dksX3_laysSigns_0 10 rfl rfl)
theorem dX3_laysSigns_11 : decode cX3_laysSigns 11 = .ok (.istore_n 3, 1) := dk_62 (dk_at dksX3_laysSigns_0 11 rfl rfl)
theorem dX3_laysSigns_12 : decode cX3_laysSigns 12 = .ok (.iconst 0, 1) := dk_3 (dk_at dksX3_laysSigns_0 12 rfl rfl)
theorem dX3_laysSigns_13 : decode cX3_laysSigns 13 = .ok (.istore 4, 2) := dk_54 4 (dk_at dksX3_laysSigns_0 13 rfl rfl)
theorem dX3_laysSigns_15 : decode cX3_laysSigns 15 = .ok (.iload 4, 2) := dk_21 4 (dk_at dksX3_laysSigns_0 15 rfl rfl)
theorem dX3_laysSigns_17 : decode cX3_laysSigns 17 = .ok (.iload_n 3, 1) := dk_29 (dk_at dksX3_laysSigns_0 17 rfl rfl)
theorem dX3_laysSigns_18 : decode cX3_laysSigns 18 = .ok (.if_icmp .gt 156, 3) := dk_163 0 156 (dk_at dksX3_laysSigns_0 18 rfl rfl)
theorem dX3_laysSigns_21 : decode cX3_laysSigns 21 = .ok (.iload 4, 2) := dk_21 4 (dk_at dksX3_laysSigns_0 21 rfl rfl)
theorem dX3_laysSigns_23 : decode cX3_laysSigns 23 = .ok (.iload_n 2, 1) := dk_28 (dk_at dksX3_laysSigns_0 23 rfl rfl)
theorem dX3_laysSigns_24 : decode cX3_laysSigns 24 = .ok (.iand, 1) := dk_126 (dk_at dksX3_laysSigns_1 0 rfl rfl)
theorem dX3_laysSigns_25 : decode cX3_laysSigns 25 = .ok (.iload_n 2, 1) := dk_28 (dk_at dksX3_laysSigns_1 1 rfl rfl)
theorem dX3_laysSigns_26 : decode cX3_laysSigns 26 = .ok (.if_icmp .eq 6, 3) := dk_159 0 6 (dk_at dksX3_laysSigns_1 2 rfl rfl)
theorem dX3_laysSigns_29 : decode cX3_laysSigns 29 = .ok (.goto 139, 3) := dk_167 0 139 (dk_at dksX3_laysSigns_1 5 rfl rfl)
theorem dX3_laysSigns_32 : decode cX3_laysSigns 32 = .ok (.aload_n 0, 1) := dk_42 (dk_at dksX3_laysSigns_1 8 rfl rfl)
theorem dX3_laysSigns_33 : decode cX3_laysSigns 33 = .ok (.getfield 44, 3) := dk_180 0 44 (dk_at dksX3_laysSigns_1 9 rfl rfl)
theorem dX3_laysSigns_36 : decode cX3_laysSigns 36 = .ok (.iload 4, 2) := dk_21 4 (dk_at dksX3_laysSigns_1 12 rfl rfl)
theorem dX3_laysSigns_38 : decode cX3_laysSigns 38 = .ok (.iload 4, 2) := dk_21 4 (dk_at dksX3_laysSigns_1 14 rfl rfl)
theorem dX3_laysSigns_40 : decode cX3_laysSigns 40 = .ok (.iload_n 2, 1) := dk_28 (dk_at dksX3_laysSigns_1 16 rfl rfl)
theorem dX3_laysSigns_41 : decode cX3_laysSigns 41 = .ok (.if_icmp .ne 7, 3) := dk_160 0 7 (dk_at dksX3_laysSigns_1 17 rfl rfl)
theorem dX3_laysSigns_44 : decode cX3_laysSigns 44 = .ok (.iload_n 1, 1) := dk_27 (dk_at dksX3_laysSigns_1 20 rfl rfl)
theorem dX3_laysSigns_45 : decode cX3_laysSigns 45 = .ok (.goto 6, 3) := dk_167 0 6 (dk_at dksX3_laysSigns_1 21 rfl rfl)
theorem dX3_laysSigns_48 : decode cX3_laysSigns 48 = .ok (.ldc_w 448, 3) := dk_19 1 192 (dk_at dksX3_laysSigns_2 0 rfl rfl)
theorem dX3_laysSigns_51 : decode cX3_laysSigns 51 = .ok (.iastore, 1) := dk_79 (dk_at dksX3_laysSigns_2 3 rfl rfl)
theorem dX3_laysSigns_52 : decode cX3_laysSigns 52 = .ok (.iconst 0, 1) := dk_3 (dk_at dksX3_laysSigns_2 4 rfl rfl)
theorem dX3_laysSigns_53 : decode cX3_laysSigns 53 = .ok (.istore 5, 2) := dk_54 5 (dk_at dksX3_laysSigns_2 5 rfl rfl)
theorem dX3_laysSigns_55 : decode cX3_laysSigns 55 = .ok (.iload 5, 2) := dk_21 5 (dk_at dksX3_laysSigns_2 7 rfl rfl)
theorem dX3_laysSigns_57 : decode cX3_laysSigns 57 = .ok (.aload_n 0, 1) := dk_42 (dk_at dksX3_laysSigns_2 9 rfl rfl)
theorem dX3_laysSigns_58 : decode cX3_laysSigns 58 = .ok (.getfield 7, 3) := dk_180 0 7 (dk_at dksX3_laysSigns_2 10 rfl rfl)
theorem dX3_laysSigns_61 : decode cX3_laysSigns 61 = .ok (.bipush 88, 2) := dk_16 88 (dk_at dksX3_laysSigns_2 13 rfl rfl)
theorem dX3_laysSigns_63 : decode cX3_laysSigns 63 = .ok (.iaload, 1) := dk_46 (dk_at dksX3_laysSigns_2 15 rfl rfl)
theorem dX3_laysSigns_64 : decode cX3_laysSigns 64 = .ok (.if_icmp .ge 104, 3) := dk_162 0 104 (dk_at dksX3_laysSigns_2 16 rfl rfl)
theorem dX3_laysSigns_67 : decode cX3_laysSigns 67 = .ok (.iload 4, 2) := dk_21 4 (dk_at dksX3_laysSigns_2 19 rfl rfl)
theorem dX3_laysSigns_69 : decode cX3_laysSigns 69 = .ok (.iload 5, 2) := dk_21 5 (dk_at dksX3_laysSigns_2 21 rfl rfl)
theorem dX3_laysSigns_71 : decode cX3_laysSigns 71 = .ok (.ishr, 1) := dk_122 (dk_at dksX3_laysSigns_2 23 rfl rfl)
theorem dX3_laysSigns_72 : decode cX3_laysSigns 72 = .ok (.iconst 1, 1) := dk_4 (dk_at dksX3_laysSigns_3 0 rfl rfl)
theorem dX3_laysSigns_73 : decode cX3_laysSigns 73 = .ok (.iand, 1) := dk_126 (dk_at dksX3_laysSigns_3 1 rfl rfl)
theorem dX3_laysSigns_74 : decode cX3_laysSigns 74 = .ok (.ifCond .eq 88, 3) := dk_153 0 88 (dk_at dksX3_laysSigns_3 2 rfl rfl)
theorem dX3_laysSigns_77 : decode cX3_laysSigns 77 = .ok (.iload_n 2, 1) := dk_28 (dk_at dksX3_laysSigns_3 5 rfl rfl)
theorem dX3_laysSigns_78 : decode cX3_laysSigns 78 = .ok (.iload 5, 2) := dk_21 5 (dk_at dksX3_laysSigns_3 6 rfl rfl)
theorem dX3_laysSigns_80 : decode cX3_laysSigns 80 = .ok (.ishr, 1) := dk_122 (dk_at dksX3_laysSigns_3 8 rfl rfl)
theorem dX3_laysSigns_81 : decode cX3_laysSigns 81 = .ok (.iconst 1, 1) := dk_4 (dk_at dksX3_laysSigns_3 9 rfl rfl)
theorem dX3_laysSigns_82 : decode cX3_laysSigns 82 = .ok (.iand, 1) := dk_126 (dk_at dksX3_laysSigns_3 10 rfl rfl)
theorem dX3_laysSigns_83 : decode cX3_laysSigns 83 = .ok (.iconst 1, 1) := dk_4 (dk_at dksX3_laysSigns_3 11 rfl rfl)
theorem dX3_laysSigns_84 : decode cX3_laysSigns 84 = .ok (.if_icmp .ne 6, 3) := dk_160 0 6 (dk_at dksX3_laysSigns_3 12 rfl rfl)
theorem dX3_laysSigns_87 : decode cX3_laysSigns 87 = .ok (.goto 75, 3) := dk_167 0 75 (dk_at dksX3_laysSigns_3 15 rfl rfl)
theorem dX3_laysSigns_90 : decode cX3_laysSigns 90 = .ok (.aload_n 0, 1) := dk_42 (dk_at dksX3_laysSigns_3 18 rfl rfl)
theorem dX3_laysSigns_91 : decode cX3_laysSigns 91 = .ok (.getfield 44, 3) := dk_180 0 44 (dk_at dksX3_laysSigns_3 19 rfl rfl)
theorem dX3_laysSigns_94 : decode cX3_laysSigns 94 = .ok (.iload 4, 2) := dk_21 4 (dk_at dksX3_laysSigns_3 22 rfl rfl)
theorem dX3_laysSigns_96 : decode cX3_laysSigns 96 = .ok (.iconst 1, 1) := dk_4 (dk_at dksX3_laysSigns_4 0 rfl rfl)
theorem dX3_laysSigns_97 : decode cX3_laysSigns 97 = .ok (.iload 5, 2) := dk_21 5 (dk_at dksX3_laysSigns_4 1 rfl rfl)
theorem dX3_laysSigns_99 : decode cX3_laysSigns 99 = .ok (.ishl, 1) := dk_120 (dk_at dksX3_laysSigns_4 3 rfl rfl)
theorem dX3_laysSigns_100 : decode cX3_laysSigns 100 = .ok (.iconst (-1), 1) := dk_2 (dk_at dksX3_laysSigns_4 4 rfl rfl)
theorem dX3_laysSigns_101 : decode cX3_laysSigns 101 = .ok (.ixor, 1) := dk_130 (dk_at dksX3_laysSigns_4 5 rfl rfl)
theorem dX3_laysSigns_102 : decode cX3_laysSigns 102 = .ok (.iand, 1) := dk_126 (dk_at dksX3_laysSigns_4 6 rfl rfl)
theorem dX3_laysSigns_103 : decode cX3_laysSigns 103 = .ok (.iaload, 1) := dk_46 (dk_at dksX3_laysSigns_4 7 rfl rfl)
theorem dX3_laysSigns_104 : decode cX3_laysSigns 104 = .ok (.aload_n 0, 1) := dk_42 (dk_at dksX3_laysSigns_4 8 rfl rfl)
theorem dX3_laysSigns_105 : decode cX3_laysSigns 105 = .ok (.getfield 7, 3) := dk_180 0 7 (dk_at dksX3_laysSigns_4 9 rfl rfl)
theorem dX3_laysSigns_108 : decode cX3_laysSigns 108 = .ok (.bipush 105, 2) := dk_16 105 (dk_at dksX3_laysSigns_4 12 rfl rfl)
theorem dX3_laysSigns_110 : decode cX3_laysSigns 110 = .ok (.iconst 2, 1) := dk_5 (dk_at dksX3_laysSigns_4 14 rfl rfl)
theorem dX3_laysSigns_111 : decode cX3_laysSigns 111 = .ok (.iload 5, 2) := dk_21 5 (dk_at dksX3_laysSigns_4 15 rfl rfl)
theorem dX3_laysSigns_113 : decode cX3_laysSigns 113 = .ok (.imul, 1) := dk_104 (dk_at dksX3_laysSigns_4 17 rfl rfl)
theorem dX3_laysSigns_114 : decode cX3_laysSigns 114 = .ok (.iadd, 1) := dk_96 (dk_at dksX3_laysSigns_4 18 rfl rfl)
theorem dX3_laysSigns_115 : decode cX3_laysSigns 115 = .ok (.iaload, 1) := dk_46 (dk_at dksX3_laysSigns_4 19 rfl rfl)
theorem dX3_laysSigns_116 : decode cX3_laysSigns 116 = .ok (.invokestatic 51, 3) := dk_184 0 51 (dk_at dksX3_laysSigns_4 20 rfl rfl)
theorem dX3_laysSigns_119 : decode cX3_laysSigns 119 = .ok (.bipush 10, 2) := dk_16 10 (dk_at dksX3_laysSigns_5 0 rfl rfl)
theorem dX3_laysSigns_121 : decode cX3_laysSigns 121 = .ok (.iadd, 1) := dk_96 (dk_at dksX3_laysSigns_5 2 rfl rfl)
theorem dX3_laysSigns_122 : decode cX3_laysSigns 122 = .ok (.istore 6, 2) := dk_54 6 (dk_at dksX3_laysSigns_5 3 rfl rfl)
theorem dX3_laysSigns_124 : decode cX3_laysSigns 124 = .ok (.iload 6, 2) := dk_21 6 (dk_at dksX3_laysSigns_5 5 rfl rfl)
theorem dX3_laysSigns_126 : decode cX3_laysSigns 126 = .ok (.aload_n 0, 1) := dk_42 (dk_at dksX3_laysSigns_5 7 rfl rfl)
theorem dX3_laysSigns_127 : decode cX3_laysSigns 127 = .ok (.getfield 7, 3) := dk_180 0 7 (dk_at dksX3_laysSigns_5 8 rfl rfl)
theorem dX3_laysSigns_130 : decode cX3_laysSigns 130 = .ok (.bipush 105, 2) := dk_16 105 (dk_at dksX3_laysSigns_5 11 rfl rfl)
theorem dX3_laysSigns_132 : decode cX3_laysSigns 132 = .ok (.iconst 2, 1) := dk_5 (dk_at dksX3_laysSigns_5 13 rfl rfl)
theorem dX3_laysSigns_133 : decode cX3_laysSigns 133 = .ok (.iload 5, 2) := dk_21 5 (dk_at dksX3_laysSigns_5 14 rfl rfl)
theorem dX3_laysSigns_135 : decode cX3_laysSigns 135 = .ok (.imul, 1) := dk_104 (dk_at dksX3_laysSigns_5 16 rfl rfl)
theorem dX3_laysSigns_136 : decode cX3_laysSigns 136 = .ok (.iadd, 1) := dk_96 (dk_at dksX3_laysSigns_5 17 rfl rfl)
theorem dX3_laysSigns_137 : decode cX3_laysSigns 137 = .ok (.iconst 1, 1) := dk_4 (dk_at dksX3_laysSigns_5 18 rfl rfl)
theorem dX3_laysSigns_138 : decode cX3_laysSigns 138 = .ok (.iadd, 1) := dk_96 (dk_at dksX3_laysSigns_5 19 rfl rfl)
theorem dX3_laysSigns_139 : decode cX3_laysSigns 139 = .ok (.iaload, 1) := dk_46 (dk_at dksX3_laysSigns_5 20 rfl rfl)
theorem dX3_laysSigns_140 : decode cX3_laysSigns 140 = .ok (.if_icmp .gt 22, 3) := dk_163 0 22 (dk_at dksX3_laysSigns_5 21 rfl rfl)
theorem dX3_laysSigns_143 : decode cX3_laysSigns 143 = .ok (.aload_n 0, 1) := dk_42 (dk_at dksX3_laysSigns_6 0 rfl rfl)
theorem dX3_laysSigns_144 : decode cX3_laysSigns 144 = .ok (.getfield 44, 3) := dk_180 0 44 (dk_at dksX3_laysSigns_6 1 rfl rfl)
theorem dX3_laysSigns_147 : decode cX3_laysSigns 147 = .ok (.iload 4, 2) := dk_21 4 (dk_at dksX3_laysSigns_6 4 rfl rfl)
theorem dX3_laysSigns_149 : decode cX3_laysSigns 149 = .ok (.aload_n 0, 1) := dk_42 (dk_at dksX3_laysSigns_6 6 rfl rfl)
theorem dX3_laysSigns_150 : decode cX3_laysSigns 150 = .ok (.getfield 44, 3) := dk_180 0 44 (dk_at dksX3_laysSigns_6 7 rfl rfl)
theorem dX3_laysSigns_153 : decode cX3_laysSigns 153 = .ok (.iload 4, 2) := dk_21 4 (dk_at dksX3_laysSigns_6 10 rfl rfl)
theorem dX3_laysSigns_155 : decode cX3_laysSigns 155 = .ok (.iaload, 1) := dk_46 (dk_at dksX3_laysSigns_6 12 rfl rfl)
theorem dX3_laysSigns_156 : decode cX3_laysSigns 156 = .ok (.iload 6, 2) := dk_21 6 (dk_at dksX3_laysSigns_6 13 rfl rfl)
theorem dX3_laysSigns_158 : decode cX3_laysSigns 158 = .ok (.invokestatic 47, 3) := dk_184 0 47 (dk_at dksX3_laysSigns_6 15 rfl rfl)
theorem dX3_laysSigns_161 : decode cX3_laysSigns 161 = .ok (.iastore, 1) := dk_79 (dk_at dksX3_laysSigns_6 18 rfl rfl)
theorem dX3_laysSigns_162 : decode cX3_laysSigns 162 = .ok (.iinc 5 1, 3) := dk_132 5 1 (dk_at dksX3_laysSigns_6 19 rfl rfl)
theorem dX3_laysSigns_165 : decode cX3_laysSigns 165 = .ok (.goto (-110), 3) := dk_167 255 146 (dk_at dksX3_laysSigns_7 0 rfl rfl)
theorem dX3_laysSigns_168 : decode cX3_laysSigns 168 = .ok (.iinc 4 1, 3) := dk_132 4 1 (dk_at dksX3_laysSigns_7 3 rfl rfl)
theorem dX3_laysSigns_171 : decode cX3_laysSigns 171 = .ok (.goto (-156), 3) := dk_167 255 100 (dk_at dksX3_laysSigns_7 6 rfl rfl)
theorem dX3_laysSigns_174 : decode cX3_laysSigns 174 = .ok (.return_, 1) := dk_177 (dk_at dksX3_laysSigns_7 9 rfl rfl)
abbrev cX3_mostSigned : ByteArray := prog_17_method_124_code
def yX3_mostSigned : MethodName := ⟨RX3, "mostSigned", "()I"⟩
def dkwX3_mostSigned_2 : List UInt8 := [167, 255, 215, 27, 172]
abbrev dktX3_mostSigned_2 : List UInt8 := dkwX3_mostSigned_2 ++ []
def dkwX3_mostSigned_1 : List UInt8 := [19, 1, 192, 162, 0, 14, 27, 28, 184, 1, 142, 184, 0, 51, 167, 0, 4, 27, 60, 132, 2, 1]
abbrev dktX3_mostSigned_1 : List UInt8 := dkwX3_mostSigned_1 ++ dktX3_mostSigned_2
def dkwX3_mostSigned_0 : List UInt8 := [3, 60, 3, 61, 28, 4, 42, 180, 0, 7, 16, 88, 46, 120, 162, 0, 34, 42, 180, 0, 44, 28, 46]
abbrev dktX3_mostSigned_0 : List UInt8 := dkwX3_mostSigned_0 ++ dktX3_mostSigned_1
theorem dksX3_mostSigned_0 : cX3_mostSigned.data.toList.drop 0 = dktX3_mostSigned_0 := by decide +kernel
theorem dksX3_mostSigned_1 : cX3_mostSigned.data.toList.drop 23 = dktX3_mostSigned_1 := dk_seg dksX3_mostSigned_0 23 rfl rfl
theorem dksX3_mostSigned_2 : cX3_mostSigned.data.toList.drop 45 = dktX3_mostSigned_2 := dk_seg dksX3_mostSigned_1 22 rfl rfl
theorem dX3_mostSigned_0 : decode cX3_mostSigned 0 = .ok (.iconst 0, 1) := dk_3 (dk_at dksX3_mostSigned_0 0 rfl rfl)
theorem dX3_mostSigned_1 : decode cX3_mostSigned 1 = .ok (.istore_n 1, 1) := dk_60 (dk_at dksX3_mostSigned_0 1 rfl rfl)
theorem dX3_mostSigned_2 : decode cX3_mostSigned 2 = .ok (.iconst 0, 1) := dk_3 (dk_at dksX3_mostSigned_0 2 rfl rfl)
theorem dX3_mostSigned_3 : decode cX3_mostSigned 3 = .ok (.istore_n 2, 1) := dk_61 (dk_at dksX3_mostSigned_0 3 rfl rfl)
theorem dX3_mostSigned_4 : decode cX3_mostSigned 4 = .ok (.iload_n 2, 1) := dk_28 (dk_at dksX3_mostSigned_0 4 rfl rfl)
theorem dX3_mostSigned_5 : decode cX3_mostSigned 5 = .ok (.iconst 1, 1) := dk_4 (dk_at dksX3_mostSigned_0 5 rfl rfl)
theorem dX3_mostSigned_6 : decode cX3_mostSigned 6 = .ok (.aload_n 0, 1) := dk_42 (dk_at dksX3_mostSigned_0 6 rfl rfl)
theorem dX3_mostSigned_7 : decode cX3_mostSigned 7 = .ok (.getfield 7, 3) := dk_180 0 7 (dk_at dksX3_mostSigned_0 7 rfl rfl)
theorem dX3_mostSigned_10 : decode cX3_mostSigned 10 = .ok (.bipush 88, 2) := dk_16 88 (dk_at dksX3_mostSigned_0 10 rfl rfl)
theorem dX3_mostSigned_12 : decode cX3_mostSigned 12 = .ok (.iaload, 1) := dk_46 (dk_at dksX3_mostSigned_0 12 rfl rfl)
theorem dX3_mostSigned_13 : decode cX3_mostSigned 13 = .ok (.ishl, 1) := dk_120 (dk_at dksX3_mostSigned_0 13 rfl rfl)
theorem dX3_mostSigned_14 : decode cX3_mostSigned 14 = .ok (.if_icmp .ge 34, 3) := dk_162 0 34 (dk_at dksX3_mostSigned_0 14 rfl rfl)
theorem dX3_mostSigned_17 : decode cX3_mostSigned 17 = .ok (.aload_n 0, 1) := dk_42 (dk_at dksX3_mostSigned_0 17 rfl rfl)
theorem dX3_mostSigned_18 : decode cX3_mostSigned 18 = .ok (.getfield 44, 3) := dk_180 0 44 (dk_at dksX3_mostSigned_0 18 rfl rfl)
theorem dX3_mostSigned_21 : decode cX3_mostSigned 21 = .ok (.iload_n 2, 1) := dk_28 (dk_at dksX3_mostSigned_0 21 rfl rfl)
theorem dX3_mostSigned_22 : decode cX3_mostSigned 22 = .ok (.iaload, 1) := dk_46 (dk_at dksX3_mostSigned_0 22 rfl rfl)
theorem dX3_mostSigned_23 : decode cX3_mostSigned 23 = .ok (.ldc_w 448, 3) := dk_19 1 192 (dk_at dksX3_mostSigned_1 0 rfl rfl)
theorem dX3_mostSigned_26 : decode cX3_mostSigned 26 = .ok (.if_icmp .ge 14, 3) := dk_162 0 14 (dk_at dksX3_mostSigned_1 3 rfl rfl)
theorem dX3_mostSigned_29 : decode cX3_mostSigned 29 = .ok (.iload_n 1, 1) := dk_27 (dk_at dksX3_mostSigned_1 6 rfl rfl)
theorem dX3_mostSigned_30 : decode cX3_mostSigned 30 = .ok (.iload_n 2, 1) := dk_28 (dk_at dksX3_mostSigned_1 7 rfl rfl)
theorem dX3_mostSigned_31 : decode cX3_mostSigned 31 = .ok (.invokestatic 398, 3) := dk_184 1 142 (dk_at dksX3_mostSigned_1 8 rfl rfl)
theorem dX3_mostSigned_34 : decode cX3_mostSigned 34 = .ok (.invokestatic 51, 3) := dk_184 0 51 (dk_at dksX3_mostSigned_1 11 rfl rfl)
theorem dX3_mostSigned_37 : decode cX3_mostSigned 37 = .ok (.goto 4, 3) := dk_167 0 4 (dk_at dksX3_mostSigned_1 14 rfl rfl)
theorem dX3_mostSigned_40 : decode cX3_mostSigned 40 = .ok (.iload_n 1, 1) := dk_27 (dk_at dksX3_mostSigned_1 17 rfl rfl)
theorem dX3_mostSigned_41 : decode cX3_mostSigned 41 = .ok (.istore_n 1, 1) := dk_60 (dk_at dksX3_mostSigned_1 18 rfl rfl)
theorem dX3_mostSigned_42 : decode cX3_mostSigned 42 = .ok (.iinc 2 1, 3) := dk_132 2 1 (dk_at dksX3_mostSigned_1 19 rfl rfl)
theorem dX3_mostSigned_45 : decode cX3_mostSigned 45 = .ok (.goto (-41), 3) := dk_167 255 215 (dk_at dksX3_mostSigned_2 0 rfl rfl)
theorem dX3_mostSigned_48 : decode cX3_mostSigned 48 = .ok (.iload_n 1, 1) := dk_27 (dk_at dksX3_mostSigned_2 3 rfl rfl)
theorem dX3_mostSigned_49 : decode cX3_mostSigned 49 = .ok (.ireturn, 1) := dk_172 (dk_at dksX3_mostSigned_2 4 rfl rfl)
abbrev cX3_signsNext : ByteArray := prog_17_method_125_code
def yX3_signsNext : MethodName := ⟨RX3, "signsNext", "(III)I"⟩
def dkwX3_signsNext_4 : List UInt8 := [180, 0, 44, 21, 4, 46, 29, 160, 0, 6, 21, 5, 172, 132, 5, 1, 167, 255, 162, 2, 172]
abbrev dktX3_signsNext_4 : List UInt8 := dkwX3_signsNext_4 ++ []
def dkwX3_signsNext_3 : List UInt8 := [96, 4, 96, 46, 164, 0, 6, 167, 0, 29, 42, 21, 6, 28, 4, 21, 5, 120, 128, 182, 1, 193, 42]
abbrev dktX3_signsNext_3 : List UInt8 := dkwX3_signsNext_3 ++ dktX3_signsNext_4
def dkwX3_signsNext_2 : List UInt8 := [54, 6, 28, 21, 5, 122, 4, 126, 4, 159, 0, 51, 21, 6, 42, 180, 0, 7, 16, 105, 5, 21, 5, 104]
abbrev dktX3_signsNext_2 : List UInt8 := dkwX3_signsNext_2 ++ dktX3_signsNext_3
def dkwX3_signsNext_1 : List UInt8 := [46, 162, 0, 88, 27, 42, 180, 0, 7, 16, 105, 5, 21, 5, 104, 96, 46, 184, 0, 51, 16, 10, 96]
abbrev dktX3_signsNext_1 : List UInt8 := dkwX3_signsNext_1 ++ dktX3_signsNext_2
def dkwX3_signsNext_0 : List UInt8 := [4, 42, 180, 0, 7, 16, 88, 46, 120, 4, 100, 54, 4, 3, 54, 5, 21, 5, 42, 180, 0, 7, 16, 88]
abbrev dktX3_signsNext_0 : List UInt8 := dkwX3_signsNext_0 ++ dktX3_signsNext_1
theorem dksX3_signsNext_0 : cX3_signsNext.data.toList.drop 0 = dktX3_signsNext_0 := by decide +kernel
theorem dksX3_signsNext_1 : cX3_signsNext.data.toList.drop 24 = dktX3_signsNext_1 := dk_seg dksX3_signsNext_0 24 rfl rfl
theorem dksX3_signsNext_2 : cX3_signsNext.data.toList.drop 47 = dktX3_signsNext_2 := dk_seg dksX3_signsNext_1 23 rfl rfl
theorem dksX3_signsNext_3 : cX3_signsNext.data.toList.drop 71 = dktX3_signsNext_3 := dk_seg dksX3_signsNext_2 24 rfl rfl
theorem dksX3_signsNext_4 : cX3_signsNext.data.toList.drop 94 = dktX3_signsNext_4 := dk_seg dksX3_signsNext_3 23 rfl rfl
theorem dX3_signsNext_0 : decode cX3_signsNext 0 = .ok (.iconst 1, 1) := dk_4 (dk_at dksX3_signsNext_0 0 rfl rfl)
theorem dX3_signsNext_1 : decode cX3_signsNext 1 = .ok (.aload_n 0, 1) := dk_42 (dk_at dksX3_signsNext_0 1 rfl rfl)
theorem dX3_signsNext_2 : decode cX3_signsNext 2 = .ok (.getfield 7, 3) := dk_180 0 7 (dk_at dksX3_signsNext_0 2 rfl rfl)
theorem dX3_signsNext_5 : decode cX3_signsNext 5 = .ok (.bipush 88, 2) := dk_16 88 (dk_at dksX3_signsNext_0 5 rfl rfl)
theorem dX3_signsNext_7 : decode cX3_signsNext 7 = .ok (.iaload, 1) := dk_46 (dk_at dksX3_signsNext_0 7 rfl rfl)
theorem dX3_signsNext_8 : decode cX3_signsNext 8 = .ok (.ishl, 1) := dk_120 (dk_at dksX3_signsNext_0 8 rfl rfl)
theorem dX3_signsNext_9 : decode cX3_signsNext 9 = .ok (.iconst 1, 1) := dk_4 (dk_at dksX3_signsNext_0 9 rfl rfl)
theorem dX3_signsNext_10 : decode cX3_signsNext 10 = .ok (.isub, 1) := dk_100 (dk_at dksX3_signsNext_0 10 rfl rfl)
theorem dX3_signsNext_11 : decode cX3_signsNext 11 = .ok (.istore 4, 2) := dk_54 4 (dk_at dksX3_signsNext_0 11 rfl rfl)
theorem dX3_signsNext_13 : decode cX3_signsNext 13 = .ok (.iconst 0, 1) := dk_3 (dk_at dksX3_signsNext_0 13 rfl rfl)
theorem dX3_signsNext_14 : decode cX3_signsNext 14 = .ok (.istore 5, 2) := dk_54 5 (dk_at dksX3_signsNext_0 14 rfl rfl)
theorem dX3_signsNext_16 : decode cX3_signsNext 16 = .ok (.iload 5, 2) := dk_21 5 (dk_at dksX3_signsNext_0 16 rfl rfl)
theorem dX3_signsNext_18 : decode cX3_signsNext 18 = .ok (.aload_n 0, 1) := dk_42 (dk_at dksX3_signsNext_0 18 rfl rfl)
theorem dX3_signsNext_19 : decode cX3_signsNext 19 = .ok (.getfield 7, 3) := dk_180 0 7 (dk_at dksX3_signsNext_0 19 rfl rfl)
theorem dX3_signsNext_22 : decode cX3_signsNext 22 = .ok (.bipush 88, 2) := dk_16 88 (dk_at dksX3_signsNext_0 22 rfl rfl)
theorem dX3_signsNext_24 : decode cX3_signsNext 24 = .ok (.iaload, 1) := dk_46 (dk_at dksX3_signsNext_1 0 rfl rfl)
theorem dX3_signsNext_25 : decode cX3_signsNext 25 = .ok (.if_icmp .ge 88, 3) := dk_162 0 88 (dk_at dksX3_signsNext_1 1 rfl rfl)
theorem dX3_signsNext_28 : decode cX3_signsNext 28 = .ok (.iload_n 1, 1) := dk_27 (dk_at dksX3_signsNext_1 4 rfl rfl)
theorem dX3_signsNext_29 : decode cX3_signsNext 29 = .ok (.aload_n 0, 1) := dk_42 (dk_at dksX3_signsNext_1 5 rfl rfl)
theorem dX3_signsNext_30 : decode cX3_signsNext 30 = .ok (.getfield 7, 3) := dk_180 0 7 (dk_at dksX3_signsNext_1 6 rfl rfl)
theorem dX3_signsNext_33 : decode cX3_signsNext 33 = .ok (.bipush 105, 2) := dk_16 105 (dk_at dksX3_signsNext_1 9 rfl rfl)
theorem dX3_signsNext_35 : decode cX3_signsNext 35 = .ok (.iconst 2, 1) := dk_5 (dk_at dksX3_signsNext_1 11 rfl rfl)
theorem dX3_signsNext_36 : decode cX3_signsNext 36 = .ok (.iload 5, 2) := dk_21 5 (dk_at dksX3_signsNext_1 12 rfl rfl)
theorem dX3_signsNext_38 : decode cX3_signsNext 38 = .ok (.imul, 1) := dk_104 (dk_at dksX3_signsNext_1 14 rfl rfl)
theorem dX3_signsNext_39 : decode cX3_signsNext 39 = .ok (.iadd, 1) := dk_96 (dk_at dksX3_signsNext_1 15 rfl rfl)
theorem dX3_signsNext_40 : decode cX3_signsNext 40 = .ok (.iaload, 1) := dk_46 (dk_at dksX3_signsNext_1 16 rfl rfl)
theorem dX3_signsNext_41 : decode cX3_signsNext 41 = .ok (.invokestatic 51, 3) := dk_184 0 51 (dk_at dksX3_signsNext_1 17 rfl rfl)
theorem dX3_signsNext_44 : decode cX3_signsNext 44 = .ok (.bipush 10, 2) := dk_16 10 (dk_at dksX3_signsNext_1 20 rfl rfl)
theorem dX3_signsNext_46 : decode cX3_signsNext 46 = .ok (.iadd, 1) := dk_96 (dk_at dksX3_signsNext_1 22 rfl rfl)
theorem dX3_signsNext_47 : decode cX3_signsNext 47 = .ok (.istore 6, 2) := dk_54 6 (dk_at dksX3_signsNext_2 0 rfl rfl)
theorem dX3_signsNext_49 : decode cX3_signsNext 49 = .ok (.iload_n 2, 1) := dk_28 (dk_at dksX3_signsNext_2 2 rfl rfl)
theorem dX3_signsNext_50 : decode cX3_signsNext 50 = .ok (.iload 5, 2) := dk_21 5 (dk_at dksX3_signsNext_2 3 rfl rfl)
theorem dX3_signsNext_52 : decode cX3_signsNext 52 = .ok (.ishr, 1) := dk_122 (dk_at dksX3_signsNext_2 5 rfl rfl)
theorem dX3_signsNext_53 : decode cX3_signsNext 53 = .ok (.iconst 1, 1) := dk_4 (dk_at dksX3_signsNext_2 6 rfl rfl)
theorem dX3_signsNext_54 : decode cX3_signsNext 54 = .ok (.iand, 1) := dk_126 (dk_at dksX3_signsNext_2 7 rfl rfl)
theorem dX3_signsNext_55 : decode cX3_signsNext 55 = .ok (.iconst 1, 1) := dk_4 (dk_at dksX3_signsNext_2 8 rfl rfl)
theorem dX3_signsNext_56 : decode cX3_signsNext 56 = .ok (.if_icmp .eq 51, 3) := dk_159 0 51 (dk_at dksX3_signsNext_2 9 rfl rfl)
theorem dX3_signsNext_59 : decode cX3_signsNext 59 = .ok (.iload 6, 2) := dk_21 6 (dk_at dksX3_signsNext_2 12 rfl rfl)
theorem dX3_signsNext_61 : decode cX3_signsNext 61 = .ok (.aload_n 0, 1) := dk_42 (dk_at dksX3_signsNext_2 14 rfl rfl)
theorem dX3_signsNext_62 : decode cX3_signsNext 62 = .ok (.getfield 7, 3) := dk_180 0 7 (dk_at dksX3_signsNext_2 15 rfl rfl)
theorem dX3_signsNext_65 : decode cX3_signsNext 65 = .ok (.bipush 105, 2) := dk_16 105 (dk_at dksX3_signsNext_2 18 rfl rfl)
theorem dX3_signsNext_67 : decode cX3_signsNext 67 = .ok (.iconst 2, 1) := dk_5 (dk_at dksX3_signsNext_2 20 rfl rfl)
theorem dX3_signsNext_68 : decode cX3_signsNext 68 = .ok (.iload 5, 2) := dk_21 5 (dk_at dksX3_signsNext_2 21 rfl rfl)
theorem dX3_signsNext_70 : decode cX3_signsNext 70 = .ok (.imul, 1) := dk_104 (dk_at dksX3_signsNext_2 23 rfl rfl)
theorem dX3_signsNext_71 : decode cX3_signsNext 71 = .ok (.iadd, 1) := dk_96 (dk_at dksX3_signsNext_3 0 rfl rfl)
theorem dX3_signsNext_72 : decode cX3_signsNext 72 = .ok (.iconst 1, 1) := dk_4 (dk_at dksX3_signsNext_3 1 rfl rfl)
theorem dX3_signsNext_73 : decode cX3_signsNext 73 = .ok (.iadd, 1) := dk_96 (dk_at dksX3_signsNext_3 2 rfl rfl)
theorem dX3_signsNext_74 : decode cX3_signsNext 74 = .ok (.iaload, 1) := dk_46 (dk_at dksX3_signsNext_3 3 rfl rfl)
theorem dX3_signsNext_75 : decode cX3_signsNext 75 = .ok (.if_icmp .le 6, 3) := dk_164 0 6 (dk_at dksX3_signsNext_3 4 rfl rfl)
theorem dX3_signsNext_78 : decode cX3_signsNext 78 = .ok (.goto 29, 3) := dk_167 0 29 (dk_at dksX3_signsNext_3 7 rfl rfl)
theorem dX3_signsNext_81 : decode cX3_signsNext 81 = .ok (.aload_n 0, 1) := dk_42 (dk_at dksX3_signsNext_3 10 rfl rfl)
theorem dX3_signsNext_82 : decode cX3_signsNext 82 = .ok (.iload 6, 2) := dk_21 6 (dk_at dksX3_signsNext_3 11 rfl rfl)
theorem dX3_signsNext_84 : decode cX3_signsNext 84 = .ok (.iload_n 2, 1) := dk_28 (dk_at dksX3_signsNext_3 13 rfl rfl)
theorem dX3_signsNext_85 : decode cX3_signsNext 85 = .ok (.iconst 1, 1) := dk_4 (dk_at dksX3_signsNext_3 14 rfl rfl)
theorem dX3_signsNext_86 : decode cX3_signsNext 86 = .ok (.iload 5, 2) := dk_21 5 (dk_at dksX3_signsNext_3 15 rfl rfl)
theorem dX3_signsNext_88 : decode cX3_signsNext 88 = .ok (.ishl, 1) := dk_120 (dk_at dksX3_signsNext_3 17 rfl rfl)
theorem dX3_signsNext_89 : decode cX3_signsNext 89 = .ok (.ior, 1) := dk_128 (dk_at dksX3_signsNext_3 18 rfl rfl)
theorem dX3_signsNext_90 : decode cX3_signsNext 90 = .ok (.invokevirtual 449, 3) := dk_182 1 193 (dk_at dksX3_signsNext_3 19 rfl rfl)
theorem dX3_signsNext_93 : decode cX3_signsNext 93 = .ok (.aload_n 0, 1) := dk_42 (dk_at dksX3_signsNext_3 22 rfl rfl)
theorem dX3_signsNext_94 : decode cX3_signsNext 94 = .ok (.getfield 44, 3) := dk_180 0 44 (dk_at dksX3_signsNext_4 0 rfl rfl)
theorem dX3_signsNext_97 : decode cX3_signsNext 97 = .ok (.iload 4, 2) := dk_21 4 (dk_at dksX3_signsNext_4 3 rfl rfl)
theorem dX3_signsNext_99 : decode cX3_signsNext 99 = .ok (.iaload, 1) := dk_46 (dk_at dksX3_signsNext_4 5 rfl rfl)
theorem dX3_signsNext_100 : decode cX3_signsNext 100 = .ok (.iload_n 3, 1) := dk_29 (dk_at dksX3_signsNext_4 6 rfl rfl)
theorem dX3_signsNext_101 : decode cX3_signsNext 101 = .ok (.if_icmp .ne 6, 3) := dk_160 0 6 (dk_at dksX3_signsNext_4 7 rfl rfl)
theorem dX3_signsNext_104 : decode cX3_signsNext 104 = .ok (.iload 5, 2) := dk_21 5 (dk_at dksX3_signsNext_4 10 rfl rfl)
theorem dX3_signsNext_106 : decode cX3_signsNext 106 = .ok (.ireturn, 1) := dk_172 (dk_at dksX3_signsNext_4 12 rfl rfl)
theorem dX3_signsNext_107 : decode cX3_signsNext 107 = .ok (.iinc 5 1, 3) := dk_132 5 1 (dk_at dksX3_signsNext_4 13 rfl rfl)
theorem dX3_signsNext_110 : decode cX3_signsNext 110 = .ok (.goto (-94), 3) := dk_167 255 162 (dk_at dksX3_signsNext_4 16 rfl rfl)
theorem dX3_signsNext_113 : decode cX3_signsNext 113 = .ok (.iconst (-1), 1) := dk_2 (dk_at dksX3_signsNext_4 19 rfl rfl)
theorem dX3_signsNext_114 : decode cX3_signsNext 114 = .ok (.ireturn, 1) := dk_172 (dk_at dksX3_signsNext_4 20 rfl rfl)
abbrev cX3_money : ByteArray := prog_17_method_127_code
def yX3_money : MethodName := ⟨RX3, "money", "(II)I"⟩
def dkwX3_money_3 : List UInt8 := [167, 0, 4, 29, 62, 132, 5, 1, 167, 255, 210, 29, 172]
abbrev dktX3_money_3 : List UInt8 := dkwX3_money_3 ++ []
def dkwX3_money_2 : List UInt8 := [42, 180, 0, 7, 16, 93, 21, 5, 96, 46, 96, 96, 54, 4, 21, 4, 28, 163, 0, 8, 21, 5]
abbrev dktX3_money_2 : List UInt8 := dkwX3_money_2 ++ dktX3_money_3
def dkwX3_money_1 : List UInt8 := [2, 62, 27, 54, 4, 3, 54, 5, 21, 5, 42, 180, 0, 7, 16, 88, 46, 162, 0, 40, 21, 4, 16, 10]
abbrev dktX3_money_1 : List UInt8 := dkwX3_money_1 ++ dktX3_money_2
def dkwX3_money_0 : List UInt8 := [27, 3, 17, 2, 88, 184, 0, 54, 153, 0, 14, 28, 3, 17, 2, 88, 184, 0, 54, 154, 0, 5, 2, 172]
abbrev dktX3_money_0 : List UInt8 := dkwX3_money_0 ++ dktX3_money_1
theorem dksX3_money_0 : cX3_money.data.toList.drop 0 = dktX3_money_0 := by decide +kernel
theorem dksX3_money_1 : cX3_money.data.toList.drop 24 = dktX3_money_1 := dk_seg dksX3_money_0 24 rfl rfl
theorem dksX3_money_2 : cX3_money.data.toList.drop 48 = dktX3_money_2 := dk_seg dksX3_money_1 24 rfl rfl
theorem dksX3_money_3 : cX3_money.data.toList.drop 70 = dktX3_money_3 := dk_seg dksX3_money_2 22 rfl rfl
theorem dX3_money_0 : decode cX3_money 0 = .ok (.iload_n 1, 1) := dk_27 (dk_at dksX3_money_0 0 rfl rfl)
theorem dX3_money_1 : decode cX3_money 1 = .ok (.iconst 0, 1) := dk_3 (dk_at dksX3_money_0 1 rfl rfl)
theorem dX3_money_2 : decode cX3_money 2 = .ok (.sipush 600, 3) := dk_17 2 88 (dk_at dksX3_money_0 2 rfl rfl)
theorem dX3_money_5 : decode cX3_money 5 = .ok (.invokestatic 54, 3) := dk_184 0 54 (dk_at dksX3_money_0 5 rfl rfl)
theorem dX3_money_8 : decode cX3_money 8 = .ok (.ifCond .eq 14, 3) := dk_153 0 14 (dk_at dksX3_money_0 8 rfl rfl)
theorem dX3_money_11 : decode cX3_money 11 = .ok (.iload_n 2, 1) := dk_28 (dk_at dksX3_money_0 11 rfl rfl)
theorem dX3_money_12 : decode cX3_money 12 = .ok (.iconst 0, 1) := dk_3 (dk_at dksX3_money_0 12 rfl rfl)
theorem dX3_money_13 : decode cX3_money 13 = .ok (.sipush 600, 3) := dk_17 2 88 (dk_at dksX3_money_0 13 rfl rfl)
theorem dX3_money_16 : decode cX3_money 16 = .ok (.invokestatic 54, 3) := dk_184 0 54 (dk_at dksX3_money_0 16 rfl rfl)
theorem dX3_money_19 : decode cX3_money 19 = .ok (.ifCond .ne 5, 3) := dk_154 0 5 (dk_at dksX3_money_0 19 rfl rfl)
theorem dX3_money_22 : decode cX3_money 22 = .ok (.iconst (-1), 1) := dk_2 (dk_at dksX3_money_0 22 rfl rfl)
theorem dX3_money_23 : decode cX3_money 23 = .ok (.ireturn, 1) := dk_172 (dk_at dksX3_money_0 23 rfl rfl)
theorem dX3_money_24 : decode cX3_money 24 = .ok (.iconst (-1), 1) := dk_2 (dk_at dksX3_money_1 0 rfl rfl)
theorem dX3_money_25 : decode cX3_money 25 = .ok (.istore_n 3, 1) := dk_62 (dk_at dksX3_money_1 1 rfl rfl)
theorem dX3_money_26 : decode cX3_money 26 = .ok (.iload_n 1, 1) := dk_27 (dk_at dksX3_money_1 2 rfl rfl)
theorem dX3_money_27 : decode cX3_money 27 = .ok (.istore 4, 2) := dk_54 4 (dk_at dksX3_money_1 3 rfl rfl)
theorem dX3_money_29 : decode cX3_money 29 = .ok (.iconst 0, 1) := dk_3 (dk_at dksX3_money_1 5 rfl rfl)
theorem dX3_money_30 : decode cX3_money 30 = .ok (.istore 5, 2) := dk_54 5 (dk_at dksX3_money_1 6 rfl rfl)
theorem dX3_money_32 : decode cX3_money 32 = .ok (.iload 5, 2) := dk_21 5 (dk_at dksX3_money_1 8 rfl rfl)
theorem dX3_money_34 : decode cX3_money 34 = .ok (.aload_n 0, 1) := dk_42 (dk_at dksX3_money_1 10 rfl rfl)
theorem dX3_money_35 : decode cX3_money 35 = .ok (.getfield 7, 3) := dk_180 0 7 (dk_at dksX3_money_1 11 rfl rfl)
theorem dX3_money_38 : decode cX3_money 38 = .ok (.bipush 88, 2) := dk_16 88 (dk_at dksX3_money_1 14 rfl rfl)
theorem dX3_money_40 : decode cX3_money 40 = .ok (.iaload, 1) := dk_46 (dk_at dksX3_money_1 16 rfl rfl)
theorem dX3_money_41 : decode cX3_money 41 = .ok (.if_icmp .ge 40, 3) := dk_162 0 40 (dk_at dksX3_money_1 17 rfl rfl)
theorem dX3_money_44 : decode cX3_money 44 = .ok (.iload 4, 2) := dk_21 4 (dk_at dksX3_money_1 20 rfl rfl)
theorem dX3_money_46 : decode cX3_money 46 = .ok (.bipush 10, 2) := dk_16 10 (dk_at dksX3_money_1 22 rfl rfl)
theorem dX3_money_48 : decode cX3_money 48 = .ok (.aload_n 0, 1) := dk_42 (dk_at dksX3_money_2 0 rfl rfl)
theorem dX3_money_49 : decode cX3_money 49 = .ok (.getfield 7, 3) := dk_180 0 7 (dk_at dksX3_money_2 1 rfl rfl)
theorem dX3_money_52 : decode cX3_money 52 = .ok (.bipush 93, 2) := dk_16 93 (dk_at dksX3_money_2 4 rfl rfl)
theorem dX3_money_54 : decode cX3_money 54 = .ok (.iload 5, 2) := dk_21 5 (dk_at dksX3_money_2 6 rfl rfl)
theorem dX3_money_56 : decode cX3_money 56 = .ok (.iadd, 1) := dk_96 (dk_at dksX3_money_2 8 rfl rfl)
theorem dX3_money_57 : decode cX3_money 57 = .ok (.iaload, 1) := dk_46 (dk_at dksX3_money_2 9 rfl rfl)
theorem dX3_money_58 : decode cX3_money 58 = .ok (.iadd, 1) := dk_96 (dk_at dksX3_money_2 10 rfl rfl)
theorem dX3_money_59 : decode cX3_money 59 = .ok (.iadd, 1) := dk_96 (dk_at dksX3_money_2 11 rfl rfl)
theorem dX3_money_60 : decode cX3_money 60 = .ok (.istore 4, 2) := dk_54 4 (dk_at dksX3_money_2 12 rfl rfl)
theorem dX3_money_62 : decode cX3_money 62 = .ok (.iload 4, 2) := dk_21 4 (dk_at dksX3_money_2 14 rfl rfl)
theorem dX3_money_64 : decode cX3_money 64 = .ok (.iload_n 2, 1) := dk_28 (dk_at dksX3_money_2 16 rfl rfl)
theorem dX3_money_65 : decode cX3_money 65 = .ok (.if_icmp .gt 8, 3) := dk_163 0 8 (dk_at dksX3_money_2 17 rfl rfl)
theorem dX3_money_68 : decode cX3_money 68 = .ok (.iload 5, 2) := dk_21 5 (dk_at dksX3_money_2 20 rfl rfl)
theorem dX3_money_70 : decode cX3_money 70 = .ok (.goto 4, 3) := dk_167 0 4 (dk_at dksX3_money_3 0 rfl rfl)
theorem dX3_money_73 : decode cX3_money 73 = .ok (.iload_n 3, 1) := dk_29 (dk_at dksX3_money_3 3 rfl rfl)
theorem dX3_money_74 : decode cX3_money 74 = .ok (.istore_n 3, 1) := dk_62 (dk_at dksX3_money_3 4 rfl rfl)
theorem dX3_money_75 : decode cX3_money 75 = .ok (.iinc 5 1, 3) := dk_132 5 1 (dk_at dksX3_money_3 5 rfl rfl)
theorem dX3_money_78 : decode cX3_money 78 = .ok (.goto (-46), 3) := dk_167 255 210 (dk_at dksX3_money_3 8 rfl rfl)
theorem dX3_money_81 : decode cX3_money 81 = .ok (.iload_n 3, 1) := dk_29 (dk_at dksX3_money_3 11 rfl rfl)
theorem dX3_money_82 : decode cX3_money 82 = .ok (.ireturn, 1) := dk_172 (dk_at dksX3_money_3 12 rfl rfl)
abbrev cX3_ill : ByteArray := prog_17_method_128_code
def yX3_ill : MethodName := ⟨RX3, "ill", "(II)I"⟩
def dkwX3_ill_3 : List UInt8 := [29, 172]
abbrev dktX3_ill_3 : List UInt8 := dkwX3_ill_3 ++ []
def dkwX3_ill_2 : List UInt8 := [4, 100, 182, 1, 136, 154, 0, 10, 4, 21, 4, 120, 167, 0, 4, 3, 128, 62, 132, 4, 1, 167, 255, 215]
abbrev dktX3_ill_2 : List UInt8 := dkwX3_ill_2 ++ dktX3_ill_3
def dkwX3_ill_1 : List UInt8 := [62, 3, 54, 4, 21, 4, 42, 180, 0, 7, 16, 88, 46, 162, 0, 35, 29, 42, 21, 4, 27, 27, 28, 96]
abbrev dktX3_ill_1 : List UInt8 := dkwX3_ill_1 ++ dktX3_ill_2
def dkwX3_ill_0 : List UInt8 := [27, 3, 17, 3, 231, 184, 0, 54, 153, 0, 13, 28, 4, 16, 30, 184, 0, 54, 154, 0, 5, 2, 172, 3]
abbrev dktX3_ill_0 : List UInt8 := dkwX3_ill_0 ++ dktX3_ill_1
theorem dksX3_ill_0 : cX3_ill.data.toList.drop 0 = dktX3_ill_0 := by decide +kernel
theorem dksX3_ill_1 : cX3_ill.data.toList.drop 24 = dktX3_ill_1 := dk_seg dksX3_ill_0 24 rfl rfl
theorem dksX3_ill_2 : cX3_ill.data.toList.drop 48 = dktX3_ill_2 := dk_seg dksX3_ill_1 24 rfl rfl
theorem dksX3_ill_3 : cX3_ill.data.toList.drop 72 = dktX3_ill_3 := dk_seg dksX3_ill_2 24 rfl rfl
theorem dX3_ill_0 : decode cX3_ill 0 = .ok (.iload_n 1, 1) := dk_27 (dk_at dksX3_ill_0 0 rfl rfl)
theorem dX3_ill_1 : decode cX3_ill 1 = .ok (.iconst 0, 1) := dk_3 (dk_at dksX3_ill_0 1 rfl rfl)
theorem dX3_ill_2 : decode cX3_ill 2 = .ok (.sipush 999, 3) := dk_17 3 231 (dk_at dksX3_ill_0 2 rfl rfl)
theorem dX3_ill_5 : decode cX3_ill 5 = .ok (.invokestatic 54, 3) := dk_184 0 54 (dk_at dksX3_ill_0 5 rfl rfl)
theorem dX3_ill_8 : decode cX3_ill 8 = .ok (.ifCond .eq 13, 3) := dk_153 0 13 (dk_at dksX3_ill_0 8 rfl rfl)
theorem dX3_ill_11 : decode cX3_ill 11 = .ok (.iload_n 2, 1) := dk_28 (dk_at dksX3_ill_0 11 rfl rfl)
theorem dX3_ill_12 : decode cX3_ill 12 = .ok (.iconst 1, 1) := dk_4 (dk_at dksX3_ill_0 12 rfl rfl)
theorem dX3_ill_13 : decode cX3_ill 13 = .ok (.bipush 30, 2) := dk_16 30 (dk_at dksX3_ill_0 13 rfl rfl)
theorem dX3_ill_15 : decode cX3_ill 15 = .ok (.invokestatic 54, 3) := dk_184 0 54 (dk_at dksX3_ill_0 15 rfl rfl)
theorem dX3_ill_18 : decode cX3_ill 18 = .ok (.ifCond .ne 5, 3) := dk_154 0 5 (dk_at dksX3_ill_0 18 rfl rfl)
theorem dX3_ill_21 : decode cX3_ill 21 = .ok (.iconst (-1), 1) := dk_2 (dk_at dksX3_ill_0 21 rfl rfl)
theorem dX3_ill_22 : decode cX3_ill 22 = .ok (.ireturn, 1) := dk_172 (dk_at dksX3_ill_0 22 rfl rfl)
theorem dX3_ill_23 : decode cX3_ill 23 = .ok (.iconst 0, 1) := dk_3 (dk_at dksX3_ill_0 23 rfl rfl)
theorem dX3_ill_24 : decode cX3_ill 24 = .ok (.istore_n 3, 1) := dk_62 (dk_at dksX3_ill_1 0 rfl rfl)
theorem dX3_ill_25 : decode cX3_ill 25 = .ok (.iconst 0, 1) := dk_3 (dk_at dksX3_ill_1 1 rfl rfl)
theorem dX3_ill_26 : decode cX3_ill 26 = .ok (.istore 4, 2) := dk_54 4 (dk_at dksX3_ill_1 2 rfl rfl)
theorem dX3_ill_28 : decode cX3_ill 28 = .ok (.iload 4, 2) := dk_21 4 (dk_at dksX3_ill_1 4 rfl rfl)
theorem dX3_ill_30 : decode cX3_ill 30 = .ok (.aload_n 0, 1) := dk_42 (dk_at dksX3_ill_1 6 rfl rfl)
theorem dX3_ill_31 : decode cX3_ill 31 = .ok (.getfield 7, 3) := dk_180 0 7 (dk_at dksX3_ill_1 7 rfl rfl)
theorem dX3_ill_34 : decode cX3_ill 34 = .ok (.bipush 88, 2) := dk_16 88 (dk_at dksX3_ill_1 10 rfl rfl)
theorem dX3_ill_36 : decode cX3_ill 36 = .ok (.iaload, 1) := dk_46 (dk_at dksX3_ill_1 12 rfl rfl)
theorem dX3_ill_37 : decode cX3_ill 37 = .ok (.if_icmp .ge 35, 3) := dk_162 0 35 (dk_at dksX3_ill_1 13 rfl rfl)
theorem dX3_ill_40 : decode cX3_ill 40 = .ok (.iload_n 3, 1) := dk_29 (dk_at dksX3_ill_1 16 rfl rfl)
theorem dX3_ill_41 : decode cX3_ill 41 = .ok (.aload_n 0, 1) := dk_42 (dk_at dksX3_ill_1 17 rfl rfl)
theorem dX3_ill_42 : decode cX3_ill 42 = .ok (.iload 4, 2) := dk_21 4 (dk_at dksX3_ill_1 18 rfl rfl)
theorem dX3_ill_44 : decode cX3_ill 44 = .ok (.iload_n 1, 1) := dk_27 (dk_at dksX3_ill_1 20 rfl rfl)
theorem dX3_ill_45 : decode cX3_ill 45 = .ok (.iload_n 1, 1) := dk_27 (dk_at dksX3_ill_1 21 rfl rfl)
theorem dX3_ill_46 : decode cX3_ill 46 = .ok (.iload_n 2, 1) := dk_28 (dk_at dksX3_ill_1 22 rfl rfl)
theorem dX3_ill_47 : decode cX3_ill 47 = .ok (.iadd, 1) := dk_96 (dk_at dksX3_ill_1 23 rfl rfl)
theorem dX3_ill_48 : decode cX3_ill 48 = .ok (.iconst 1, 1) := dk_4 (dk_at dksX3_ill_2 0 rfl rfl)
theorem dX3_ill_49 : decode cX3_ill 49 = .ok (.isub, 1) := dk_100 (dk_at dksX3_ill_2 1 rfl rfl)
theorem dX3_ill_50 : decode cX3_ill 50 = .ok (.invokevirtual 392, 3) := dk_182 1 136 (dk_at dksX3_ill_2 2 rfl rfl)
theorem dX3_ill_53 : decode cX3_ill 53 = .ok (.ifCond .ne 10, 3) := dk_154 0 10 (dk_at dksX3_ill_2 5 rfl rfl)
theorem dX3_ill_56 : decode cX3_ill 56 = .ok (.iconst 1, 1) := dk_4 (dk_at dksX3_ill_2 8 rfl rfl)
theorem dX3_ill_57 : decode cX3_ill 57 = .ok (.iload 4, 2) := dk_21 4 (dk_at dksX3_ill_2 9 rfl rfl)
theorem dX3_ill_59 : decode cX3_ill 59 = .ok (.ishl, 1) := dk_120 (dk_at dksX3_ill_2 11 rfl rfl)
theorem dX3_ill_60 : decode cX3_ill 60 = .ok (.goto 4, 3) := dk_167 0 4 (dk_at dksX3_ill_2 12 rfl rfl)
theorem dX3_ill_63 : decode cX3_ill 63 = .ok (.iconst 0, 1) := dk_3 (dk_at dksX3_ill_2 15 rfl rfl)
theorem dX3_ill_64 : decode cX3_ill 64 = .ok (.ior, 1) := dk_128 (dk_at dksX3_ill_2 16 rfl rfl)
theorem dX3_ill_65 : decode cX3_ill 65 = .ok (.istore_n 3, 1) := dk_62 (dk_at dksX3_ill_2 17 rfl rfl)
theorem dX3_ill_66 : decode cX3_ill 66 = .ok (.iinc 4 1, 3) := dk_132 4 1 (dk_at dksX3_ill_2 18 rfl rfl)
theorem dX3_ill_69 : decode cX3_ill 69 = .ok (.goto (-41), 3) := dk_167 255 215 (dk_at dksX3_ill_2 21 rfl rfl)
theorem dX3_ill_72 : decode cX3_ill 72 = .ok (.iload_n 3, 1) := dk_29 (dk_at dksX3_ill_3 0 rfl rfl)
theorem dX3_ill_73 : decode cX3_ill 73 = .ok (.ireturn, 1) := dk_172 (dk_at dksX3_ill_3 1 rfl rfl)
abbrev cX3_wrote : ByteArray := prog_17_method_130_code
def yX3_wrote : MethodName := ⟨RX3, "wrote", "()I"⟩
def dkwX3_wrote_1 : List UInt8 := [28, 182, 1, 202, 42, 27, 182, 1, 202, 162, 0, 5, 28, 60, 132, 2, 1, 167, 255, 232, 27, 172]
abbrev dktX3_wrote_1 : List UInt8 := dkwX3_wrote_1 ++ []
def dkwX3_wrote_0 : List UInt8 := [42, 180, 0, 7, 16, 88, 46, 5, 162, 0, 5, 2, 172, 3, 60, 4, 61, 28, 16, 100, 162, 0, 24, 42]
abbrev dktX3_wrote_0 : List UInt8 := dkwX3_wrote_0 ++ dktX3_wrote_1
theorem dksX3_wrote_0 : cX3_wrote.data.toList.drop 0 = dktX3_wrote_0 := by decide +kernel
theorem dksX3_wrote_1 : cX3_wrote.data.toList.drop 24 = dktX3_wrote_1 := dk_seg dksX3_wrote_0 24 rfl rfl
theorem dX3_wrote_0 : decode cX3_wrote 0 = .ok (.aload_n 0, 1) := dk_42 (dk_at dksX3_wrote_0 0 rfl rfl)
theorem dX3_wrote_1 : decode cX3_wrote 1 = .ok (.getfield 7, 3) := dk_180 0 7 (dk_at dksX3_wrote_0 1 rfl rfl)
theorem dX3_wrote_4 : decode cX3_wrote 4 = .ok (.bipush 88, 2) := dk_16 88 (dk_at dksX3_wrote_0 4 rfl rfl)
theorem dX3_wrote_6 : decode cX3_wrote 6 = .ok (.iaload, 1) := dk_46 (dk_at dksX3_wrote_0 6 rfl rfl)
theorem dX3_wrote_7 : decode cX3_wrote 7 = .ok (.iconst 2, 1) := dk_5 (dk_at dksX3_wrote_0 7 rfl rfl)
theorem dX3_wrote_8 : decode cX3_wrote 8 = .ok (.if_icmp .ge 5, 3) := dk_162 0 5 (dk_at dksX3_wrote_0 8 rfl rfl)
theorem dX3_wrote_11 : decode cX3_wrote 11 = .ok (.iconst (-1), 1) := dk_2 (dk_at dksX3_wrote_0 11 rfl rfl)
theorem dX3_wrote_12 : decode cX3_wrote 12 = .ok (.ireturn, 1) := dk_172 (dk_at dksX3_wrote_0 12 rfl rfl)
theorem dX3_wrote_13 : decode cX3_wrote 13 = .ok (.iconst 0, 1) := dk_3 (dk_at dksX3_wrote_0 13 rfl rfl)
theorem dX3_wrote_14 : decode cX3_wrote 14 = .ok (.istore_n 1, 1) := dk_60 (dk_at dksX3_wrote_0 14 rfl rfl)
theorem dX3_wrote_15 : decode cX3_wrote 15 = .ok (.iconst 1, 1) := dk_4 (dk_at dksX3_wrote_0 15 rfl rfl)
theorem dX3_wrote_16 : decode cX3_wrote 16 = .ok (.istore_n 2, 1) := dk_61 (dk_at dksX3_wrote_0 16 rfl rfl)
theorem dX3_wrote_17 : decode cX3_wrote 17 = .ok (.iload_n 2, 1) := dk_28 (dk_at dksX3_wrote_0 17 rfl rfl)
theorem dX3_wrote_18 : decode cX3_wrote 18 = .ok (.bipush 100, 2) := dk_16 100 (dk_at dksX3_wrote_0 18 rfl rfl)
theorem dX3_wrote_20 : decode cX3_wrote 20 = .ok (.if_icmp .ge 24, 3) := dk_162 0 24 (dk_at dksX3_wrote_0 20 rfl rfl)
theorem dX3_wrote_23 : decode cX3_wrote 23 = .ok (.aload_n 0, 1) := dk_42 (dk_at dksX3_wrote_0 23 rfl rfl)
theorem dX3_wrote_24 : decode cX3_wrote 24 = .ok (.iload_n 2, 1) := dk_28 (dk_at dksX3_wrote_1 0 rfl rfl)
theorem dX3_wrote_25 : decode cX3_wrote 25 = .ok (.invokevirtual 458, 3) := dk_182 1 202 (dk_at dksX3_wrote_1 1 rfl rfl)
theorem dX3_wrote_28 : decode cX3_wrote 28 = .ok (.aload_n 0, 1) := dk_42 (dk_at dksX3_wrote_1 4 rfl rfl)
theorem dX3_wrote_29 : decode cX3_wrote 29 = .ok (.iload_n 1, 1) := dk_27 (dk_at dksX3_wrote_1 5 rfl rfl)
theorem dX3_wrote_30 : decode cX3_wrote 30 = .ok (.invokevirtual 458, 3) := dk_182 1 202 (dk_at dksX3_wrote_1 6 rfl rfl)
theorem dX3_wrote_33 : decode cX3_wrote 33 = .ok (.if_icmp .ge 5, 3) := dk_162 0 5 (dk_at dksX3_wrote_1 9 rfl rfl)
theorem dX3_wrote_36 : decode cX3_wrote 36 = .ok (.iload_n 2, 1) := dk_28 (dk_at dksX3_wrote_1 12 rfl rfl)
theorem dX3_wrote_37 : decode cX3_wrote 37 = .ok (.istore_n 1, 1) := dk_60 (dk_at dksX3_wrote_1 13 rfl rfl)
theorem dX3_wrote_38 : decode cX3_wrote 38 = .ok (.iinc 2 1, 3) := dk_132 2 1 (dk_at dksX3_wrote_1 14 rfl rfl)
theorem dX3_wrote_41 : decode cX3_wrote 41 = .ok (.goto (-24), 3) := dk_167 255 232 (dk_at dksX3_wrote_1 17 rfl rfl)
theorem dX3_wrote_44 : decode cX3_wrote 44 = .ok (.iload_n 1, 1) := dk_27 (dk_at dksX3_wrote_1 20 rfl rfl)
theorem dX3_wrote_45 : decode cX3_wrote 45 = .ok (.ireturn, 1) := dk_172 (dk_at dksX3_wrote_1 21 rfl rfl)
abbrev cX3_greaterBy : ByteArray := prog_17_method_129_code
def yX3_greaterBy : MethodName := ⟨RX3, "greaterBy", "(I)I"⟩
def dkwX3_greaterBy_2 : List UInt8 := [28, 100, 184, 0, 51, 172]
abbrev dktX3_greaterBy_2 : List UInt8 := dkwX3_greaterBy_2 ++ []
def dkwX3_greaterBy_1 : List UInt8 := [158, 0, 7, 4, 167, 0, 4, 3, 96, 61, 132, 3, 1, 167, 255, 224, 28, 42, 180, 0, 7, 16, 88, 46]
abbrev dktX3_greaterBy_1 : List UInt8 := dkwX3_greaterBy_1 ++ dktX3_greaterBy_2
def dkwX3_greaterBy_0 : List UInt8 := [3, 61, 3, 62, 29, 42, 180, 0, 7, 16, 88, 46, 162, 0, 27, 28, 42, 29, 3, 27, 182, 1, 136]
abbrev dktX3_greaterBy_0 : List UInt8 := dkwX3_greaterBy_0 ++ dktX3_greaterBy_1
theorem dksX3_greaterBy_0 : cX3_greaterBy.data.toList.drop 0 = dktX3_greaterBy_0 := by decide +kernel
theorem dksX3_greaterBy_1 : cX3_greaterBy.data.toList.drop 23 = dktX3_greaterBy_1 := dk_seg dksX3_greaterBy_0 23 rfl rfl
theorem dksX3_greaterBy_2 : cX3_greaterBy.data.toList.drop 47 = dktX3_greaterBy_2 := dk_seg dksX3_greaterBy_1 24 rfl rfl
theorem dX3_greaterBy_0 : decode cX3_greaterBy 0 = .ok (.iconst 0, 1) := dk_3 (dk_at dksX3_greaterBy_0 0 rfl rfl)
theorem dX3_greaterBy_1 : decode cX3_greaterBy 1 = .ok (.istore_n 2, 1) := dk_61 (dk_at dksX3_greaterBy_0 1 rfl rfl)
theorem dX3_greaterBy_2 : decode cX3_greaterBy 2 = .ok (.iconst 0, 1) := dk_3 (dk_at dksX3_greaterBy_0 2 rfl rfl)
theorem dX3_greaterBy_3 : decode cX3_greaterBy 3 = .ok (.istore_n 3, 1) := dk_62 (dk_at dksX3_greaterBy_0 3 rfl rfl)
theorem dX3_greaterBy_4 : decode cX3_greaterBy 4 = .ok (.iload_n 3, 1) := dk_29 (dk_at dksX3_greaterBy_0 4 rfl rfl)
theorem dX3_greaterBy_5 : decode cX3_greaterBy 5 = .ok (.aload_n 0, 1) := dk_42 (dk_at dksX3_greaterBy_0 5 rfl rfl)
theorem dX3_greaterBy_6 : decode cX3_greaterBy 6 = .ok (.getfield 7, 3) := dk_180 0 7 (dk_at dksX3_greaterBy_0 6 rfl rfl)
theorem dX3_greaterBy_9 : decode cX3_greaterBy 9 = .ok (.bipush 88, 2) := dk_16 88 (dk_at dksX3_greaterBy_0 9 rfl rfl)
theorem dX3_greaterBy_11 : decode cX3_greaterBy 11 = .ok (.iaload, 1) := dk_46 (dk_at dksX3_greaterBy_0 11 rfl rfl)
theorem dX3_greaterBy_12 : decode cX3_greaterBy 12 = .ok (.if_icmp .ge 27, 3) := dk_162 0 27 (dk_at dksX3_greaterBy_0 12 rfl rfl)
theorem dX3_greaterBy_15 : decode cX3_greaterBy 15 = .ok (.iload_n 2, 1) := dk_28 (dk_at dksX3_greaterBy_0 15 rfl rfl)
theorem dX3_greaterBy_16 : decode cX3_greaterBy 16 = .ok (.aload_n 0, 1) := dk_42 (dk_at dksX3_greaterBy_0 16 rfl rfl)
theorem dX3_greaterBy_17 : decode cX3_greaterBy 17 = .ok (.iload_n 3, 1) := dk_29 (dk_at dksX3_greaterBy_0 17 rfl rfl)
theorem dX3_greaterBy_18 : decode cX3_greaterBy 18 = .ok (.iconst 0, 1) := dk_3 (dk_at dksX3_greaterBy_0 18 rfl rfl)
theorem dX3_greaterBy_19 : decode cX3_greaterBy 19 = .ok (.iload_n 1, 1) := dk_27 (dk_at dksX3_greaterBy_0 19 rfl rfl)
theorem dX3_greaterBy_20 : decode cX3_greaterBy 20 = .ok (.invokevirtual 392, 3) := dk_182 1 136 (dk_at dksX3_greaterBy_0 20 rfl rfl)
theorem dX3_greaterBy_23 : decode cX3_greaterBy 23 = .ok (.ifCond .le 7, 3) := dk_158 0 7 (dk_at dksX3_greaterBy_1 0 rfl rfl)
theorem dX3_greaterBy_26 : decode cX3_greaterBy 26 = .ok (.iconst 1, 1) := dk_4 (dk_at dksX3_greaterBy_1 3 rfl rfl)
theorem dX3_greaterBy_27 : decode cX3_greaterBy 27 = .ok (.goto 4, 3) := dk_167 0 4 (dk_at dksX3_greaterBy_1 4 rfl rfl)
theorem dX3_greaterBy_30 : decode cX3_greaterBy 30 = .ok (.iconst 0, 1) := dk_3 (dk_at dksX3_greaterBy_1 7 rfl rfl)
theorem dX3_greaterBy_31 : decode cX3_greaterBy 31 = .ok (.iadd, 1) := dk_96 (dk_at dksX3_greaterBy_1 8 rfl rfl)
theorem dX3_greaterBy_32 : decode cX3_greaterBy 32 = .ok (.istore_n 2, 1) := dk_61 (dk_at dksX3_greaterBy_1 9 rfl rfl)
theorem dX3_greaterBy_33 : decode cX3_greaterBy 33 = .ok (.iinc 3 1, 3) := dk_132 3 1 (dk_at dksX3_greaterBy_1 10 rfl rfl)
theorem dX3_greaterBy_36 : decode cX3_greaterBy 36 = .ok (.goto (-32), 3) := dk_167 255 224 (dk_at dksX3_greaterBy_1 13 rfl rfl)
theorem dX3_greaterBy_39 : decode cX3_greaterBy 39 = .ok (.iload_n 2, 1) := dk_28 (dk_at dksX3_greaterBy_1 16 rfl rfl)
theorem dX3_greaterBy_40 : decode cX3_greaterBy 40 = .ok (.aload_n 0, 1) := dk_42 (dk_at dksX3_greaterBy_1 17 rfl rfl)
theorem dX3_greaterBy_41 : decode cX3_greaterBy 41 = .ok (.getfield 7, 3) := dk_180 0 7 (dk_at dksX3_greaterBy_1 18 rfl rfl)
theorem dX3_greaterBy_44 : decode cX3_greaterBy 44 = .ok (.bipush 88, 2) := dk_16 88 (dk_at dksX3_greaterBy_1 21 rfl rfl)
theorem dX3_greaterBy_46 : decode cX3_greaterBy 46 = .ok (.iaload, 1) := dk_46 (dk_at dksX3_greaterBy_1 23 rfl rfl)
theorem dX3_greaterBy_47 : decode cX3_greaterBy 47 = .ok (.iload_n 2, 1) := dk_28 (dk_at dksX3_greaterBy_2 0 rfl rfl)
theorem dX3_greaterBy_48 : decode cX3_greaterBy 48 = .ok (.isub, 1) := dk_100 (dk_at dksX3_greaterBy_2 1 rfl rfl)
theorem dX3_greaterBy_49 : decode cX3_greaterBy 49 = .ok (.invokestatic 51, 3) := dk_184 0 51 (dk_at dksX3_greaterBy_2 2 rfl rfl)
theorem dX3_greaterBy_52 : decode cX3_greaterBy 52 = .ok (.ireturn, 1) := dk_172 (dk_at dksX3_greaterBy_2 5 rfl rfl)
abbrev cX3_slowest : ByteArray := prog_17_method_131_code
def yX3_slowest : MethodName := ⟨RX3, "slowest", "()I"⟩
def dkwX3_slowest_2 : List UInt8 := [167, 255, 214, 27, 172]
abbrev dktX3_slowest_2 : List UInt8 := dkwX3_slowest_2 ++ []
def dkwX3_slowest_1 : List UInt8 := [2, 159, 0, 16, 42, 28, 182, 1, 114, 42, 27, 182, 1, 114, 162, 0, 5, 28, 60, 132, 2, 1]
abbrev dktX3_slowest_1 : List UInt8 := dkwX3_slowest_1 ++ dktX3_slowest_2
def dkwX3_slowest_0 : List UInt8 := [2, 60, 3, 61, 28, 42, 180, 0, 7, 16, 88, 46, 162, 0, 37, 42, 28, 182, 0, 65, 154, 0, 23, 27]
abbrev dktX3_slowest_0 : List UInt8 := dkwX3_slowest_0 ++ dktX3_slowest_1
theorem dksX3_slowest_0 : cX3_slowest.data.toList.drop 0 = dktX3_slowest_0 := by decide +kernel
theorem dksX3_slowest_1 : cX3_slowest.data.toList.drop 24 = dktX3_slowest_1 := dk_seg dksX3_slowest_0 24 rfl rfl
theorem dksX3_slowest_2 : cX3_slowest.data.toList.drop 46 = dktX3_slowest_2 := dk_seg dksX3_slowest_1 22 rfl rfl
theorem dX3_slowest_0 : decode cX3_slowest 0 = .ok (.iconst (-1), 1) := dk_2 (dk_at dksX3_slowest_0 0 rfl rfl)
theorem dX3_slowest_1 : decode cX3_slowest 1 = .ok (.istore_n 1, 1) := dk_60 (dk_at dksX3_slowest_0 1 rfl rfl)
theorem dX3_slowest_2 : decode cX3_slowest 2 = .ok (.iconst 0, 1) := dk_3 (dk_at dksX3_slowest_0 2 rfl rfl)
theorem dX3_slowest_3 : decode cX3_slowest 3 = .ok (.istore_n 2, 1) := dk_61 (dk_at dksX3_slowest_0 3 rfl rfl)
theorem dX3_slowest_4 : decode cX3_slowest 4 = .ok (.iload_n 2, 1) := dk_28 (dk_at dksX3_slowest_0 4 rfl rfl)
theorem dX3_slowest_5 : decode cX3_slowest 5 = .ok (.aload_n 0, 1) := dk_42 (dk_at dksX3_slowest_0 5 rfl rfl)
theorem dX3_slowest_6 : decode cX3_slowest 6 = .ok (.getfield 7, 3) := dk_180 0 7 (dk_at dksX3_slowest_0 6 rfl rfl)
theorem dX3_slowest_9 : decode cX3_slowest 9 = .ok (.bipush 88, 2) := dk_16 88 (dk_at dksX3_slowest_0 9 rfl rfl)
theorem dX3_slowest_11 : decode cX3_slowest 11 = .ok (.iaload, 1) := dk_46 (dk_at dksX3_slowest_0 11 rfl rfl)
theorem dX3_slowest_12 : decode cX3_slowest 12 = .ok (.if_icmp .ge 37, 3) := dk_162 0 37 (dk_at dksX3_slowest_0 12 rfl rfl)
theorem dX3_slowest_15 : decode cX3_slowest 15 = .ok (.aload_n 0, 1) := dk_42 (dk_at dksX3_slowest_0 15 rfl rfl)
theorem dX3_slowest_16 : decode cX3_slowest 16 = .ok (.iload_n 2, 1) := dk_28 (dk_at dksX3_slowest_0 16 rfl rfl)
theorem dX3_slowest_17 : decode cX3_slowest 17 = .ok (.invokevirtual 65, 3) := dk_182 0 65 (dk_at dksX3_slowest_0 17 rfl rfl)
theorem dX3_slowest_20 : decode cX3_slowest 20 = .ok (.ifCond .ne 23, 3) := dk_154 0 23 (dk_at dksX3_slowest_0 20 rfl rfl)
theorem dX3_slowest_23 : decode cX3_slowest 23 = .ok (.iload_n 1, 1) := dk_27 (dk_at dksX3_slowest_0 23 rfl rfl)
theorem dX3_slowest_24 : decode cX3_slowest 24 = .ok (.iconst (-1), 1) := dk_2 (dk_at dksX3_slowest_1 0 rfl rfl)
theorem dX3_slowest_25 : decode cX3_slowest 25 = .ok (.if_icmp .eq 16, 3) := dk_159 0 16 (dk_at dksX3_slowest_1 1 rfl rfl)
theorem dX3_slowest_28 : decode cX3_slowest 28 = .ok (.aload_n 0, 1) := dk_42 (dk_at dksX3_slowest_1 4 rfl rfl)
theorem dX3_slowest_29 : decode cX3_slowest 29 = .ok (.iload_n 2, 1) := dk_28 (dk_at dksX3_slowest_1 5 rfl rfl)
theorem dX3_slowest_30 : decode cX3_slowest 30 = .ok (.invokevirtual 370, 3) := dk_182 1 114 (dk_at dksX3_slowest_1 6 rfl rfl)
theorem dX3_slowest_33 : decode cX3_slowest 33 = .ok (.aload_n 0, 1) := dk_42 (dk_at dksX3_slowest_1 9 rfl rfl)
theorem dX3_slowest_34 : decode cX3_slowest 34 = .ok (.iload_n 1, 1) := dk_27 (dk_at dksX3_slowest_1 10 rfl rfl)
theorem dX3_slowest_35 : decode cX3_slowest 35 = .ok (.invokevirtual 370, 3) := dk_182 1 114 (dk_at dksX3_slowest_1 11 rfl rfl)
theorem dX3_slowest_38 : decode cX3_slowest 38 = .ok (.if_icmp .ge 5, 3) := dk_162 0 5 (dk_at dksX3_slowest_1 14 rfl rfl)
theorem dX3_slowest_41 : decode cX3_slowest 41 = .ok (.iload_n 2, 1) := dk_28 (dk_at dksX3_slowest_1 17 rfl rfl)
theorem dX3_slowest_42 : decode cX3_slowest 42 = .ok (.istore_n 1, 1) := dk_60 (dk_at dksX3_slowest_1 18 rfl rfl)
theorem dX3_slowest_43 : decode cX3_slowest 43 = .ok (.iinc 2 1, 3) := dk_132 2 1 (dk_at dksX3_slowest_1 19 rfl rfl)
theorem dX3_slowest_46 : decode cX3_slowest 46 = .ok (.goto (-42), 3) := dk_167 255 214 (dk_at dksX3_slowest_2 0 rfl rfl)
theorem dX3_slowest_49 : decode cX3_slowest 49 = .ok (.iload_n 1, 1) := dk_27 (dk_at dksX3_slowest_2 3 rfl rfl)
theorem dX3_slowest_50 : decode cX3_slowest 50 = .ok (.ireturn, 1) := dk_172 (dk_at dksX3_slowest_2 4 rfl rfl)
abbrev cX3_game : ByteArray := prog_17_method_133_code
def yX3_game : MethodName := ⟨RX3, "game", "(I)I"⟩
def dkwX3_game_5 : List UInt8 := [167, 255, 186, 2, 172]
abbrev dktX3_game_5 : List UInt8 := dkwX3_game_5 ++ []
def dkwX3_game_4 : List UInt8 := [160, 0, 14, 27, 154, 0, 7, 29, 167, 0, 5, 21, 4, 172, 132, 4, 1, 167, 255, 206, 132, 3, 1]
abbrev dktX3_game_4 : List UInt8 := dkwX3_game_4 ++ dktX3_game_5
def dkwX3_game_3 : List UInt8 := [163, 0, 42, 28, 42, 29, 182, 1, 205, 7, 112, 130, 42, 29, 182, 1, 205, 21, 4, 100, 7, 112]
abbrev dktX3_game_3 : List UInt8 := dkwX3_game_3 ++ dktX3_game_4
def dkwX3_game_2 : List UInt8 := [180, 0, 7, 16, 88, 46, 162, 0, 65, 4, 54, 4, 21, 4, 6, 42, 29, 182, 1, 205, 184, 0, 47]
abbrev dktX3_game_2 : List UInt8 := dkwX3_game_2 ++ dktX3_game_3
def dkwX3_game_1 : List UInt8 := [162, 0, 19, 28, 42, 29, 182, 1, 205, 7, 112, 130, 61, 132, 3, 1, 167, 255, 232, 3, 62, 29, 42]
abbrev dktX3_game_1 : List UInt8 := dkwX3_game_1 ++ dktX3_game_2
def dkwX3_game_0 : List UInt8 := [27, 3, 4, 184, 0, 54, 154, 0, 5, 2, 172, 3, 61, 3, 62, 29, 42, 180, 0, 7, 16, 88, 46]
abbrev dktX3_game_0 : List UInt8 := dkwX3_game_0 ++ dktX3_game_1
theorem dksX3_game_0 : cX3_game.data.toList.drop 0 = dktX3_game_0 := by decide +kernel
theorem dksX3_game_1 : cX3_game.data.toList.drop 23 = dktX3_game_1 := dk_seg dksX3_game_0 23 rfl rfl
theorem dksX3_game_2 : cX3_game.data.toList.drop 46 = dktX3_game_2 := dk_seg dksX3_game_1 23 rfl rfl
theorem dksX3_game_3 : cX3_game.data.toList.drop 69 = dktX3_game_3 := dk_seg dksX3_game_2 23 rfl rfl
theorem dksX3_game_4 : cX3_game.data.toList.drop 91 = dktX3_game_4 := dk_seg dksX3_game_3 22 rfl rfl
theorem dksX3_game_5 : cX3_game.data.toList.drop 114 = dktX3_game_5 := dk_seg dksX3_game_4 23 rfl rfl
theorem dX3_game_0 : decode cX3_game 0 = .ok (.iload_n 1, 1) := dk_27 (dk_at dksX3_game_0 0 rfl rfl)
theorem dX3_game_1 : decode cX3_game 1 = .ok (.iconst 0, 1) := dk_3 (dk_at dksX3_game_0 1 rfl rfl)
theorem dX3_game_2 : decode cX3_game 2 = .ok (.iconst 1, 1) := dk_4 (dk_at dksX3_game_0 2 rfl rfl)
theorem dX3_game_3 : decode cX3_game 3 = .ok (.invokestatic 54, 3) := dk_184 0 54 (dk_at dksX3_game_0 3 rfl rfl)
theorem dX3_game_6 : decode cX3_game 6 = .ok (.ifCond .ne 5, 3) := dk_154 0 5 (dk_at dksX3_game_0 6 rfl rfl)
theorem dX3_game_9 : decode cX3_game 9 = .ok (.iconst (-1), 1) := dk_2 (dk_at dksX3_game_0 9 rfl rfl)
theorem dX3_game_10 : decode cX3_game 10 = .ok (.ireturn, 1) := dk_172 (dk_at dksX3_game_0 10 rfl rfl)
theorem dX3_game_11 : decode cX3_game 11 = .ok (.iconst 0, 1) := dk_3 (dk_at dksX3_game_0 11 rfl rfl)
theorem dX3_game_12 : decode cX3_game 12 = .ok (.istore_n 2, 1) := dk_61 (dk_at dksX3_game_0 12 rfl rfl)
theorem dX3_game_13 : decode cX3_game 13 = .ok (.iconst 0, 1) := dk_3 (dk_at dksX3_game_0 13 rfl rfl)
theorem dX3_game_14 : decode cX3_game 14 = .ok (.istore_n 3, 1) := dk_62 (dk_at dksX3_game_0 14 rfl rfl)
theorem dX3_game_15 : decode cX3_game 15 = .ok (.iload_n 3, 1) := dk_29 (dk_at dksX3_game_0 15 rfl rfl)
theorem dX3_game_16 : decode cX3_game 16 = .ok (.aload_n 0, 1) := dk_42 (dk_at dksX3_game_0 16 rfl rfl)
theorem dX3_game_17 : decode cX3_game 17 = .ok (.getfield 7, 3) := dk_180 0 7 (dk_at dksX3_game_0 17 rfl rfl)
theorem dX3_game_20 : decode cX3_game 20 = .ok (.bipush 88, 2) := dk_16 88 (dk_at dksX3_game_0 20 rfl rfl)
theorem dX3_game_22 : decode cX3_game 22 = .ok (.iaload, 1) := dk_46 (dk_at dksX3_game_0 22 rfl rfl)
theorem dX3_game_23 : decode cX3_game 23 = .ok (.if_icmp .ge 19, 3) := dk_162 0 19 (dk_at dksX3_game_1 0 rfl rfl)
theorem dX3_game_26 : decode cX3_game 26 = .ok (.iload_n 2, 1) := dk_28 (dk_at dksX3_game_1 3 rfl rfl)
theorem dX3_game_27 : decode cX3_game 27 = .ok (.aload_n 0, 1) := dk_42 (dk_at dksX3_game_1 4 rfl rfl)
theorem dX3_game_28 : decode cX3_game 28 = .ok (.iload_n 3, 1) := dk_29 (dk_at dksX3_game_1 5 rfl rfl)
theorem dX3_game_29 : decode cX3_game 29 = .ok (.invokevirtual 461, 3) := dk_182 1 205 (dk_at dksX3_game_1 6 rfl rfl)
theorem dX3_game_32 : decode cX3_game 32 = .ok (.iconst 4, 1) := dk_7 (dk_at dksX3_game_1 9 rfl rfl)
theorem dX3_game_33 : decode cX3_game 33 = .ok (.irem, 1) := dk_112 (dk_at dksX3_game_1 10 rfl rfl)
theorem dX3_game_34 : decode cX3_game 34 = .ok (.ixor, 1) := dk_130 (dk_at dksX3_game_1 11 rfl rfl)
theorem dX3_game_35 : decode cX3_game 35 = .ok (.istore_n 2, 1) := dk_61 (dk_at dksX3_game_1 12 rfl rfl)
theorem dX3_game_36 : decode cX3_game 36 = .ok (.iinc 3 1, 3) := dk_132 3 1 (dk_at dksX3_game_1 13 rfl rfl)
theorem dX3_game_39 : decode cX3_game 39 = .ok (.goto (-24), 3) := dk_167 255 232 (dk_at dksX3_game_1 16 rfl rfl)
theorem dX3_game_42 : decode cX3_game 42 = .ok (.iconst 0, 1) := dk_3 (dk_at dksX3_game_1 19 rfl rfl)
theorem dX3_game_43 : decode cX3_game 43 = .ok (.istore_n 3, 1) := dk_62 (dk_at dksX3_game_1 20 rfl rfl)
theorem dX3_game_44 : decode cX3_game 44 = .ok (.iload_n 3, 1) := dk_29 (dk_at dksX3_game_1 21 rfl rfl)
theorem dX3_game_45 : decode cX3_game 45 = .ok (.aload_n 0, 1) := dk_42 (dk_at dksX3_game_1 22 rfl rfl)
theorem dX3_game_46 : decode cX3_game 46 = .ok (.getfield 7, 3) := dk_180 0 7 (dk_at dksX3_game_2 0 rfl rfl)
theorem dX3_game_49 : decode cX3_game 49 = .ok (.bipush 88, 2) := dk_16 88 (dk_at dksX3_game_2 3 rfl rfl)
theorem dX3_game_51 : decode cX3_game 51 = .ok (.iaload, 1) := dk_46 (dk_at dksX3_game_2 5 rfl rfl)
theorem dX3_game_52 : decode cX3_game 52 = .ok (.if_icmp .ge 65, 3) := dk_162 0 65 (dk_at dksX3_game_2 6 rfl rfl)
theorem dX3_game_55 : decode cX3_game 55 = .ok (.iconst 1, 1) := dk_4 (dk_at dksX3_game_2 9 rfl rfl)
theorem dX3_game_56 : decode cX3_game 56 = .ok (.istore 4, 2) := dk_54 4 (dk_at dksX3_game_2 10 rfl rfl)
theorem dX3_game_58 : decode cX3_game 58 = .ok (.iload 4, 2) := dk_21 4 (dk_at dksX3_game_2 12 rfl rfl)
theorem dX3_game_60 : decode cX3_game 60 = .ok (.iconst 3, 1) := dk_6 (dk_at dksX3_game_2 14 rfl rfl)
theorem dX3_game_61 : decode cX3_game 61 = .ok (.aload_n 0, 1) := dk_42 (dk_at dksX3_game_2 15 rfl rfl)
theorem dX3_game_62 : decode cX3_game 62 = .ok (.iload_n 3, 1) := dk_29 (dk_at dksX3_game_2 16 rfl rfl)
theorem dX3_game_63 : decode cX3_game 63 = .ok (.invokevirtual 461, 3) := dk_182 1 205 (dk_at dksX3_game_2 17 rfl rfl)
theorem dX3_game_66 : decode cX3_game 66 = .ok (.invokestatic 47, 3) := dk_184 0 47 (dk_at dksX3_game_2 20 rfl rfl)
theorem dX3_game_69 : decode cX3_game 69 = .ok (.if_icmp .gt 42, 3) := dk_163 0 42 (dk_at dksX3_game_3 0 rfl rfl)
theorem dX3_game_72 : decode cX3_game 72 = .ok (.iload_n 2, 1) := dk_28 (dk_at dksX3_game_3 3 rfl rfl)
theorem dX3_game_73 : decode cX3_game 73 = .ok (.aload_n 0, 1) := dk_42 (dk_at dksX3_game_3 4 rfl rfl)
theorem dX3_game_74 : decode cX3_game 74 = .ok (.iload_n 3, 1) := dk_29 (dk_at dksX3_game_3 5 rfl rfl)
theorem dX3_game_75 : decode cX3_game 75 = .ok (.invokevirtual 461, 3) := dk_182 1 205 (dk_at dksX3_game_3 6 rfl rfl)
theorem dX3_game_78 : decode cX3_game 78 = .ok (.iconst 4, 1) := dk_7 (dk_at dksX3_game_3 9 rfl rfl)
theorem dX3_game_79 : decode cX3_game 79 = .ok (.irem, 1) := dk_112 (dk_at dksX3_game_3 10 rfl rfl)
theorem dX3_game_80 : decode cX3_game 80 = .ok (.ixor, 1) := dk_130 (dk_at dksX3_game_3 11 rfl rfl)
theorem dX3_game_81 : decode cX3_game 81 = .ok (.aload_n 0, 1) := dk_42 (dk_at dksX3_game_3 12 rfl rfl)
theorem dX3_game_82 : decode cX3_game 82 = .ok (.iload_n 3, 1) := dk_29 (dk_at dksX3_game_3 13 rfl rfl)
theorem dX3_game_83 : decode cX3_game 83 = .ok (.invokevirtual 461, 3) := dk_182 1 205 (dk_at dksX3_game_3 14 rfl rfl)
theorem dX3_game_86 : decode cX3_game 86 = .ok (.iload 4, 2) := dk_21 4 (dk_at dksX3_game_3 17 rfl rfl)
theorem dX3_game_88 : decode cX3_game 88 = .ok (.isub, 1) := dk_100 (dk_at dksX3_game_3 19 rfl rfl)
theorem dX3_game_89 : decode cX3_game 89 = .ok (.iconst 4, 1) := dk_7 (dk_at dksX3_game_3 20 rfl rfl)
theorem dX3_game_90 : decode cX3_game 90 = .ok (.irem, 1) := dk_112 (dk_at dksX3_game_3 21 rfl rfl)
theorem dX3_game_91 : decode cX3_game 91 = .ok (.if_icmp .ne 14, 3) := dk_160 0 14 (dk_at dksX3_game_4 0 rfl rfl)
theorem dX3_game_94 : decode cX3_game 94 = .ok (.iload_n 1, 1) := dk_27 (dk_at dksX3_game_4 3 rfl rfl)
theorem dX3_game_95 : decode cX3_game 95 = .ok (.ifCond .ne 7, 3) := dk_154 0 7 (dk_at dksX3_game_4 4 rfl rfl)
theorem dX3_game_98 : decode cX3_game 98 = .ok (.iload_n 3, 1) := dk_29 (dk_at dksX3_game_4 7 rfl rfl)
theorem dX3_game_99 : decode cX3_game 99 = .ok (.goto 5, 3) := dk_167 0 5 (dk_at dksX3_game_4 8 rfl rfl)
theorem dX3_game_102 : decode cX3_game 102 = .ok (.iload 4, 2) := dk_21 4 (dk_at dksX3_game_4 11 rfl rfl)
theorem dX3_game_104 : decode cX3_game 104 = .ok (.ireturn, 1) := dk_172 (dk_at dksX3_game_4 13 rfl rfl)
theorem dX3_game_105 : decode cX3_game 105 = .ok (.iinc 4 1, 3) := dk_132 4 1 (dk_at dksX3_game_4 14 rfl rfl)
theorem dX3_game_108 : decode cX3_game 108 = .ok (.goto (-50), 3) := dk_167 255 206 (dk_at dksX3_game_4 17 rfl rfl)
theorem dX3_game_111 : decode cX3_game 111 = .ok (.iinc 3 1, 3) := dk_132 3 1 (dk_at dksX3_game_4 20 rfl rfl)
theorem dX3_game_114 : decode cX3_game 114 = .ok (.goto (-70), 3) := dk_167 255 186 (dk_at dksX3_game_5 0 rfl rfl)
theorem dX3_game_117 : decode cX3_game 117 = .ok (.iconst (-1), 1) := dk_2 (dk_at dksX3_game_5 3 rfl rfl)
theorem dX3_game_118 : decode cX3_game 118 = .ok (.ireturn, 1) := dk_172 (dk_at dksX3_game_5 4 rfl rfl)
abbrev cX3_heapOf : ByteArray := prog_17_method_132_code
def yX3_heapOf : MethodName := ⟨RX3, "heapOf", "(I)I"⟩
def dkwX3_heapOf_0 : List UInt8 := [42, 27, 182, 0, 65, 153, 0, 7, 3, 167, 0, 12, 42, 180, 0, 7, 16, 93, 27, 96, 46, 172]
abbrev dktX3_heapOf_0 : List UInt8 := dkwX3_heapOf_0 ++ []
theorem dksX3_heapOf_0 : cX3_heapOf.data.toList.drop 0 = dktX3_heapOf_0 := by decide +kernel
theorem dX3_heapOf_0 : decode cX3_heapOf 0 = .ok (.aload_n 0, 1) := dk_42 (dk_at dksX3_heapOf_0 0 rfl rfl)
theorem dX3_heapOf_1 : decode cX3_heapOf 1 = .ok (.iload_n 1, 1) := dk_27 (dk_at dksX3_heapOf_0 1 rfl rfl)
theorem dX3_heapOf_2 : decode cX3_heapOf 2 = .ok (.invokevirtual 65, 3) := dk_182 0 65 (dk_at dksX3_heapOf_0 2 rfl rfl)
theorem dX3_heapOf_5 : decode cX3_heapOf 5 = .ok (.ifCond .eq 7, 3) := dk_153 0 7 (dk_at dksX3_heapOf_0 5 rfl rfl)
theorem dX3_heapOf_8 : decode cX3_heapOf 8 = .ok (.iconst 0, 1) := dk_3 (dk_at dksX3_heapOf_0 8 rfl rfl)
theorem dX3_heapOf_9 : decode cX3_heapOf 9 = .ok (.goto 12, 3) := dk_167 0 12 (dk_at dksX3_heapOf_0 9 rfl rfl)
theorem dX3_heapOf_12 : decode cX3_heapOf 12 = .ok (.aload_n 0, 1) := dk_42 (dk_at dksX3_heapOf_0 12 rfl rfl)
theorem dX3_heapOf_13 : decode cX3_heapOf 13 = .ok (.getfield 7, 3) := dk_180 0 7 (dk_at dksX3_heapOf_0 13 rfl rfl)
theorem dX3_heapOf_16 : decode cX3_heapOf 16 = .ok (.bipush 93, 2) := dk_16 93 (dk_at dksX3_heapOf_0 16 rfl rfl)
theorem dX3_heapOf_18 : decode cX3_heapOf 18 = .ok (.iload_n 1, 1) := dk_27 (dk_at dksX3_heapOf_0 18 rfl rfl)
theorem dX3_heapOf_19 : decode cX3_heapOf 19 = .ok (.iadd, 1) := dk_96 (dk_at dksX3_heapOf_0 19 rfl rfl)
theorem dX3_heapOf_20 : decode cX3_heapOf 20 = .ok (.iaload, 1) := dk_46 (dk_at dksX3_heapOf_0 20 rfl rfl)
theorem dX3_heapOf_21 : decode cX3_heapOf 21 = .ok (.ireturn, 1) := dk_172 (dk_at dksX3_heapOf_0 21 rfl rfl)
abbrev cX3_image : ByteArray := prog_17_method_134_code
def yX3_image : MethodName := ⟨RX3, "image", "(Z)Z"⟩
def dkwX3_image_3 : List UInt8 := [181, 1, 208, 4, 172]
abbrev dktX3_image_3 : List UInt8 := dkwX3_image_3 ++ []
def dkwX3_image_2 : List UInt8 := [180, 0, 13, 28, 46, 79, 132, 2, 1, 167, 255, 215, 27, 154, 0, 7, 42, 182, 0, 71, 42, 4]
abbrev dktX3_image_2 : List UInt8 := dkwX3_image_2 ++ dktX3_image_3
def dkwX3_image_1 : List UInt8 := [153, 0, 18, 42, 180, 0, 13, 28, 42, 180, 0, 7, 28, 46, 79, 167, 0, 15, 42, 180, 0, 7, 28, 42]
abbrev dktX3_image_1 : List UInt8 := dkwX3_image_1 ++ dktX3_image_2
def dkwX3_image_0 : List UInt8 := [27, 154, 0, 12, 42, 180, 1, 208, 154, 0, 5, 3, 172, 3, 61, 28, 17, 6, 189, 162, 0, 40, 27]
abbrev dktX3_image_0 : List UInt8 := dkwX3_image_0 ++ dktX3_image_1
theorem dksX3_image_0 : cX3_image.data.toList.drop 0 = dktX3_image_0 := by decide +kernel
theorem dksX3_image_1 : cX3_image.data.toList.drop 23 = dktX3_image_1 := dk_seg dksX3_image_0 23 rfl rfl
theorem dksX3_image_2 : cX3_image.data.toList.drop 47 = dktX3_image_2 := dk_seg dksX3_image_1 24 rfl rfl
theorem dksX3_image_3 : cX3_image.data.toList.drop 69 = dktX3_image_3 := dk_seg dksX3_image_2 22 rfl rfl
theorem dX3_image_0 : decode cX3_image 0 = .ok (.iload_n 1, 1) := dk_27 (dk_at dksX3_image_0 0 rfl rfl)
theorem dX3_image_1 : decode cX3_image 1 = .ok (.ifCond .ne 12, 3) := dk_154 0 12 (dk_at dksX3_image_0 1 rfl rfl)
theorem dX3_image_4 : decode cX3_image 4 = .ok (.aload_n 0, 1) := dk_42 (dk_at dksX3_image_0 4 rfl rfl)
theorem dX3_image_5 : decode cX3_image 5 = .ok (.getfield 464, 3) := dk_180 1 208 (dk_at dksX3_image_0 5 rfl rfl)
theorem dX3_image_8 : decode cX3_image 8 = .ok (.ifCond .ne 5, 3) := dk_154 0 5 (dk_at dksX3_image_0 8 rfl rfl)
theorem dX3_image_11 : decode cX3_image 11 = .ok (.iconst 0, 1) := dk_3 (dk_at dksX3_image_0 11 rfl rfl)
theorem dX3_image_12 : decode cX3_image 12 = .ok (.ireturn, 1) := dk_172 (dk_at dksX3_image_0 12 rfl rfl)
theorem dX3_image_13 : decode cX3_image 13 = .ok (.iconst 0, 1) := dk_3 (dk_at dksX3_image_0 13 rfl rfl)
theorem dX3_image_14 : decode cX3_image 14 = .ok (.istore_n 2, 1) := dk_61 (dk_at dksX3_image_0 14 rfl rfl)
theorem dX3_image_15 : decode cX3_image 15 = .ok (.iload_n 2, 1) := dk_28 (dk_at dksX3_image_0 15 rfl rfl)
theorem dX3_image_16 : decode cX3_image 16 = .ok (.sipush 1725, 3) := dk_17 6 189 (dk_at dksX3_image_0 16 rfl rfl)
theorem dX3_image_19 : decode cX3_image 19 = .ok (.if_icmp .ge 40, 3) := dk_162 0 40 (dk_at dksX3_image_0 19 rfl rfl)
theorem dX3_image_22 : decode cX3_image 22 = .ok (.iload_n 1, 1) := dk_27 (dk_at dksX3_image_0 22 rfl rfl)
theorem dX3_image_23 : decode cX3_image 23 = .ok (.ifCond .eq 18, 3) := dk_153 0 18 (dk_at dksX3_image_1 0 rfl rfl)
theorem dX3_image_26 : decode cX3_image 26 = .ok (.aload_n 0, 1) := dk_42 (dk_at dksX3_image_1 3 rfl rfl)
theorem dX3_image_27 : decode cX3_image 27 = .ok (.getfield 13, 3) := dk_180 0 13 (dk_at dksX3_image_1 4 rfl rfl)
theorem dX3_image_30 : decode cX3_image 30 = .ok (.iload_n 2, 1) := dk_28 (dk_at dksX3_image_1 7 rfl rfl)
theorem dX3_image_31 : decode cX3_image 31 = .ok (.aload_n 0, 1) := dk_42 (dk_at dksX3_image_1 8 rfl rfl)
theorem dX3_image_32 : decode cX3_image 32 = .ok (.getfield 7, 3) := dk_180 0 7 (dk_at dksX3_image_1 9 rfl rfl)
theorem dX3_image_35 : decode cX3_image 35 = .ok (.iload_n 2, 1) := dk_28 (dk_at dksX3_image_1 12 rfl rfl)
theorem dX3_image_36 : decode cX3_image 36 = .ok (.iaload, 1) := dk_46 (dk_at dksX3_image_1 13 rfl rfl)
theorem dX3_image_37 : decode cX3_image 37 = .ok (.iastore, 1) := dk_79 (dk_at dksX3_image_1 14 rfl rfl)
theorem dX3_image_38 : decode cX3_image 38 = .ok (.goto 15, 3) := dk_167 0 15 (dk_at dksX3_image_1 15 rfl rfl)
theorem dX3_image_41 : decode cX3_image 41 = .ok (.aload_n 0, 1) := dk_42 (dk_at dksX3_image_1 18 rfl rfl)
theorem dX3_image_42 : decode cX3_image 42 = .ok (.getfield 7, 3) := dk_180 0 7 (dk_at dksX3_image_1 19 rfl rfl)
theorem dX3_image_45 : decode cX3_image 45 = .ok (.iload_n 2, 1) := dk_28 (dk_at dksX3_image_1 22 rfl rfl)
theorem dX3_image_46 : decode cX3_image 46 = .ok (.aload_n 0, 1) := dk_42 (dk_at dksX3_image_1 23 rfl rfl)
theorem dX3_image_47 : decode cX3_image 47 = .ok (.getfield 13, 3) := dk_180 0 13 (dk_at dksX3_image_2 0 rfl rfl)
theorem dX3_image_50 : decode cX3_image 50 = .ok (.iload_n 2, 1) := dk_28 (dk_at dksX3_image_2 3 rfl rfl)
theorem dX3_image_51 : decode cX3_image 51 = .ok (.iaload, 1) := dk_46 (dk_at dksX3_image_2 4 rfl rfl)
theorem dX3_image_52 : decode cX3_image 52 = .ok (.iastore, 1) := dk_79 (dk_at dksX3_image_2 5 rfl rfl)
theorem dX3_image_53 : decode cX3_image 53 = .ok (.iinc 2 1, 3) := dk_132 2 1 (dk_at dksX3_image_2 6 rfl rfl)
theorem dX3_image_56 : decode cX3_image 56 = .ok (.goto (-41), 3) := dk_167 255 215 (dk_at dksX3_image_2 9 rfl rfl)
theorem dX3_image_59 : decode cX3_image 59 = .ok (.iload_n 1, 1) := dk_27 (dk_at dksX3_image_2 12 rfl rfl)
theorem dX3_image_60 : decode cX3_image 60 = .ok (.ifCond .ne 7, 3) := dk_154 0 7 (dk_at dksX3_image_2 13 rfl rfl)
theorem dX3_image_63 : decode cX3_image 63 = .ok (.aload_n 0, 1) := dk_42 (dk_at dksX3_image_2 16 rfl rfl)
theorem dX3_image_64 : decode cX3_image 64 = .ok (.invokevirtual 71, 3) := dk_182 0 71 (dk_at dksX3_image_2 17 rfl rfl)
theorem dX3_image_67 : decode cX3_image 67 = .ok (.aload_n 0, 1) := dk_42 (dk_at dksX3_image_2 20 rfl rfl)
theorem dX3_image_68 : decode cX3_image 68 = .ok (.iconst 1, 1) := dk_4 (dk_at dksX3_image_2 21 rfl rfl)
theorem dX3_image_69 : decode cX3_image 69 = .ok (.putfield 464, 3) := dk_181 1 208 (dk_at dksX3_image_3 0 rfl rfl)
theorem dX3_image_72 : decode cX3_image 72 = .ok (.iconst 1, 1) := dk_4 (dk_at dksX3_image_3 3 rfl rfl)
theorem dX3_image_73 : decode cX3_image 73 = .ok (.ireturn, 1) := dk_172 (dk_at dksX3_image_3 4 rfl rfl)
abbrev cX3_look : ByteArray := prog_17_method_135_code
def yX3_look : MethodName := ⟨RX3, "look", "(I)I"⟩
def dkwX3_look_6 : List UInt8 := [180, 0, 7, 16, 92, 46, 172, 42, 180, 0, 68, 172, 2, 172]
abbrev dktX3_look_6 : List UInt8 := dkwX3_look_6 ++ []
def dkwX3_look_5 : List UInt8 := [180, 0, 7, 16, 89, 46, 172, 42, 180, 0, 7, 16, 90, 46, 172, 42, 180, 0, 7, 16, 91, 46, 172, 42]
abbrev dktX3_look_5 : List UInt8 := dkwX3_look_5 ++ dktX3_look_6
def dkwX3_look_4 : List UInt8 := [42, 182, 1, 35, 184, 1, 142, 96, 172, 42, 180, 0, 7, 6, 46, 172, 42, 180, 0, 7, 5, 46, 172, 42]
abbrev dktX3_look_4 : List UInt8 := dkwX3_look_4 ++ dktX3_look_5
def dkwX3_look_3 : List UInt8 := [182, 1, 139, 172, 42, 182, 1, 35, 172, 42, 180, 0, 7, 16, 88, 46, 154, 0, 7, 3, 167, 0, 12, 4]
abbrev dktX3_look_3 : List UInt8 := dkwX3_look_3 ++ dktX3_look_4
def dkwX3_look_2 : List UInt8 := [42, 180, 0, 7, 16, 88, 46, 172, 42, 180, 0, 7, 3, 46, 172, 42, 180, 0, 7, 4, 46, 172, 42]
abbrev dktX3_look_2 : List UInt8 := dkwX3_look_2 ++ dktX3_look_3
def dkwX3_look_1 : List UInt8 := [170, 0, 0, 0, 0, 0, 174, 0, 0, 0, 0, 0, 0, 0, 12, 0, 0, 0, 67, 0, 0, 0, 75, 0, 0, 0, 82, 0, 0, 0, 89, 0, 0, 0, 94, 0, 0, 0, 99, 0, 0, 0, 123, 0, 0, 0, 130, 0, 0, 0, 137, 0, 0, 0, 145, 0, 0, 0, 153, 0, 0, 0, 161, 0, 0, 0, 169]
abbrev dktX3_look_1 : List UInt8 := dkwX3_look_1 ++ dktX3_look_2
def dkwX3_look_0 : List UInt8 := [27]
abbrev dktX3_look_0 : List UInt8 := dkwX3_look_0 ++ dktX3_look_1
theorem dksX3_look_0 : cX3_look.data.toList.drop 0 = dktX3_look_0 := by decide +kernel
theorem dksX3_look_1 : cX3_look.data.toList.drop 1 = dktX3_look_1 := dk_seg dksX3_look_0 1 rfl rfl
theorem dksX3_look_2 : cX3_look.data.toList.drop 68 = dktX3_look_2 := dk_seg dksX3_look_1 67 rfl rfl
theorem dksX3_look_3 : cX3_look.data.toList.drop 91 = dktX3_look_3 := dk_seg dksX3_look_2 23 rfl rfl
theorem dksX3_look_4 : cX3_look.data.toList.drop 115 = dktX3_look_4 := dk_seg dksX3_look_3 24 rfl rfl
theorem dksX3_look_5 : cX3_look.data.toList.drop 139 = dktX3_look_5 := dk_seg dksX3_look_4 24 rfl rfl
theorem dksX3_look_6 : cX3_look.data.toList.drop 163 = dktX3_look_6 := dk_seg dksX3_look_5 24 rfl rfl
theorem dX3_look_0 : decode cX3_look 0 = .ok (.iload_n 1, 1) := dk_27 (dk_at dksX3_look_0 0 rfl rfl)
theorem dX3_look_1 : decode cX3_look 1 = .ok (.tableswitch 174 0 12 #[67, 75, 82, 89, 94, 99, 123, 130, 137, 145, 153, 161, 169], 67) := by decide +kernel
theorem dX3_look_68 : decode cX3_look 68 = .ok (.aload_n 0, 1) := dk_42 (dk_at dksX3_look_2 0 rfl rfl)
theorem dX3_look_69 : decode cX3_look 69 = .ok (.getfield 7, 3) := dk_180 0 7 (dk_at dksX3_look_2 1 rfl rfl)
theorem dX3_look_72 : decode cX3_look 72 = .ok (.bipush 88, 2) := dk_16 88 (dk_at dksX3_look_2 4 rfl rfl)
theorem dX3_look_74 : decode cX3_look 74 = .ok (.iaload, 1) := dk_46 (dk_at dksX3_look_2 6 rfl rfl)
theorem dX3_look_75 : decode cX3_look 75 = .ok (.ireturn, 1) := dk_172 (dk_at dksX3_look_2 7 rfl rfl)
theorem dX3_look_76 : decode cX3_look 76 = .ok (.aload_n 0, 1) := dk_42 (dk_at dksX3_look_2 8 rfl rfl)
theorem dX3_look_77 : decode cX3_look 77 = .ok (.getfield 7, 3) := dk_180 0 7 (dk_at dksX3_look_2 9 rfl rfl)
theorem dX3_look_80 : decode cX3_look 80 = .ok (.iconst 0, 1) := dk_3 (dk_at dksX3_look_2 12 rfl rfl)
theorem dX3_look_81 : decode cX3_look 81 = .ok (.iaload, 1) := dk_46 (dk_at dksX3_look_2 13 rfl rfl)
theorem dX3_look_82 : decode cX3_look 82 = .ok (.ireturn, 1) := dk_172 (dk_at dksX3_look_2 14 rfl rfl)
theorem dX3_look_83 : decode cX3_look 83 = .ok (.aload_n 0, 1) := dk_42 (dk_at dksX3_look_2 15 rfl rfl)
theorem dX3_look_84 : decode cX3_look 84 = .ok (.getfield 7, 3) := dk_180 0 7 (dk_at dksX3_look_2 16 rfl rfl)
theorem dX3_look_87 : decode cX3_look 87 = .ok (.iconst 1, 1) := dk_4 (dk_at dksX3_look_2 19 rfl rfl)
theorem dX3_look_88 : decode cX3_look 88 = .ok (.iaload, 1) := dk_46 (dk_at dksX3_look_2 20 rfl rfl)
theorem dX3_look_89 : decode cX3_look 89 = .ok (.ireturn, 1) := dk_172 (dk_at dksX3_look_2 21 rfl rfl)
theorem dX3_look_90 : decode cX3_look 90 = .ok (.aload_n 0, 1) := dk_42 (dk_at dksX3_look_2 22 rfl rfl)
theorem dX3_look_91 : decode cX3_look 91 = .ok (.invokevirtual 395, 3) := dk_182 1 139 (dk_at dksX3_look_3 0 rfl rfl)
theorem dX3_look_94 : decode cX3_look 94 = .ok (.ireturn, 1) := dk_172 (dk_at dksX3_look_3 3 rfl rfl)
theorem dX3_look_95 : decode cX3_look 95 = .ok (.aload_n 0, 1) := dk_42 (dk_at dksX3_look_3 4 rfl rfl)
theorem dX3_look_96 : decode cX3_look 96 = .ok (.invokevirtual 291, 3) := dk_182 1 35 (dk_at dksX3_look_3 5 rfl rfl)
theorem dX3_look_99 : decode cX3_look 99 = .ok (.ireturn, 1) := dk_172 (dk_at dksX3_look_3 8 rfl rfl)
theorem dX3_look_100 : decode cX3_look 100 = .ok (.aload_n 0, 1) := dk_42 (dk_at dksX3_look_3 9 rfl rfl)
theorem dX3_look_101 : decode cX3_look 101 = .ok (.getfield 7, 3) := dk_180 0 7 (dk_at dksX3_look_3 10 rfl rfl)
theorem dX3_look_104 : decode cX3_look 104 = .ok (.bipush 88, 2) := dk_16 88 (dk_at dksX3_look_3 13 rfl rfl)
theorem dX3_look_106 : decode cX3_look 106 = .ok (.iaload, 1) := dk_46 (dk_at dksX3_look_3 15 rfl rfl)
theorem dX3_look_107 : decode cX3_look 107 = .ok (.ifCond .ne 7, 3) := dk_154 0 7 (dk_at dksX3_look_3 16 rfl rfl)
theorem dX3_look_110 : decode cX3_look 110 = .ok (.iconst 0, 1) := dk_3 (dk_at dksX3_look_3 19 rfl rfl)
theorem dX3_look_111 : decode cX3_look 111 = .ok (.goto 12, 3) := dk_167 0 12 (dk_at dksX3_look_3 20 rfl rfl)
theorem dX3_look_114 : decode cX3_look 114 = .ok (.iconst 1, 1) := dk_4 (dk_at dksX3_look_3 23 rfl rfl)
theorem dX3_look_115 : decode cX3_look 115 = .ok (.aload_n 0, 1) := dk_42 (dk_at dksX3_look_4 0 rfl rfl)
theorem dX3_look_116 : decode cX3_look 116 = .ok (.invokevirtual 291, 3) := dk_182 1 35 (dk_at dksX3_look_4 1 rfl rfl)
theorem dX3_look_119 : decode cX3_look 119 = .ok (.invokestatic 398, 3) := dk_184 1 142 (dk_at dksX3_look_4 4 rfl rfl)
theorem dX3_look_122 : decode cX3_look 122 = .ok (.iadd, 1) := dk_96 (dk_at dksX3_look_4 7 rfl rfl)
theorem dX3_look_123 : decode cX3_look 123 = .ok (.ireturn, 1) := dk_172 (dk_at dksX3_look_4 8 rfl rfl)
theorem dX3_look_124 : decode cX3_look 124 = .ok (.aload_n 0, 1) := dk_42 (dk_at dksX3_look_4 9 rfl rfl)
theorem dX3_look_125 : decode cX3_look 125 = .ok (.getfield 7, 3) := dk_180 0 7 (dk_at dksX3_look_4 10 rfl rfl)
theorem dX3_look_128 : decode cX3_look 128 = .ok (.iconst 3, 1) := dk_6 (dk_at dksX3_look_4 13 rfl rfl)
theorem dX3_look_129 : decode cX3_look 129 = .ok (.iaload, 1) := dk_46 (dk_at dksX3_look_4 14 rfl rfl)
theorem dX3_look_130 : decode cX3_look 130 = .ok (.ireturn, 1) := dk_172 (dk_at dksX3_look_4 15 rfl rfl)
theorem dX3_look_131 : decode cX3_look 131 = .ok (.aload_n 0, 1) := dk_42 (dk_at dksX3_look_4 16 rfl rfl)
theorem dX3_look_132 : decode cX3_look 132 = .ok (.getfield 7, 3) := dk_180 0 7 (dk_at dksX3_look_4 17 rfl rfl)
theorem dX3_look_135 : decode cX3_look 135 = .ok (.iconst 2, 1) := dk_5 (dk_at dksX3_look_4 20 rfl rfl)
theorem dX3_look_136 : decode cX3_look 136 = .ok (.iaload, 1) := dk_46 (dk_at dksX3_look_4 21 rfl rfl)
theorem dX3_look_137 : decode cX3_look 137 = .ok (.ireturn, 1) := dk_172 (dk_at dksX3_look_4 22 rfl rfl)
theorem dX3_look_138 : decode cX3_look 138 = .ok (.aload_n 0, 1) := dk_42 (dk_at dksX3_look_4 23 rfl rfl)
theorem dX3_look_139 : decode cX3_look 139 = .ok (.getfield 7, 3) := dk_180 0 7 (dk_at dksX3_look_5 0 rfl rfl)
theorem dX3_look_142 : decode cX3_look 142 = .ok (.bipush 89, 2) := dk_16 89 (dk_at dksX3_look_5 3 rfl rfl)
theorem dX3_look_144 : decode cX3_look 144 = .ok (.iaload, 1) := dk_46 (dk_at dksX3_look_5 5 rfl rfl)
theorem dX3_look_145 : decode cX3_look 145 = .ok (.ireturn, 1) := dk_172 (dk_at dksX3_look_5 6 rfl rfl)
theorem dX3_look_146 : decode cX3_look 146 = .ok (.aload_n 0, 1) := dk_42 (dk_at dksX3_look_5 7 rfl rfl)
theorem dX3_look_147 : decode cX3_look 147 = .ok (.getfield 7, 3) := dk_180 0 7 (dk_at dksX3_look_5 8 rfl rfl)
theorem dX3_look_150 : decode cX3_look 150 = .ok (.bipush 90, 2) := dk_16 90 (dk_at dksX3_look_5 11 rfl rfl)
theorem dX3_look_152 : decode cX3_look 152 = .ok (.iaload, 1) := dk_46 (dk_at dksX3_look_5 13 rfl rfl)
theorem dX3_look_153 : decode cX3_look 153 = .ok (.ireturn, 1) := dk_172 (dk_at dksX3_look_5 14 rfl rfl)
theorem dX3_look_154 : decode cX3_look 154 = .ok (.aload_n 0, 1) := dk_42 (dk_at dksX3_look_5 15 rfl rfl)
theorem dX3_look_155 : decode cX3_look 155 = .ok (.getfield 7, 3) := dk_180 0 7 (dk_at dksX3_look_5 16 rfl rfl)
theorem dX3_look_158 : decode cX3_look 158 = .ok (.bipush 91, 2) := dk_16 91 (dk_at dksX3_look_5 19 rfl rfl)
theorem dX3_look_160 : decode cX3_look 160 = .ok (.iaload, 1) := dk_46 (dk_at dksX3_look_5 21 rfl rfl)
theorem dX3_look_161 : decode cX3_look 161 = .ok (.ireturn, 1) := dk_172 (dk_at dksX3_look_5 22 rfl rfl)
theorem dX3_look_162 : decode cX3_look 162 = .ok (.aload_n 0, 1) := dk_42 (dk_at dksX3_look_5 23 rfl rfl)
theorem dX3_look_163 : decode cX3_look 163 = .ok (.getfield 7, 3) := dk_180 0 7 (dk_at dksX3_look_6 0 rfl rfl)
theorem dX3_look_166 : decode cX3_look 166 = .ok (.bipush 92, 2) := dk_16 92 (dk_at dksX3_look_6 3 rfl rfl)
theorem dX3_look_168 : decode cX3_look 168 = .ok (.iaload, 1) := dk_46 (dk_at dksX3_look_6 5 rfl rfl)
theorem dX3_look_169 : decode cX3_look 169 = .ok (.ireturn, 1) := dk_172 (dk_at dksX3_look_6 6 rfl rfl)
theorem dX3_look_170 : decode cX3_look 170 = .ok (.aload_n 0, 1) := dk_42 (dk_at dksX3_look_6 7 rfl rfl)
theorem dX3_look_171 : decode cX3_look 171 = .ok (.getfield 68, 3) := dk_180 0 68 (dk_at dksX3_look_6 8 rfl rfl)
theorem dX3_look_174 : decode cX3_look 174 = .ok (.ireturn, 1) := dk_172 (dk_at dksX3_look_6 11 rfl rfl)
theorem dX3_look_175 : decode cX3_look 175 = .ok (.iconst (-1), 1) := dk_2 (dk_at dksX3_look_6 12 rfl rfl)
theorem dX3_look_176 : decode cX3_look 176 = .ok (.ireturn, 1) := dk_172 (dk_at dksX3_look_6 13 rfl rfl)
theorem q154 : (Jvm.Cond.initialized "TwelveChainModel") ∈ lw_all := lw_g (lw_at lw_m1 4 rfl) rfl
theorem q1359 : (Jvm.Cond.instantiable "TwelveChainModel" (28 : Nat)) ∈ lw_all := lw_g (lw_at lw_m6 9 rfl) rfl
theorem q1361 : (Jvm.Cond.instanceMethod ({ cls := "TwelveChainModel", name := "<init>", desc := "()V" } : Jvm.MethodName)) ∈ lw_all := lw_g (lw_at lw_m6 11 rfl) rfl
theorem q1362 : (Jvm.Cond.code ({ cls := "TwelveChainModel", name := "<init>", desc := "()V" } : Jvm.MethodName) prog_17_method_1_code (1 : Nat) (Option.none : Option Jvm.ClassFile.FieldType)) ∈ lw_all := lw_g (lw_at lw_m6 12 rfl) rfl
theorem q1363 : (Jvm.Cond.methodLink "TwelveChainModel" (1 : Nat) ({ cls := "java/lang/Object", name := "<init>", desc := "()V" } : Jvm.MethodName)) ∈ lw_all := lw_g (lw_at lw_m6 13 rfl) rfl
theorem q1364 : (Jvm.Cond.fieldLink "TwelveChainModel" (7 : Nat) "TwelveChainModel" "w" "[I") ∈ lw_all := lw_g (lw_at lw_m6 14 rfl) rfl
theorem q1365 : (Jvm.Cond.fieldLink "TwelveChainModel" (13 : Nat) "TwelveChainModel" "kept" "[I") ∈ lw_all := lw_g (lw_at lw_m6 15 rfl) rfl
theorem q1366 : (Jvm.Cond.fieldLink "TwelveChainModel" (16 : Nat) "TwelveChainModel" "back" "[I") ∈ lw_all := lw_g (lw_at lw_m6 16 rfl) rfl
theorem q1367 : (Jvm.Cond.fieldLink "TwelveChainModel" (19 : Nat) "TwelveChainModel" "lying" "[I") ∈ lw_all := lw_g (lw_at lw_m6 17 rfl) rfl
theorem q1368 : (Jvm.Cond.fieldLink "TwelveChainModel" (68 : Nat) "TwelveChainModel" "backMany" "I") ∈ lw_all := lw_g (lw_at lw_m6 18 rfl) rfl
theorem q1369 : (Jvm.Cond.fieldLink "TwelveChainModel" (464 : Nat) "TwelveChainModel" "hasImage" "Z") ∈ lw_all := lw_g (lw_at lw_m6 19 rfl) rfl
theorem q1370 : (Jvm.Cond.fieldLink "TwelveChainModel" (22 : Nat) "TwelveChainModel" "freshLine" "[I") ∈ lw_all := lw_g (lw_at lw_m6 20 rfl) rfl
theorem q1371 : (Jvm.Cond.fieldLink "TwelveChainModel" (25 : Nat) "TwelveChainModel" "freshStep" "[I") ∈ lw_all := lw_g (lw_at lw_m6 21 rfl) rfl
theorem q1372 : (Jvm.Cond.fieldLink "TwelveChainModel" (28 : Nat) "TwelveChainModel" "freshRow" "[I") ∈ lw_all := lw_g (lw_at lw_m6 22 rfl) rfl
theorem q1373 : (Jvm.Cond.fieldLink "TwelveChainModel" (31 : Nat) "TwelveChainModel" "tape" "[I") ∈ lw_all := lw_g (lw_at lw_m6 23 rfl) rfl
theorem q1374 : (Jvm.Cond.fieldLink "TwelveChainModel" (34 : Nat) "TwelveChainModel" "pile" "[I") ∈ lw_all := lw_g (lw_at lw_m6 24 rfl) rfl
theorem q1375 : (Jvm.Cond.fieldLink "TwelveChainModel" (37 : Nat) "TwelveChainModel" "facts" "[I") ∈ lw_all := lw_g (lw_at lw_m6 25 rfl) rfl
theorem q1376 : (Jvm.Cond.fieldLink "TwelveChainModel" (150 : Nat) "TwelveChainModel" "reading" "I") ∈ lw_all := lw_g (lw_at lw_m6 26 rfl) rfl
theorem q1377 : (Jvm.Cond.fieldLink "TwelveChainModel" (229 : Nat) "TwelveChainModel" "lines" "I") ∈ lw_all := lw_g (lw_at lw_m6 27 rfl) rfl
theorem q1378 : (Jvm.Cond.fieldLink "TwelveChainModel" (194 : Nat) "TwelveChainModel" "steps" "I") ∈ lw_all := lw_g (lw_at lw_m6 28 rfl) rfl
theorem q1379 : (Jvm.Cond.fieldLink "TwelveChainModel" (238 : Nat) "TwelveChainModel" "rows" "I") ∈ lw_all := lw_g (lw_at lw_m6 29 rfl) rfl
theorem q1380 : (Jvm.Cond.fieldLink "TwelveChainModel" (80 : Nat) "TwelveChainModel" "taped" "I") ∈ lw_all := lw_g (lw_at lw_m6 30 rfl) rfl
theorem q1381 : (Jvm.Cond.fieldLink "TwelveChainModel" (83 : Nat) "TwelveChainModel" "at" "I") ∈ lw_all := lw_g (lw_at lw_m6 31 rfl) rfl
theorem q1382 : (Jvm.Cond.fieldLink "TwelveChainModel" (167 : Nat) "TwelveChainModel" "token" "I") ∈ lw_all := lw_g (lw_at lw_m6 32 rfl) rfl
theorem q1383 : (Jvm.Cond.fieldLink "TwelveChainModel" (86 : Nat) "TwelveChainModel" "tokenAt" "I") ∈ lw_all := lw_g (lw_at lw_m6 33 rfl) rfl
theorem q1384 : (Jvm.Cond.fieldLink "TwelveChainModel" (179 : Nat) "TwelveChainModel" "value" "I") ∈ lw_all := lw_g (lw_at lw_m6 34 rfl) rfl
theorem q1385 : (Jvm.Cond.fieldLink "TwelveChainModel" (182 : Nat) "TwelveChainModel" "wrong" "I") ∈ lw_all := lw_g (lw_at lw_m6 35 rfl) rfl
theorem q1386 : (Jvm.Cond.fieldLink "TwelveChainModel" (185 : Nat) "TwelveChainModel" "wrongAt" "I") ∈ lw_all := lw_g (lw_at lw_m6 36 rfl) rfl
theorem q1387 : (Jvm.Cond.fieldLink "TwelveChainModel" (270 : Nat) "TwelveChainModel" "faultKind" "I") ∈ lw_all := lw_g (lw_at lw_m6 37 rfl) rfl
theorem q1388 : (Jvm.Cond.fieldLink "TwelveChainModel" (197 : Nat) "TwelveChainModel" "depth" "I") ∈ lw_all := lw_g (lw_at lw_m6 38 rfl) rfl
theorem q1389 : (Jvm.Cond.fieldLink "TwelveChainModel" (40 : Nat) "TwelveChainModel" "faultPlace" "I") ∈ lw_all := lw_g (lw_at lw_m6 39 rfl) rfl
theorem q1390 : (Jvm.Cond.fieldLink "TwelveChainModel" (313 : Nat) "TwelveChainModel" "isTrue" "Z") ∈ lw_all := lw_g (lw_at lw_m6 40 rfl) rfl
theorem q1391 : (Jvm.Cond.fieldLink "TwelveChainModel" (44 : Nat) "TwelveChainModel" "done" "[I") ∈ lw_all := lw_g (lw_at lw_m6 41 rfl) rfl
theorem q1392 : (Jvm.Cond.laysFinal "TwelveChainModel" "TwelveChainModel" "w" "[I") ∈ lw_all := lw_g (lw_at lw_m6 42 rfl) rfl
theorem q1393 : (Jvm.Cond.soleField "TwelveChainModel" "w") ∈ lw_all := lw_g (lw_at lw_m6 43 rfl) rfl
theorem q1394 : (Jvm.Cond.laysFinal "TwelveChainModel" "TwelveChainModel" "kept" "[I") ∈ lw_all := lw_g (lw_at lw_m6 44 rfl) rfl
theorem q1395 : (Jvm.Cond.soleField "TwelveChainModel" "kept") ∈ lw_all := lw_g (lw_at lw_m6 45 rfl) rfl
theorem q1396 : (Jvm.Cond.laysFinal "TwelveChainModel" "TwelveChainModel" "back" "[I") ∈ lw_all := lw_g (lw_at lw_m6 46 rfl) rfl
theorem q1397 : (Jvm.Cond.soleField "TwelveChainModel" "back") ∈ lw_all := lw_g (lw_at lw_m6 47 rfl) rfl
theorem q1398 : (Jvm.Cond.laysFinal "TwelveChainModel" "TwelveChainModel" "lying" "[I") ∈ lw_all := lw_g (lw_at lw_m6 48 rfl) rfl
theorem q1399 : (Jvm.Cond.soleField "TwelveChainModel" "lying") ∈ lw_all := lw_g (lw_at lw_m6 49 rfl) rfl
theorem q1400 : (Jvm.Cond.lays "TwelveChainModel" "TwelveChainModel" "backMany" "I") ∈ lw_all := lw_g (lw_at lw_m6 50 rfl) rfl
theorem q1401 : (Jvm.Cond.soleField "TwelveChainModel" "backMany") ∈ lw_all := lw_g (lw_at lw_m6 51 rfl) rfl
theorem q1402 : (Jvm.Cond.lays "TwelveChainModel" "TwelveChainModel" "hasImage" "Z") ∈ lw_all := lw_g (lw_at lw_m6 52 rfl) rfl
theorem q1403 : (Jvm.Cond.soleField "TwelveChainModel" "hasImage") ∈ lw_all := lw_g (lw_at lw_m6 53 rfl) rfl
theorem q1404 : (Jvm.Cond.laysFinal "TwelveChainModel" "TwelveChainModel" "freshLine" "[I") ∈ lw_all := lw_g (lw_at lw_m6 54 rfl) rfl
theorem q1405 : (Jvm.Cond.soleField "TwelveChainModel" "freshLine") ∈ lw_all := lw_g (lw_at lw_m6 55 rfl) rfl
theorem q1406 : (Jvm.Cond.laysFinal "TwelveChainModel" "TwelveChainModel" "freshStep" "[I") ∈ lw_all := lw_g (lw_at lw_m6 56 rfl) rfl
theorem q1407 : (Jvm.Cond.soleField "TwelveChainModel" "freshStep") ∈ lw_all := lw_g (lw_at lw_m6 57 rfl) rfl
theorem q1408 : (Jvm.Cond.laysFinal "TwelveChainModel" "TwelveChainModel" "freshRow" "[I") ∈ lw_all := lw_g (lw_at lw_m6 58 rfl) rfl
theorem q1409 : (Jvm.Cond.soleField "TwelveChainModel" "freshRow") ∈ lw_all := lw_g (lw_at lw_m6 59 rfl) rfl
theorem q1410 : (Jvm.Cond.laysFinal "TwelveChainModel" "TwelveChainModel" "tape" "[I") ∈ lw_all := lw_g (lw_at lw_m6 60 rfl) rfl
theorem q1411 : (Jvm.Cond.soleField "TwelveChainModel" "tape") ∈ lw_all := lw_g (lw_at lw_m6 61 rfl) rfl
theorem q1412 : (Jvm.Cond.laysFinal "TwelveChainModel" "TwelveChainModel" "pile" "[I") ∈ lw_all := lw_g (lw_at lw_m6 62 rfl) rfl
theorem q1413 : (Jvm.Cond.soleField "TwelveChainModel" "pile") ∈ lw_all := lw_g (lw_at lw_m6 63 rfl) rfl
theorem q1414 : (Jvm.Cond.laysFinal "TwelveChainModel" "TwelveChainModel" "facts" "[I") ∈ lw_all := lw_g (lw_at lw_m6 64 rfl) rfl
theorem q1415 : (Jvm.Cond.soleField "TwelveChainModel" "facts") ∈ lw_all := lw_g (lw_at lw_m6 65 rfl) rfl
theorem q1416 : (Jvm.Cond.lays "TwelveChainModel" "TwelveChainModel" "reading" "I") ∈ lw_all := lw_g (lw_at lw_m6 66 rfl) rfl
theorem q1417 : (Jvm.Cond.soleField "TwelveChainModel" "reading") ∈ lw_all := lw_g (lw_at lw_m6 67 rfl) rfl
theorem q1418 : (Jvm.Cond.lays "TwelveChainModel" "TwelveChainModel" "lines" "I") ∈ lw_all := lw_g (lw_at lw_m6 68 rfl) rfl
theorem q1419 : (Jvm.Cond.soleField "TwelveChainModel" "lines") ∈ lw_all := lw_g (lw_at lw_m6 69 rfl) rfl
theorem q1420 : (Jvm.Cond.lays "TwelveChainModel" "TwelveChainModel" "steps" "I") ∈ lw_all := lw_g (lw_at lw_m6 70 rfl) rfl
theorem q1421 : (Jvm.Cond.soleField "TwelveChainModel" "steps") ∈ lw_all := lw_g (lw_at lw_m6 71 rfl) rfl
theorem q1422 : (Jvm.Cond.lays "TwelveChainModel" "TwelveChainModel" "rows" "I") ∈ lw_all := lw_g (lw_at lw_m6 72 rfl) rfl
theorem q1423 : (Jvm.Cond.soleField "TwelveChainModel" "rows") ∈ lw_all := lw_g (lw_at lw_m6 73 rfl) rfl
theorem q1424 : (Jvm.Cond.lays "TwelveChainModel" "TwelveChainModel" "taped" "I") ∈ lw_all := lw_g (lw_at lw_m6 74 rfl) rfl
theorem q1425 : (Jvm.Cond.soleField "TwelveChainModel" "taped") ∈ lw_all := lw_g (lw_at lw_m6 75 rfl) rfl
theorem q1426 : (Jvm.Cond.lays "TwelveChainModel" "TwelveChainModel" "at" "I") ∈ lw_all := lw_g (lw_at lw_m6 76 rfl) rfl
theorem q1427 : (Jvm.Cond.soleField "TwelveChainModel" "at") ∈ lw_all := lw_g (lw_at lw_m6 77 rfl) rfl
theorem q1428 : (Jvm.Cond.lays "TwelveChainModel" "TwelveChainModel" "token" "I") ∈ lw_all := lw_g (lw_at lw_m6 78 rfl) rfl
theorem q1429 : (Jvm.Cond.soleField "TwelveChainModel" "token") ∈ lw_all := lw_g (lw_at lw_m6 79 rfl) rfl
theorem q1430 : (Jvm.Cond.lays "TwelveChainModel" "TwelveChainModel" "tokenAt" "I") ∈ lw_all := lw_g (lw_at lw_m6 80 rfl) rfl
theorem q1431 : (Jvm.Cond.soleField "TwelveChainModel" "tokenAt") ∈ lw_all := lw_g (lw_at lw_m6 81 rfl) rfl
theorem q1432 : (Jvm.Cond.lays "TwelveChainModel" "TwelveChainModel" "value" "I") ∈ lw_all := lw_g (lw_at lw_m6 82 rfl) rfl
theorem q1433 : (Jvm.Cond.soleField "TwelveChainModel" "value") ∈ lw_all := lw_g (lw_at lw_m6 83 rfl) rfl
theorem q1434 : (Jvm.Cond.lays "TwelveChainModel" "TwelveChainModel" "wrong" "I") ∈ lw_all := lw_g (lw_at lw_m6 84 rfl) rfl
theorem q1435 : (Jvm.Cond.soleField "TwelveChainModel" "wrong") ∈ lw_all := lw_g (lw_at lw_m6 85 rfl) rfl
theorem q1436 : (Jvm.Cond.lays "TwelveChainModel" "TwelveChainModel" "wrongAt" "I") ∈ lw_all := lw_g (lw_at lw_m6 86 rfl) rfl
theorem q1437 : (Jvm.Cond.soleField "TwelveChainModel" "wrongAt") ∈ lw_all := lw_g (lw_at lw_m6 87 rfl) rfl
theorem q1438 : (Jvm.Cond.lays "TwelveChainModel" "TwelveChainModel" "faultKind" "I") ∈ lw_all := lw_g (lw_at lw_m6 88 rfl) rfl
theorem q1439 : (Jvm.Cond.soleField "TwelveChainModel" "faultKind") ∈ lw_all := lw_g (lw_at lw_m6 89 rfl) rfl
theorem q1440 : (Jvm.Cond.lays "TwelveChainModel" "TwelveChainModel" "depth" "I") ∈ lw_all := lw_g (lw_at lw_m6 90 rfl) rfl
theorem q1441 : (Jvm.Cond.soleField "TwelveChainModel" "depth") ∈ lw_all := lw_g (lw_at lw_m6 91 rfl) rfl
theorem q1442 : (Jvm.Cond.lays "TwelveChainModel" "TwelveChainModel" "faultPlace" "I") ∈ lw_all := lw_g (lw_at lw_m6 92 rfl) rfl
theorem q1443 : (Jvm.Cond.soleField "TwelveChainModel" "faultPlace") ∈ lw_all := lw_g (lw_at lw_m6 93 rfl) rfl
theorem q1444 : (Jvm.Cond.lays "TwelveChainModel" "TwelveChainModel" "isTrue" "Z") ∈ lw_all := lw_g (lw_at lw_m6 94 rfl) rfl
theorem q1445 : (Jvm.Cond.soleField "TwelveChainModel" "isTrue") ∈ lw_all := lw_g (lw_at lw_m6 95 rfl) rfl
theorem q1446 : (Jvm.Cond.laysFinal "TwelveChainModel" "TwelveChainModel" "done" "[I") ∈ lw_all := lw_g (lw_at lw_m6 96 rfl) rfl
theorem q1447 : (Jvm.Cond.soleField "TwelveChainModel" "done") ∈ lw_all := lw_g (lw_at lw_m6 97 rfl) rfl
theorem q1448 : (Jvm.Cond.superclass "TwelveChainModel" "java/lang/Object") ∈ lw_all := lw_g (lw_at lw_m6 98 rfl) rfl
theorem q1450 : (Jvm.Cond.instanceMethod ({ cls := "TwelveChainModel", name := "state", desc := "(I)I" } : Jvm.MethodName)) ∈ lw_all := lw_g (lw_at lw_m6 100 rfl) rfl
theorem q1451 : (Jvm.Cond.selects "TwelveChainModel" ({ cls := "TwelveChainModel", name := "state", desc := "(I)I" } : Jvm.MethodName) ({ cls := "TwelveChainModel", name := "state", desc := "(I)I" } : Jvm.MethodName)) ∈ lw_all := lw_g (lw_at lw_m6 101 rfl) rfl
theorem q1452 : (Jvm.Cond.code ({ cls := "TwelveChainModel", name := "state", desc := "(I)I" } : Jvm.MethodName) prog_17_method_14_code (3 : Nat) (Option.some Jvm.ClassFile.FieldType.int)) ∈ lw_all := lw_g (lw_at lw_m6 102 rfl) rfl
theorem q1453 : (Jvm.Cond.methodLink "TwelveChainModel" (71 : Nat) ({ cls := "TwelveChainModel", name := "forgets", desc := "()V" } : Jvm.MethodName)) ∈ lw_all := lw_g (lw_at lw_m6 103 rfl) rfl
theorem q1454 : (Jvm.Cond.privateMethod ({ cls := "TwelveChainModel", name := "forgets", desc := "()V" } : Jvm.MethodName)) ∈ lw_tbl := lw_at lw_m6 104 rfl
theorem q1455 : (Jvm.Cond.instanceMethod ({ cls := "TwelveChainModel", name := "forgets", desc := "()V" } : Jvm.MethodName)) ∈ lw_all := lw_g (lw_at lw_m6 105 rfl) rfl
theorem q1456 : (Jvm.Cond.code ({ cls := "TwelveChainModel", name := "forgets", desc := "()V" } : Jvm.MethodName) prog_17_method_13_code (1 : Nat) (Option.none : Option Jvm.ClassFile.FieldType)) ∈ lw_all := lw_g (lw_at lw_m6 106 rfl) rfl
theorem q1458 : (Jvm.Cond.instanceMethod ({ cls := "TwelveChainModel", name := "link", desc := "(IIII)I" } : Jvm.MethodName)) ∈ lw_all := lw_g (lw_at lw_m6 108 rfl) rfl
theorem q1459 : (Jvm.Cond.selects "TwelveChainModel" ({ cls := "TwelveChainModel", name := "link", desc := "(IIII)I" } : Jvm.MethodName) ({ cls := "TwelveChainModel", name := "link", desc := "(IIII)I" } : Jvm.MethodName)) ∈ lw_all := lw_g (lw_at lw_m6 109 rfl) rfl
theorem q1460 : (Jvm.Cond.code ({ cls := "TwelveChainModel", name := "link", desc := "(IIII)I" } : Jvm.MethodName) prog_17_method_16_code (6 : Nat) (Option.some Jvm.ClassFile.FieldType.int)) ∈ lw_all := lw_g (lw_at lw_m6 110 rfl) rfl
theorem q1461 : (Jvm.Cond.methodLink "TwelveChainModel" (54 : Nat) ({ cls := "TwelveChainModel", name := "isIn", desc := "(III)Z" } : Jvm.MethodName)) ∈ lw_all := lw_g (lw_at lw_m6 111 rfl) rfl
theorem q1462 : (Jvm.Cond.static ({ cls := "TwelveChainModel", name := "isIn", desc := "(III)Z" } : Jvm.MethodName)) ∈ lw_all := lw_g (lw_at lw_m6 112 rfl) rfl
theorem q1463 : (Jvm.Cond.code ({ cls := "TwelveChainModel", name := "isIn", desc := "(III)Z" } : Jvm.MethodName) prog_17_method_2_code (3 : Nat) (Option.some Jvm.ClassFile.FieldType.boolean)) ∈ lw_all := lw_g (lw_at lw_m6 113 rfl) rfl
theorem q1465 : (Jvm.Cond.instanceMethod ({ cls := "TwelveChainModel", name := "set", desc := "(III)Z" } : Jvm.MethodName)) ∈ lw_all := lw_g (lw_at lw_m6 115 rfl) rfl
theorem q1466 : (Jvm.Cond.selects "TwelveChainModel" ({ cls := "TwelveChainModel", name := "set", desc := "(III)Z" } : Jvm.MethodName) ({ cls := "TwelveChainModel", name := "set", desc := "(III)Z" } : Jvm.MethodName)) ∈ lw_all := lw_g (lw_at lw_m6 116 rfl) rfl
theorem q1467 : (Jvm.Cond.code ({ cls := "TwelveChainModel", name := "set", desc := "(III)Z" } : Jvm.MethodName) prog_17_method_18_code (4 : Nat) (Option.some Jvm.ClassFile.FieldType.boolean)) ∈ lw_all := lw_g (lw_at lw_m6 117 rfl) rfl
theorem q1468 : (Jvm.Cond.methodLink "TwelveChainModel" (58 : Nat) ({ cls := "TwelveChainModel", name := "isLink", desc := "(I)Z" } : Jvm.MethodName)) ∈ lw_all := lw_g (lw_at lw_m6 118 rfl) rfl
theorem q1469 : (Jvm.Cond.privateMethod ({ cls := "TwelveChainModel", name := "isLink", desc := "(I)Z" } : Jvm.MethodName)) ∈ lw_tbl := lw_at lw_m6 119 rfl
theorem q1470 : (Jvm.Cond.instanceMethod ({ cls := "TwelveChainModel", name := "isLink", desc := "(I)Z" } : Jvm.MethodName)) ∈ lw_all := lw_g (lw_at lw_m6 120 rfl) rfl
theorem q1471 : (Jvm.Cond.code ({ cls := "TwelveChainModel", name := "isLink", desc := "(I)Z" } : Jvm.MethodName) prog_17_method_6_code (2 : Nat) (Option.some Jvm.ClassFile.FieldType.boolean)) ∈ lw_all := lw_g (lw_at lw_m6 121 rfl) rfl
theorem q1472 : (Jvm.Cond.methodLink "TwelveChainModel" (76 : Nat) ({ cls := "TwelveChainModel", name := "canBe", desc := "(II)Z" } : Jvm.MethodName)) ∈ lw_all := lw_g (lw_at lw_m6 122 rfl) rfl
theorem q1473 : (Jvm.Cond.static ({ cls := "TwelveChainModel", name := "canBe", desc := "(II)Z" } : Jvm.MethodName)) ∈ lw_all := lw_g (lw_at lw_m6 123 rfl) rfl
theorem q1474 : (Jvm.Cond.code ({ cls := "TwelveChainModel", name := "canBe", desc := "(II)Z" } : Jvm.MethodName) prog_17_method_17_code (2 : Nat) (Option.some Jvm.ClassFile.FieldType.boolean)) ∈ lw_all := lw_g (lw_at lw_m6 124 rfl) rfl
theorem q1476 : (Jvm.Cond.instanceMethod ({ cls := "TwelveChainModel", name := "feed", desc := "(IIIII)I" } : Jvm.MethodName)) ∈ lw_all := lw_g (lw_at lw_m6 126 rfl) rfl
theorem q1477 : (Jvm.Cond.selects "TwelveChainModel" ({ cls := "TwelveChainModel", name := "feed", desc := "(IIIII)I" } : Jvm.MethodName) ({ cls := "TwelveChainModel", name := "feed", desc := "(IIIII)I" } : Jvm.MethodName)) ∈ lw_all := lw_g (lw_at lw_m6 127 rfl) rfl
theorem q1478 : (Jvm.Cond.code ({ cls := "TwelveChainModel", name := "feed", desc := "(IIIII)I" } : Jvm.MethodName) prog_17_method_19_code (8 : Nat) (Option.some Jvm.ClassFile.FieldType.int)) ∈ lw_all := lw_g (lw_at lw_m6 128 rfl) rfl
theorem q1480 : (Jvm.Cond.instanceMethod ({ cls := "TwelveChainModel", name := "end", desc := "(I)Z" } : Jvm.MethodName)) ∈ lw_all := lw_g (lw_at lw_m6 130 rfl) rfl
theorem q1481 : (Jvm.Cond.selects "TwelveChainModel" ({ cls := "TwelveChainModel", name := "end", desc := "(I)Z" } : Jvm.MethodName) ({ cls := "TwelveChainModel", name := "end", desc := "(I)Z" } : Jvm.MethodName)) ∈ lw_all := lw_g (lw_at lw_m6 131 rfl) rfl
theorem q1482 : (Jvm.Cond.code ({ cls := "TwelveChainModel", name := "end", desc := "(I)Z" } : Jvm.MethodName) prog_17_method_20_code (2 : Nat) (Option.some Jvm.ClassFile.FieldType.boolean)) ∈ lw_all := lw_g (lw_at lw_m6 132 rfl) rfl
theorem q1484 : (Jvm.Cond.instanceMethod ({ cls := "TwelveChainModel", name := "text", desc := "(I)I" } : Jvm.MethodName)) ∈ lw_all := lw_g (lw_at lw_m6 134 rfl) rfl
theorem q1485 : (Jvm.Cond.selects "TwelveChainModel" ({ cls := "TwelveChainModel", name := "text", desc := "(I)I" } : Jvm.MethodName) ({ cls := "TwelveChainModel", name := "text", desc := "(I)I" } : Jvm.MethodName)) ∈ lw_all := lw_g (lw_at lw_m6 135 rfl) rfl
theorem q1486 : (Jvm.Cond.code ({ cls := "TwelveChainModel", name := "text", desc := "(I)I" } : Jvm.MethodName) prog_17_method_54_code (3 : Nat) (Option.some Jvm.ClassFile.FieldType.int)) ∈ lw_all := lw_g (lw_at lw_m6 136 rfl) rfl
theorem q1487 : (Jvm.Cond.methodLink "TwelveChainModel" (191 : Nat) ({ cls := "TwelveChainModel", name := "next0", desc := "()V" } : Jvm.MethodName)) ∈ lw_all := lw_g (lw_at lw_m6 137 rfl) rfl
theorem q1488 : (Jvm.Cond.privateMethod ({ cls := "TwelveChainModel", name := "next0", desc := "()V" } : Jvm.MethodName)) ∈ lw_tbl := lw_at lw_m6 138 rfl
theorem q1489 : (Jvm.Cond.instanceMethod ({ cls := "TwelveChainModel", name := "next0", desc := "()V" } : Jvm.MethodName)) ∈ lw_all := lw_g (lw_at lw_m6 139 rfl) rfl
theorem q1490 : (Jvm.Cond.code ({ cls := "TwelveChainModel", name := "next0", desc := "()V" } : Jvm.MethodName) prog_17_method_29_code (3 : Nat) (Option.none : Option Jvm.ClassFile.FieldType)) ∈ lw_all := lw_g (lw_at lw_m6 140 rfl) rfl
theorem q1491 : (Jvm.Cond.methodLink "TwelveChainModel" (163 : Nat) ({ cls := "TwelveChainModel", name := "see", desc := "(I)I" } : Jvm.MethodName)) ∈ lw_all := lw_g (lw_at lw_m6 141 rfl) rfl
theorem q1492 : (Jvm.Cond.privateMethod ({ cls := "TwelveChainModel", name := "see", desc := "(I)I" } : Jvm.MethodName)) ∈ lw_tbl := lw_at lw_m6 142 rfl
theorem q1493 : (Jvm.Cond.instanceMethod ({ cls := "TwelveChainModel", name := "see", desc := "(I)I" } : Jvm.MethodName)) ∈ lw_all := lw_g (lw_at lw_m6 143 rfl) rfl
theorem q1494 : (Jvm.Cond.code ({ cls := "TwelveChainModel", name := "see", desc := "(I)I" } : Jvm.MethodName) prog_17_method_21_code (2 : Nat) (Option.some Jvm.ClassFile.FieldType.int)) ∈ lw_all := lw_g (lw_at lw_m6 144 rfl) rfl
theorem q1495 : (Jvm.Cond.methodLink "TwelveChainModel" (170 : Nat) ({ cls := "TwelveChainModel", name := "isLetter", desc := "(I)Z" } : Jvm.MethodName)) ∈ lw_all := lw_g (lw_at lw_m6 145 rfl) rfl
theorem q1496 : (Jvm.Cond.static ({ cls := "TwelveChainModel", name := "isLetter", desc := "(I)Z" } : Jvm.MethodName)) ∈ lw_all := lw_g (lw_at lw_m6 146 rfl) rfl
theorem q1497 : (Jvm.Cond.code ({ cls := "TwelveChainModel", name := "isLetter", desc := "(I)Z" } : Jvm.MethodName) prog_17_method_22_code (1 : Nat) (Option.some Jvm.ClassFile.FieldType.boolean)) ∈ lw_all := lw_g (lw_at lw_m6 147 rfl) rfl
theorem q1498 : (Jvm.Cond.methodLink "TwelveChainModel" (173 : Nat) ({ cls := "TwelveChainModel", name := "word", desc := "()I" } : Jvm.MethodName)) ∈ lw_all := lw_g (lw_at lw_m6 148 rfl) rfl
theorem q1499 : (Jvm.Cond.privateMethod ({ cls := "TwelveChainModel", name := "word", desc := "()I" } : Jvm.MethodName)) ∈ lw_tbl := lw_at lw_m6 149 rfl
theorem q1500 : (Jvm.Cond.instanceMethod ({ cls := "TwelveChainModel", name := "word", desc := "()I" } : Jvm.MethodName)) ∈ lw_all := lw_g (lw_at lw_m6 150 rfl) rfl
theorem q1501 : (Jvm.Cond.code ({ cls := "TwelveChainModel", name := "word", desc := "()I" } : Jvm.MethodName) prog_17_method_28_code (1 : Nat) (Option.some Jvm.ClassFile.FieldType.int)) ∈ lw_all := lw_g (lw_at lw_m6 151 rfl) rfl
theorem q1502 : (Jvm.Cond.methodLink "TwelveChainModel" (153 : Nat) ({ cls := "TwelveChainModel", name := "lawWord", desc := "()I" } : Jvm.MethodName)) ∈ lw_all := lw_g (lw_at lw_m6 152 rfl) rfl
theorem q1503 : (Jvm.Cond.privateMethod ({ cls := "TwelveChainModel", name := "lawWord", desc := "()I" } : Jvm.MethodName)) ∈ lw_tbl := lw_at lw_m6 153 rfl
theorem q1504 : (Jvm.Cond.instanceMethod ({ cls := "TwelveChainModel", name := "lawWord", desc := "()I" } : Jvm.MethodName)) ∈ lw_all := lw_g (lw_at lw_m6 154 rfl) rfl
theorem q1505 : (Jvm.Cond.code ({ cls := "TwelveChainModel", name := "lawWord", desc := "()I" } : Jvm.MethodName) prog_17_method_26_code (1 : Nat) (Option.some Jvm.ClassFile.FieldType.int)) ∈ lw_all := lw_g (lw_at lw_m6 155 rfl) rfl
theorem q1506 : (Jvm.Cond.stringRef "TwelveChainModel" (121 : Nat) "when") ∈ lw_tbl := lw_at lw_m6 156 rfl
theorem q1507 : (Jvm.Cond.methodLink "TwelveChainModel" (101 : Nat) ({ cls := "TwelveChainModel", name := "is", desc := "(Ljava/lang/String;)Z" } : Jvm.MethodName)) ∈ lw_all := lw_g (lw_at lw_m6 157 rfl) rfl
theorem q1508 : (Jvm.Cond.privateMethod ({ cls := "TwelveChainModel", name := "is", desc := "(Ljava/lang/String;)Z" } : Jvm.MethodName)) ∈ lw_tbl := lw_at lw_m6 158 rfl
theorem q1509 : (Jvm.Cond.instanceMethod ({ cls := "TwelveChainModel", name := "is", desc := "(Ljava/lang/String;)Z" } : Jvm.MethodName)) ∈ lw_all := lw_g (lw_at lw_m6 159 rfl) rfl
theorem q1510 : (Jvm.Cond.code ({ cls := "TwelveChainModel", name := "is", desc := "(Ljava/lang/String;)Z" } : Jvm.MethodName) prog_17_method_24_code (4 : Nat) (Option.some Jvm.ClassFile.FieldType.boolean)) ∈ lw_all := lw_g (lw_at lw_m6 160 rfl) rfl
theorem q1511 : (Jvm.Cond.methodLink "TwelveChainModel" (89 : Nat) ({ cls := "java/lang/String", name := "length", desc := "()I" } : Jvm.MethodName)) ∈ lw_all := lw_g (lw_at lw_m6 161 rfl) rfl
theorem q1512 : (Jvm.Cond.methodLink "TwelveChainModel" (95 : Nat) ({ cls := "java/lang/String", name := "charAt", desc := "(I)C" } : Jvm.MethodName)) ∈ lw_all := lw_g (lw_at lw_m6 162 rfl) rfl
theorem q1513 : (Jvm.Cond.stringRef "TwelveChainModel" (123 : Nat) "or") ∈ lw_tbl := lw_at lw_m6 163 rfl
theorem q1514 : (Jvm.Cond.stringRef "TwelveChainModel" (125 : Nat) "and") ∈ lw_tbl := lw_at lw_m6 164 rfl
theorem q1515 : (Jvm.Cond.stringRef "TwelveChainModel" (127 : Nat) "not") ∈ lw_tbl := lw_at lw_m6 165 rfl
theorem q1516 : (Jvm.Cond.stringRef "TwelveChainModel" (129 : Nat) "ready") ∈ lw_tbl := lw_at lw_m6 166 rfl
theorem q1517 : (Jvm.Cond.stringRef "TwelveChainModel" (131 : Nat) "leave") ∈ lw_tbl := lw_at lw_m6 167 rfl
theorem q1518 : (Jvm.Cond.stringRef "TwelveChainModel" (133 : Nat) "give") ∈ lw_tbl := lw_at lw_m6 168 rfl
theorem q1519 : (Jvm.Cond.stringRef "TwelveChainModel" (135 : Nat) "cost") ∈ lw_tbl := lw_at lw_m6 169 rfl
theorem q1520 : (Jvm.Cond.methodLink "TwelveChainModel" (137 : Nat) ({ cls := "TwelveChainModel", name := "asked", desc := "()I" } : Jvm.MethodName)) ∈ lw_all := lw_g (lw_at lw_m6 170 rfl) rfl
theorem q1521 : (Jvm.Cond.privateMethod ({ cls := "TwelveChainModel", name := "asked", desc := "()I" } : Jvm.MethodName)) ∈ lw_tbl := lw_at lw_m6 171 rfl
theorem q1522 : (Jvm.Cond.instanceMethod ({ cls := "TwelveChainModel", name := "asked", desc := "()I" } : Jvm.MethodName)) ∈ lw_all := lw_g (lw_at lw_m6 172 rfl) rfl
theorem q1523 : (Jvm.Cond.code ({ cls := "TwelveChainModel", name := "asked", desc := "()I" } : Jvm.MethodName) prog_17_method_25_code (1 : Nat) (Option.some Jvm.ClassFile.FieldType.int)) ∈ lw_all := lw_g (lw_at lw_m6 173 rfl) rfl
theorem q1524 : (Jvm.Cond.stringRef "TwelveChainModel" (99 : Nat) "link") ∈ lw_tbl := lw_at lw_m6 174 rfl
theorem q1525 : (Jvm.Cond.stringRef "TwelveChainModel" (105 : Nat) "price") ∈ lw_tbl := lw_at lw_m6 175 rfl
theorem q1526 : (Jvm.Cond.stringRef "TwelveChainModel" (107 : Nat) "purse") ∈ lw_tbl := lw_at lw_m6 176 rfl
theorem q1527 : (Jvm.Cond.stringRef "TwelveChainModel" (109 : Nat) "worth") ∈ lw_tbl := lw_at lw_m6 177 rfl
theorem q1528 : (Jvm.Cond.stringRef "TwelveChainModel" (111 : Nat) "slow") ∈ lw_tbl := lw_at lw_m6 178 rfl
theorem q1529 : (Jvm.Cond.stringRef "TwelveChainModel" (113 : Nat) "day") ∈ lw_tbl := lw_at lw_m6 179 rfl
theorem q1530 : (Jvm.Cond.stringRef "TwelveChainModel" (115 : Nat) "links") ∈ lw_tbl := lw_at lw_m6 180 rfl
theorem q1531 : (Jvm.Cond.stringRef "TwelveChainModel" (117 : Nat) "bridged") ∈ lw_tbl := lw_at lw_m6 181 rfl
theorem q1532 : (Jvm.Cond.stringRef "TwelveChainModel" (119 : Nat) "lacks") ∈ lw_tbl := lw_at lw_m6 182 rfl
theorem q1533 : (Jvm.Cond.methodLink "TwelveChainModel" (156 : Nat) ({ cls := "TwelveChainModel", name := "planWord", desc := "()I" } : Jvm.MethodName)) ∈ lw_all := lw_g (lw_at lw_m6 183 rfl) rfl
theorem q1534 : (Jvm.Cond.privateMethod ({ cls := "TwelveChainModel", name := "planWord", desc := "()I" } : Jvm.MethodName)) ∈ lw_tbl := lw_at lw_m6 184 rfl
theorem q1535 : (Jvm.Cond.instanceMethod ({ cls := "TwelveChainModel", name := "planWord", desc := "()I" } : Jvm.MethodName)) ∈ lw_all := lw_g (lw_at lw_m6 185 rfl) rfl
theorem q1536 : (Jvm.Cond.code ({ cls := "TwelveChainModel", name := "planWord", desc := "()I" } : Jvm.MethodName) prog_17_method_27_code (1 : Nat) (Option.some Jvm.ClassFile.FieldType.int)) ∈ lw_all := lw_g (lw_at lw_m6 186 rfl) rfl
theorem q1537 : (Jvm.Cond.stringRef "TwelveChainModel" (140 : Nat) "on") ∈ lw_tbl := lw_at lw_m6 187 rfl
theorem q1538 : (Jvm.Cond.stringRef "TwelveChainModel" (142 : Nat) "ask") ∈ lw_tbl := lw_at lw_m6 188 rfl
theorem q1539 : (Jvm.Cond.stringRef "TwelveChainModel" (144 : Nat) "bridge") ∈ lw_tbl := lw_at lw_m6 189 rfl
theorem q1540 : (Jvm.Cond.stringRef "TwelveChainModel" (146 : Nat) "pay") ∈ lw_tbl := lw_at lw_m6 190 rfl
theorem q1541 : (Jvm.Cond.stringRef "TwelveChainModel" (148 : Nat) "paper") ∈ lw_tbl := lw_at lw_m6 191 rfl
theorem q1542 : (Jvm.Cond.stringRef "TwelveChainModel" (159 : Nat) "from") ∈ lw_tbl := lw_at lw_m6 192 rfl
theorem q1543 : (Jvm.Cond.stringRef "TwelveChainModel" (161 : Nat) "to") ∈ lw_tbl := lw_at lw_m6 193 rfl
theorem q1544 : (Jvm.Cond.methodLink "TwelveChainModel" (176 : Nat) ({ cls := "TwelveChainModel", name := "isDigit", desc := "(I)Z" } : Jvm.MethodName)) ∈ lw_all := lw_g (lw_at lw_m6 194 rfl) rfl
theorem q1545 : (Jvm.Cond.static ({ cls := "TwelveChainModel", name := "isDigit", desc := "(I)Z" } : Jvm.MethodName)) ∈ lw_all := lw_g (lw_at lw_m6 195 rfl) rfl
theorem q1546 : (Jvm.Cond.code ({ cls := "TwelveChainModel", name := "isDigit", desc := "(I)Z" } : Jvm.MethodName) prog_17_method_23_code (1 : Nat) (Option.some Jvm.ClassFile.FieldType.boolean)) ∈ lw_all := lw_g (lw_at lw_m6 196 rfl) rfl
theorem q1547 : (Jvm.Cond.methodLink "TwelveChainModel" (273 : Nat) ({ cls := "TwelveChainModel", name := "readsLaw", desc := "()Z" } : Jvm.MethodName)) ∈ lw_all := lw_g (lw_at lw_m6 197 rfl) rfl
theorem q1548 : (Jvm.Cond.privateMethod ({ cls := "TwelveChainModel", name := "readsLaw", desc := "()Z" } : Jvm.MethodName)) ∈ lw_tbl := lw_at lw_m6 198 rfl
theorem q1549 : (Jvm.Cond.instanceMethod ({ cls := "TwelveChainModel", name := "readsLaw", desc := "()Z" } : Jvm.MethodName)) ∈ lw_all := lw_g (lw_at lw_m6 199 rfl) rfl
theorem q1550 : (Jvm.Cond.code ({ cls := "TwelveChainModel", name := "readsLaw", desc := "()Z" } : Jvm.MethodName) prog_17_method_41_code (2 : Nat) (Option.some Jvm.ClassFile.FieldType.boolean)) ∈ lw_all := lw_g (lw_at lw_m6 200 rfl) rfl
theorem q1551 : (Jvm.Cond.methodLink "TwelveChainModel" (232 : Nat) ({ cls := "TwelveChainModel", name := "aLine", desc := "()Z" } : Jvm.MethodName)) ∈ lw_all := lw_g (lw_at lw_m6 201 rfl) rfl
theorem q1552 : (Jvm.Cond.privateMethod ({ cls := "TwelveChainModel", name := "aLine", desc := "()Z" } : Jvm.MethodName)) ∈ lw_tbl := lw_at lw_m6 202 rfl
theorem q1553 : (Jvm.Cond.instanceMethod ({ cls := "TwelveChainModel", name := "aLine", desc := "()Z" } : Jvm.MethodName)) ∈ lw_all := lw_g (lw_at lw_m6 203 rfl) rfl
theorem q1554 : (Jvm.Cond.code ({ cls := "TwelveChainModel", name := "aLine", desc := "()Z" } : Jvm.MethodName) prog_17_method_40_code (1 : Nat) (Option.some Jvm.ClassFile.FieldType.boolean)) ∈ lw_all := lw_g (lw_at lw_m6 204 rfl) rfl
theorem q1555 : (Jvm.Cond.methodLink "TwelveChainModel" (188 : Nat) ({ cls := "TwelveChainModel", name := "bad", desc := "(I)Z" } : Jvm.MethodName)) ∈ lw_all := lw_g (lw_at lw_m6 205 rfl) rfl
theorem q1556 : (Jvm.Cond.privateMethod ({ cls := "TwelveChainModel", name := "bad", desc := "(I)Z" } : Jvm.MethodName)) ∈ lw_tbl := lw_at lw_m6 206 rfl
theorem q1557 : (Jvm.Cond.instanceMethod ({ cls := "TwelveChainModel", name := "bad", desc := "(I)Z" } : Jvm.MethodName)) ∈ lw_all := lw_g (lw_at lw_m6 207 rfl) rfl
theorem q1558 : (Jvm.Cond.code ({ cls := "TwelveChainModel", name := "bad", desc := "(I)Z" } : Jvm.MethodName) prog_17_method_30_code (2 : Nat) (Option.some Jvm.ClassFile.FieldType.boolean)) ∈ lw_all := lw_g (lw_at lw_m6 208 rfl) rfl
theorem q1559 : (Jvm.Cond.methodLink "TwelveChainModel" (226 : Nat) ({ cls := "TwelveChainModel", name := "sumUp", desc := "()Z" } : Jvm.MethodName)) ∈ lw_all := lw_g (lw_at lw_m6 209 rfl) rfl
theorem q1560 : (Jvm.Cond.privateMethod ({ cls := "TwelveChainModel", name := "sumUp", desc := "()Z" } : Jvm.MethodName)) ∈ lw_tbl := lw_at lw_m6 210 rfl
theorem q1561 : (Jvm.Cond.instanceMethod ({ cls := "TwelveChainModel", name := "sumUp", desc := "()Z" } : Jvm.MethodName)) ∈ lw_all := lw_g (lw_at lw_m6 211 rfl) rfl
theorem q1562 : (Jvm.Cond.code ({ cls := "TwelveChainModel", name := "sumUp", desc := "()Z" } : Jvm.MethodName) prog_17_method_34_code (2 : Nat) (Option.some Jvm.ClassFile.FieldType.boolean)) ∈ lw_all := lw_g (lw_at lw_m6 212 rfl) rfl
theorem q1563 : (Jvm.Cond.methodLink "TwelveChainModel" (200 : Nat) ({ cls := "TwelveChainModel", name := "product", desc := "()Z" } : Jvm.MethodName)) ∈ lw_all := lw_g (lw_at lw_m6 213 rfl) rfl
theorem q1564 : (Jvm.Cond.privateMethod ({ cls := "TwelveChainModel", name := "product", desc := "()Z" } : Jvm.MethodName)) ∈ lw_tbl := lw_at lw_m6 214 rfl
theorem q1565 : (Jvm.Cond.instanceMethod ({ cls := "TwelveChainModel", name := "product", desc := "()Z" } : Jvm.MethodName)) ∈ lw_all := lw_g (lw_at lw_m6 215 rfl) rfl
theorem q1566 : (Jvm.Cond.code ({ cls := "TwelveChainModel", name := "product", desc := "()Z" } : Jvm.MethodName) prog_17_method_35_code (3 : Nat) (Option.some Jvm.ClassFile.FieldType.boolean)) ∈ lw_all := lw_g (lw_at lw_m6 216 rfl) rfl
theorem q1567 : (Jvm.Cond.methodLink "TwelveChainModel" (208 : Nat) ({ cls := "TwelveChainModel", name := "unit", desc := "()Z" } : Jvm.MethodName)) ∈ lw_all := lw_g (lw_at lw_m6 217 rfl) rfl
theorem q1568 : (Jvm.Cond.privateMethod ({ cls := "TwelveChainModel", name := "unit", desc := "()Z" } : Jvm.MethodName)) ∈ lw_tbl := lw_at lw_m6 218 rfl
theorem q1569 : (Jvm.Cond.instanceMethod ({ cls := "TwelveChainModel", name := "unit", desc := "()Z" } : Jvm.MethodName)) ∈ lw_all := lw_g (lw_at lw_m6 219 rfl) rfl
theorem q1570 : (Jvm.Cond.code ({ cls := "TwelveChainModel", name := "unit", desc := "()Z" } : Jvm.MethodName) prog_17_method_36_code (2 : Nat) (Option.some Jvm.ClassFile.FieldType.boolean)) ∈ lw_all := lw_g (lw_at lw_m6 220 rfl) rfl
theorem q1571 : (Jvm.Cond.methodLink "TwelveChainModel" (204 : Nat) ({ cls := "TwelveChainModel", name := "lay", desc := "(II)V" } : Jvm.MethodName)) ∈ lw_all := lw_g (lw_at lw_m6 221 rfl) rfl
theorem q1572 : (Jvm.Cond.privateMethod ({ cls := "TwelveChainModel", name := "lay", desc := "(II)V" } : Jvm.MethodName)) ∈ lw_tbl := lw_at lw_m6 222 rfl
theorem q1573 : (Jvm.Cond.instanceMethod ({ cls := "TwelveChainModel", name := "lay", desc := "(II)V" } : Jvm.MethodName)) ∈ lw_all := lw_g (lw_at lw_m6 223 rfl) rfl
theorem q1574 : (Jvm.Cond.code ({ cls := "TwelveChainModel", name := "lay", desc := "(II)V" } : Jvm.MethodName) prog_17_method_32_code (3 : Nat) (Option.none : Option Jvm.ClassFile.FieldType)) ∈ lw_all := lw_g (lw_at lw_m6 224 rfl) rfl
theorem q1575 : (Jvm.Cond.methodLink "TwelveChainModel" (220 : Nat) ({ cls := "TwelveChainModel", name := "any", desc := "()Z" } : Jvm.MethodName)) ∈ lw_all := lw_g (lw_at lw_m6 225 rfl) rfl
theorem q1576 : (Jvm.Cond.privateMethod ({ cls := "TwelveChainModel", name := "any", desc := "()Z" } : Jvm.MethodName)) ∈ lw_tbl := lw_at lw_m6 226 rfl
theorem q1577 : (Jvm.Cond.instanceMethod ({ cls := "TwelveChainModel", name := "any", desc := "()Z" } : Jvm.MethodName)) ∈ lw_all := lw_g (lw_at lw_m6 227 rfl) rfl
theorem q1578 : (Jvm.Cond.code ({ cls := "TwelveChainModel", name := "any", desc := "()Z" } : Jvm.MethodName) prog_17_method_37_code (1 : Nat) (Option.some Jvm.ClassFile.FieldType.boolean)) ∈ lw_all := lw_g (lw_at lw_m6 228 rfl) rfl
theorem q1579 : (Jvm.Cond.methodLink "TwelveChainModel" (211 : Nat) ({ cls := "TwelveChainModel", name := "every", desc := "()Z" } : Jvm.MethodName)) ∈ lw_all := lw_g (lw_at lw_m6 229 rfl) rfl
theorem q1580 : (Jvm.Cond.privateMethod ({ cls := "TwelveChainModel", name := "every", desc := "()Z" } : Jvm.MethodName)) ∈ lw_tbl := lw_at lw_m6 230 rfl
theorem q1581 : (Jvm.Cond.instanceMethod ({ cls := "TwelveChainModel", name := "every", desc := "()Z" } : Jvm.MethodName)) ∈ lw_all := lw_g (lw_at lw_m6 231 rfl) rfl
theorem q1582 : (Jvm.Cond.code ({ cls := "TwelveChainModel", name := "every", desc := "()Z" } : Jvm.MethodName) prog_17_method_38_code (1 : Nat) (Option.some Jvm.ClassFile.FieldType.boolean)) ∈ lw_all := lw_g (lw_at lw_m6 232 rfl) rfl
theorem q1583 : (Jvm.Cond.methodLink "TwelveChainModel" (214 : Nat) ({ cls := "TwelveChainModel", name := "oneTest", desc := "()Z" } : Jvm.MethodName)) ∈ lw_all := lw_g (lw_at lw_m6 233 rfl) rfl
theorem q1584 : (Jvm.Cond.privateMethod ({ cls := "TwelveChainModel", name := "oneTest", desc := "()Z" } : Jvm.MethodName)) ∈ lw_tbl := lw_at lw_m6 234 rfl
theorem q1585 : (Jvm.Cond.instanceMethod ({ cls := "TwelveChainModel", name := "oneTest", desc := "()Z" } : Jvm.MethodName)) ∈ lw_all := lw_g (lw_at lw_m6 235 rfl) rfl
theorem q1586 : (Jvm.Cond.code ({ cls := "TwelveChainModel", name := "oneTest", desc := "()Z" } : Jvm.MethodName) prog_17_method_39_code (2 : Nat) (Option.some Jvm.ClassFile.FieldType.boolean)) ∈ lw_all := lw_g (lw_at lw_m6 236 rfl) rfl
theorem q1587 : (Jvm.Cond.methodLink "TwelveChainModel" (217 : Nat) ({ cls := "TwelveChainModel", name := "opens", desc := "()Z" } : Jvm.MethodName)) ∈ lw_all := lw_g (lw_at lw_m6 237 rfl) rfl
theorem q1588 : (Jvm.Cond.privateMethod ({ cls := "TwelveChainModel", name := "opens", desc := "()Z" } : Jvm.MethodName)) ∈ lw_tbl := lw_at lw_m6 238 rfl
theorem q1589 : (Jvm.Cond.instanceMethod ({ cls := "TwelveChainModel", name := "opens", desc := "()Z" } : Jvm.MethodName)) ∈ lw_all := lw_g (lw_at lw_m6 239 rfl) rfl
theorem q1590 : (Jvm.Cond.code ({ cls := "TwelveChainModel", name := "opens", desc := "()Z" } : Jvm.MethodName) prog_17_method_33_code (1 : Nat) (Option.some Jvm.ClassFile.FieldType.boolean)) ∈ lw_all := lw_g (lw_at lw_m7 0 rfl) rfl
theorem q1591 : (Jvm.Cond.methodLink "TwelveChainModel" (223 : Nat) ({ cls := "TwelveChainModel", name := "need", desc := "(I)Z" } : Jvm.MethodName)) ∈ lw_all := lw_g (lw_at lw_m7 1 rfl) rfl
theorem q1592 : (Jvm.Cond.privateMethod ({ cls := "TwelveChainModel", name := "need", desc := "(I)Z" } : Jvm.MethodName)) ∈ lw_tbl := lw_at lw_m7 2 rfl
theorem q1593 : (Jvm.Cond.instanceMethod ({ cls := "TwelveChainModel", name := "need", desc := "(I)Z" } : Jvm.MethodName)) ∈ lw_all := lw_g (lw_at lw_m7 3 rfl) rfl
theorem q1594 : (Jvm.Cond.code ({ cls := "TwelveChainModel", name := "need", desc := "(I)Z" } : Jvm.MethodName) prog_17_method_31_code (2 : Nat) (Option.some Jvm.ClassFile.FieldType.boolean)) ∈ lw_all := lw_g (lw_at lw_m7 4 rfl) rfl
theorem q1595 : (Jvm.Cond.methodLink "TwelveChainModel" (276 : Nat) ({ cls := "TwelveChainModel", name := "readsRows", desc := "()Z" } : Jvm.MethodName)) ∈ lw_all := lw_g (lw_at lw_m7 5 rfl) rfl
theorem q1596 : (Jvm.Cond.privateMethod ({ cls := "TwelveChainModel", name := "readsRows", desc := "()Z" } : Jvm.MethodName)) ∈ lw_tbl := lw_at lw_m7 6 rfl
theorem q1597 : (Jvm.Cond.instanceMethod ({ cls := "TwelveChainModel", name := "readsRows", desc := "()Z" } : Jvm.MethodName)) ∈ lw_all := lw_g (lw_at lw_m7 7 rfl) rfl
theorem q1598 : (Jvm.Cond.code ({ cls := "TwelveChainModel", name := "readsRows", desc := "()Z" } : Jvm.MethodName) prog_17_method_49_code (3 : Nat) (Option.some Jvm.ClassFile.FieldType.boolean)) ∈ lw_all := lw_g (lw_at lw_m7 8 rfl) rfl
theorem q1599 : (Jvm.Cond.methodLink "TwelveChainModel" (257 : Nat) ({ cls := "TwelveChainModel", name := "aRow", desc := "()Z" } : Jvm.MethodName)) ∈ lw_all := lw_g (lw_at lw_m7 9 rfl) rfl
theorem q1600 : (Jvm.Cond.privateMethod ({ cls := "TwelveChainModel", name := "aRow", desc := "()Z" } : Jvm.MethodName)) ∈ lw_tbl := lw_at lw_m7 10 rfl
theorem q1601 : (Jvm.Cond.instanceMethod ({ cls := "TwelveChainModel", name := "aRow", desc := "()Z" } : Jvm.MethodName)) ∈ lw_all := lw_g (lw_at lw_m7 11 rfl) rfl
theorem q1602 : (Jvm.Cond.code ({ cls := "TwelveChainModel", name := "aRow", desc := "()Z" } : Jvm.MethodName) prog_17_method_48_code (1 : Nat) (Option.some Jvm.ClassFile.FieldType.boolean)) ∈ lw_all := lw_g (lw_at lw_m7 12 rfl) rfl
theorem q1603 : (Jvm.Cond.methodLink "TwelveChainModel" (248 : Nat) ({ cls := "TwelveChainModel", name := "aPlan", desc := "()Z" } : Jvm.MethodName)) ∈ lw_all := lw_g (lw_at lw_m7 13 rfl) rfl
theorem q1604 : (Jvm.Cond.privateMethod ({ cls := "TwelveChainModel", name := "aPlan", desc := "()Z" } : Jvm.MethodName)) ∈ lw_tbl := lw_at lw_m7 14 rfl
theorem q1605 : (Jvm.Cond.instanceMethod ({ cls := "TwelveChainModel", name := "aPlan", desc := "()Z" } : Jvm.MethodName)) ∈ lw_all := lw_g (lw_at lw_m7 15 rfl) rfl
theorem q1606 : (Jvm.Cond.code ({ cls := "TwelveChainModel", name := "aPlan", desc := "()Z" } : Jvm.MethodName) prog_17_method_45_code (3 : Nat) (Option.some Jvm.ClassFile.FieldType.boolean)) ∈ lw_all := lw_g (lw_at lw_m7 16 rfl) rfl
theorem q1607 : (Jvm.Cond.methodLink "TwelveChainModel" (241 : Nat) ({ cls := "TwelveChainModel", name := "told", desc := "(IIII)Z" } : Jvm.MethodName)) ∈ lw_all := lw_g (lw_at lw_m7 17 rfl) rfl
theorem q1608 : (Jvm.Cond.privateMethod ({ cls := "TwelveChainModel", name := "told", desc := "(IIII)Z" } : Jvm.MethodName)) ∈ lw_tbl := lw_at lw_m7 18 rfl
theorem q1609 : (Jvm.Cond.instanceMethod ({ cls := "TwelveChainModel", name := "told", desc := "(IIII)Z" } : Jvm.MethodName)) ∈ lw_all := lw_g (lw_at lw_m7 19 rfl) rfl
theorem q1610 : (Jvm.Cond.code ({ cls := "TwelveChainModel", name := "told", desc := "(IIII)Z" } : Jvm.MethodName) prog_17_method_43_code (5 : Nat) (Option.some Jvm.ClassFile.FieldType.boolean)) ∈ lw_all := lw_g (lw_at lw_m7 20 rfl) rfl
theorem q1611 : (Jvm.Cond.methodLink "TwelveChainModel" (235 : Nat) ({ cls := "TwelveChainModel", name := "number", desc := "(III)Z" } : Jvm.MethodName)) ∈ lw_all := lw_g (lw_at lw_m7 21 rfl) rfl
theorem q1612 : (Jvm.Cond.privateMethod ({ cls := "TwelveChainModel", name := "number", desc := "(III)Z" } : Jvm.MethodName)) ∈ lw_tbl := lw_at lw_m7 22 rfl
theorem q1613 : (Jvm.Cond.instanceMethod ({ cls := "TwelveChainModel", name := "number", desc := "(III)Z" } : Jvm.MethodName)) ∈ lw_all := lw_g (lw_at lw_m7 23 rfl) rfl
theorem q1614 : (Jvm.Cond.code ({ cls := "TwelveChainModel", name := "number", desc := "(III)Z" } : Jvm.MethodName) prog_17_method_42_code (4 : Nat) (Option.some Jvm.ClassFile.FieldType.boolean)) ∈ lw_all := lw_g (lw_at lw_m7 24 rfl) rfl
theorem q1615 : (Jvm.Cond.methodLink "TwelveChainModel" (245 : Nat) ({ cls := "TwelveChainModel", name := "aLink", desc := "(I)Z" } : Jvm.MethodName)) ∈ lw_all := lw_g (lw_at lw_m7 25 rfl) rfl
theorem q1616 : (Jvm.Cond.privateMethod ({ cls := "TwelveChainModel", name := "aLink", desc := "(I)Z" } : Jvm.MethodName)) ∈ lw_tbl := lw_at lw_m7 26 rfl
theorem q1617 : (Jvm.Cond.instanceMethod ({ cls := "TwelveChainModel", name := "aLink", desc := "(I)Z" } : Jvm.MethodName)) ∈ lw_all := lw_g (lw_at lw_m7 27 rfl) rfl
theorem q1618 : (Jvm.Cond.code ({ cls := "TwelveChainModel", name := "aLink", desc := "(I)Z" } : Jvm.MethodName) prog_17_method_44_code (2 : Nat) (Option.some Jvm.ClassFile.FieldType.boolean)) ∈ lw_all := lw_g (lw_at lw_m7 28 rfl) rfl
theorem q1619 : (Jvm.Cond.methodLink "TwelveChainModel" (251 : Nat) ({ cls := "TwelveChainModel", name := "aPhone", desc := "()Z" } : Jvm.MethodName)) ∈ lw_all := lw_g (lw_at lw_m7 29 rfl) rfl
theorem q1620 : (Jvm.Cond.privateMethod ({ cls := "TwelveChainModel", name := "aPhone", desc := "()Z" } : Jvm.MethodName)) ∈ lw_tbl := lw_at lw_m7 30 rfl
theorem q1621 : (Jvm.Cond.instanceMethod ({ cls := "TwelveChainModel", name := "aPhone", desc := "()Z" } : Jvm.MethodName)) ∈ lw_all := lw_g (lw_at lw_m7 31 rfl) rfl
theorem q1622 : (Jvm.Cond.code ({ cls := "TwelveChainModel", name := "aPhone", desc := "()Z" } : Jvm.MethodName) prog_17_method_46_code (2 : Nat) (Option.some Jvm.ClassFile.FieldType.boolean)) ∈ lw_all := lw_g (lw_at lw_m7 32 rfl) rfl
theorem q1623 : (Jvm.Cond.methodLink "TwelveChainModel" (254 : Nat) ({ cls := "TwelveChainModel", name := "aRecord", desc := "()Z" } : Jvm.MethodName)) ∈ lw_all := lw_g (lw_at lw_m7 33 rfl) rfl
theorem q1624 : (Jvm.Cond.privateMethod ({ cls := "TwelveChainModel", name := "aRecord", desc := "()Z" } : Jvm.MethodName)) ∈ lw_tbl := lw_at lw_m7 34 rfl
theorem q1625 : (Jvm.Cond.instanceMethod ({ cls := "TwelveChainModel", name := "aRecord", desc := "()Z" } : Jvm.MethodName)) ∈ lw_all := lw_g (lw_at lw_m7 35 rfl) rfl
theorem q1626 : (Jvm.Cond.code ({ cls := "TwelveChainModel", name := "aRecord", desc := "()Z" } : Jvm.MethodName) prog_17_method_47_code (1 : Nat) (Option.some Jvm.ClassFile.FieldType.boolean)) ∈ lw_all := lw_g (lw_at lw_m7 36 rfl) rfl
theorem q1627 : (Jvm.Cond.methodLink "TwelveChainModel" (279 : Nat) ({ cls := "TwelveChainModel", name := "putsText", desc := "(I)I" } : Jvm.MethodName)) ∈ lw_all := lw_g (lw_at lw_m7 37 rfl) rfl
theorem q1628 : (Jvm.Cond.privateMethod ({ cls := "TwelveChainModel", name := "putsText", desc := "(I)I" } : Jvm.MethodName)) ∈ lw_tbl := lw_at lw_m7 38 rfl
theorem q1629 : (Jvm.Cond.instanceMethod ({ cls := "TwelveChainModel", name := "putsText", desc := "(I)I" } : Jvm.MethodName)) ∈ lw_all := lw_g (lw_at lw_m7 39 rfl) rfl
theorem q1630 : (Jvm.Cond.code ({ cls := "TwelveChainModel", name := "putsText", desc := "(I)I" } : Jvm.MethodName) prog_17_method_53_code (2 : Nat) (Option.some Jvm.ClassFile.FieldType.int)) ∈ lw_all := lw_g (lw_at lw_m7 40 rfl) rfl
theorem q1631 : (Jvm.Cond.methodLink "TwelveChainModel" (260 : Nat) ({ cls := "TwelveChainModel", name := "putsLaw", desc := "()I" } : Jvm.MethodName)) ∈ lw_all := lw_g (lw_at lw_m7 41 rfl) rfl
theorem q1632 : (Jvm.Cond.privateMethod ({ cls := "TwelveChainModel", name := "putsLaw", desc := "()I" } : Jvm.MethodName)) ∈ lw_tbl := lw_at lw_m7 42 rfl
theorem q1633 : (Jvm.Cond.instanceMethod ({ cls := "TwelveChainModel", name := "putsLaw", desc := "()I" } : Jvm.MethodName)) ∈ lw_all := lw_g (lw_at lw_m7 43 rfl) rfl
theorem q1634 : (Jvm.Cond.code ({ cls := "TwelveChainModel", name := "putsLaw", desc := "()I" } : Jvm.MethodName) prog_17_method_50_code (2 : Nat) (Option.some Jvm.ClassFile.FieldType.int)) ∈ lw_all := lw_g (lw_at lw_m7 44 rfl) rfl
theorem q1635 : (Jvm.Cond.methodLink "TwelveChainModel" (263 : Nat) ({ cls := "TwelveChainModel", name := "puts", desc := "(III)I" } : Jvm.MethodName)) ∈ lw_all := lw_g (lw_at lw_m7 45 rfl) rfl
theorem q1636 : (Jvm.Cond.privateMethod ({ cls := "TwelveChainModel", name := "puts", desc := "(III)I" } : Jvm.MethodName)) ∈ lw_tbl := lw_at lw_m7 46 rfl
theorem q1637 : (Jvm.Cond.instanceMethod ({ cls := "TwelveChainModel", name := "puts", desc := "(III)I" } : Jvm.MethodName)) ∈ lw_all := lw_g (lw_at lw_m7 47 rfl) rfl
theorem q1638 : (Jvm.Cond.code ({ cls := "TwelveChainModel", name := "puts", desc := "(III)I" } : Jvm.MethodName) prog_17_method_51_code (5 : Nat) (Option.some Jvm.ClassFile.FieldType.int)) ∈ lw_all := lw_g (lw_at lw_m7 48 rfl) rfl
theorem q1639 : (Jvm.Cond.methodLink "TwelveChainModel" (267 : Nat) ({ cls := "TwelveChainModel", name := "putsPhones", desc := "()I" } : Jvm.MethodName)) ∈ lw_all := lw_g (lw_at lw_m7 49 rfl) rfl
theorem q1640 : (Jvm.Cond.privateMethod ({ cls := "TwelveChainModel", name := "putsPhones", desc := "()I" } : Jvm.MethodName)) ∈ lw_tbl := lw_at lw_m7 50 rfl
theorem q1641 : (Jvm.Cond.instanceMethod ({ cls := "TwelveChainModel", name := "putsPhones", desc := "()I" } : Jvm.MethodName)) ∈ lw_all := lw_g (lw_at lw_m7 51 rfl) rfl
theorem q1642 : (Jvm.Cond.code ({ cls := "TwelveChainModel", name := "putsPhones", desc := "()I" } : Jvm.MethodName) prog_17_method_52_code (2 : Nat) (Option.some Jvm.ClassFile.FieldType.int)) ∈ lw_all := lw_g (lw_at lw_m7 52 rfl) rfl
theorem q1644 : (Jvm.Cond.instanceMethod ({ cls := "TwelveChainModel", name := "fault", desc := "(I)I" } : Jvm.MethodName)) ∈ lw_all := lw_g (lw_at lw_m7 54 rfl) rfl
theorem q1645 : (Jvm.Cond.selects "TwelveChainModel" ({ cls := "TwelveChainModel", name := "fault", desc := "(I)I" } : Jvm.MethodName) ({ cls := "TwelveChainModel", name := "fault", desc := "(I)I" } : Jvm.MethodName)) ∈ lw_all := lw_g (lw_at lw_m7 55 rfl) rfl
theorem q1646 : (Jvm.Cond.code ({ cls := "TwelveChainModel", name := "fault", desc := "(I)I" } : Jvm.MethodName) prog_17_method_55_code (2 : Nat) (Option.some Jvm.ClassFile.FieldType.int)) ∈ lw_all := lw_g (lw_at lw_m7 56 rfl) rfl
theorem q1648 : (Jvm.Cond.instanceMethod ({ cls := "TwelveChainModel", name := "undo", desc := "()Z" } : Jvm.MethodName)) ∈ lw_all := lw_g (lw_at lw_m7 58 rfl) rfl
theorem q1649 : (Jvm.Cond.selects "TwelveChainModel" ({ cls := "TwelveChainModel", name := "undo", desc := "()Z" } : Jvm.MethodName) ({ cls := "TwelveChainModel", name := "undo", desc := "()Z" } : Jvm.MethodName)) ∈ lw_all := lw_g (lw_at lw_m7 59 rfl) rfl
theorem q1650 : (Jvm.Cond.code ({ cls := "TwelveChainModel", name := "undo", desc := "()Z" } : Jvm.MethodName) prog_17_method_69_code (2 : Nat) (Option.some Jvm.ClassFile.FieldType.boolean)) ∈ lw_all := lw_g (lw_at lw_m7 60 rfl) rfl
theorem q1652 : (Jvm.Cond.instanceMethod ({ cls := "TwelveChainModel", name := "ask", desc := "(II)I" } : Jvm.MethodName)) ∈ lw_all := lw_g (lw_at lw_m7 62 rfl) rfl
theorem q1653 : (Jvm.Cond.selects "TwelveChainModel" ({ cls := "TwelveChainModel", name := "ask", desc := "(II)I" } : Jvm.MethodName) ({ cls := "TwelveChainModel", name := "ask", desc := "(II)I" } : Jvm.MethodName)) ∈ lw_all := lw_g (lw_at lw_m7 63 rfl) rfl
theorem q1654 : (Jvm.Cond.code ({ cls := "TwelveChainModel", name := "ask", desc := "(II)I" } : Jvm.MethodName) prog_17_method_79_code (3 : Nat) (Option.some Jvm.ClassFile.FieldType.int)) ∈ lw_all := lw_g (lw_at lw_m7 64 rfl) rfl
theorem q1655 : (Jvm.Cond.methodLink "TwelveChainModel" (327 : Nat) ({ cls := "TwelveChainModel", name := "canAsk", desc := "(I)Z" } : Jvm.MethodName)) ∈ lw_all := lw_g (lw_at lw_m7 65 rfl) rfl
theorem q1656 : (Jvm.Cond.privateMethod ({ cls := "TwelveChainModel", name := "canAsk", desc := "(I)Z" } : Jvm.MethodName)) ∈ lw_tbl := lw_at lw_m7 66 rfl
theorem q1657 : (Jvm.Cond.instanceMethod ({ cls := "TwelveChainModel", name := "canAsk", desc := "(I)Z" } : Jvm.MethodName)) ∈ lw_all := lw_g (lw_at lw_m7 67 rfl) rfl
theorem q1658 : (Jvm.Cond.code ({ cls := "TwelveChainModel", name := "canAsk", desc := "(I)Z" } : Jvm.MethodName) prog_17_method_71_code (2 : Nat) (Option.some Jvm.ClassFile.FieldType.boolean)) ∈ lw_all := lw_g (lw_at lw_m7 68 rfl) rfl
theorem q1659 : (Jvm.Cond.methodLink "TwelveChainModel" (317 : Nat) ({ cls := "TwelveChainModel", name := "isThere", desc := "(I)Z" } : Jvm.MethodName)) ∈ lw_all := lw_g (lw_at lw_m7 69 rfl) rfl
theorem q1660 : (Jvm.Cond.privateMethod ({ cls := "TwelveChainModel", name := "isThere", desc := "(I)Z" } : Jvm.MethodName)) ∈ lw_tbl := lw_at lw_m7 70 rfl
theorem q1661 : (Jvm.Cond.instanceMethod ({ cls := "TwelveChainModel", name := "isThere", desc := "(I)Z" } : Jvm.MethodName)) ∈ lw_all := lw_g (lw_at lw_m7 71 rfl) rfl
theorem q1662 : (Jvm.Cond.code ({ cls := "TwelveChainModel", name := "isThere", desc := "(I)Z" } : Jvm.MethodName) prog_17_method_11_code (2 : Nat) (Option.some Jvm.ClassFile.FieldType.boolean)) ∈ lw_all := lw_g (lw_at lw_m7 72 rfl) rfl
theorem q1663 : (Jvm.Cond.methodLink "TwelveChainModel" (62 : Nat) ({ cls := "TwelveChainModel", name := "isOut", desc := "(I)Z" } : Jvm.MethodName)) ∈ lw_all := lw_g (lw_at lw_m7 73 rfl) rfl
theorem q1664 : (Jvm.Cond.privateMethod ({ cls := "TwelveChainModel", name := "isOut", desc := "(I)Z" } : Jvm.MethodName)) ∈ lw_tbl := lw_at lw_m7 74 rfl
theorem q1665 : (Jvm.Cond.instanceMethod ({ cls := "TwelveChainModel", name := "isOut", desc := "(I)Z" } : Jvm.MethodName)) ∈ lw_all := lw_g (lw_at lw_m7 75 rfl) rfl
theorem q1666 : (Jvm.Cond.code ({ cls := "TwelveChainModel", name := "isOut", desc := "(I)Z" } : Jvm.MethodName) prog_17_method_8_code (2 : Nat) (Option.some Jvm.ClassFile.FieldType.boolean)) ∈ lw_all := lw_g (lw_at lw_m7 76 rfl) rfl
theorem q1667 : (Jvm.Cond.methodLink "TwelveChainModel" (65 : Nat) ({ cls := "TwelveChainModel", name := "hasMoved", desc := "(I)Z" } : Jvm.MethodName)) ∈ lw_all := lw_g (lw_at lw_m7 77 rfl) rfl
theorem q1668 : (Jvm.Cond.privateMethod ({ cls := "TwelveChainModel", name := "hasMoved", desc := "(I)Z" } : Jvm.MethodName)) ∈ lw_tbl := lw_at lw_m7 78 rfl
theorem q1669 : (Jvm.Cond.instanceMethod ({ cls := "TwelveChainModel", name := "hasMoved", desc := "(I)Z" } : Jvm.MethodName)) ∈ lw_all := lw_g (lw_at lw_m7 79 rfl) rfl
theorem q1670 : (Jvm.Cond.code ({ cls := "TwelveChainModel", name := "hasMoved", desc := "(I)Z" } : Jvm.MethodName) prog_17_method_10_code (2 : Nat) (Option.some Jvm.ClassFile.FieldType.boolean)) ∈ lw_all := lw_g (lw_at lw_m7 80 rfl) rfl
theorem q1671 : (Jvm.Cond.methodLink "TwelveChainModel" (330 : Nat) ({ cls := "TwelveChainModel", name := "keeps", desc := "()V" } : Jvm.MethodName)) ∈ lw_all := lw_g (lw_at lw_m7 81 rfl) rfl
theorem q1672 : (Jvm.Cond.privateMethod ({ cls := "TwelveChainModel", name := "keeps", desc := "()V" } : Jvm.MethodName)) ∈ lw_tbl := lw_at lw_m7 82 rfl
theorem q1673 : (Jvm.Cond.instanceMethod ({ cls := "TwelveChainModel", name := "keeps", desc := "()V" } : Jvm.MethodName)) ∈ lw_all := lw_g (lw_at lw_m7 83 rfl) rfl
theorem q1674 : (Jvm.Cond.code ({ cls := "TwelveChainModel", name := "keeps", desc := "()V" } : Jvm.MethodName) prog_17_method_68_code (2 : Nat) (Option.none : Option Jvm.ClassFile.FieldType)) ∈ lw_all := lw_g (lw_at lw_m7 84 rfl) rfl
theorem q1675 : (Jvm.Cond.methodLink "TwelveChainModel" (333 : Nat) ({ cls := "TwelveChainModel", name := "asks", desc := "(II)I" } : Jvm.MethodName)) ∈ lw_all := lw_g (lw_at lw_m7 85 rfl) rfl
theorem q1676 : (Jvm.Cond.privateMethod ({ cls := "TwelveChainModel", name := "asks", desc := "(II)I" } : Jvm.MethodName)) ∈ lw_tbl := lw_at lw_m7 86 rfl
theorem q1677 : (Jvm.Cond.instanceMethod ({ cls := "TwelveChainModel", name := "asks", desc := "(II)I" } : Jvm.MethodName)) ∈ lw_all := lw_g (lw_at lw_m7 87 rfl) rfl
theorem q1678 : (Jvm.Cond.code ({ cls := "TwelveChainModel", name := "asks", desc := "(II)I" } : Jvm.MethodName) prog_17_method_72_code (5 : Nat) (Option.some Jvm.ClassFile.FieldType.int)) ∈ lw_all := lw_g (lw_at lw_m7 88 rfl) rfl
theorem q1679 : (Jvm.Cond.methodLink "TwelveChainModel" (320 : Nat) ({ cls := "TwelveChainModel", name := "giveOf", desc := "(I)I" } : Jvm.MethodName)) ∈ lw_all := lw_g (lw_at lw_m7 89 rfl) rfl
theorem q1680 : (Jvm.Cond.privateMethod ({ cls := "TwelveChainModel", name := "giveOf", desc := "(I)I" } : Jvm.MethodName)) ∈ lw_tbl := lw_at lw_m7 90 rfl
theorem q1681 : (Jvm.Cond.instanceMethod ({ cls := "TwelveChainModel", name := "giveOf", desc := "(I)I" } : Jvm.MethodName)) ∈ lw_all := lw_g (lw_at lw_m7 91 rfl) rfl
theorem q1682 : (Jvm.Cond.code ({ cls := "TwelveChainModel", name := "giveOf", desc := "(I)I" } : Jvm.MethodName) prog_17_method_65_code (2 : Nat) (Option.some Jvm.ClassFile.FieldType.int)) ∈ lw_all := lw_g (lw_at lw_m7 92 rfl) rfl
theorem q1683 : (Jvm.Cond.methodLink "TwelveChainModel" (309 : Nat) ({ cls := "TwelveChainModel", name := "says", desc := "(IIII)I" } : Jvm.MethodName)) ∈ lw_all := lw_g (lw_at lw_m7 93 rfl) rfl
theorem q1684 : (Jvm.Cond.privateMethod ({ cls := "TwelveChainModel", name := "says", desc := "(IIII)I" } : Jvm.MethodName)) ∈ lw_tbl := lw_at lw_m7 94 rfl
theorem q1685 : (Jvm.Cond.instanceMethod ({ cls := "TwelveChainModel", name := "says", desc := "(IIII)I" } : Jvm.MethodName)) ∈ lw_all := lw_g (lw_at lw_m7 95 rfl) rfl
theorem q1686 : (Jvm.Cond.code ({ cls := "TwelveChainModel", name := "says", desc := "(IIII)I" } : Jvm.MethodName) prog_17_method_62_code (6 : Nat) (Option.some Jvm.ClassFile.FieldType.int)) ∈ lw_all := lw_g (lw_at lw_m7 96 rfl) rfl
theorem q1687 : (Jvm.Cond.methodLink "TwelveChainModel" (300 : Nat) ({ cls := "TwelveChainModel", name := "lacksOf", desc := "(I)I" } : Jvm.MethodName)) ∈ lw_all := lw_g (lw_at lw_m7 97 rfl) rfl
theorem q1688 : (Jvm.Cond.privateMethod ({ cls := "TwelveChainModel", name := "lacksOf", desc := "(I)I" } : Jvm.MethodName)) ∈ lw_tbl := lw_at lw_m7 98 rfl
theorem q1689 : (Jvm.Cond.instanceMethod ({ cls := "TwelveChainModel", name := "lacksOf", desc := "(I)I" } : Jvm.MethodName)) ∈ lw_all := lw_g (lw_at lw_m7 99 rfl) rfl
theorem q1690 : (Jvm.Cond.code ({ cls := "TwelveChainModel", name := "lacksOf", desc := "(I)I" } : Jvm.MethodName) prog_17_method_61_code (6 : Nat) (Option.some Jvm.ClassFile.FieldType.int)) ∈ lw_all := lw_g (lw_at lw_m7 100 rfl) rfl
theorem q1691 : (Jvm.Cond.methodLink "TwelveChainModel" (51 : Nat) ({ cls := "TwelveChainModel", name := "greater", desc := "(II)I" } : Jvm.MethodName)) ∈ lw_all := lw_g (lw_at lw_m7 101 rfl) rfl
theorem q1692 : (Jvm.Cond.static ({ cls := "TwelveChainModel", name := "greater", desc := "(II)I" } : Jvm.MethodName)) ∈ lw_all := lw_g (lw_at lw_m7 102 rfl) rfl
theorem q1693 : (Jvm.Cond.code ({ cls := "TwelveChainModel", name := "greater", desc := "(II)I" } : Jvm.MethodName) prog_17_method_4_code (2 : Nat) (Option.some Jvm.ClassFile.FieldType.int)) ∈ lw_all := lw_g (lw_at lw_m7 103 rfl) rfl
theorem q1694 : (Jvm.Cond.methodLink "TwelveChainModel" (288 : Nat) ({ cls := "TwelveChainModel", name := "isBridged", desc := "(I)Z" } : Jvm.MethodName)) ∈ lw_all := lw_g (lw_at lw_m7 104 rfl) rfl
theorem q1695 : (Jvm.Cond.privateMethod ({ cls := "TwelveChainModel", name := "isBridged", desc := "(I)Z" } : Jvm.MethodName)) ∈ lw_tbl := lw_at lw_m7 105 rfl
theorem q1696 : (Jvm.Cond.instanceMethod ({ cls := "TwelveChainModel", name := "isBridged", desc := "(I)Z" } : Jvm.MethodName)) ∈ lw_all := lw_g (lw_at lw_m7 106 rfl) rfl
theorem q1697 : (Jvm.Cond.code ({ cls := "TwelveChainModel", name := "isBridged", desc := "(I)Z" } : Jvm.MethodName) prog_17_method_9_code (2 : Nat) (Option.some Jvm.ClassFile.FieldType.boolean)) ∈ lw_all := lw_g (lw_at lw_m7 107 rfl) rfl
theorem q1698 : (Jvm.Cond.methodLink "TwelveChainModel" (291 : Nat) ({ cls := "TwelveChainModel", name := "bridgedOnes", desc := "()I" } : Jvm.MethodName)) ∈ lw_all := lw_g (lw_at lw_m7 108 rfl) rfl
theorem q1699 : (Jvm.Cond.privateMethod ({ cls := "TwelveChainModel", name := "bridgedOnes", desc := "()I" } : Jvm.MethodName)) ∈ lw_tbl := lw_at lw_m7 109 rfl
theorem q1700 : (Jvm.Cond.instanceMethod ({ cls := "TwelveChainModel", name := "bridgedOnes", desc := "()I" } : Jvm.MethodName)) ∈ lw_all := lw_g (lw_at lw_m7 110 rfl) rfl
theorem q1701 : (Jvm.Cond.code ({ cls := "TwelveChainModel", name := "bridgedOnes", desc := "()I" } : Jvm.MethodName) prog_17_method_60_code (3 : Nat) (Option.some Jvm.ClassFile.FieldType.int)) ∈ lw_all := lw_g (lw_at lw_m7 111 rfl) rfl
theorem q1702 : (Jvm.Cond.methodLink "TwelveChainModel" (294 : Nat) ({ cls := "TwelveChainModel", name := "endOf", desc := "(II)I" } : Jvm.MethodName)) ∈ lw_all := lw_g (lw_at lw_m7 112 rfl) rfl
theorem q1703 : (Jvm.Cond.privateMethod ({ cls := "TwelveChainModel", name := "endOf", desc := "(II)I" } : Jvm.MethodName)) ∈ lw_tbl := lw_at lw_m7 113 rfl
theorem q1704 : (Jvm.Cond.instanceMethod ({ cls := "TwelveChainModel", name := "endOf", desc := "(II)I" } : Jvm.MethodName)) ∈ lw_all := lw_g (lw_at lw_m7 114 rfl) rfl
theorem q1705 : (Jvm.Cond.code ({ cls := "TwelveChainModel", name := "endOf", desc := "(II)I" } : Jvm.MethodName) prog_17_method_59_code (4 : Nat) (Option.some Jvm.ClassFile.FieldType.int)) ∈ lw_all := lw_g (lw_at lw_m7 115 rfl) rfl
theorem q1706 : (Jvm.Cond.methodLink "TwelveChainModel" (47 : Nat) ({ cls := "TwelveChainModel", name := "lesser", desc := "(II)I" } : Jvm.MethodName)) ∈ lw_all := lw_g (lw_at lw_m7 116 rfl) rfl
theorem q1707 : (Jvm.Cond.static ({ cls := "TwelveChainModel", name := "lesser", desc := "(II)I" } : Jvm.MethodName)) ∈ lw_all := lw_g (lw_at lw_m7 117 rfl) rfl
theorem q1708 : (Jvm.Cond.code ({ cls := "TwelveChainModel", name := "lesser", desc := "(II)I" } : Jvm.MethodName) prog_17_method_3_code (2 : Nat) (Option.some Jvm.ClassFile.FieldType.int)) ∈ lw_all := lw_g (lw_at lw_m7 118 rfl) rfl
theorem q1709 : (Jvm.Cond.methodLink "TwelveChainModel" (297 : Nat) ({ cls := "TwelveChainModel", name := "isReady", desc := "(I)Z" } : Jvm.MethodName)) ∈ lw_all := lw_g (lw_at lw_m7 119 rfl) rfl
theorem q1710 : (Jvm.Cond.privateMethod ({ cls := "TwelveChainModel", name := "isReady", desc := "(I)Z" } : Jvm.MethodName)) ∈ lw_tbl := lw_at lw_m7 120 rfl
theorem q1711 : (Jvm.Cond.instanceMethod ({ cls := "TwelveChainModel", name := "isReady", desc := "(I)Z" } : Jvm.MethodName)) ∈ lw_all := lw_g (lw_at lw_m7 121 rfl) rfl
theorem q1712 : (Jvm.Cond.code ({ cls := "TwelveChainModel", name := "isReady", desc := "(I)Z" } : Jvm.MethodName) prog_17_method_7_code (2 : Nat) (Option.some Jvm.ClassFile.FieldType.boolean)) ∈ lw_all := lw_g (lw_at lw_m7 122 rfl) rfl
theorem q1713 : (Jvm.Cond.methodLink "TwelveChainModel" (303 : Nat) ({ cls := "TwelveChainModel", name := "isSo", desc := "(I)Z" } : Jvm.MethodName)) ∈ lw_all := lw_g (lw_at lw_m7 123 rfl) rfl
theorem q1714 : (Jvm.Cond.privateMethod ({ cls := "TwelveChainModel", name := "isSo", desc := "(I)Z" } : Jvm.MethodName)) ∈ lw_tbl := lw_at lw_m7 124 rfl
theorem q1715 : (Jvm.Cond.instanceMethod ({ cls := "TwelveChainModel", name := "isSo", desc := "(I)Z" } : Jvm.MethodName)) ∈ lw_all := lw_g (lw_at lw_m7 125 rfl) rfl
theorem q1716 : (Jvm.Cond.code ({ cls := "TwelveChainModel", name := "isSo", desc := "(I)Z" } : Jvm.MethodName) prog_17_method_58_code (2 : Nat) (Option.some Jvm.ClassFile.FieldType.boolean)) ∈ lw_all := lw_g (lw_at lw_m7 126 rfl) rfl
theorem q1717 : (Jvm.Cond.methodLink "TwelveChainModel" (285 : Nat) ({ cls := "TwelveChainModel", name := "comesTo", desc := "(III)I" } : Jvm.MethodName)) ∈ lw_all := lw_g (lw_at lw_m7 127 rfl) rfl
theorem q1718 : (Jvm.Cond.privateMethod ({ cls := "TwelveChainModel", name := "comesTo", desc := "(III)I" } : Jvm.MethodName)) ∈ lw_tbl := lw_at lw_m7 128 rfl
theorem q1719 : (Jvm.Cond.instanceMethod ({ cls := "TwelveChainModel", name := "comesTo", desc := "(III)I" } : Jvm.MethodName)) ∈ lw_all := lw_g (lw_at lw_m7 129 rfl) rfl
theorem q1720 : (Jvm.Cond.code ({ cls := "TwelveChainModel", name := "comesTo", desc := "(III)I" } : Jvm.MethodName) prog_17_method_57_code (8 : Nat) (Option.some Jvm.ClassFile.FieldType.int)) ∈ lw_all := lw_g (lw_at lw_m7 130 rfl) rfl
theorem q1721 : (Jvm.Cond.methodLink "TwelveChainModel" (282 : Nat) ({ cls := "TwelveChainModel", name := "both", desc := "(III)I" } : Jvm.MethodName)) ∈ lw_all := lw_g (lw_at lw_m7 131 rfl) rfl
theorem q1722 : (Jvm.Cond.static ({ cls := "TwelveChainModel", name := "both", desc := "(III)I" } : Jvm.MethodName)) ∈ lw_all := lw_g (lw_at lw_m7 132 rfl) rfl
theorem q1723 : (Jvm.Cond.code ({ cls := "TwelveChainModel", name := "both", desc := "(III)I" } : Jvm.MethodName) prog_17_method_56_code (3 : Nat) (Option.some Jvm.ClassFile.FieldType.int)) ∈ lw_all := lw_g (lw_at lw_m7 133 rfl) rfl
theorem q1724 : (Jvm.Cond.methodLink "TwelveChainModel" (306 : Nat) ({ cls := "TwelveChainModel", name := "held", desc := "(III)I" } : Jvm.MethodName)) ∈ lw_all := lw_g (lw_at lw_m7 134 rfl) rfl
theorem q1725 : (Jvm.Cond.static ({ cls := "TwelveChainModel", name := "held", desc := "(III)I" } : Jvm.MethodName)) ∈ lw_all := lw_g (lw_at lw_m7 135 rfl) rfl
theorem q1726 : (Jvm.Cond.code ({ cls := "TwelveChainModel", name := "held", desc := "(III)I" } : Jvm.MethodName) prog_17_method_5_code (3 : Nat) (Option.some Jvm.ClassFile.FieldType.int)) ∈ lw_all := lw_g (lw_at lw_m7 136 rfl) rfl
theorem q1727 : (Jvm.Cond.methodLink "TwelveChainModel" (323 : Nat) ({ cls := "TwelveChainModel", name := "notes", desc := "(III)V" } : Jvm.MethodName)) ∈ lw_all := lw_g (lw_at lw_m7 137 rfl) rfl
theorem q1728 : (Jvm.Cond.privateMethod ({ cls := "TwelveChainModel", name := "notes", desc := "(III)V" } : Jvm.MethodName)) ∈ lw_tbl := lw_at lw_m7 138 rfl
theorem q1729 : (Jvm.Cond.instanceMethod ({ cls := "TwelveChainModel", name := "notes", desc := "(III)V" } : Jvm.MethodName)) ∈ lw_all := lw_g (lw_at lw_m7 139 rfl) rfl
theorem q1730 : (Jvm.Cond.code ({ cls := "TwelveChainModel", name := "notes", desc := "(III)V" } : Jvm.MethodName) prog_17_method_70_code (5 : Nat) (Option.none : Option Jvm.ClassFile.FieldType)) ∈ lw_all := lw_g (lw_at lw_m7 140 rfl) rfl
theorem q1732 : (Jvm.Cond.instanceMethod ({ cls := "TwelveChainModel", name := "bridge", desc := "(I)Z" } : Jvm.MethodName)) ∈ lw_all := lw_g (lw_at lw_m7 142 rfl) rfl
theorem q1733 : (Jvm.Cond.selects "TwelveChainModel" ({ cls := "TwelveChainModel", name := "bridge", desc := "(I)Z" } : Jvm.MethodName) ({ cls := "TwelveChainModel", name := "bridge", desc := "(I)Z" } : Jvm.MethodName)) ∈ lw_all := lw_g (lw_at lw_m7 143 rfl) rfl
theorem q1734 : (Jvm.Cond.code ({ cls := "TwelveChainModel", name := "bridge", desc := "(I)Z" } : Jvm.MethodName) prog_17_method_80_code (2 : Nat) (Option.some Jvm.ClassFile.FieldType.boolean)) ∈ lw_all := lw_g (lw_at lw_m7 144 rfl) rfl
theorem q1735 : (Jvm.Cond.methodLink "TwelveChainModel" (336 : Nat) ({ cls := "TwelveChainModel", name := "canBridge", desc := "(I)Z" } : Jvm.MethodName)) ∈ lw_all := lw_g (lw_at lw_m7 145 rfl) rfl
theorem q1736 : (Jvm.Cond.privateMethod ({ cls := "TwelveChainModel", name := "canBridge", desc := "(I)Z" } : Jvm.MethodName)) ∈ lw_tbl := lw_at lw_m7 146 rfl
theorem q1737 : (Jvm.Cond.instanceMethod ({ cls := "TwelveChainModel", name := "canBridge", desc := "(I)Z" } : Jvm.MethodName)) ∈ lw_all := lw_g (lw_at lw_m7 147 rfl) rfl
theorem q1738 : (Jvm.Cond.code ({ cls := "TwelveChainModel", name := "canBridge", desc := "(I)Z" } : Jvm.MethodName) prog_17_method_73_code (2 : Nat) (Option.some Jvm.ClassFile.FieldType.boolean)) ∈ lw_all := lw_g (lw_at lw_m7 148 rfl) rfl
theorem q1739 : (Jvm.Cond.methodLink "TwelveChainModel" (339 : Nat) ({ cls := "TwelveChainModel", name := "bridges0", desc := "(I)V" } : Jvm.MethodName)) ∈ lw_all := lw_g (lw_at lw_m7 149 rfl) rfl
theorem q1740 : (Jvm.Cond.privateMethod ({ cls := "TwelveChainModel", name := "bridges0", desc := "(I)V" } : Jvm.MethodName)) ∈ lw_tbl := lw_at lw_m7 150 rfl
theorem q1741 : (Jvm.Cond.instanceMethod ({ cls := "TwelveChainModel", name := "bridges0", desc := "(I)V" } : Jvm.MethodName)) ∈ lw_all := lw_g (lw_at lw_m7 151 rfl) rfl
theorem q1742 : (Jvm.Cond.code ({ cls := "TwelveChainModel", name := "bridges0", desc := "(I)V" } : Jvm.MethodName) prog_17_method_74_code (2 : Nat) (Option.none : Option Jvm.ClassFile.FieldType)) ∈ lw_all := lw_g (lw_at lw_m7 152 rfl) rfl
theorem q1744 : (Jvm.Cond.instanceMethod ({ cls := "TwelveChainModel", name := "pay", desc := "(III)Z" } : Jvm.MethodName)) ∈ lw_all := lw_g (lw_at lw_m7 154 rfl) rfl
theorem q1745 : (Jvm.Cond.selects "TwelveChainModel" ({ cls := "TwelveChainModel", name := "pay", desc := "(III)Z" } : Jvm.MethodName) ({ cls := "TwelveChainModel", name := "pay", desc := "(III)Z" } : Jvm.MethodName)) ∈ lw_all := lw_g (lw_at lw_m7 155 rfl) rfl
theorem q1746 : (Jvm.Cond.code ({ cls := "TwelveChainModel", name := "pay", desc := "(III)Z" } : Jvm.MethodName) prog_17_method_81_code (4 : Nat) (Option.some Jvm.ClassFile.FieldType.boolean)) ∈ lw_all := lw_g (lw_at lw_m7 156 rfl) rfl
theorem q1747 : (Jvm.Cond.methodLink "TwelveChainModel" (343 : Nat) ({ cls := "TwelveChainModel", name := "canPay0", desc := "(III)Z" } : Jvm.MethodName)) ∈ lw_all := lw_g (lw_at lw_m7 157 rfl) rfl
theorem q1748 : (Jvm.Cond.privateMethod ({ cls := "TwelveChainModel", name := "canPay0", desc := "(III)Z" } : Jvm.MethodName)) ∈ lw_tbl := lw_at lw_m7 158 rfl
theorem q1749 : (Jvm.Cond.instanceMethod ({ cls := "TwelveChainModel", name := "canPay0", desc := "(III)Z" } : Jvm.MethodName)) ∈ lw_all := lw_g (lw_at lw_m7 159 rfl) rfl
theorem q1750 : (Jvm.Cond.code ({ cls := "TwelveChainModel", name := "canPay0", desc := "(III)Z" } : Jvm.MethodName) prog_17_method_75_code (4 : Nat) (Option.some Jvm.ClassFile.FieldType.boolean)) ∈ lw_all := lw_g (lw_at lw_m7 160 rfl) rfl
theorem q1751 : (Jvm.Cond.methodLink "TwelveChainModel" (346 : Nat) ({ cls := "TwelveChainModel", name := "pays", desc := "(III)V" } : Jvm.MethodName)) ∈ lw_all := lw_g (lw_at lw_m7 161 rfl) rfl
theorem q1752 : (Jvm.Cond.privateMethod ({ cls := "TwelveChainModel", name := "pays", desc := "(III)V" } : Jvm.MethodName)) ∈ lw_tbl := lw_at lw_m7 162 rfl
theorem q1753 : (Jvm.Cond.instanceMethod ({ cls := "TwelveChainModel", name := "pays", desc := "(III)V" } : Jvm.MethodName)) ∈ lw_all := lw_g (lw_at lw_m7 163 rfl) rfl
theorem q1754 : (Jvm.Cond.code ({ cls := "TwelveChainModel", name := "pays", desc := "(III)V" } : Jvm.MethodName) prog_17_method_76_code (4 : Nat) (Option.none : Option Jvm.ClassFile.FieldType)) ∈ lw_all := lw_g (lw_at lw_m7 164 rfl) rfl
theorem q1756 : (Jvm.Cond.instanceMethod ({ cls := "TwelveChainModel", name := "paper", desc := "(I)Z" } : Jvm.MethodName)) ∈ lw_all := lw_g (lw_at lw_m7 166 rfl) rfl
theorem q1757 : (Jvm.Cond.selects "TwelveChainModel" ({ cls := "TwelveChainModel", name := "paper", desc := "(I)Z" } : Jvm.MethodName) ({ cls := "TwelveChainModel", name := "paper", desc := "(I)Z" } : Jvm.MethodName)) ∈ lw_all := lw_g (lw_at lw_m7 167 rfl) rfl
theorem q1758 : (Jvm.Cond.code ({ cls := "TwelveChainModel", name := "paper", desc := "(I)Z" } : Jvm.MethodName) prog_17_method_82_code (2 : Nat) (Option.some Jvm.ClassFile.FieldType.boolean)) ∈ lw_all := lw_g (lw_at lw_m7 168 rfl) rfl
theorem q1759 : (Jvm.Cond.methodLink "TwelveChainModel" (349 : Nat) ({ cls := "TwelveChainModel", name := "canPaper", desc := "(I)Z" } : Jvm.MethodName)) ∈ lw_all := lw_g (lw_at lw_m7 169 rfl) rfl
theorem q1760 : (Jvm.Cond.privateMethod ({ cls := "TwelveChainModel", name := "canPaper", desc := "(I)Z" } : Jvm.MethodName)) ∈ lw_tbl := lw_at lw_m7 170 rfl
theorem q1761 : (Jvm.Cond.instanceMethod ({ cls := "TwelveChainModel", name := "canPaper", desc := "(I)Z" } : Jvm.MethodName)) ∈ lw_all := lw_g (lw_at lw_m7 171 rfl) rfl
theorem q1762 : (Jvm.Cond.code ({ cls := "TwelveChainModel", name := "canPaper", desc := "(I)Z" } : Jvm.MethodName) prog_17_method_77_code (2 : Nat) (Option.some Jvm.ClassFile.FieldType.boolean)) ∈ lw_all := lw_g (lw_at lw_m7 172 rfl) rfl
theorem q1763 : (Jvm.Cond.methodLink "TwelveChainModel" (352 : Nat) ({ cls := "TwelveChainModel", name := "getsReady", desc := "(I)V" } : Jvm.MethodName)) ∈ lw_all := lw_g (lw_at lw_m7 173 rfl) rfl
theorem q1764 : (Jvm.Cond.privateMethod ({ cls := "TwelveChainModel", name := "getsReady", desc := "(I)V" } : Jvm.MethodName)) ∈ lw_tbl := lw_at lw_m7 174 rfl
theorem q1765 : (Jvm.Cond.instanceMethod ({ cls := "TwelveChainModel", name := "getsReady", desc := "(I)V" } : Jvm.MethodName)) ∈ lw_all := lw_g (lw_at lw_m7 175 rfl) rfl
theorem q1766 : (Jvm.Cond.code ({ cls := "TwelveChainModel", name := "getsReady", desc := "(I)V" } : Jvm.MethodName) prog_17_method_78_code (2 : Nat) (Option.none : Option Jvm.ClassFile.FieldType)) ∈ lw_all := lw_g (lw_at lw_m7 176 rfl) rfl
theorem q1768 : (Jvm.Cond.instanceMethod ({ cls := "TwelveChainModel", name := "join", desc := "(I)Z" } : Jvm.MethodName)) ∈ lw_all := lw_g (lw_at lw_m7 178 rfl) rfl
theorem q1769 : (Jvm.Cond.selects "TwelveChainModel" ({ cls := "TwelveChainModel", name := "join", desc := "(I)Z" } : Jvm.MethodName) ({ cls := "TwelveChainModel", name := "join", desc := "(I)Z" } : Jvm.MethodName)) ∈ lw_all := lw_g (lw_at lw_m7 179 rfl) rfl
theorem q1770 : (Jvm.Cond.code ({ cls := "TwelveChainModel", name := "join", desc := "(I)Z" } : Jvm.MethodName) prog_17_method_83_code (2 : Nat) (Option.some Jvm.ClassFile.FieldType.boolean)) ∈ lw_all := lw_g (lw_at lw_m7 180 rfl) rfl
theorem q1772 : (Jvm.Cond.instanceMethod ({ cls := "TwelveChainModel", name := "days", desc := "(I)I" } : Jvm.MethodName)) ∈ lw_all := lw_g (lw_at lw_m7 182 rfl) rfl
theorem q1773 : (Jvm.Cond.selects "TwelveChainModel" ({ cls := "TwelveChainModel", name := "days", desc := "(I)I" } : Jvm.MethodName) ({ cls := "TwelveChainModel", name := "days", desc := "(I)I" } : Jvm.MethodName)) ∈ lw_all := lw_g (lw_at lw_m7 183 rfl) rfl
theorem q1774 : (Jvm.Cond.code ({ cls := "TwelveChainModel", name := "days", desc := "(I)I" } : Jvm.MethodName) prog_17_method_91_code (4 : Nat) (Option.some Jvm.ClassFile.FieldType.int)) ∈ lw_all := lw_g (lw_at lw_m7 184 rfl) rfl
theorem q1775 : (Jvm.Cond.methodLink "TwelveChainModel" (388 : Nat) ({ cls := "TwelveChainModel", name := "aDay", desc := "()I" } : Jvm.MethodName)) ∈ lw_all := lw_g (lw_at lw_m7 185 rfl) rfl
theorem q1776 : (Jvm.Cond.privateMethod ({ cls := "TwelveChainModel", name := "aDay", desc := "()I" } : Jvm.MethodName)) ∈ lw_tbl := lw_at lw_m7 186 rfl
theorem q1777 : (Jvm.Cond.instanceMethod ({ cls := "TwelveChainModel", name := "aDay", desc := "()I" } : Jvm.MethodName)) ∈ lw_all := lw_g (lw_at lw_m7 187 rfl) rfl
theorem q1778 : (Jvm.Cond.code ({ cls := "TwelveChainModel", name := "aDay", desc := "()I" } : Jvm.MethodName) prog_17_method_90_code (3 : Nat) (Option.some Jvm.ClassFile.FieldType.int)) ∈ lw_all := lw_g (lw_at lw_m7 188 rfl) rfl
theorem q1779 : (Jvm.Cond.methodLink "TwelveChainModel" (367 : Nat) ({ cls := "TwelveChainModel", name := "does", desc := "(I)V" } : Jvm.MethodName)) ∈ lw_all := lw_g (lw_at lw_m7 189 rfl) rfl
theorem q1780 : (Jvm.Cond.privateMethod ({ cls := "TwelveChainModel", name := "does", desc := "(I)V" } : Jvm.MethodName)) ∈ lw_tbl := lw_at lw_m7 190 rfl
theorem q1781 : (Jvm.Cond.instanceMethod ({ cls := "TwelveChainModel", name := "does", desc := "(I)V" } : Jvm.MethodName)) ∈ lw_all := lw_g (lw_at lw_m7 191 rfl) rfl
theorem q1782 : (Jvm.Cond.code ({ cls := "TwelveChainModel", name := "does", desc := "(I)V" } : Jvm.MethodName) prog_17_method_84_code (3 : Nat) (Option.none : Option Jvm.ClassFile.FieldType)) ∈ lw_all := lw_g (lw_at lw_m7 192 rfl) rfl
theorem q1783 : (Jvm.Cond.methodLink "TwelveChainModel" (370 : Nat) ({ cls := "TwelveChainModel", name := "readyOf", desc := "(I)I" } : Jvm.MethodName)) ∈ lw_all := lw_g (lw_at lw_m7 193 rfl) rfl
theorem q1784 : (Jvm.Cond.privateMethod ({ cls := "TwelveChainModel", name := "readyOf", desc := "(I)I" } : Jvm.MethodName)) ∈ lw_tbl := lw_at lw_m7 194 rfl
theorem q1785 : (Jvm.Cond.instanceMethod ({ cls := "TwelveChainModel", name := "readyOf", desc := "(I)I" } : Jvm.MethodName)) ∈ lw_all := lw_g (lw_at lw_m7 195 rfl) rfl
theorem q1786 : (Jvm.Cond.code ({ cls := "TwelveChainModel", name := "readyOf", desc := "(I)I" } : Jvm.MethodName) prog_17_method_63_code (2 : Nat) (Option.some Jvm.ClassFile.FieldType.int)) ∈ lw_all := lw_g (lw_at lw_m7 196 rfl) rfl
theorem q1787 : (Jvm.Cond.methodLink "TwelveChainModel" (373 : Nat) ({ cls := "TwelveChainModel", name := "falls", desc := "(I)Z" } : Jvm.MethodName)) ∈ lw_all := lw_g (lw_at lw_m7 197 rfl) rfl
theorem q1788 : (Jvm.Cond.privateMethod ({ cls := "TwelveChainModel", name := "falls", desc := "(I)Z" } : Jvm.MethodName)) ∈ lw_tbl := lw_at lw_m7 198 rfl
theorem q1789 : (Jvm.Cond.instanceMethod ({ cls := "TwelveChainModel", name := "falls", desc := "(I)Z" } : Jvm.MethodName)) ∈ lw_all := lw_g (lw_at lw_m7 199 rfl) rfl
theorem q1790 : (Jvm.Cond.code ({ cls := "TwelveChainModel", name := "falls", desc := "(I)Z" } : Jvm.MethodName) prog_17_method_85_code (2 : Nat) (Option.some Jvm.ClassFile.FieldType.boolean)) ∈ lw_all := lw_g (lw_at lw_m7 200 rfl) rfl
theorem q1791 : (Jvm.Cond.methodLink "TwelveChainModel" (355 : Nat) ({ cls := "TwelveChainModel", name := "draw", desc := "(I)I" } : Jvm.MethodName)) ∈ lw_all := lw_g (lw_at lw_m7 201 rfl) rfl
theorem q1792 : (Jvm.Cond.privateMethod ({ cls := "TwelveChainModel", name := "draw", desc := "(I)I" } : Jvm.MethodName)) ∈ lw_tbl := lw_at lw_m7 202 rfl
theorem q1793 : (Jvm.Cond.instanceMethod ({ cls := "TwelveChainModel", name := "draw", desc := "(I)I" } : Jvm.MethodName)) ∈ lw_all := lw_g (lw_at lw_m7 203 rfl) rfl
theorem q1794 : (Jvm.Cond.code ({ cls := "TwelveChainModel", name := "draw", desc := "(I)I" } : Jvm.MethodName) prog_17_method_15_code (2 : Nat) (Option.some Jvm.ClassFile.FieldType.int)) ∈ lw_all := lw_g (lw_at lw_m7 204 rfl) rfl
theorem q1795 : (Jvm.Cond.constant "TwelveChainModel" (74 : Nat) (1664525 : Int32)) ∈ lw_all := lw_g (lw_at lw_m7 205 rfl) rfl
theorem q1796 : (Jvm.Cond.constant "TwelveChainModel" (75 : Nat) (1013904223 : Int32)) ∈ lw_all := lw_g (lw_at lw_m7 206 rfl) rfl
theorem q1797 : (Jvm.Cond.methodLink "TwelveChainModel" (376 : Nat) ({ cls := "TwelveChainModel", name := "leaveOf", desc := "(I)I" } : Jvm.MethodName)) ∈ lw_all := lw_g (lw_at lw_m7 207 rfl) rfl
theorem q1798 : (Jvm.Cond.privateMethod ({ cls := "TwelveChainModel", name := "leaveOf", desc := "(I)I" } : Jvm.MethodName)) ∈ lw_tbl := lw_at lw_m7 208 rfl
theorem q1799 : (Jvm.Cond.instanceMethod ({ cls := "TwelveChainModel", name := "leaveOf", desc := "(I)I" } : Jvm.MethodName)) ∈ lw_all := lw_g (lw_at lw_m7 209 rfl) rfl
theorem q1800 : (Jvm.Cond.code ({ cls := "TwelveChainModel", name := "leaveOf", desc := "(I)I" } : Jvm.MethodName) prog_17_method_64_code (2 : Nat) (Option.some Jvm.ClassFile.FieldType.int)) ∈ lw_all := lw_g (lw_at lw_m7 210 rfl) rfl
theorem q1801 : (Jvm.Cond.methodLink "TwelveChainModel" (379 : Nat) ({ cls := "TwelveChainModel", name := "leaves", desc := "(I)V" } : Jvm.MethodName)) ∈ lw_all := lw_g (lw_at lw_m7 211 rfl) rfl
theorem q1802 : (Jvm.Cond.privateMethod ({ cls := "TwelveChainModel", name := "leaves", desc := "(I)V" } : Jvm.MethodName)) ∈ lw_tbl := lw_at lw_m7 212 rfl
theorem q1803 : (Jvm.Cond.instanceMethod ({ cls := "TwelveChainModel", name := "leaves", desc := "(I)V" } : Jvm.MethodName)) ∈ lw_all := lw_g (lw_at lw_m7 213 rfl) rfl
theorem q1804 : (Jvm.Cond.code ({ cls := "TwelveChainModel", name := "leaves", desc := "(I)V" } : Jvm.MethodName) prog_17_method_87_code (2 : Nat) (Option.none : Option Jvm.ClassFile.FieldType)) ∈ lw_all := lw_g (lw_at lw_m7 214 rfl) rfl
theorem q1805 : (Jvm.Cond.methodLink "TwelveChainModel" (358 : Nat) ({ cls := "TwelveChainModel", name := "unreadies", desc := "(I)V" } : Jvm.MethodName)) ∈ lw_all := lw_g (lw_at lw_m7 215 rfl) rfl
theorem q1806 : (Jvm.Cond.privateMethod ({ cls := "TwelveChainModel", name := "unreadies", desc := "(I)V" } : Jvm.MethodName)) ∈ lw_tbl := lw_at lw_m7 216 rfl
theorem q1807 : (Jvm.Cond.instanceMethod ({ cls := "TwelveChainModel", name := "unreadies", desc := "(I)V" } : Jvm.MethodName)) ∈ lw_all := lw_g (lw_at lw_m7 217 rfl) rfl
theorem q1808 : (Jvm.Cond.code ({ cls := "TwelveChainModel", name := "unreadies", desc := "(I)V" } : Jvm.MethodName) prog_17_method_86_code (2 : Nat) (Option.none : Option Jvm.ClassFile.FieldType)) ∈ lw_all := lw_g (lw_at lw_m7 218 rfl) rfl
theorem q1809 : (Jvm.Cond.methodLink "TwelveChainModel" (382 : Nat) ({ cls := "TwelveChainModel", name := "moves", desc := "()I" } : Jvm.MethodName)) ∈ lw_all := lw_g (lw_at lw_m7 219 rfl) rfl
theorem q1810 : (Jvm.Cond.privateMethod ({ cls := "TwelveChainModel", name := "moves", desc := "()I" } : Jvm.MethodName)) ∈ lw_tbl := lw_at lw_m7 220 rfl
theorem q1811 : (Jvm.Cond.instanceMethod ({ cls := "TwelveChainModel", name := "moves", desc := "()I" } : Jvm.MethodName)) ∈ lw_all := lw_g (lw_at lw_m7 221 rfl) rfl
theorem q1812 : (Jvm.Cond.code ({ cls := "TwelveChainModel", name := "moves", desc := "()I" } : Jvm.MethodName) prog_17_method_89_code (8 : Nat) (Option.some Jvm.ClassFile.FieldType.int)) ∈ lw_all := lw_g (lw_at lw_m7 222 rfl) rfl
theorem q1813 : (Jvm.Cond.methodLink "TwelveChainModel" (364 : Nat) ({ cls := "TwelveChainModel", name := "canMove", desc := "(II)Z" } : Jvm.MethodName)) ∈ lw_all := lw_g (lw_at lw_m7 223 rfl) rfl
theorem q1814 : (Jvm.Cond.privateMethod ({ cls := "TwelveChainModel", name := "canMove", desc := "(II)Z" } : Jvm.MethodName)) ∈ lw_tbl := lw_at lw_m7 224 rfl
theorem q1815 : (Jvm.Cond.instanceMethod ({ cls := "TwelveChainModel", name := "canMove", desc := "(II)Z" } : Jvm.MethodName)) ∈ lw_all := lw_g (lw_at lw_m7 225 rfl) rfl
theorem q1816 : (Jvm.Cond.code ({ cls := "TwelveChainModel", name := "canMove", desc := "(II)Z" } : Jvm.MethodName) prog_17_method_88_code (4 : Nat) (Option.some Jvm.ClassFile.FieldType.boolean)) ∈ lw_all := lw_g (lw_at lw_m7 226 rfl) rfl
theorem q1817 : (Jvm.Cond.methodLink "TwelveChainModel" (361 : Nat) ({ cls := "TwelveChainModel", name := "canPay", desc := "(I)Z" } : Jvm.MethodName)) ∈ lw_all := lw_g (lw_at lw_m7 227 rfl) rfl
theorem q1818 : (Jvm.Cond.privateMethod ({ cls := "TwelveChainModel", name := "canPay", desc := "(I)Z" } : Jvm.MethodName)) ∈ lw_tbl := lw_at lw_m7 228 rfl
theorem q1819 : (Jvm.Cond.instanceMethod ({ cls := "TwelveChainModel", name := "canPay", desc := "(I)Z" } : Jvm.MethodName)) ∈ lw_all := lw_g (lw_at lw_m7 229 rfl) rfl
theorem q1820 : (Jvm.Cond.code ({ cls := "TwelveChainModel", name := "canPay", desc := "(I)Z" } : Jvm.MethodName) prog_17_method_67_code (2 : Nat) (Option.some Jvm.ClassFile.FieldType.boolean)) ∈ lw_all := lw_g (lw_at lw_m7 230 rfl) rfl
theorem q1821 : (Jvm.Cond.methodLink "TwelveChainModel" (385 : Nat) ({ cls := "TwelveChainModel", name := "costOf", desc := "(I)I" } : Jvm.MethodName)) ∈ lw_all := lw_g (lw_at lw_m7 231 rfl) rfl
theorem q1822 : (Jvm.Cond.privateMethod ({ cls := "TwelveChainModel", name := "costOf", desc := "(I)I" } : Jvm.MethodName)) ∈ lw_tbl := lw_at lw_m7 232 rfl
theorem q1823 : (Jvm.Cond.instanceMethod ({ cls := "TwelveChainModel", name := "costOf", desc := "(I)I" } : Jvm.MethodName)) ∈ lw_all := lw_g (lw_at lw_m7 233 rfl) rfl
theorem q1824 : (Jvm.Cond.code ({ cls := "TwelveChainModel", name := "costOf", desc := "(I)I" } : Jvm.MethodName) prog_17_method_66_code (2 : Nat) (Option.some Jvm.ClassFile.FieldType.int)) ∈ lw_all := lw_g (lw_at lw_m7 234 rfl) rfl
theorem q1826 : (Jvm.Cond.instanceMethod ({ cls := "TwelveChainModel", name := "of", desc := "(II)I" } : Jvm.MethodName)) ∈ lw_all := lw_g (lw_at lw_m7 236 rfl) rfl
theorem q1827 : (Jvm.Cond.selects "TwelveChainModel" ({ cls := "TwelveChainModel", name := "of", desc := "(II)I" } : Jvm.MethodName) ({ cls := "TwelveChainModel", name := "of", desc := "(II)I" } : Jvm.MethodName)) ∈ lw_all := lw_g (lw_at lw_m7 237 rfl) rfl
theorem q1828 : (Jvm.Cond.code ({ cls := "TwelveChainModel", name := "of", desc := "(II)I" } : Jvm.MethodName) prog_17_method_92_code (3 : Nat) (Option.some Jvm.ClassFile.FieldType.int)) ∈ lw_all := lw_g (lw_at lw_m7 238 rfl) rfl
theorem q1829 : (Jvm.Cond.constant "TwelveChainModel" (391 : Nat) (-100000 : Int32)) ∈ lw_all := lw_g (lw_at lw_m7 239 rfl) rfl
theorem q1831 : (Jvm.Cond.instanceMethod ({ cls := "TwelveChainModel", name := "phone", desc := "(II)I" } : Jvm.MethodName)) ∈ lw_all := lw_g (lw_at lw_m8 1 rfl) rfl
theorem q1832 : (Jvm.Cond.selects "TwelveChainModel" ({ cls := "TwelveChainModel", name := "phone", desc := "(II)I" } : Jvm.MethodName) ({ cls := "TwelveChainModel", name := "phone", desc := "(II)I" } : Jvm.MethodName)) ∈ lw_all := lw_g (lw_at lw_m8 2 rfl) rfl
theorem q1833 : (Jvm.Cond.code ({ cls := "TwelveChainModel", name := "phone", desc := "(II)I" } : Jvm.MethodName) prog_17_method_94_code (3 : Nat) (Option.some Jvm.ClassFile.FieldType.int)) ∈ lw_all := lw_g (lw_at lw_m8 3 rfl) rfl
theorem q1834 : (Jvm.Cond.methodLink "TwelveChainModel" (392 : Nat) ({ cls := "TwelveChainModel", name := "recordsOf", desc := "(III)I" } : Jvm.MethodName)) ∈ lw_all := lw_g (lw_at lw_m8 4 rfl) rfl
theorem q1835 : (Jvm.Cond.privateMethod ({ cls := "TwelveChainModel", name := "recordsOf", desc := "(III)I" } : Jvm.MethodName)) ∈ lw_tbl := lw_at lw_m8 5 rfl
theorem q1836 : (Jvm.Cond.instanceMethod ({ cls := "TwelveChainModel", name := "recordsOf", desc := "(III)I" } : Jvm.MethodName)) ∈ lw_all := lw_g (lw_at lw_m8 6 rfl) rfl
theorem q1837 : (Jvm.Cond.code ({ cls := "TwelveChainModel", name := "recordsOf", desc := "(III)I" } : Jvm.MethodName) prog_17_method_93_code (6 : Nat) (Option.some Jvm.ClassFile.FieldType.int)) ∈ lw_all := lw_g (lw_at lw_m8 7 rfl) rfl
theorem q1839 : (Jvm.Cond.instanceMethod ({ cls := "TwelveChainModel", name := "book", desc := "(II)I" } : Jvm.MethodName)) ∈ lw_all := lw_g (lw_at lw_m8 9 rfl) rfl
theorem q1840 : (Jvm.Cond.selects "TwelveChainModel" ({ cls := "TwelveChainModel", name := "book", desc := "(II)I" } : Jvm.MethodName) ({ cls := "TwelveChainModel", name := "book", desc := "(II)I" } : Jvm.MethodName)) ∈ lw_all := lw_g (lw_at lw_m8 10 rfl) rfl
theorem q1841 : (Jvm.Cond.code ({ cls := "TwelveChainModel", name := "book", desc := "(II)I" } : Jvm.MethodName) prog_17_method_95_code (3 : Nat) (Option.some Jvm.ClassFile.FieldType.int)) ∈ lw_all := lw_g (lw_at lw_m8 11 rfl) rfl
theorem q1843 : (Jvm.Cond.instanceMethod ({ cls := "TwelveChainModel", name := "goes", desc := "(II)I" } : Jvm.MethodName)) ∈ lw_all := lw_g (lw_at lw_m8 13 rfl) rfl
theorem q1844 : (Jvm.Cond.selects "TwelveChainModel" ({ cls := "TwelveChainModel", name := "goes", desc := "(II)I" } : Jvm.MethodName) ({ cls := "TwelveChainModel", name := "goes", desc := "(II)I" } : Jvm.MethodName)) ∈ lw_all := lw_g (lw_at lw_m8 14 rfl) rfl
theorem q1845 : (Jvm.Cond.code ({ cls := "TwelveChainModel", name := "goes", desc := "(II)I" } : Jvm.MethodName) prog_17_method_98_code (5 : Nat) (Option.some Jvm.ClassFile.FieldType.int)) ∈ lw_all := lw_g (lw_at lw_m8 15 rfl) rfl
theorem q1846 : (Jvm.Cond.methodLink "TwelveChainModel" (395 : Nat) ({ cls := "TwelveChainModel", name := "movedOnes", desc := "()I" } : Jvm.MethodName)) ∈ lw_all := lw_g (lw_at lw_m8 16 rfl) rfl
theorem q1847 : (Jvm.Cond.privateMethod ({ cls := "TwelveChainModel", name := "movedOnes", desc := "()I" } : Jvm.MethodName)) ∈ lw_tbl := lw_at lw_m8 17 rfl
theorem q1848 : (Jvm.Cond.instanceMethod ({ cls := "TwelveChainModel", name := "movedOnes", desc := "()I" } : Jvm.MethodName)) ∈ lw_all := lw_g (lw_at lw_m8 18 rfl) rfl
theorem q1849 : (Jvm.Cond.code ({ cls := "TwelveChainModel", name := "movedOnes", desc := "()I" } : Jvm.MethodName) prog_17_method_96_code (3 : Nat) (Option.some Jvm.ClassFile.FieldType.int)) ∈ lw_all := lw_g (lw_at lw_m8 19 rfl) rfl
theorem q1850 : (Jvm.Cond.methodLink "TwelveChainModel" (398 : Nat) ({ cls := "TwelveChainModel", name := "count", desc := "(I)I" } : Jvm.MethodName)) ∈ lw_all := lw_g (lw_at lw_m8 20 rfl) rfl
theorem q1851 : (Jvm.Cond.static ({ cls := "TwelveChainModel", name := "count", desc := "(I)I" } : Jvm.MethodName)) ∈ lw_all := lw_g (lw_at lw_m8 21 rfl) rfl
theorem q1852 : (Jvm.Cond.code ({ cls := "TwelveChainModel", name := "count", desc := "(I)I" } : Jvm.MethodName) prog_17_method_12_code (3 : Nat) (Option.some Jvm.ClassFile.FieldType.int)) ∈ lw_all := lw_g (lw_at lw_m8 22 rfl) rfl
theorem q1853 : (Jvm.Cond.methodLink "TwelveChainModel" (401 : Nat) ({ cls := "TwelveChainModel", name := "latestMoved", desc := "()I" } : Jvm.MethodName)) ∈ lw_all := lw_g (lw_at lw_m8 23 rfl) rfl
theorem q1854 : (Jvm.Cond.privateMethod ({ cls := "TwelveChainModel", name := "latestMoved", desc := "()I" } : Jvm.MethodName)) ∈ lw_tbl := lw_at lw_m8 24 rfl
theorem q1855 : (Jvm.Cond.instanceMethod ({ cls := "TwelveChainModel", name := "latestMoved", desc := "()I" } : Jvm.MethodName)) ∈ lw_all := lw_g (lw_at lw_m8 25 rfl) rfl
theorem q1856 : (Jvm.Cond.code ({ cls := "TwelveChainModel", name := "latestMoved", desc := "()I" } : Jvm.MethodName) prog_17_method_97_code (3 : Nat) (Option.some Jvm.ClassFile.FieldType.int)) ∈ lw_all := lw_g (lw_at lw_m8 26 rfl) rfl
theorem q1858 : (Jvm.Cond.instanceMethod ({ cls := "TwelveChainModel", name := "odds", desc := "(I)I" } : Jvm.MethodName)) ∈ lw_all := lw_g (lw_at lw_m8 28 rfl) rfl
theorem q1859 : (Jvm.Cond.selects "TwelveChainModel" ({ cls := "TwelveChainModel", name := "odds", desc := "(I)I" } : Jvm.MethodName) ({ cls := "TwelveChainModel", name := "odds", desc := "(I)I" } : Jvm.MethodName)) ∈ lw_all := lw_g (lw_at lw_m8 29 rfl) rfl
theorem q1860 : (Jvm.Cond.code ({ cls := "TwelveChainModel", name := "odds", desc := "(I)I" } : Jvm.MethodName) prog_17_method_102_code (2 : Nat) (Option.some Jvm.ClassFile.FieldType.int)) ∈ lw_all := lw_g (lw_at lw_m8 30 rfl) rfl
theorem q1861 : (Jvm.Cond.methodLink "TwelveChainModel" (415 : Nat) ({ cls := "TwelveChainModel", name := "allBy", desc := "(III)J" } : Jvm.MethodName)) ∈ lw_all := lw_g (lw_at lw_m8 31 rfl) rfl
theorem q1862 : (Jvm.Cond.privateMethod ({ cls := "TwelveChainModel", name := "allBy", desc := "(III)J" } : Jvm.MethodName)) ∈ lw_tbl := lw_at lw_m8 32 rfl
theorem q1863 : (Jvm.Cond.instanceMethod ({ cls := "TwelveChainModel", name := "allBy", desc := "(III)J" } : Jvm.MethodName)) ∈ lw_all := lw_g (lw_at lw_m8 33 rfl) rfl
theorem q1864 : (Jvm.Cond.code ({ cls := "TwelveChainModel", name := "allBy", desc := "(III)J" } : Jvm.MethodName) prog_17_method_101_code (7 : Nat) (Option.some Jvm.ClassFile.FieldType.long)) ∈ lw_all := lw_g (lw_at lw_m8 34 rfl) rfl
theorem q1865 : (Jvm.Cond.constantLong "TwelveChainModel" (404 : Nat) (1000000 : Int64)) ∈ lw_all := lw_g (lw_at lw_m8 35 rfl) rfl
theorem q1866 : (Jvm.Cond.methodLink "TwelveChainModel" (412 : Nat) ({ cls := "TwelveChainModel", name := "readyBy", desc := "(II)J" } : Jvm.MethodName)) ∈ lw_all := lw_g (lw_at lw_m8 36 rfl) rfl
theorem q1867 : (Jvm.Cond.privateMethod ({ cls := "TwelveChainModel", name := "readyBy", desc := "(II)J" } : Jvm.MethodName)) ∈ lw_tbl := lw_at lw_m8 37 rfl
theorem q1868 : (Jvm.Cond.instanceMethod ({ cls := "TwelveChainModel", name := "readyBy", desc := "(II)J" } : Jvm.MethodName)) ∈ lw_all := lw_g (lw_at lw_m8 38 rfl) rfl
theorem q1869 : (Jvm.Cond.code ({ cls := "TwelveChainModel", name := "readyBy", desc := "(II)J" } : Jvm.MethodName) prog_17_method_100_code (3 : Nat) (Option.some Jvm.ClassFile.FieldType.long)) ∈ lw_all := lw_g (lw_at lw_m8 39 rfl) rfl
theorem q1870 : (Jvm.Cond.methodLink "TwelveChainModel" (408 : Nat) ({ cls := "TwelveChainModel", name := "sureBy", desc := "(II)J" } : Jvm.MethodName)) ∈ lw_all := lw_g (lw_at lw_m8 40 rfl) rfl
theorem q1871 : (Jvm.Cond.static ({ cls := "TwelveChainModel", name := "sureBy", desc := "(II)J" } : Jvm.MethodName)) ∈ lw_all := lw_g (lw_at lw_m8 41 rfl) rfl
theorem q1872 : (Jvm.Cond.code ({ cls := "TwelveChainModel", name := "sureBy", desc := "(II)J" } : Jvm.MethodName) prog_17_method_99_code (5 : Nat) (Option.some Jvm.ClassFile.FieldType.long)) ∈ lw_all := lw_g (lw_at lw_m8 42 rfl) rfl
theorem q1873 : (Jvm.Cond.constantLong "TwelveChainModel" (406 : Nat) (1000 : Int64)) ∈ lw_all := lw_g (lw_at lw_m8 43 rfl) rfl
theorem q1875 : (Jvm.Cond.instanceMethod ({ cls := "TwelveChainModel", name := "holds", desc := "(II)I" } : Jvm.MethodName)) ∈ lw_all := lw_g (lw_at lw_m8 45 rfl) rfl
theorem q1876 : (Jvm.Cond.selects "TwelveChainModel" ({ cls := "TwelveChainModel", name := "holds", desc := "(II)I" } : Jvm.MethodName) ({ cls := "TwelveChainModel", name := "holds", desc := "(II)I" } : Jvm.MethodName)) ∈ lw_all := lw_g (lw_at lw_m8 46 rfl) rfl
theorem q1877 : (Jvm.Cond.code ({ cls := "TwelveChainModel", name := "holds", desc := "(II)I" } : Jvm.MethodName) prog_17_method_103_code (5 : Nat) (Option.some Jvm.ClassFile.FieldType.int)) ∈ lw_all := lw_g (lw_at lw_m8 47 rfl) rfl
theorem q1879 : (Jvm.Cond.instanceMethod ({ cls := "TwelveChainModel", name := "many", desc := "(II)I" } : Jvm.MethodName)) ∈ lw_all := lw_g (lw_at lw_m8 49 rfl) rfl
theorem q1880 : (Jvm.Cond.selects "TwelveChainModel" ({ cls := "TwelveChainModel", name := "many", desc := "(II)I" } : Jvm.MethodName) ({ cls := "TwelveChainModel", name := "many", desc := "(II)I" } : Jvm.MethodName)) ∈ lw_all := lw_g (lw_at lw_m8 50 rfl) rfl
theorem q1881 : (Jvm.Cond.code ({ cls := "TwelveChainModel", name := "many", desc := "(II)I" } : Jvm.MethodName) prog_17_method_104_code (6 : Nat) (Option.some Jvm.ClassFile.FieldType.int)) ∈ lw_all := lw_g (lw_at lw_m8 51 rfl) rfl
theorem q1882 : (Jvm.Cond.constantLong "TwelveChainModel" (419 : Nat) (500000 : Int64)) ∈ lw_all := lw_g (lw_at lw_m8 52 rfl) rfl
theorem q1884 : (Jvm.Cond.instanceMethod ({ cls := "TwelveChainModel", name := "soon", desc := "(I)I" } : Jvm.MethodName)) ∈ lw_all := lw_g (lw_at lw_m8 54 rfl) rfl
theorem q1885 : (Jvm.Cond.selects "TwelveChainModel" ({ cls := "TwelveChainModel", name := "soon", desc := "(I)I" } : Jvm.MethodName) ({ cls := "TwelveChainModel", name := "soon", desc := "(I)I" } : Jvm.MethodName)) ∈ lw_all := lw_g (lw_at lw_m8 55 rfl) rfl
theorem q1886 : (Jvm.Cond.code ({ cls := "TwelveChainModel", name := "soon", desc := "(I)I" } : Jvm.MethodName) prog_17_method_106_code (3 : Nat) (Option.some Jvm.ClassFile.FieldType.int)) ∈ lw_all := lw_g (lw_at lw_m8 56 rfl) rfl
theorem q1887 : (Jvm.Cond.constant "TwelveChainModel" (421 : Nat) (1000000 : Int32)) ∈ lw_all := lw_g (lw_at lw_m8 57 rfl) rfl
theorem q1889 : (Jvm.Cond.instanceMethod ({ cls := "TwelveChainModel", name := "hurry", desc := "(II)I" } : Jvm.MethodName)) ∈ lw_all := lw_g (lw_at lw_m8 59 rfl) rfl
theorem q1890 : (Jvm.Cond.selects "TwelveChainModel" ({ cls := "TwelveChainModel", name := "hurry", desc := "(II)I" } : Jvm.MethodName) ({ cls := "TwelveChainModel", name := "hurry", desc := "(II)I" } : Jvm.MethodName)) ∈ lw_all := lw_g (lw_at lw_m8 60 rfl) rfl
theorem q1891 : (Jvm.Cond.code ({ cls := "TwelveChainModel", name := "hurry", desc := "(II)I" } : Jvm.MethodName) prog_17_method_108_code (5 : Nat) (Option.some Jvm.ClassFile.FieldType.int)) ∈ lw_all := lw_g (lw_at lw_m8 61 rfl) rfl
theorem q1892 : (Jvm.Cond.methodLink "TwelveChainModel" (422 : Nat) ({ cls := "TwelveChainModel", name := "hurriedBy", desc := "(II)J" } : Jvm.MethodName)) ∈ lw_all := lw_g (lw_at lw_m8 62 rfl) rfl
theorem q1893 : (Jvm.Cond.privateMethod ({ cls := "TwelveChainModel", name := "hurriedBy", desc := "(II)J" } : Jvm.MethodName)) ∈ lw_tbl := lw_at lw_m8 63 rfl
theorem q1894 : (Jvm.Cond.instanceMethod ({ cls := "TwelveChainModel", name := "hurriedBy", desc := "(II)J" } : Jvm.MethodName)) ∈ lw_all := lw_g (lw_at lw_m8 64 rfl) rfl
theorem q1895 : (Jvm.Cond.code ({ cls := "TwelveChainModel", name := "hurriedBy", desc := "(II)J" } : Jvm.MethodName) prog_17_method_107_code (6 : Nat) (Option.some Jvm.ClassFile.FieldType.long)) ∈ lw_all := lw_g (lw_at lw_m8 65 rfl) rfl
theorem q1897 : (Jvm.Cond.instanceMethod ({ cls := "TwelveChainModel", name := "split", desc := "(II)I" } : Jvm.MethodName)) ∈ lw_all := lw_g (lw_at lw_m8 67 rfl) rfl
theorem q1898 : (Jvm.Cond.selects "TwelveChainModel" ({ cls := "TwelveChainModel", name := "split", desc := "(II)I" } : Jvm.MethodName) ({ cls := "TwelveChainModel", name := "split", desc := "(II)I" } : Jvm.MethodName)) ∈ lw_all := lw_g (lw_at lw_m8 68 rfl) rfl
theorem q1899 : (Jvm.Cond.code ({ cls := "TwelveChainModel", name := "split", desc := "(II)I" } : Jvm.MethodName) prog_17_method_109_code (9 : Nat) (Option.some Jvm.ClassFile.FieldType.int)) ∈ lw_all := lw_g (lw_at lw_m8 69 rfl) rfl
theorem q1900 : (Jvm.Cond.constantLong "TwelveChainModel" (425 : Nat) (-1 : Int64)) ∈ lw_all := lw_g (lw_at lw_m8 70 rfl) rfl
theorem q1901 : (Jvm.Cond.methodLink "TwelveChainModel" (427 : Nat) ({ cls := "TwelveChainModel", name := "leastBy", desc := "(II)J" } : Jvm.MethodName)) ∈ lw_all := lw_g (lw_at lw_m8 71 rfl) rfl
theorem q1902 : (Jvm.Cond.privateMethod ({ cls := "TwelveChainModel", name := "leastBy", desc := "(II)J" } : Jvm.MethodName)) ∈ lw_tbl := lw_at lw_m8 72 rfl
theorem q1903 : (Jvm.Cond.instanceMethod ({ cls := "TwelveChainModel", name := "leastBy", desc := "(II)J" } : Jvm.MethodName)) ∈ lw_all := lw_g (lw_at lw_m8 73 rfl) rfl
theorem q1904 : (Jvm.Cond.code ({ cls := "TwelveChainModel", name := "leastBy", desc := "(II)J" } : Jvm.MethodName) prog_17_method_105_code (9 : Nat) (Option.some Jvm.ClassFile.FieldType.long)) ∈ lw_all := lw_g (lw_at lw_m8 74 rfl) rfl
theorem q1906 : (Jvm.Cond.instanceMethod ({ cls := "TwelveChainModel", name := "bridges", desc := "(III)I" } : Jvm.MethodName)) ∈ lw_all := lw_g (lw_at lw_m8 76 rfl) rfl
theorem q1907 : (Jvm.Cond.selects "TwelveChainModel" ({ cls := "TwelveChainModel", name := "bridges", desc := "(III)I" } : Jvm.MethodName) ({ cls := "TwelveChainModel", name := "bridges", desc := "(III)I" } : Jvm.MethodName)) ∈ lw_all := lw_g (lw_at lw_m8 77 rfl) rfl
theorem q1908 : (Jvm.Cond.code ({ cls := "TwelveChainModel", name := "bridges", desc := "(III)I" } : Jvm.MethodName) prog_17_method_112_code (8 : Nat) (Option.some Jvm.ClassFile.FieldType.int)) ∈ lw_all := lw_g (lw_at lw_m8 78 rfl) rfl
theorem q1909 : (Jvm.Cond.methodLink "TwelveChainModel" (430 : Nat) ({ cls := "TwelveChainModel", name := "bridgeable", desc := "()I" } : Jvm.MethodName)) ∈ lw_all := lw_g (lw_at lw_m8 79 rfl) rfl
theorem q1910 : (Jvm.Cond.privateMethod ({ cls := "TwelveChainModel", name := "bridgeable", desc := "()I" } : Jvm.MethodName)) ∈ lw_tbl := lw_at lw_m8 80 rfl
theorem q1911 : (Jvm.Cond.instanceMethod ({ cls := "TwelveChainModel", name := "bridgeable", desc := "()I" } : Jvm.MethodName)) ∈ lw_all := lw_g (lw_at lw_m8 81 rfl) rfl
theorem q1912 : (Jvm.Cond.code ({ cls := "TwelveChainModel", name := "bridgeable", desc := "()I" } : Jvm.MethodName) prog_17_method_111_code (3 : Nat) (Option.some Jvm.ClassFile.FieldType.int)) ∈ lw_all := lw_g (lw_at lw_m8 82 rfl) rfl
theorem q1913 : (Jvm.Cond.methodLink "TwelveChainModel" (433 : Nat) ({ cls := "TwelveChainModel", name := "costsOf", desc := "(I)I" } : Jvm.MethodName)) ∈ lw_all := lw_g (lw_at lw_m8 83 rfl) rfl
theorem q1914 : (Jvm.Cond.privateMethod ({ cls := "TwelveChainModel", name := "costsOf", desc := "(I)I" } : Jvm.MethodName)) ∈ lw_tbl := lw_at lw_m8 84 rfl
theorem q1915 : (Jvm.Cond.instanceMethod ({ cls := "TwelveChainModel", name := "costsOf", desc := "(I)I" } : Jvm.MethodName)) ∈ lw_all := lw_g (lw_at lw_m8 85 rfl) rfl
theorem q1916 : (Jvm.Cond.code ({ cls := "TwelveChainModel", name := "costsOf", desc := "(I)I" } : Jvm.MethodName) prog_17_method_110_code (4 : Nat) (Option.some Jvm.ClassFile.FieldType.int)) ∈ lw_all := lw_g (lw_at lw_m8 86 rfl) rfl
theorem q1918 : (Jvm.Cond.instanceMethod ({ cls := "TwelveChainModel", name := "share", desc := "(II)I" } : Jvm.MethodName)) ∈ lw_all := lw_g (lw_at lw_m8 88 rfl) rfl
theorem q1919 : (Jvm.Cond.selects "TwelveChainModel" ({ cls := "TwelveChainModel", name := "share", desc := "(II)I" } : Jvm.MethodName) ({ cls := "TwelveChainModel", name := "share", desc := "(II)I" } : Jvm.MethodName)) ∈ lw_all := lw_g (lw_at lw_m8 89 rfl) rfl
theorem q1920 : (Jvm.Cond.code ({ cls := "TwelveChainModel", name := "share", desc := "(II)I" } : Jvm.MethodName) prog_17_method_115_code (6 : Nat) (Option.some Jvm.ClassFile.FieldType.int)) ∈ lw_all := lw_g (lw_at lw_m8 90 rfl) rfl
theorem q1921 : (Jvm.Cond.methodLink "TwelveChainModel" (439 : Nat) ({ cls := "TwelveChainModel", name := "givenBy", desc := "(I)I" } : Jvm.MethodName)) ∈ lw_all := lw_g (lw_at lw_m8 91 rfl) rfl
theorem q1922 : (Jvm.Cond.privateMethod ({ cls := "TwelveChainModel", name := "givenBy", desc := "(I)I" } : Jvm.MethodName)) ∈ lw_tbl := lw_at lw_m8 92 rfl
theorem q1923 : (Jvm.Cond.instanceMethod ({ cls := "TwelveChainModel", name := "givenBy", desc := "(I)I" } : Jvm.MethodName)) ∈ lw_all := lw_g (lw_at lw_m8 93 rfl) rfl
theorem q1924 : (Jvm.Cond.code ({ cls := "TwelveChainModel", name := "givenBy", desc := "(I)I" } : Jvm.MethodName) prog_17_method_114_code (4 : Nat) (Option.some Jvm.ClassFile.FieldType.int)) ∈ lw_all := lw_g (lw_at lw_m8 94 rfl) rfl
theorem q1925 : (Jvm.Cond.methodLink "TwelveChainModel" (436 : Nat) ({ cls := "TwelveChainModel", name := "isGiving", desc := "(I)Z" } : Jvm.MethodName)) ∈ lw_all := lw_g (lw_at lw_m8 95 rfl) rfl
theorem q1926 : (Jvm.Cond.privateMethod ({ cls := "TwelveChainModel", name := "isGiving", desc := "(I)Z" } : Jvm.MethodName)) ∈ lw_tbl := lw_at lw_m8 96 rfl
theorem q1927 : (Jvm.Cond.instanceMethod ({ cls := "TwelveChainModel", name := "isGiving", desc := "(I)Z" } : Jvm.MethodName)) ∈ lw_all := lw_g (lw_at lw_m8 97 rfl) rfl
theorem q1928 : (Jvm.Cond.code ({ cls := "TwelveChainModel", name := "isGiving", desc := "(I)Z" } : Jvm.MethodName) prog_17_method_113_code (2 : Nat) (Option.some Jvm.ClassFile.FieldType.boolean)) ∈ lw_all := lw_g (lw_at lw_m8 98 rfl) rfl
theorem q1930 : (Jvm.Cond.instanceMethod ({ cls := "TwelveChainModel", name := "along", desc := "(III)I" } : Jvm.MethodName)) ∈ lw_all := lw_g (lw_at lw_m8 100 rfl) rfl
theorem q1931 : (Jvm.Cond.selects "TwelveChainModel" ({ cls := "TwelveChainModel", name := "along", desc := "(III)I" } : Jvm.MethodName) ({ cls := "TwelveChainModel", name := "along", desc := "(III)I" } : Jvm.MethodName)) ∈ lw_all := lw_g (lw_at lw_m8 101 rfl) rfl
theorem q1932 : (Jvm.Cond.code ({ cls := "TwelveChainModel", name := "along", desc := "(III)I" } : Jvm.MethodName) prog_17_method_116_code (8 : Nat) (Option.some Jvm.ClassFile.FieldType.int)) ∈ lw_all := lw_g (lw_at lw_m8 102 rfl) rfl
theorem q1934 : (Jvm.Cond.instanceMethod ({ cls := "TwelveChainModel", name := "choice", desc := "(IIII)I" } : Jvm.MethodName)) ∈ lw_all := lw_g (lw_at lw_m8 104 rfl) rfl
theorem q1935 : (Jvm.Cond.selects "TwelveChainModel" ({ cls := "TwelveChainModel", name := "choice", desc := "(IIII)I" } : Jvm.MethodName) ({ cls := "TwelveChainModel", name := "choice", desc := "(IIII)I" } : Jvm.MethodName)) ∈ lw_all := lw_g (lw_at lw_m8 105 rfl) rfl
theorem q1936 : (Jvm.Cond.code ({ cls := "TwelveChainModel", name := "choice", desc := "(IIII)I" } : Jvm.MethodName) prog_17_method_118_code (9 : Nat) (Option.some Jvm.ClassFile.FieldType.int)) ∈ lw_all := lw_g (lw_at lw_m8 106 rfl) rfl
theorem q1937 : (Jvm.Cond.methodLink "TwelveChainModel" (442 : Nat) ({ cls := "TwelveChainModel", name := "downwards", desc := "(II)I" } : Jvm.MethodName)) ∈ lw_all := lw_g (lw_at lw_m8 107 rfl) rfl
theorem q1938 : (Jvm.Cond.static ({ cls := "TwelveChainModel", name := "downwards", desc := "(II)I" } : Jvm.MethodName)) ∈ lw_all := lw_g (lw_at lw_m8 108 rfl) rfl
theorem q1939 : (Jvm.Cond.code ({ cls := "TwelveChainModel", name := "downwards", desc := "(II)I" } : Jvm.MethodName) prog_17_method_117_code (2 : Nat) (Option.some Jvm.ClassFile.FieldType.int)) ∈ lw_all := lw_g (lw_at lw_m8 109 rfl) rfl
theorem q1941 : (Jvm.Cond.instanceMethod ({ cls := "TwelveChainModel", name := "bluff", desc := "(III)I" } : Jvm.MethodName)) ∈ lw_all := lw_g (lw_at lw_m8 111 rfl) rfl
theorem q1942 : (Jvm.Cond.selects "TwelveChainModel" ({ cls := "TwelveChainModel", name := "bluff", desc := "(III)I" } : Jvm.MethodName) ({ cls := "TwelveChainModel", name := "bluff", desc := "(III)I" } : Jvm.MethodName)) ∈ lw_all := lw_g (lw_at lw_m8 112 rfl) rfl
theorem q1943 : (Jvm.Cond.code ({ cls := "TwelveChainModel", name := "bluff", desc := "(III)I" } : Jvm.MethodName) prog_17_method_119_code (8 : Nat) (Option.some Jvm.ClassFile.FieldType.int)) ∈ lw_all := lw_g (lw_at lw_m8 113 rfl) rfl
theorem q1945 : (Jvm.Cond.instanceMethod ({ cls := "TwelveChainModel", name := "gap", desc := "(I)I" } : Jvm.MethodName)) ∈ lw_all := lw_g (lw_at lw_m8 115 rfl) rfl
theorem q1946 : (Jvm.Cond.selects "TwelveChainModel" ({ cls := "TwelveChainModel", name := "gap", desc := "(I)I" } : Jvm.MethodName) ({ cls := "TwelveChainModel", name := "gap", desc := "(I)I" } : Jvm.MethodName)) ∈ lw_all := lw_g (lw_at lw_m8 116 rfl) rfl
theorem q1947 : (Jvm.Cond.code ({ cls := "TwelveChainModel", name := "gap", desc := "(I)I" } : Jvm.MethodName) prog_17_method_120_code (2 : Nat) (Option.some Jvm.ClassFile.FieldType.int)) ∈ lw_all := lw_g (lw_at lw_m8 117 rfl) rfl
theorem q1949 : (Jvm.Cond.instanceMethod ({ cls := "TwelveChainModel", name := "runs", desc := "(I)I" } : Jvm.MethodName)) ∈ lw_all := lw_g (lw_at lw_m8 119 rfl) rfl
theorem q1950 : (Jvm.Cond.selects "TwelveChainModel" ({ cls := "TwelveChainModel", name := "runs", desc := "(I)I" } : Jvm.MethodName) ({ cls := "TwelveChainModel", name := "runs", desc := "(I)I" } : Jvm.MethodName)) ∈ lw_all := lw_g (lw_at lw_m8 120 rfl) rfl
theorem q1951 : (Jvm.Cond.code ({ cls := "TwelveChainModel", name := "runs", desc := "(I)I" } : Jvm.MethodName) prog_17_method_122_code (7 : Nat) (Option.some Jvm.ClassFile.FieldType.int)) ∈ lw_all := lw_g (lw_at lw_m8 121 rfl) rfl
theorem q1952 : (Jvm.Cond.methodLink "TwelveChainModel" (445 : Nat) ({ cls := "TwelveChainModel", name := "isRunning", desc := "(I)Z" } : Jvm.MethodName)) ∈ lw_all := lw_g (lw_at lw_m8 122 rfl) rfl
theorem q1953 : (Jvm.Cond.privateMethod ({ cls := "TwelveChainModel", name := "isRunning", desc := "(I)Z" } : Jvm.MethodName)) ∈ lw_tbl := lw_at lw_m8 123 rfl
theorem q1954 : (Jvm.Cond.instanceMethod ({ cls := "TwelveChainModel", name := "isRunning", desc := "(I)Z" } : Jvm.MethodName)) ∈ lw_all := lw_g (lw_at lw_m8 124 rfl) rfl
theorem q1955 : (Jvm.Cond.code ({ cls := "TwelveChainModel", name := "isRunning", desc := "(I)Z" } : Jvm.MethodName) prog_17_method_121_code (2 : Nat) (Option.some Jvm.ClassFile.FieldType.boolean)) ∈ lw_all := lw_g (lw_at lw_m8 125 rfl) rfl
theorem q1957 : (Jvm.Cond.instanceMethod ({ cls := "TwelveChainModel", name := "signs", desc := "(I)I" } : Jvm.MethodName)) ∈ lw_all := lw_g (lw_at lw_m8 127 rfl) rfl
theorem q1958 : (Jvm.Cond.selects "TwelveChainModel" ({ cls := "TwelveChainModel", name := "signs", desc := "(I)I" } : Jvm.MethodName) ({ cls := "TwelveChainModel", name := "signs", desc := "(I)I" } : Jvm.MethodName)) ∈ lw_all := lw_g (lw_at lw_m8 128 rfl) rfl
theorem q1959 : (Jvm.Cond.code ({ cls := "TwelveChainModel", name := "signs", desc := "(I)I" } : Jvm.MethodName) prog_17_method_126_code (8 : Nat) (Option.some Jvm.ClassFile.FieldType.int)) ∈ lw_all := lw_g (lw_at lw_m8 129 rfl) rfl
theorem q1960 : (Jvm.Cond.methodLink "TwelveChainModel" (449 : Nat) ({ cls := "TwelveChainModel", name := "laysSigns", desc := "(II)V" } : Jvm.MethodName)) ∈ lw_all := lw_g (lw_at lw_m8 130 rfl) rfl
theorem q1961 : (Jvm.Cond.privateMethod ({ cls := "TwelveChainModel", name := "laysSigns", desc := "(II)V" } : Jvm.MethodName)) ∈ lw_tbl := lw_at lw_m8 131 rfl
theorem q1962 : (Jvm.Cond.instanceMethod ({ cls := "TwelveChainModel", name := "laysSigns", desc := "(II)V" } : Jvm.MethodName)) ∈ lw_all := lw_g (lw_at lw_m8 132 rfl) rfl
theorem q1963 : (Jvm.Cond.code ({ cls := "TwelveChainModel", name := "laysSigns", desc := "(II)V" } : Jvm.MethodName) prog_17_method_123_code (7 : Nat) (Option.none : Option Jvm.ClassFile.FieldType)) ∈ lw_all := lw_g (lw_at lw_m8 133 rfl) rfl
theorem q1964 : (Jvm.Cond.constant "TwelveChainModel" (448 : Nat) (1000000000 : Int32)) ∈ lw_all := lw_g (lw_at lw_m8 134 rfl) rfl
theorem q1965 : (Jvm.Cond.methodLink "TwelveChainModel" (452 : Nat) ({ cls := "TwelveChainModel", name := "mostSigned", desc := "()I" } : Jvm.MethodName)) ∈ lw_all := lw_g (lw_at lw_m8 135 rfl) rfl
theorem q1966 : (Jvm.Cond.privateMethod ({ cls := "TwelveChainModel", name := "mostSigned", desc := "()I" } : Jvm.MethodName)) ∈ lw_tbl := lw_at lw_m8 136 rfl
theorem q1967 : (Jvm.Cond.instanceMethod ({ cls := "TwelveChainModel", name := "mostSigned", desc := "()I" } : Jvm.MethodName)) ∈ lw_all := lw_g (lw_at lw_m8 137 rfl) rfl
theorem q1968 : (Jvm.Cond.code ({ cls := "TwelveChainModel", name := "mostSigned", desc := "()I" } : Jvm.MethodName) prog_17_method_124_code (3 : Nat) (Option.some Jvm.ClassFile.FieldType.int)) ∈ lw_all := lw_g (lw_at lw_m8 138 rfl) rfl
theorem q1969 : (Jvm.Cond.methodLink "TwelveChainModel" (455 : Nat) ({ cls := "TwelveChainModel", name := "signsNext", desc := "(III)I" } : Jvm.MethodName)) ∈ lw_all := lw_g (lw_at lw_m8 139 rfl) rfl
theorem q1970 : (Jvm.Cond.privateMethod ({ cls := "TwelveChainModel", name := "signsNext", desc := "(III)I" } : Jvm.MethodName)) ∈ lw_tbl := lw_at lw_m8 140 rfl
theorem q1971 : (Jvm.Cond.instanceMethod ({ cls := "TwelveChainModel", name := "signsNext", desc := "(III)I" } : Jvm.MethodName)) ∈ lw_all := lw_g (lw_at lw_m8 141 rfl) rfl
theorem q1972 : (Jvm.Cond.code ({ cls := "TwelveChainModel", name := "signsNext", desc := "(III)I" } : Jvm.MethodName) prog_17_method_125_code (7 : Nat) (Option.some Jvm.ClassFile.FieldType.int)) ∈ lw_all := lw_g (lw_at lw_m8 142 rfl) rfl
theorem q1974 : (Jvm.Cond.instanceMethod ({ cls := "TwelveChainModel", name := "money", desc := "(II)I" } : Jvm.MethodName)) ∈ lw_all := lw_g (lw_at lw_m8 144 rfl) rfl
theorem q1975 : (Jvm.Cond.selects "TwelveChainModel" ({ cls := "TwelveChainModel", name := "money", desc := "(II)I" } : Jvm.MethodName) ({ cls := "TwelveChainModel", name := "money", desc := "(II)I" } : Jvm.MethodName)) ∈ lw_all := lw_g (lw_at lw_m8 145 rfl) rfl
theorem q1976 : (Jvm.Cond.code ({ cls := "TwelveChainModel", name := "money", desc := "(II)I" } : Jvm.MethodName) prog_17_method_127_code (6 : Nat) (Option.some Jvm.ClassFile.FieldType.int)) ∈ lw_all := lw_g (lw_at lw_m8 146 rfl) rfl
theorem q1978 : (Jvm.Cond.instanceMethod ({ cls := "TwelveChainModel", name := "ill", desc := "(II)I" } : Jvm.MethodName)) ∈ lw_all := lw_g (lw_at lw_m8 148 rfl) rfl
theorem q1979 : (Jvm.Cond.selects "TwelveChainModel" ({ cls := "TwelveChainModel", name := "ill", desc := "(II)I" } : Jvm.MethodName) ({ cls := "TwelveChainModel", name := "ill", desc := "(II)I" } : Jvm.MethodName)) ∈ lw_all := lw_g (lw_at lw_m8 149 rfl) rfl
theorem q1980 : (Jvm.Cond.code ({ cls := "TwelveChainModel", name := "ill", desc := "(II)I" } : Jvm.MethodName) prog_17_method_128_code (5 : Nat) (Option.some Jvm.ClassFile.FieldType.int)) ∈ lw_all := lw_g (lw_at lw_m8 150 rfl) rfl
theorem q1982 : (Jvm.Cond.instanceMethod ({ cls := "TwelveChainModel", name := "wrote", desc := "()I" } : Jvm.MethodName)) ∈ lw_all := lw_g (lw_at lw_m8 152 rfl) rfl
theorem q1983 : (Jvm.Cond.selects "TwelveChainModel" ({ cls := "TwelveChainModel", name := "wrote", desc := "()I" } : Jvm.MethodName) ({ cls := "TwelveChainModel", name := "wrote", desc := "()I" } : Jvm.MethodName)) ∈ lw_all := lw_g (lw_at lw_m8 153 rfl) rfl
theorem q1984 : (Jvm.Cond.code ({ cls := "TwelveChainModel", name := "wrote", desc := "()I" } : Jvm.MethodName) prog_17_method_130_code (3 : Nat) (Option.some Jvm.ClassFile.FieldType.int)) ∈ lw_all := lw_g (lw_at lw_m8 154 rfl) rfl
theorem q1985 : (Jvm.Cond.methodLink "TwelveChainModel" (458 : Nat) ({ cls := "TwelveChainModel", name := "greaterBy", desc := "(I)I" } : Jvm.MethodName)) ∈ lw_all := lw_g (lw_at lw_m8 155 rfl) rfl
theorem q1986 : (Jvm.Cond.privateMethod ({ cls := "TwelveChainModel", name := "greaterBy", desc := "(I)I" } : Jvm.MethodName)) ∈ lw_tbl := lw_at lw_m8 156 rfl
theorem q1987 : (Jvm.Cond.instanceMethod ({ cls := "TwelveChainModel", name := "greaterBy", desc := "(I)I" } : Jvm.MethodName)) ∈ lw_all := lw_g (lw_at lw_m8 157 rfl) rfl
theorem q1988 : (Jvm.Cond.code ({ cls := "TwelveChainModel", name := "greaterBy", desc := "(I)I" } : Jvm.MethodName) prog_17_method_129_code (4 : Nat) (Option.some Jvm.ClassFile.FieldType.int)) ∈ lw_all := lw_g (lw_at lw_m8 158 rfl) rfl
theorem q1990 : (Jvm.Cond.instanceMethod ({ cls := "TwelveChainModel", name := "slowest", desc := "()I" } : Jvm.MethodName)) ∈ lw_all := lw_g (lw_at lw_m8 160 rfl) rfl
theorem q1991 : (Jvm.Cond.selects "TwelveChainModel" ({ cls := "TwelveChainModel", name := "slowest", desc := "()I" } : Jvm.MethodName) ({ cls := "TwelveChainModel", name := "slowest", desc := "()I" } : Jvm.MethodName)) ∈ lw_all := lw_g (lw_at lw_m8 161 rfl) rfl
theorem q1992 : (Jvm.Cond.code ({ cls := "TwelveChainModel", name := "slowest", desc := "()I" } : Jvm.MethodName) prog_17_method_131_code (3 : Nat) (Option.some Jvm.ClassFile.FieldType.int)) ∈ lw_all := lw_g (lw_at lw_m8 162 rfl) rfl
theorem q1994 : (Jvm.Cond.instanceMethod ({ cls := "TwelveChainModel", name := "game", desc := "(I)I" } : Jvm.MethodName)) ∈ lw_all := lw_g (lw_at lw_m8 164 rfl) rfl
theorem q1995 : (Jvm.Cond.selects "TwelveChainModel" ({ cls := "TwelveChainModel", name := "game", desc := "(I)I" } : Jvm.MethodName) ({ cls := "TwelveChainModel", name := "game", desc := "(I)I" } : Jvm.MethodName)) ∈ lw_all := lw_g (lw_at lw_m8 165 rfl) rfl
theorem q1996 : (Jvm.Cond.code ({ cls := "TwelveChainModel", name := "game", desc := "(I)I" } : Jvm.MethodName) prog_17_method_133_code (5 : Nat) (Option.some Jvm.ClassFile.FieldType.int)) ∈ lw_all := lw_g (lw_at lw_m8 166 rfl) rfl
theorem q1997 : (Jvm.Cond.methodLink "TwelveChainModel" (461 : Nat) ({ cls := "TwelveChainModel", name := "heapOf", desc := "(I)I" } : Jvm.MethodName)) ∈ lw_all := lw_g (lw_at lw_m8 167 rfl) rfl
theorem q1998 : (Jvm.Cond.privateMethod ({ cls := "TwelveChainModel", name := "heapOf", desc := "(I)I" } : Jvm.MethodName)) ∈ lw_tbl := lw_at lw_m8 168 rfl
theorem q1999 : (Jvm.Cond.instanceMethod ({ cls := "TwelveChainModel", name := "heapOf", desc := "(I)I" } : Jvm.MethodName)) ∈ lw_all := lw_g (lw_at lw_m8 169 rfl) rfl
theorem q2000 : (Jvm.Cond.code ({ cls := "TwelveChainModel", name := "heapOf", desc := "(I)I" } : Jvm.MethodName) prog_17_method_132_code (2 : Nat) (Option.some Jvm.ClassFile.FieldType.int)) ∈ lw_all := lw_g (lw_at lw_m8 170 rfl) rfl
theorem q2002 : (Jvm.Cond.instanceMethod ({ cls := "TwelveChainModel", name := "image", desc := "(Z)Z" } : Jvm.MethodName)) ∈ lw_all := lw_g (lw_at lw_m8 172 rfl) rfl
theorem q2003 : (Jvm.Cond.selects "TwelveChainModel" ({ cls := "TwelveChainModel", name := "image", desc := "(Z)Z" } : Jvm.MethodName) ({ cls := "TwelveChainModel", name := "image", desc := "(Z)Z" } : Jvm.MethodName)) ∈ lw_all := lw_g (lw_at lw_m8 173 rfl) rfl
theorem q2004 : (Jvm.Cond.code ({ cls := "TwelveChainModel", name := "image", desc := "(Z)Z" } : Jvm.MethodName) prog_17_method_134_code (3 : Nat) (Option.some Jvm.ClassFile.FieldType.boolean)) ∈ lw_all := lw_g (lw_at lw_m8 174 rfl) rfl
theorem q2006 : (Jvm.Cond.instanceMethod ({ cls := "TwelveChainModel", name := "look", desc := "(I)I" } : Jvm.MethodName)) ∈ lw_all := lw_g (lw_at lw_m8 176 rfl) rfl
theorem q2007 : (Jvm.Cond.selects "TwelveChainModel" ({ cls := "TwelveChainModel", name := "look", desc := "(I)I" } : Jvm.MethodName) ({ cls := "TwelveChainModel", name := "look", desc := "(I)I" } : Jvm.MethodName)) ∈ lw_all := lw_g (lw_at lw_m8 177 rfl) rfl
theorem q2008 : (Jvm.Cond.code ({ cls := "TwelveChainModel", name := "look", desc := "(I)I" } : Jvm.MethodName) prog_17_method_135_code (2 : Nat) (Option.some Jvm.ClassFile.FieldType.int)) ∈ lw_all := lw_g (lw_at lw_m8 178 rfl) rfl
theorem in_X3 : ∀ w ∈ wsX30, w ∈ lw_all := lw_in wsX30 [1392, 1394, 1396, 1398, 1400, 1402, 1404, 1406, 1408, 1410, 1412, 1414, 1416, 1418, 1420, 1422, 1424, 1426, 1428, 1430, 1432, 1434, 1436, 1438, 1440, 1442, 1444, 1446] (by decide +kernel) (by decide +kernel)
