/-! TwelveChain -/
set_option maxRecDepth 100000
def RX0 : String := "TwelveChain"
def TX0 : u_T := fun k => match k with
  | 0 => ("TwelveChain", "tape", "[B", true)
  | 1 => ("TwelveChain", "taped", "I", false)
  | 2 => ("TwelveChain", "firstWords", "[[Ljava/lang/String;", true)
  | 3 => ("TwelveChain", "lawAsked", "[Ljava/lang/String;", true)
  | 4 => ("TwelveChain", "others", "[Ljava/lang/String;", true)
  | 5 => ("TwelveChain", "nothing", "[Ljava/lang/String;", true)
  | 6 => ("TwelveChain", "words", "[Ljava/lang/String;", false)
  | 7 => ("TwelveChain", "asked", "[Ljava/lang/String;", false)
  | 8 => ("TwelveChain", "joins", "[Ljava/lang/String;", false)
  | 9 => ("TwelveChain", "token", "LTwelveChain$Token;", false)
  | 10 => ("TwelveChain", "spot", "I", false)
  | 11 => ("TwelveChain", "from", "I", false)
  | 12 => ("TwelveChain", "value", "I", false)
  | 13 => ("TwelveChain", "open", "I", false)
  | 14 => ("TwelveChain", "faultKind", "I", false)
  | 15 => ("TwelveChain", "faultPlace", "I", false)
  | 16 => ("TwelveChain", "law", "LTwelveChain$Text;", false)
  | 17 => ("TwelveChain", "lawHas", "[I", true)
  | 18 => ("TwelveChain", "plan", "[LTwelveChain$Deed;", false)
  | 19 => ("TwelveChain", "phones", "[LTwelveChain$Phone;", false)
  | 20 => ("TwelveChain", "records", "[LTwelveChain$Wrote;", false)
  | 21 => ("TwelveChain", "many", "I", false)
  | 22 => ("TwelveChain", "chain", "LTwelveChain$Chain;", true)
  | 23 => ("TwelveChain", "thought", "LTwelveChain$Chain;", true)
  | 24 => ("TwelveChain", "kept", "LTwelveChain$Chain;", true)
  | 25 => ("TwelveChain", "book", "[I", true)
  | 26 => ("TwelveChain", "ahead", "[LTwelveChain$Chain;", true)
  | 27 => ("TwelveChain", "undoable", "I", false)
  | 28 => ("TwelveChain", "signedAt", "[I", true)
  | 29 => ("TwelveChain", "opens", "[I", true)
  | 30 => ("TwelveChain", "closes", "[I", true)
  | 31 => ("TwelveChain", "keptBook", "[I", true)
  | 32 => ("TwelveChain", "keptMany", "I", false)
  | 33 => ("TwelveChain", "keptPlan", "[LTwelveChain$Deed;", false)
  | 34 => ("TwelveChain", "keptPhones", "[LTwelveChain$Phone;", false)
  | 35 => ("TwelveChain", "keptRecords", "[LTwelveChain$Wrote;", false)
  | _ => ("TwelveChain", "keptLaw", "LTwelveChain$Text;", false)
def tyX0 : Nat → FieldType := fun k => match k with
  | 0 => .array .byte
  | 1 => .int
  | 2 => .array (.array (.object "java/lang/String"))
  | 3 => .array (.object "java/lang/String")
  | 4 => .array (.object "java/lang/String")
  | 5 => .array (.object "java/lang/String")
  | 6 => .array (.object "java/lang/String")
  | 7 => .array (.object "java/lang/String")
  | 8 => .array (.object "java/lang/String")
  | 9 => .object "TwelveChain$Token"
  | 10 => .int
  | 11 => .int
  | 12 => .int
  | 13 => .int
  | 14 => .int
  | 15 => .int
  | 16 => .object "TwelveChain$Text"
  | 17 => .array .int
  | 18 => .array (.object "TwelveChain$Deed")
  | 19 => .array (.object "TwelveChain$Phone")
  | 20 => .array (.object "TwelveChain$Wrote")
  | 21 => .int
  | 22 => .object "TwelveChain$Chain"
  | 23 => .object "TwelveChain$Chain"
  | 24 => .object "TwelveChain$Chain"
  | 25 => .array .int
  | 26 => .array (.object "TwelveChain$Chain")
  | 27 => .int
  | 28 => .array .int
  | 29 => .array .int
  | 30 => .array .int
  | 31 => .array .int
  | 32 => .int
  | 33 => .array (.object "TwelveChain$Deed")
  | 34 => .array (.object "TwelveChain$Phone")
  | 35 => .array (.object "TwelveChain$Wrote")
  | _ => .object "TwelveChain$Text"
abbrev wsX00 : List Cond := u_ws RX0 TX0 37
set_option maxRecDepth 100000 in
theorem nmX0 : ∀ a, a < 37 → ∀ b, b < 37 → a ≠ b → (TX0 a).2.1 ≠ (TX0 b).2.1 := by decide +kernel
set_option maxRecDepth 100000 in
theorem tyX0_ok : ∀ k, k < 37 → parseFieldDescriptor (TX0 k).2.2.1 = some (tyX0 k) := by decide +kernel
abbrev cX0_init : ByteArray := prog_1_method_8_code
def yX0_init : MethodName := ⟨RX0, "<init>", "()V"⟩
def dkwX0_init_15 : List UInt8 := [16, 12, 188, 10, 181, 0, 175, 42, 17, 2, 88, 188, 10, 181, 0, 178, 177]
abbrev dktX0_init_15 : List UInt8 := dkwX0_init_15 ++ []
def dkwX0_init_14 : List UInt8 := [189, 0, 147, 181, 0, 165, 42, 17, 16, 0, 188, 10, 181, 0, 169, 42, 16, 12, 188, 10, 181, 0, 172, 42]
abbrev dktX0_init_14 : List UInt8 := dkwX0_init_14 ++ dktX0_init_15
def dkwX0_init_13 : List UInt8 := [187, 0, 147, 89, 42, 183, 0, 149, 181, 0, 159, 42, 17, 2, 88, 188, 10, 181, 0, 162, 42, 16, 6]
abbrev dktX0_init_13 : List UInt8 := dkwX0_init_13 ++ dktX0_init_14
def dkwX0_init_12 : List UInt8 := [187, 0, 147, 89, 42, 183, 0, 149, 181, 0, 152, 42, 187, 0, 147, 89, 42, 183, 0, 149, 181, 0, 156, 42]
abbrev dktX0_init_12 : List UInt8 := dkwX0_init_12 ++ dktX0_init_13
def dkwX0_init_11 : List UInt8 := [189, 0, 129, 181, 0, 131, 42, 3, 189, 0, 135, 181, 0, 137, 42, 3, 189, 0, 141, 181, 0, 143, 42]
abbrev dktX0_init_11 : List UInt8 := dkwX0_init_11 ++ dktX0_init_12
def dkwX0_init_10 : List UInt8 := [181, 0, 114, 42, 187, 0, 118, 89, 183, 0, 120, 181, 0, 121, 42, 16, 9, 188, 10, 181, 0, 125, 42, 3]
abbrev dktX0_init_10 : List UInt8 := dkwX0_init_10 ++ dktX0_init_11
def dkwX0_init_9 : List UInt8 := [180, 0, 102, 181, 0, 105, 42, 42, 180, 0, 102, 181, 0, 108, 42, 42, 180, 0, 102, 181, 0, 111, 42, 2]
abbrev dktX0_init_9 : List UInt8 := dkwX0_init_9 ++ dktX0_init_10
def dkwX0_init_8 : List UInt8 := [83, 89, 5, 18, 95, 83, 89, 6, 18, 97, 83, 181, 0, 99, 42, 3, 189, 0, 42, 181, 0, 102, 42, 42]
abbrev dktX0_init_8 : List UInt8 := dkwX0_init_8 ++ dktX0_init_9
def dkwX0_init_7 : List UInt8 := [83, 89, 16, 8, 18, 86, 83, 181, 0, 88, 42, 7, 189, 0, 42, 89, 3, 18, 91, 83, 89, 4, 18, 93]
abbrev dktX0_init_7 : List UInt8 := dkwX0_init_7 ++ dktX0_init_8
def dkwX0_init_6 : List UInt8 := [18, 78, 83, 89, 7, 18, 80, 83, 89, 8, 18, 68, 83, 89, 16, 6, 18, 82, 83, 89, 16, 7, 18, 84]
abbrev dktX0_init_6 : List UInt8 := dkwX0_init_6 ++ dktX0_init_7
def dkwX0_init_5 : List UInt8 := [42, 16, 9, 189, 0, 42, 89, 3, 18, 62, 83, 89, 4, 18, 74, 83, 89, 5, 18, 76, 83, 89, 6]
abbrev dktX0_init_5 : List UInt8 := dkwX0_init_5 ++ dktX0_init_6
def dkwX0_init_4 : List UInt8 := [18, 66, 83, 83, 89, 6, 5, 189, 0, 42, 89, 3, 18, 68, 83, 89, 4, 18, 62, 83, 83, 181, 0, 70]
abbrev dktX0_init_4 : List UInt8 := dkwX0_init_4 ++ dktX0_init_5
def dkwX0_init_3 : List UInt8 := [7, 18, 60, 83, 83, 89, 5, 6, 189, 0, 42, 89, 3, 18, 62, 83, 89, 4, 18, 64, 83, 89, 5]
abbrev dktX0_init_3 : List UInt8 := dkwX0_init_3 ++ dktX0_init_4
def dkwX0_init_2 : List UInt8 := [189, 0, 42, 89, 3, 18, 52, 83, 89, 4, 18, 54, 83, 89, 5, 18, 56, 83, 89, 6, 18, 58, 83, 89]
abbrev dktX0_init_2 : List UInt8 := dkwX0_init_2 ++ dktX0_init_3
def dkwX0_init_1 : List UInt8 := [89, 3, 18, 44, 83, 89, 4, 18, 46, 83, 89, 5, 18, 48, 83, 89, 6, 18, 50, 83, 83, 89, 4, 8]
abbrev dktX0_init_1 : List UInt8 := dkwX0_init_1 ++ dktX0_init_2
def dkwX0_init_0 : List UInt8 := [42, 183, 0, 30, 42, 17, 1, 144, 188, 8, 181, 0, 36, 42, 7, 189, 0, 40, 89, 3, 7, 189, 0, 42]
abbrev dktX0_init_0 : List UInt8 := dkwX0_init_0 ++ dktX0_init_1
theorem dksX0_init_0 : cX0_init.data.toList.drop 0 = dktX0_init_0 := by decide +kernel
theorem dksX0_init_1 : cX0_init.data.toList.drop 24 = dktX0_init_1 := dk_seg dksX0_init_0 24 rfl rfl
theorem dksX0_init_2 : cX0_init.data.toList.drop 48 = dktX0_init_2 := dk_seg dksX0_init_1 24 rfl rfl
theorem dksX0_init_3 : cX0_init.data.toList.drop 72 = dktX0_init_3 := dk_seg dksX0_init_2 24 rfl rfl
theorem dksX0_init_4 : cX0_init.data.toList.drop 95 = dktX0_init_4 := dk_seg dksX0_init_3 23 rfl rfl
theorem dksX0_init_5 : cX0_init.data.toList.drop 119 = dktX0_init_5 := dk_seg dksX0_init_4 24 rfl rfl
theorem dksX0_init_6 : cX0_init.data.toList.drop 142 = dktX0_init_6 := dk_seg dksX0_init_5 23 rfl rfl
theorem dksX0_init_7 : cX0_init.data.toList.drop 166 = dktX0_init_7 := dk_seg dksX0_init_6 24 rfl rfl
theorem dksX0_init_8 : cX0_init.data.toList.drop 190 = dktX0_init_8 := dk_seg dksX0_init_7 24 rfl rfl
theorem dksX0_init_9 : cX0_init.data.toList.drop 214 = dktX0_init_9 := dk_seg dksX0_init_8 24 rfl rfl
theorem dksX0_init_10 : cX0_init.data.toList.drop 238 = dktX0_init_10 := dk_seg dksX0_init_9 24 rfl rfl
theorem dksX0_init_11 : cX0_init.data.toList.drop 262 = dktX0_init_11 := dk_seg dksX0_init_10 24 rfl rfl
theorem dksX0_init_12 : cX0_init.data.toList.drop 285 = dktX0_init_12 := dk_seg dksX0_init_11 23 rfl rfl
theorem dksX0_init_13 : cX0_init.data.toList.drop 309 = dktX0_init_13 := dk_seg dksX0_init_12 24 rfl rfl
theorem dksX0_init_14 : cX0_init.data.toList.drop 332 = dktX0_init_14 := dk_seg dksX0_init_13 23 rfl rfl
theorem dksX0_init_15 : cX0_init.data.toList.drop 356 = dktX0_init_15 := dk_seg dksX0_init_14 24 rfl rfl
theorem dX0_init_0 : decode cX0_init 0 = .ok (.aload_n 0, 1) := dk_42 (dk_at dksX0_init_0 0 rfl rfl)
theorem dX0_init_1 : decode cX0_init 1 = .ok (.invokespecial 30, 3) := dk_183 0 30 (dk_at dksX0_init_0 1 rfl rfl)
theorem dX0_init_4 : decode cX0_init 4 = .ok (.aload_n 0, 1) := dk_42 (dk_at dksX0_init_0 4 rfl rfl)
theorem dX0_init_5 : decode cX0_init 5 = .ok (.sipush 400, 3) := dk_17 1 144 (dk_at dksX0_init_0 5 rfl rfl)
theorem dX0_init_8 : decode cX0_init 8 = .ok (.newarray .byte, 2) := dk_188_8 (dk_at dksX0_init_0 8 rfl rfl)
theorem dX0_init_10 : decode cX0_init 10 = .ok (.putfield 36, 3) := dk_181 0 36 (dk_at dksX0_init_0 10 rfl rfl)
theorem dX0_init_13 : decode cX0_init 13 = .ok (.aload_n 0, 1) := dk_42 (dk_at dksX0_init_0 13 rfl rfl)
theorem dX0_init_14 : decode cX0_init 14 = .ok (.iconst 4, 1) := dk_7 (dk_at dksX0_init_0 14 rfl rfl)
theorem dX0_init_15 : decode cX0_init 15 = .ok (.anewarray 40, 3) := dk_189 0 40 (dk_at dksX0_init_0 15 rfl rfl)
theorem dX0_init_18 : decode cX0_init 18 = .ok (.dup, 1) := dk_89 (dk_at dksX0_init_0 18 rfl rfl)
theorem dX0_init_19 : decode cX0_init 19 = .ok (.iconst 0, 1) := dk_3 (dk_at dksX0_init_0 19 rfl rfl)
theorem dX0_init_20 : decode cX0_init 20 = .ok (.iconst 4, 1) := dk_7 (dk_at dksX0_init_0 20 rfl rfl)
theorem dX0_init_21 : decode cX0_init 21 = .ok (.anewarray 42, 3) := dk_189 0 42 (dk_at dksX0_init_0 21 rfl rfl)
theorem dX0_init_24 : decode cX0_init 24 = .ok (.dup, 1) := dk_89 (dk_at dksX0_init_1 0 rfl rfl)
theorem dX0_init_25 : decode cX0_init 25 = .ok (.iconst 0, 1) := dk_3 (dk_at dksX0_init_1 1 rfl rfl)
theorem dX0_init_26 : decode cX0_init 26 = .ok (.ldc 44, 2) := dk_18 44 (dk_at dksX0_init_1 2 rfl rfl)
theorem dX0_init_28 : decode cX0_init 28 = .ok (.aastore, 1) := dk_83 (dk_at dksX0_init_1 4 rfl rfl)
theorem dX0_init_29 : decode cX0_init 29 = .ok (.dup, 1) := dk_89 (dk_at dksX0_init_1 5 rfl rfl)
theorem dX0_init_30 : decode cX0_init 30 = .ok (.iconst 1, 1) := dk_4 (dk_at dksX0_init_1 6 rfl rfl)
theorem dX0_init_31 : decode cX0_init 31 = .ok (.ldc 46, 2) := dk_18 46 (dk_at dksX0_init_1 7 rfl rfl)
theorem dX0_init_33 : decode cX0_init 33 = .ok (.aastore, 1) := dk_83 (dk_at dksX0_init_1 9 rfl rfl)
theorem dX0_init_34 : decode cX0_init 34 = .ok (.dup, 1) := dk_89 (dk_at dksX0_init_1 10 rfl rfl)
theorem dX0_init_35 : decode cX0_init 35 = .ok (.iconst 2, 1) := dk_5 (dk_at dksX0_init_1 11 rfl rfl)
theorem dX0_init_36 : decode cX0_init 36 = .ok (.ldc 48, 2) := dk_18 48 (dk_at dksX0_init_1 12 rfl rfl)
theorem dX0_init_38 : decode cX0_init 38 = .ok (.aastore, 1) := dk_83 (dk_at dksX0_init_1 14 rfl rfl)
theorem dX0_init_39 : decode cX0_init 39 = .ok (.dup, 1) := dk_89 (dk_at dksX0_init_1 15 rfl rfl)
theorem dX0_init_40 : decode cX0_init 40 = .ok (.iconst 3, 1) := dk_6 (dk_at dksX0_init_1 16 rfl rfl)
theorem dX0_init_41 : decode cX0_init 41 = .ok (.ldc 50, 2) := dk_18 50 (dk_at dksX0_init_1 17 rfl rfl)
theorem dX0_init_43 : decode cX0_init 43 = .ok (.aastore, 1) := dk_83 (dk_at dksX0_init_1 19 rfl rfl)
theorem dX0_init_44 : decode cX0_init 44 = .ok (.aastore, 1) := dk_83 (dk_at dksX0_init_1 20 rfl rfl)
theorem dX0_init_45 : decode cX0_init 45 = .ok (.dup, 1) := dk_89 (dk_at dksX0_init_1 21 rfl rfl)
theorem dX0_init_46 : decode cX0_init 46 = .ok (.iconst 1, 1) := dk_4 (dk_at dksX0_init_1 22 rfl rfl)
theorem dX0_init_47 : decode cX0_init 47 = .ok (.iconst 5, 1) := dk_8 (dk_at dksX0_init_1 23 rfl rfl)
theorem dX0_init_48 : decode cX0_init 48 = .ok (.anewarray 42, 3) := dk_189 0 42 (dk_at dksX0_init_2 0 rfl rfl)
theorem dX0_init_51 : decode cX0_init 51 = .ok (.dup, 1) := dk_89 (dk_at dksX0_init_2 3 rfl rfl)
theorem dX0_init_52 : decode cX0_init 52 = .ok (.iconst 0, 1) := dk_3 (dk_at dksX0_init_2 4 rfl rfl)
theorem dX0_init_53 : decode cX0_init 53 = .ok (.ldc 52, 2) := dk_18 52 (dk_at dksX0_init_2 5 rfl rfl)
theorem dX0_init_55 : decode cX0_init 55 = .ok (.aastore, 1) := dk_83 (dk_at dksX0_init_2 7 rfl rfl)
theorem dX0_init_56 : decode cX0_init 56 = .ok (.dup, 1) := dk_89 (dk_at dksX0_init_2 8 rfl rfl)
theorem dX0_init_57 : decode cX0_init 57 = .ok (.iconst 1, 1) := dk_4 (dk_at dksX0_init_2 9 rfl rfl)
theorem dX0_init_58 : decode cX0_init 58 = .ok (.ldc 54, 2) := dk_18 54 (dk_at dksX0_init_2 10 rfl rfl)
theorem dX0_init_60 : decode cX0_init 60 = .ok (.aastore, 1) := dk_83 (dk_at dksX0_init_2 12 rfl rfl)
theorem dX0_init_61 : decode cX0_init 61 = .ok (.dup, 1) := dk_89 (dk_at dksX0_init_2 13 rfl rfl)
theorem dX0_init_62 : decode cX0_init 62 = .ok (.iconst 2, 1) := dk_5 (dk_at dksX0_init_2 14 rfl rfl)
theorem dX0_init_63 : decode cX0_init 63 = .ok (.ldc 56, 2) := dk_18 56 (dk_at dksX0_init_2 15 rfl rfl)
theorem dX0_init_65 : decode cX0_init 65 = .ok (.aastore, 1) := dk_83 (dk_at dksX0_init_2 17 rfl rfl)
theorem dX0_init_66 : decode cX0_init 66 = .ok (.dup, 1) := dk_89 (dk_at dksX0_init_2 18 rfl rfl)
theorem dX0_init_67 : decode cX0_init 67 = .ok (.iconst 3, 1) := dk_6 (dk_at dksX0_init_2 19 rfl rfl)
theorem dX0_init_68 : decode cX0_init 68 = .ok (.ldc 58, 2) := dk_18 58 (dk_at dksX0_init_2 20 rfl rfl)
theorem dX0_init_70 : decode cX0_init 70 = .ok (.aastore, 1) := dk_83 (dk_at dksX0_init_2 22 rfl rfl)
theorem dX0_init_71 : decode cX0_init 71 = .ok (.dup, 1) := dk_89 (dk_at dksX0_init_2 23 rfl rfl)
theorem dX0_init_72 : decode cX0_init 72 = .ok (.iconst 4, 1) := dk_7 (dk_at dksX0_init_3 0 rfl rfl)
theorem dX0_init_73 : decode cX0_init 73 = .ok (.ldc 60, 2) := dk_18 60 (dk_at dksX0_init_3 1 rfl rfl)
theorem dX0_init_75 : decode cX0_init 75 = .ok (.aastore, 1) := dk_83 (dk_at dksX0_init_3 3 rfl rfl)
theorem dX0_init_76 : decode cX0_init 76 = .ok (.aastore, 1) := dk_83 (dk_at dksX0_init_3 4 rfl rfl)
theorem dX0_init_77 : decode cX0_init 77 = .ok (.dup, 1) := dk_89 (dk_at dksX0_init_3 5 rfl rfl)
theorem dX0_init_78 : decode cX0_init 78 = .ok (.iconst 2, 1) := dk_5 (dk_at dksX0_init_3 6 rfl rfl)
theorem dX0_init_79 : decode cX0_init 79 = .ok (.iconst 3, 1) := dk_6 (dk_at dksX0_init_3 7 rfl rfl)
theorem dX0_init_80 : decode cX0_init 80 = .ok (.anewarray 42, 3) := dk_189 0 42 (dk_at dksX0_init_3 8 rfl rfl)
theorem dX0_init_83 : decode cX0_init 83 = .ok (.dup, 1) := dk_89 (dk_at dksX0_init_3 11 rfl rfl)
theorem dX0_init_84 : decode cX0_init 84 = .ok (.iconst 0, 1) := dk_3 (dk_at dksX0_init_3 12 rfl rfl)
theorem dX0_init_85 : decode cX0_init 85 = .ok (.ldc 62, 2) := dk_18 62 (dk_at dksX0_init_3 13 rfl rfl)
theorem dX0_init_87 : decode cX0_init 87 = .ok (.aastore, 1) := dk_83 (dk_at dksX0_init_3 15 rfl rfl)
theorem dX0_init_88 : decode cX0_init 88 = .ok (.dup, 1) := dk_89 (dk_at dksX0_init_3 16 rfl rfl)
theorem dX0_init_89 : decode cX0_init 89 = .ok (.iconst 1, 1) := dk_4 (dk_at dksX0_init_3 17 rfl rfl)
theorem dX0_init_90 : decode cX0_init 90 = .ok (.ldc 64, 2) := dk_18 64 (dk_at dksX0_init_3 18 rfl rfl)
theorem dX0_init_92 : decode cX0_init 92 = .ok (.aastore, 1) := dk_83 (dk_at dksX0_init_3 20 rfl rfl)
theorem dX0_init_93 : decode cX0_init 93 = .ok (.dup, 1) := dk_89 (dk_at dksX0_init_3 21 rfl rfl)
theorem dX0_init_94 : decode cX0_init 94 = .ok (.iconst 2, 1) := dk_5 (dk_at dksX0_init_3 22 rfl rfl)
theorem dX0_init_95 : decode cX0_init 95 = .ok (.ldc 66, 2) := dk_18 66 (dk_at dksX0_init_4 0 rfl rfl)
theorem dX0_init_97 : decode cX0_init 97 = .ok (.aastore, 1) := dk_83 (dk_at dksX0_init_4 2 rfl rfl)
theorem dX0_init_98 : decode cX0_init 98 = .ok (.aastore, 1) := dk_83 (dk_at dksX0_init_4 3 rfl rfl)
theorem dX0_init_99 : decode cX0_init 99 = .ok (.dup, 1) := dk_89 (dk_at dksX0_init_4 4 rfl rfl)
theorem dX0_init_100 : decode cX0_init 100 = .ok (.iconst 3, 1) := dk_6 (dk_at dksX0_init_4 5 rfl rfl)
theorem dX0_init_101 : decode cX0_init 101 = .ok (.iconst 2, 1) := dk_5 (dk_at dksX0_init_4 6 rfl rfl)
theorem dX0_init_102 : decode cX0_init 102 = .ok (.anewarray 42, 3) := dk_189 0 42 (dk_at dksX0_init_4 7 rfl rfl)
theorem dX0_init_105 : decode cX0_init 105 = .ok (.dup, 1) := dk_89 (dk_at dksX0_init_4 10 rfl rfl)
theorem dX0_init_106 : decode cX0_init 106 = .ok (.iconst 0, 1) := dk_3 (dk_at dksX0_init_4 11 rfl rfl)
theorem dX0_init_107 : decode cX0_init 107 = .ok (.ldc 68, 2) := dk_18 68 (dk_at dksX0_init_4 12 rfl rfl)
theorem dX0_init_109 : decode cX0_init 109 = .ok (.aastore, 1) := dk_83 (dk_at dksX0_init_4 14 rfl rfl)
theorem dX0_init_110 : decode cX0_init 110 = .ok (.dup, 1) := dk_89 (dk_at dksX0_init_4 15 rfl rfl)
theorem dX0_init_111 : decode cX0_init 111 = .ok (.iconst 1, 1) := dk_4 (dk_at dksX0_init_4 16 rfl rfl)
theorem dX0_init_112 : decode cX0_init 112 = .ok (.ldc 62, 2) := dk_18 62 (dk_at dksX0_init_4 17 rfl rfl)
theorem dX0_init_114 : decode cX0_init 114 = .ok (.aastore, 1) := dk_83 (dk_at dksX0_init_4 19 rfl rfl)
theorem dX0_init_115 : decode cX0_init 115 = .ok (.aastore, 1) := dk_83 (dk_at dksX0_init_4 20 rfl rfl)
theorem dX0_init_116 : decode cX0_init 116 = .ok (.putfield 70, 3) := dk_181 0 70 (dk_at dksX0_init_4 21 rfl rfl)
theorem dX0_init_119 : decode cX0_init 119 = .ok (.aload_n 0, 1) := dk_42 (dk_at dksX0_init_5 0 rfl rfl)
theorem dX0_init_120 : decode cX0_init 120 = .ok (.bipush 9, 2) := dk_16 9 (dk_at dksX0_init_5 1 rfl rfl)
theorem dX0_init_122 : decode cX0_init 122 = .ok (.anewarray 42, 3) := dk_189 0 42 (dk_at dksX0_init_5 3 rfl rfl)
theorem dX0_init_125 : decode cX0_init 125 = .ok (.dup, 1) := dk_89 (dk_at dksX0_init_5 6 rfl rfl)
theorem dX0_init_126 : decode cX0_init 126 = .ok (.iconst 0, 1) := dk_3 (dk_at dksX0_init_5 7 rfl rfl)
theorem dX0_init_127 : decode cX0_init 127 = .ok (.ldc 62, 2) := dk_18 62 (dk_at dksX0_init_5 8 rfl rfl)
theorem dX0_init_129 : decode cX0_init 129 = .ok (.aastore, 1) := dk_83 (dk_at dksX0_init_5 10 rfl rfl)
theorem dX0_init_130 : decode cX0_init 130 = .ok (.dup, 1) := dk_89 (dk_at dksX0_init_5 11 rfl rfl)
theorem dX0_init_131 : decode cX0_init 131 = .ok (.iconst 1, 1) := dk_4 (dk_at dksX0_init_5 12 rfl rfl)
theorem dX0_init_132 : decode cX0_init 132 = .ok (.ldc 74, 2) := dk_18 74 (dk_at dksX0_init_5 13 rfl rfl)
theorem dX0_init_134 : decode cX0_init 134 = .ok (.aastore, 1) := dk_83 (dk_at dksX0_init_5 15 rfl rfl)
theorem dX0_init_135 : decode cX0_init 135 = .ok (.dup, 1) := dk_89 (dk_at dksX0_init_5 16 rfl rfl)
theorem dX0_init_136 : decode cX0_init 136 = .ok (.iconst 2, 1) := dk_5 (dk_at dksX0_init_5 17 rfl rfl)
theorem dX0_init_137 : decode cX0_init 137 = .ok (.ldc 76, 2) := dk_18 76 (dk_at dksX0_init_5 18 rfl rfl)
theorem dX0_init_139 : decode cX0_init 139 = .ok (.aastore, 1) := dk_83 (dk_at dksX0_init_5 20 rfl rfl)
theorem dX0_init_140 : decode cX0_init 140 = .ok (.dup, 1) := dk_89 (dk_at dksX0_init_5 21 rfl rfl)
theorem dX0_init_141 : decode cX0_init 141 = .ok (.iconst 3, 1) := dk_6 (dk_at dksX0_init_5 22 rfl rfl)
theorem dX0_init_142 : decode cX0_init 142 = .ok (.ldc 78, 2) := dk_18 78 (dk_at dksX0_init_6 0 rfl rfl)
theorem dX0_init_144 : decode cX0_init 144 = .ok (.aastore, 1) := dk_83 (dk_at dksX0_init_6 2 rfl rfl)
theorem dX0_init_145 : decode cX0_init 145 = .ok (.dup, 1) := dk_89 (dk_at dksX0_init_6 3 rfl rfl)
theorem dX0_init_146 : decode cX0_init 146 = .ok (.iconst 4, 1) := dk_7 (dk_at dksX0_init_6 4 rfl rfl)
theorem dX0_init_147 : decode cX0_init 147 = .ok (.ldc 80, 2) := dk_18 80 (dk_at dksX0_init_6 5 rfl rfl)
theorem dX0_init_149 : decode cX0_init 149 = .ok (.aastore, 1) := dk_83 (dk_at dksX0_init_6 7 rfl rfl)
theorem dX0_init_150 : decode cX0_init 150 = .ok (.dup, 1) := dk_89 (dk_at dksX0_init_6 8 rfl rfl)
theorem dX0_init_151 : decode cX0_init 151 = .ok (.iconst 5, 1) := dk_8 (dk_at dksX0_init_6 9 rfl rfl)
theorem dX0_init_152 : decode cX0_init 152 = .ok (.ldc 68, 2) := dk_18 68 (dk_at dksX0_init_6 10 rfl rfl)
theorem dX0_init_154 : decode cX0_init 154 = .ok (.aastore, 1) := dk_83 (dk_at dksX0_init_6 12 rfl rfl)
theorem dX0_init_155 : decode cX0_init 155 = .ok (.dup, 1) := dk_89 (dk_at dksX0_init_6 13 rfl rfl)
theorem dX0_init_156 : decode cX0_init 156 = .ok (.bipush 6, 2) := dk_16 6 (dk_at dksX0_init_6 14 rfl rfl)
theorem dX0_init_158 : decode cX0_init 158 = .ok (.ldc 82, 2) := dk_18 82 (dk_at dksX0_init_6 16 rfl rfl)
theorem dX0_init_160 : decode cX0_init 160 = .ok (.aastore, 1) := dk_83 (dk_at dksX0_init_6 18 rfl rfl)
theorem dX0_init_161 : decode cX0_init 161 = .ok (.dup, 1) := dk_89 (dk_at dksX0_init_6 19 rfl rfl)
theorem dX0_init_162 : decode cX0_init 162 = .ok (.bipush 7, 2) := dk_16 7 (dk_at dksX0_init_6 20 rfl rfl)
theorem dX0_init_164 : decode cX0_init 164 = .ok (.ldc 84, 2) := dk_18 84 (dk_at dksX0_init_6 22 rfl rfl)
theorem dX0_init_166 : decode cX0_init 166 = .ok (.aastore, 1) := dk_83 (dk_at dksX0_init_7 0 rfl rfl)
theorem dX0_init_167 : decode cX0_init 167 = .ok (.dup, 1) := dk_89 (dk_at dksX0_init_7 1 rfl rfl)
theorem dX0_init_168 : decode cX0_init 168 = .ok (.bipush 8, 2) := dk_16 8 (dk_at dksX0_init_7 2 rfl rfl)
theorem dX0_init_170 : decode cX0_init 170 = .ok (.ldc 86, 2) := dk_18 86 (dk_at dksX0_init_7 4 rfl rfl)
theorem dX0_init_172 : decode cX0_init 172 = .ok (.aastore, 1) := dk_83 (dk_at dksX0_init_7 6 rfl rfl)
theorem dX0_init_173 : decode cX0_init 173 = .ok (.putfield 88, 3) := dk_181 0 88 (dk_at dksX0_init_7 7 rfl rfl)
theorem dX0_init_176 : decode cX0_init 176 = .ok (.aload_n 0, 1) := dk_42 (dk_at dksX0_init_7 10 rfl rfl)
theorem dX0_init_177 : decode cX0_init 177 = .ok (.iconst 4, 1) := dk_7 (dk_at dksX0_init_7 11 rfl rfl)
theorem dX0_init_178 : decode cX0_init 178 = .ok (.anewarray 42, 3) := dk_189 0 42 (dk_at dksX0_init_7 12 rfl rfl)
theorem dX0_init_181 : decode cX0_init 181 = .ok (.dup, 1) := dk_89 (dk_at dksX0_init_7 15 rfl rfl)
theorem dX0_init_182 : decode cX0_init 182 = .ok (.iconst 0, 1) := dk_3 (dk_at dksX0_init_7 16 rfl rfl)
theorem dX0_init_183 : decode cX0_init 183 = .ok (.ldc 91, 2) := dk_18 91 (dk_at dksX0_init_7 17 rfl rfl)
theorem dX0_init_185 : decode cX0_init 185 = .ok (.aastore, 1) := dk_83 (dk_at dksX0_init_7 19 rfl rfl)
theorem dX0_init_186 : decode cX0_init 186 = .ok (.dup, 1) := dk_89 (dk_at dksX0_init_7 20 rfl rfl)
theorem dX0_init_187 : decode cX0_init 187 = .ok (.iconst 1, 1) := dk_4 (dk_at dksX0_init_7 21 rfl rfl)
theorem dX0_init_188 : decode cX0_init 188 = .ok (.ldc 93, 2) := dk_18 93 (dk_at dksX0_init_7 22 rfl rfl)
theorem dX0_init_190 : decode cX0_init 190 = .ok (.aastore, 1) := dk_83 (dk_at dksX0_init_8 0 rfl rfl)
theorem dX0_init_191 : decode cX0_init 191 = .ok (.dup, 1) := dk_89 (dk_at dksX0_init_8 1 rfl rfl)
theorem dX0_init_192 : decode cX0_init 192 = .ok (.iconst 2, 1) := dk_5 (dk_at dksX0_init_8 2 rfl rfl)
theorem dX0_init_193 : decode cX0_init 193 = .ok (.ldc 95, 2) := dk_18 95 (dk_at dksX0_init_8 3 rfl rfl)
theorem dX0_init_195 : decode cX0_init 195 = .ok (.aastore, 1) := dk_83 (dk_at dksX0_init_8 5 rfl rfl)
theorem dX0_init_196 : decode cX0_init 196 = .ok (.dup, 1) := dk_89 (dk_at dksX0_init_8 6 rfl rfl)
theorem dX0_init_197 : decode cX0_init 197 = .ok (.iconst 3, 1) := dk_6 (dk_at dksX0_init_8 7 rfl rfl)
theorem dX0_init_198 : decode cX0_init 198 = .ok (.ldc 97, 2) := dk_18 97 (dk_at dksX0_init_8 8 rfl rfl)
theorem dX0_init_200 : decode cX0_init 200 = .ok (.aastore, 1) := dk_83 (dk_at dksX0_init_8 10 rfl rfl)
theorem dX0_init_201 : decode cX0_init 201 = .ok (.putfield 99, 3) := dk_181 0 99 (dk_at dksX0_init_8 11 rfl rfl)
theorem dX0_init_204 : decode cX0_init 204 = .ok (.aload_n 0, 1) := dk_42 (dk_at dksX0_init_8 14 rfl rfl)
theorem dX0_init_205 : decode cX0_init 205 = .ok (.iconst 0, 1) := dk_3 (dk_at dksX0_init_8 15 rfl rfl)
theorem dX0_init_206 : decode cX0_init 206 = .ok (.anewarray 42, 3) := dk_189 0 42 (dk_at dksX0_init_8 16 rfl rfl)
theorem dX0_init_209 : decode cX0_init 209 = .ok (.putfield 102, 3) := dk_181 0 102 (dk_at dksX0_init_8 19 rfl rfl)
theorem dX0_init_212 : decode cX0_init 212 = .ok (.aload_n 0, 1) := dk_42 (dk_at dksX0_init_8 22 rfl rfl)
theorem dX0_init_213 : decode cX0_init 213 = .ok (.aload_n 0, 1) := dk_42 (dk_at dksX0_init_8 23 rfl rfl)
theorem dX0_init_214 : decode cX0_init 214 = .ok (.getfield 102, 3) := dk_180 0 102 (dk_at dksX0_init_9 0 rfl rfl)
theorem dX0_init_217 : decode cX0_init 217 = .ok (.putfield 105, 3) := dk_181 0 105 (dk_at dksX0_init_9 3 rfl rfl)
theorem dX0_init_220 : decode cX0_init 220 = .ok (.aload_n 0, 1) := dk_42 (dk_at dksX0_init_9 6 rfl rfl)
theorem dX0_init_221 : decode cX0_init 221 = .ok (.aload_n 0, 1) := dk_42 (dk_at dksX0_init_9 7 rfl rfl)
theorem dX0_init_222 : decode cX0_init 222 = .ok (.getfield 102, 3) := dk_180 0 102 (dk_at dksX0_init_9 8 rfl rfl)
theorem dX0_init_225 : decode cX0_init 225 = .ok (.putfield 108, 3) := dk_181 0 108 (dk_at dksX0_init_9 11 rfl rfl)
theorem dX0_init_228 : decode cX0_init 228 = .ok (.aload_n 0, 1) := dk_42 (dk_at dksX0_init_9 14 rfl rfl)
theorem dX0_init_229 : decode cX0_init 229 = .ok (.aload_n 0, 1) := dk_42 (dk_at dksX0_init_9 15 rfl rfl)
theorem dX0_init_230 : decode cX0_init 230 = .ok (.getfield 102, 3) := dk_180 0 102 (dk_at dksX0_init_9 16 rfl rfl)
theorem dX0_init_233 : decode cX0_init 233 = .ok (.putfield 111, 3) := dk_181 0 111 (dk_at dksX0_init_9 19 rfl rfl)
theorem dX0_init_236 : decode cX0_init 236 = .ok (.aload_n 0, 1) := dk_42 (dk_at dksX0_init_9 22 rfl rfl)
theorem dX0_init_237 : decode cX0_init 237 = .ok (.iconst (-1), 1) := dk_2 (dk_at dksX0_init_9 23 rfl rfl)
theorem dX0_init_238 : decode cX0_init 238 = .ok (.putfield 114, 3) := dk_181 0 114 (dk_at dksX0_init_10 0 rfl rfl)
theorem dX0_init_241 : decode cX0_init 241 = .ok (.aload_n 0, 1) := dk_42 (dk_at dksX0_init_10 3 rfl rfl)
theorem dX0_init_242 : decode cX0_init 242 = .ok (.new 118, 3) := dk_187 0 118 (dk_at dksX0_init_10 4 rfl rfl)
theorem dX0_init_245 : decode cX0_init 245 = .ok (.dup, 1) := dk_89 (dk_at dksX0_init_10 7 rfl rfl)
theorem dX0_init_246 : decode cX0_init 246 = .ok (.invokespecial 120, 3) := dk_183 0 120 (dk_at dksX0_init_10 8 rfl rfl)
theorem dX0_init_249 : decode cX0_init 249 = .ok (.putfield 121, 3) := dk_181 0 121 (dk_at dksX0_init_10 11 rfl rfl)
theorem dX0_init_252 : decode cX0_init 252 = .ok (.aload_n 0, 1) := dk_42 (dk_at dksX0_init_10 14 rfl rfl)
theorem dX0_init_253 : decode cX0_init 253 = .ok (.bipush 9, 2) := dk_16 9 (dk_at dksX0_init_10 15 rfl rfl)
theorem dX0_init_255 : decode cX0_init 255 = .ok (.newarray .int, 2) := dk_188_10 (dk_at dksX0_init_10 17 rfl rfl)
theorem dX0_init_257 : decode cX0_init 257 = .ok (.putfield 125, 3) := dk_181 0 125 (dk_at dksX0_init_10 19 rfl rfl)
theorem dX0_init_260 : decode cX0_init 260 = .ok (.aload_n 0, 1) := dk_42 (dk_at dksX0_init_10 22 rfl rfl)
theorem dX0_init_261 : decode cX0_init 261 = .ok (.iconst 0, 1) := dk_3 (dk_at dksX0_init_10 23 rfl rfl)
theorem dX0_init_262 : decode cX0_init 262 = .ok (.anewarray 129, 3) := dk_189 0 129 (dk_at dksX0_init_11 0 rfl rfl)
theorem dX0_init_265 : decode cX0_init 265 = .ok (.putfield 131, 3) := dk_181 0 131 (dk_at dksX0_init_11 3 rfl rfl)
theorem dX0_init_268 : decode cX0_init 268 = .ok (.aload_n 0, 1) := dk_42 (dk_at dksX0_init_11 6 rfl rfl)
theorem dX0_init_269 : decode cX0_init 269 = .ok (.iconst 0, 1) := dk_3 (dk_at dksX0_init_11 7 rfl rfl)
theorem dX0_init_270 : decode cX0_init 270 = .ok (.anewarray 135, 3) := dk_189 0 135 (dk_at dksX0_init_11 8 rfl rfl)
theorem dX0_init_273 : decode cX0_init 273 = .ok (.putfield 137, 3) := dk_181 0 137 (dk_at dksX0_init_11 11 rfl rfl)
theorem dX0_init_276 : decode cX0_init 276 = .ok (.aload_n 0, 1) := dk_42 (dk_at dksX0_init_11 14 rfl rfl)
theorem dX0_init_277 : decode cX0_init 277 = .ok (.iconst 0, 1) := dk_3 (dk_at dksX0_init_11 15 rfl rfl)
theorem dX0_init_278 : decode cX0_init 278 = .ok (.anewarray 141, 3) := dk_189 0 141 (dk_at dksX0_init_11 16 rfl rfl)
theorem dX0_init_281 : decode cX0_init 281 = .ok (.putfield 143, 3) := dk_181 0 143 (dk_at dksX0_init_11 19 rfl rfl)
theorem dX0_init_284 : decode cX0_init 284 = .ok (.aload_n 0, 1) := dk_42 (dk_at dksX0_init_11 22 rfl rfl)
theorem dX0_init_285 : decode cX0_init 285 = .ok (.new 147, 3) := dk_187 0 147 (dk_at dksX0_init_12 0 rfl rfl)
theorem dX0_init_288 : decode cX0_init 288 = .ok (.dup, 1) := dk_89 (dk_at dksX0_init_12 3 rfl rfl)
theorem dX0_init_289 : decode cX0_init 289 = .ok (.aload_n 0, 1) := dk_42 (dk_at dksX0_init_12 4 rfl rfl)
theorem dX0_init_290 : decode cX0_init 290 = .ok (.invokespecial 149, 3) := dk_183 0 149 (dk_at dksX0_init_12 5 rfl rfl)
theorem dX0_init_293 : decode cX0_init 293 = .ok (.putfield 152, 3) := dk_181 0 152 (dk_at dksX0_init_12 8 rfl rfl)
theorem dX0_init_296 : decode cX0_init 296 = .ok (.aload_n 0, 1) := dk_42 (dk_at dksX0_init_12 11 rfl rfl)
theorem dX0_init_297 : decode cX0_init 297 = .ok (.new 147, 3) := dk_187 0 147 (dk_at dksX0_init_12 12 rfl rfl)
theorem dX0_init_300 : decode cX0_init 300 = .ok (.dup, 1) := dk_89 (dk_at dksX0_init_12 15 rfl rfl)
theorem dX0_init_301 : decode cX0_init 301 = .ok (.aload_n 0, 1) := dk_42 (dk_at dksX0_init_12 16 rfl rfl)
theorem dX0_init_302 : decode cX0_init 302 = .ok (.invokespecial 149, 3) := dk_183 0 149 (dk_at dksX0_init_12 17 rfl rfl)
theorem dX0_init_305 : decode cX0_init 305 = .ok (.putfield 156, 3) := dk_181 0 156 (dk_at dksX0_init_12 20 rfl rfl)
theorem dX0_init_308 : decode cX0_init 308 = .ok (.aload_n 0, 1) := dk_42 (dk_at dksX0_init_12 23 rfl rfl)
theorem dX0_init_309 : decode cX0_init 309 = .ok (.new 147, 3) := dk_187 0 147 (dk_at dksX0_init_13 0 rfl rfl)
theorem dX0_init_312 : decode cX0_init 312 = .ok (.dup, 1) := dk_89 (dk_at dksX0_init_13 3 rfl rfl)
theorem dX0_init_313 : decode cX0_init 313 = .ok (.aload_n 0, 1) := dk_42 (dk_at dksX0_init_13 4 rfl rfl)
theorem dX0_init_314 : decode cX0_init 314 = .ok (.invokespecial 149, 3) := dk_183 0 149 (dk_at dksX0_init_13 5 rfl rfl)
theorem dX0_init_317 : decode cX0_init 317 = .ok (.putfield 159, 3) := dk_181 0 159 (dk_at dksX0_init_13 8 rfl rfl)
theorem dX0_init_320 : decode cX0_init 320 = .ok (.aload_n 0, 1) := dk_42 (dk_at dksX0_init_13 11 rfl rfl)
theorem dX0_init_321 : decode cX0_init 321 = .ok (.sipush 600, 3) := dk_17 2 88 (dk_at dksX0_init_13 12 rfl rfl)
theorem dX0_init_324 : decode cX0_init 324 = .ok (.newarray .int, 2) := dk_188_10 (dk_at dksX0_init_13 15 rfl rfl)
theorem dX0_init_326 : decode cX0_init 326 = .ok (.putfield 162, 3) := dk_181 0 162 (dk_at dksX0_init_13 17 rfl rfl)
theorem dX0_init_329 : decode cX0_init 329 = .ok (.aload_n 0, 1) := dk_42 (dk_at dksX0_init_13 20 rfl rfl)
theorem dX0_init_330 : decode cX0_init 330 = .ok (.bipush 6, 2) := dk_16 6 (dk_at dksX0_init_13 21 rfl rfl)
theorem dX0_init_332 : decode cX0_init 332 = .ok (.anewarray 147, 3) := dk_189 0 147 (dk_at dksX0_init_14 0 rfl rfl)
theorem dX0_init_335 : decode cX0_init 335 = .ok (.putfield 165, 3) := dk_181 0 165 (dk_at dksX0_init_14 3 rfl rfl)
theorem dX0_init_338 : decode cX0_init 338 = .ok (.aload_n 0, 1) := dk_42 (dk_at dksX0_init_14 6 rfl rfl)
theorem dX0_init_339 : decode cX0_init 339 = .ok (.sipush 4096, 3) := dk_17 16 0 (dk_at dksX0_init_14 7 rfl rfl)
theorem dX0_init_342 : decode cX0_init 342 = .ok (.newarray .int, 2) := dk_188_10 (dk_at dksX0_init_14 10 rfl rfl)
theorem dX0_init_344 : decode cX0_init 344 = .ok (.putfield 169, 3) := dk_181 0 169 (dk_at dksX0_init_14 12 rfl rfl)
theorem dX0_init_347 : decode cX0_init 347 = .ok (.aload_n 0, 1) := dk_42 (dk_at dksX0_init_14 15 rfl rfl)
theorem dX0_init_348 : decode cX0_init 348 = .ok (.bipush 12, 2) := dk_16 12 (dk_at dksX0_init_14 16 rfl rfl)
theorem dX0_init_350 : decode cX0_init 350 = .ok (.newarray .int, 2) := dk_188_10 (dk_at dksX0_init_14 18 rfl rfl)
theorem dX0_init_352 : decode cX0_init 352 = .ok (.putfield 172, 3) := dk_181 0 172 (dk_at dksX0_init_14 20 rfl rfl)
theorem dX0_init_355 : decode cX0_init 355 = .ok (.aload_n 0, 1) := dk_42 (dk_at dksX0_init_14 23 rfl rfl)
theorem dX0_init_356 : decode cX0_init 356 = .ok (.bipush 12, 2) := dk_16 12 (dk_at dksX0_init_15 0 rfl rfl)
theorem dX0_init_358 : decode cX0_init 358 = .ok (.newarray .int, 2) := dk_188_10 (dk_at dksX0_init_15 2 rfl rfl)
theorem dX0_init_360 : decode cX0_init 360 = .ok (.putfield 175, 3) := dk_181 0 175 (dk_at dksX0_init_15 4 rfl rfl)
theorem dX0_init_363 : decode cX0_init 363 = .ok (.aload_n 0, 1) := dk_42 (dk_at dksX0_init_15 7 rfl rfl)
theorem dX0_init_364 : decode cX0_init 364 = .ok (.sipush 600, 3) := dk_17 2 88 (dk_at dksX0_init_15 8 rfl rfl)
theorem dX0_init_367 : decode cX0_init 367 = .ok (.newarray .int, 2) := dk_188_10 (dk_at dksX0_init_15 11 rfl rfl)
theorem dX0_init_369 : decode cX0_init 369 = .ok (.putfield 178, 3) := dk_181 0 178 (dk_at dksX0_init_15 13 rfl rfl)
theorem dX0_init_372 : decode cX0_init 372 = .ok (.return_, 1) := dk_177 (dk_at dksX0_init_15 16 rfl rfl)
abbrev cX0_feed : ByteArray := prog_1_method_10_code
def yX0_feed : MethodName := ⟨RX0, "feed", "(IIIII)I"⟩
def dkwX0_feed_2 : List UInt8 := [172]
abbrev dktX0_feed_2 : List UInt8 := dkwX0_feed_2 ++ []
def dkwX0_feed_1 : List UInt8 := [182, 0, 184, 42, 29, 182, 0, 184, 42, 21, 4, 182, 0, 184, 42, 21, 5, 182, 0, 184, 42, 180, 0, 181]
abbrev dktX0_feed_1 : List UInt8 := dkwX0_feed_1 ++ dktX0_feed_2
def dkwX0_feed_0 : List UInt8 := [42, 180, 0, 181, 16, 20, 96, 17, 1, 144, 164, 0, 5, 2, 172, 42, 27, 182, 0, 184, 42, 28]
abbrev dktX0_feed_0 : List UInt8 := dkwX0_feed_0 ++ dktX0_feed_1
theorem dksX0_feed_0 : cX0_feed.data.toList.drop 0 = dktX0_feed_0 := by decide +kernel
theorem dksX0_feed_1 : cX0_feed.data.toList.drop 22 = dktX0_feed_1 := dk_seg dksX0_feed_0 22 rfl rfl
theorem dksX0_feed_2 : cX0_feed.data.toList.drop 46 = dktX0_feed_2 := dk_seg dksX0_feed_1 24 rfl rfl
theorem dX0_feed_0 : decode cX0_feed 0 = .ok (.aload_n 0, 1) := dk_42 (dk_at dksX0_feed_0 0 rfl rfl)
theorem dX0_feed_1 : decode cX0_feed 1 = .ok (.getfield 181, 3) := dk_180 0 181 (dk_at dksX0_feed_0 1 rfl rfl)
theorem dX0_feed_4 : decode cX0_feed 4 = .ok (.bipush 20, 2) := dk_16 20 (dk_at dksX0_feed_0 4 rfl rfl)
theorem dX0_feed_6 : decode cX0_feed 6 = .ok (.iadd, 1) := dk_96 (dk_at dksX0_feed_0 6 rfl rfl)
theorem dX0_feed_7 : decode cX0_feed 7 = .ok (.sipush 400, 3) := dk_17 1 144 (dk_at dksX0_feed_0 7 rfl rfl)
theorem dX0_feed_10 : decode cX0_feed 10 = .ok (.if_icmp .le 5, 3) := dk_164 0 5 (dk_at dksX0_feed_0 10 rfl rfl)
theorem dX0_feed_13 : decode cX0_feed 13 = .ok (.iconst (-1), 1) := dk_2 (dk_at dksX0_feed_0 13 rfl rfl)
theorem dX0_feed_14 : decode cX0_feed 14 = .ok (.ireturn, 1) := dk_172 (dk_at dksX0_feed_0 14 rfl rfl)
theorem dX0_feed_15 : decode cX0_feed 15 = .ok (.aload_n 0, 1) := dk_42 (dk_at dksX0_feed_0 15 rfl rfl)
theorem dX0_feed_16 : decode cX0_feed 16 = .ok (.iload_n 1, 1) := dk_27 (dk_at dksX0_feed_0 16 rfl rfl)
theorem dX0_feed_17 : decode cX0_feed 17 = .ok (.invokevirtual 184, 3) := dk_182 0 184 (dk_at dksX0_feed_0 17 rfl rfl)
theorem dX0_feed_20 : decode cX0_feed 20 = .ok (.aload_n 0, 1) := dk_42 (dk_at dksX0_feed_0 20 rfl rfl)
theorem dX0_feed_21 : decode cX0_feed 21 = .ok (.iload_n 2, 1) := dk_28 (dk_at dksX0_feed_0 21 rfl rfl)
theorem dX0_feed_22 : decode cX0_feed 22 = .ok (.invokevirtual 184, 3) := dk_182 0 184 (dk_at dksX0_feed_1 0 rfl rfl)
theorem dX0_feed_25 : decode cX0_feed 25 = .ok (.aload_n 0, 1) := dk_42 (dk_at dksX0_feed_1 3 rfl rfl)
theorem dX0_feed_26 : decode cX0_feed 26 = .ok (.iload_n 3, 1) := dk_29 (dk_at dksX0_feed_1 4 rfl rfl)
theorem dX0_feed_27 : decode cX0_feed 27 = .ok (.invokevirtual 184, 3) := dk_182 0 184 (dk_at dksX0_feed_1 5 rfl rfl)
theorem dX0_feed_30 : decode cX0_feed 30 = .ok (.aload_n 0, 1) := dk_42 (dk_at dksX0_feed_1 8 rfl rfl)
theorem dX0_feed_31 : decode cX0_feed 31 = .ok (.iload 4, 2) := dk_21 4 (dk_at dksX0_feed_1 9 rfl rfl)
theorem dX0_feed_33 : decode cX0_feed 33 = .ok (.invokevirtual 184, 3) := dk_182 0 184 (dk_at dksX0_feed_1 11 rfl rfl)
theorem dX0_feed_36 : decode cX0_feed 36 = .ok (.aload_n 0, 1) := dk_42 (dk_at dksX0_feed_1 14 rfl rfl)
theorem dX0_feed_37 : decode cX0_feed 37 = .ok (.iload 5, 2) := dk_21 5 (dk_at dksX0_feed_1 15 rfl rfl)
theorem dX0_feed_39 : decode cX0_feed 39 = .ok (.invokevirtual 184, 3) := dk_182 0 184 (dk_at dksX0_feed_1 17 rfl rfl)
theorem dX0_feed_42 : decode cX0_feed 42 = .ok (.aload_n 0, 1) := dk_42 (dk_at dksX0_feed_1 20 rfl rfl)
theorem dX0_feed_43 : decode cX0_feed 43 = .ok (.getfield 181, 3) := dk_180 0 181 (dk_at dksX0_feed_1 21 rfl rfl)
theorem dX0_feed_46 : decode cX0_feed 46 = .ok (.ireturn, 1) := dk_172 (dk_at dksX0_feed_2 0 rfl rfl)
abbrev cX0_puts : ByteArray := prog_1_method_9_code
def yX0_puts : MethodName := ⟨RX0, "puts", "(I)V"⟩
def dkwX0_puts_1 : List UInt8 := [180, 0, 181, 4, 96, 181, 0, 181, 132, 2, 248, 167, 255, 226, 177]
abbrev dktX0_puts_1 : List UInt8 := dkwX0_puts_1 ++ []
def dkwX0_puts_0 : List UInt8 := [16, 24, 61, 28, 155, 0, 32, 42, 180, 0, 36, 42, 180, 0, 181, 27, 28, 122, 145, 84, 42, 89]
abbrev dktX0_puts_0 : List UInt8 := dkwX0_puts_0 ++ dktX0_puts_1
theorem dksX0_puts_0 : cX0_puts.data.toList.drop 0 = dktX0_puts_0 := by decide +kernel
theorem dksX0_puts_1 : cX0_puts.data.toList.drop 22 = dktX0_puts_1 := dk_seg dksX0_puts_0 22 rfl rfl
theorem dX0_puts_0 : decode cX0_puts 0 = .ok (.bipush 24, 2) := dk_16 24 (dk_at dksX0_puts_0 0 rfl rfl)
theorem dX0_puts_2 : decode cX0_puts 2 = .ok (.istore_n 2, 1) := dk_61 (dk_at dksX0_puts_0 2 rfl rfl)
theorem dX0_puts_3 : decode cX0_puts 3 = .ok (.iload_n 2, 1) := dk_28 (dk_at dksX0_puts_0 3 rfl rfl)
theorem dX0_puts_4 : decode cX0_puts 4 = .ok (.ifCond .lt 32, 3) := dk_155 0 32 (dk_at dksX0_puts_0 4 rfl rfl)
theorem dX0_puts_7 : decode cX0_puts 7 = .ok (.aload_n 0, 1) := dk_42 (dk_at dksX0_puts_0 7 rfl rfl)
theorem dX0_puts_8 : decode cX0_puts 8 = .ok (.getfield 36, 3) := dk_180 0 36 (dk_at dksX0_puts_0 8 rfl rfl)
theorem dX0_puts_11 : decode cX0_puts 11 = .ok (.aload_n 0, 1) := dk_42 (dk_at dksX0_puts_0 11 rfl rfl)
theorem dX0_puts_12 : decode cX0_puts 12 = .ok (.getfield 181, 3) := dk_180 0 181 (dk_at dksX0_puts_0 12 rfl rfl)
theorem dX0_puts_15 : decode cX0_puts 15 = .ok (.iload_n 1, 1) := dk_27 (dk_at dksX0_puts_0 15 rfl rfl)
theorem dX0_puts_16 : decode cX0_puts 16 = .ok (.iload_n 2, 1) := dk_28 (dk_at dksX0_puts_0 16 rfl rfl)
theorem dX0_puts_17 : decode cX0_puts 17 = .ok (.ishr, 1) := dk_122 (dk_at dksX0_puts_0 17 rfl rfl)
theorem dX0_puts_18 : decode cX0_puts 18 = .ok (.i2b, 1) := dk_145 (dk_at dksX0_puts_0 18 rfl rfl)
theorem dX0_puts_19 : decode cX0_puts 19 = .ok (.bastore, 1) := dk_84 (dk_at dksX0_puts_0 19 rfl rfl)
theorem dX0_puts_20 : decode cX0_puts 20 = .ok (.aload_n 0, 1) := dk_42 (dk_at dksX0_puts_0 20 rfl rfl)
theorem dX0_puts_21 : decode cX0_puts 21 = .ok (.dup, 1) := dk_89 (dk_at dksX0_puts_0 21 rfl rfl)
theorem dX0_puts_22 : decode cX0_puts 22 = .ok (.getfield 181, 3) := dk_180 0 181 (dk_at dksX0_puts_1 0 rfl rfl)
theorem dX0_puts_25 : decode cX0_puts 25 = .ok (.iconst 1, 1) := dk_4 (dk_at dksX0_puts_1 3 rfl rfl)
theorem dX0_puts_26 : decode cX0_puts 26 = .ok (.iadd, 1) := dk_96 (dk_at dksX0_puts_1 4 rfl rfl)
theorem dX0_puts_27 : decode cX0_puts 27 = .ok (.putfield 181, 3) := dk_181 0 181 (dk_at dksX0_puts_1 5 rfl rfl)
theorem dX0_puts_30 : decode cX0_puts 30 = .ok (.iinc 2 (-8), 3) := dk_132 2 248 (dk_at dksX0_puts_1 8 rfl rfl)
theorem dX0_puts_33 : decode cX0_puts 33 = .ok (.goto (-30), 3) := dk_167 255 226 (dk_at dksX0_puts_1 11 rfl rfl)
theorem dX0_puts_36 : decode cX0_puts 36 = .ok (.return_, 1) := dk_177 (dk_at dksX0_puts_1 14 rfl rfl)
abbrev cX0_end : ByteArray := prog_1_method_11_code
def yX0_end : MethodName := ⟨RX0, "end", "(I)Z"⟩
def dkwX0_end_0 : List UInt8 := [27, 3, 42, 180, 0, 181, 184, 0, 188, 154, 0, 5, 3, 172, 42, 27, 181, 0, 181, 4, 172]
abbrev dktX0_end_0 : List UInt8 := dkwX0_end_0 ++ []
theorem dksX0_end_0 : cX0_end.data.toList.drop 0 = dktX0_end_0 := by decide +kernel
theorem dX0_end_0 : decode cX0_end 0 = .ok (.iload_n 1, 1) := dk_27 (dk_at dksX0_end_0 0 rfl rfl)
theorem dX0_end_1 : decode cX0_end 1 = .ok (.iconst 0, 1) := dk_3 (dk_at dksX0_end_0 1 rfl rfl)
theorem dX0_end_2 : decode cX0_end 2 = .ok (.aload_n 0, 1) := dk_42 (dk_at dksX0_end_0 2 rfl rfl)
theorem dX0_end_3 : decode cX0_end 3 = .ok (.getfield 181, 3) := dk_180 0 181 (dk_at dksX0_end_0 3 rfl rfl)
theorem dX0_end_6 : decode cX0_end 6 = .ok (.invokestatic 188, 3) := dk_184 0 188 (dk_at dksX0_end_0 6 rfl rfl)
theorem dX0_end_9 : decode cX0_end 9 = .ok (.ifCond .ne 5, 3) := dk_154 0 5 (dk_at dksX0_end_0 9 rfl rfl)
theorem dX0_end_12 : decode cX0_end 12 = .ok (.iconst 0, 1) := dk_3 (dk_at dksX0_end_0 12 rfl rfl)
theorem dX0_end_13 : decode cX0_end 13 = .ok (.ireturn, 1) := dk_172 (dk_at dksX0_end_0 13 rfl rfl)
theorem dX0_end_14 : decode cX0_end 14 = .ok (.aload_n 0, 1) := dk_42 (dk_at dksX0_end_0 14 rfl rfl)
theorem dX0_end_15 : decode cX0_end 15 = .ok (.iload_n 1, 1) := dk_27 (dk_at dksX0_end_0 15 rfl rfl)
theorem dX0_end_16 : decode cX0_end 16 = .ok (.putfield 181, 3) := dk_181 0 181 (dk_at dksX0_end_0 16 rfl rfl)
theorem dX0_end_19 : decode cX0_end 19 = .ok (.iconst 1, 1) := dk_4 (dk_at dksX0_end_0 19 rfl rfl)
theorem dX0_end_20 : decode cX0_end 20 = .ok (.ireturn, 1) := dk_172 (dk_at dksX0_end_0 20 rfl rfl)
abbrev cX0_isIn : ByteArray := prog_1_method_1_code
def yX0_isIn : MethodName := ⟨RX0, "isIn", "(III)Z"⟩
def dkwX0_isIn_0 : List UInt8 := [26, 27, 161, 0, 12, 26, 28, 163, 0, 7, 4, 167, 0, 4, 3, 172]
abbrev dktX0_isIn_0 : List UInt8 := dkwX0_isIn_0 ++ []
theorem dksX0_isIn_0 : cX0_isIn.data.toList.drop 0 = dktX0_isIn_0 := by decide +kernel
theorem dX0_isIn_0 : decode cX0_isIn 0 = .ok (.iload_n 0, 1) := dk_26 (dk_at dksX0_isIn_0 0 rfl rfl)
theorem dX0_isIn_1 : decode cX0_isIn 1 = .ok (.iload_n 1, 1) := dk_27 (dk_at dksX0_isIn_0 1 rfl rfl)
theorem dX0_isIn_2 : decode cX0_isIn 2 = .ok (.if_icmp .lt 12, 3) := dk_161 0 12 (dk_at dksX0_isIn_0 2 rfl rfl)
theorem dX0_isIn_5 : decode cX0_isIn 5 = .ok (.iload_n 0, 1) := dk_26 (dk_at dksX0_isIn_0 5 rfl rfl)
theorem dX0_isIn_6 : decode cX0_isIn 6 = .ok (.iload_n 2, 1) := dk_28 (dk_at dksX0_isIn_0 6 rfl rfl)
theorem dX0_isIn_7 : decode cX0_isIn 7 = .ok (.if_icmp .gt 7, 3) := dk_163 0 7 (dk_at dksX0_isIn_0 7 rfl rfl)
theorem dX0_isIn_10 : decode cX0_isIn 10 = .ok (.iconst 1, 1) := dk_4 (dk_at dksX0_isIn_0 10 rfl rfl)
theorem dX0_isIn_11 : decode cX0_isIn 11 = .ok (.goto 4, 3) := dk_167 0 4 (dk_at dksX0_isIn_0 11 rfl rfl)
theorem dX0_isIn_14 : decode cX0_isIn 14 = .ok (.iconst 0, 1) := dk_3 (dk_at dksX0_isIn_0 14 rfl rfl)
theorem dX0_isIn_15 : decode cX0_isIn 15 = .ok (.ireturn, 1) := dk_172 (dk_at dksX0_isIn_0 15 rfl rfl)
abbrev cX0_text : ByteArray := prog_1_method_40_code
def yX0_text : MethodName := ⟨RX0, "text", "(I)I"⟩
def dkwX0_text_3 : List UInt8 := [191]
abbrev dktX0_text_3 : List UInt8 := dkwX0_text_3 ++ []
def dkwX0_text_2 : List UInt8 := [180, 1, 133, 181, 0, 114, 2, 62, 42, 3, 181, 0, 181, 29, 172, 58, 4, 42, 3, 181, 0, 181, 25, 4]
abbrev dktX0_text_2 : List UInt8 := dkwX0_text_2 ++ dktX0_text_3
def dkwX0_text_1 : List UInt8 := [167, 0, 4, 2, 61, 42, 3, 181, 0, 181, 28, 172, 77, 42, 44, 180, 1, 130, 181, 1, 124, 42, 44]
abbrev dktX0_text_1 : List UInt8 := dkwX0_text_1 ++ dktX0_text_2
def dkwX0_text_0 : List UInt8 := [42, 3, 181, 1, 124, 42, 2, 181, 0, 114, 27, 3, 6, 184, 0, 188, 153, 0, 11, 42, 27, 182, 1, 127]
abbrev dktX0_text_0 : List UInt8 := dkwX0_text_0 ++ dktX0_text_1
theorem dksX0_text_0 : cX0_text.data.toList.drop 0 = dktX0_text_0 := by decide +kernel
theorem dksX0_text_1 : cX0_text.data.toList.drop 24 = dktX0_text_1 := dk_seg dksX0_text_0 24 rfl rfl
theorem dksX0_text_2 : cX0_text.data.toList.drop 47 = dktX0_text_2 := dk_seg dksX0_text_1 23 rfl rfl
theorem dksX0_text_3 : cX0_text.data.toList.drop 71 = dktX0_text_3 := dk_seg dksX0_text_2 24 rfl rfl
theorem dX0_text_0 : decode cX0_text 0 = .ok (.aload_n 0, 1) := dk_42 (dk_at dksX0_text_0 0 rfl rfl)
theorem dX0_text_1 : decode cX0_text 1 = .ok (.iconst 0, 1) := dk_3 (dk_at dksX0_text_0 1 rfl rfl)
theorem dX0_text_2 : decode cX0_text 2 = .ok (.putfield 380, 3) := dk_181 1 124 (dk_at dksX0_text_0 2 rfl rfl)
theorem dX0_text_5 : decode cX0_text 5 = .ok (.aload_n 0, 1) := dk_42 (dk_at dksX0_text_0 5 rfl rfl)
theorem dX0_text_6 : decode cX0_text 6 = .ok (.iconst (-1), 1) := dk_2 (dk_at dksX0_text_0 6 rfl rfl)
theorem dX0_text_7 : decode cX0_text 7 = .ok (.putfield 114, 3) := dk_181 0 114 (dk_at dksX0_text_0 7 rfl rfl)
theorem dX0_text_10 : decode cX0_text 10 = .ok (.iload_n 1, 1) := dk_27 (dk_at dksX0_text_0 10 rfl rfl)
theorem dX0_text_11 : decode cX0_text 11 = .ok (.iconst 0, 1) := dk_3 (dk_at dksX0_text_0 11 rfl rfl)
theorem dX0_text_12 : decode cX0_text 12 = .ok (.iconst 3, 1) := dk_6 (dk_at dksX0_text_0 12 rfl rfl)
theorem dX0_text_13 : decode cX0_text 13 = .ok (.invokestatic 188, 3) := dk_184 0 188 (dk_at dksX0_text_0 13 rfl rfl)
theorem dX0_text_16 : decode cX0_text 16 = .ok (.ifCond .eq 11, 3) := dk_153 0 11 (dk_at dksX0_text_0 16 rfl rfl)
theorem dX0_text_19 : decode cX0_text 19 = .ok (.aload_n 0, 1) := dk_42 (dk_at dksX0_text_0 19 rfl rfl)
theorem dX0_text_20 : decode cX0_text 20 = .ok (.iload_n 1, 1) := dk_27 (dk_at dksX0_text_0 20 rfl rfl)
theorem dX0_text_21 : decode cX0_text 21 = .ok (.invokevirtual 383, 3) := dk_182 1 127 (dk_at dksX0_text_0 21 rfl rfl)
theorem dX0_text_24 : decode cX0_text 24 = .ok (.goto 4, 3) := dk_167 0 4 (dk_at dksX0_text_1 0 rfl rfl)
theorem dX0_text_27 : decode cX0_text 27 = .ok (.iconst (-1), 1) := dk_2 (dk_at dksX0_text_1 3 rfl rfl)
theorem dX0_text_28 : decode cX0_text 28 = .ok (.istore_n 2, 1) := dk_61 (dk_at dksX0_text_1 4 rfl rfl)
theorem dX0_text_29 : decode cX0_text 29 = .ok (.aload_n 0, 1) := dk_42 (dk_at dksX0_text_1 5 rfl rfl)
theorem dX0_text_30 : decode cX0_text 30 = .ok (.iconst 0, 1) := dk_3 (dk_at dksX0_text_1 6 rfl rfl)
theorem dX0_text_31 : decode cX0_text 31 = .ok (.putfield 181, 3) := dk_181 0 181 (dk_at dksX0_text_1 7 rfl rfl)
theorem dX0_text_34 : decode cX0_text 34 = .ok (.iload_n 2, 1) := dk_28 (dk_at dksX0_text_1 10 rfl rfl)
theorem dX0_text_35 : decode cX0_text 35 = .ok (.ireturn, 1) := dk_172 (dk_at dksX0_text_1 11 rfl rfl)
theorem dX0_text_36 : decode cX0_text 36 = .ok (.astore_n 2, 1) := dk_77 (dk_at dksX0_text_1 12 rfl rfl)
theorem dX0_text_37 : decode cX0_text 37 = .ok (.aload_n 0, 1) := dk_42 (dk_at dksX0_text_1 13 rfl rfl)
theorem dX0_text_38 : decode cX0_text 38 = .ok (.aload_n 2, 1) := dk_44 (dk_at dksX0_text_1 14 rfl rfl)
theorem dX0_text_39 : decode cX0_text 39 = .ok (.getfield 386, 3) := dk_180 1 130 (dk_at dksX0_text_1 15 rfl rfl)
theorem dX0_text_42 : decode cX0_text 42 = .ok (.putfield 380, 3) := dk_181 1 124 (dk_at dksX0_text_1 18 rfl rfl)
theorem dX0_text_45 : decode cX0_text 45 = .ok (.aload_n 0, 1) := dk_42 (dk_at dksX0_text_1 21 rfl rfl)
theorem dX0_text_46 : decode cX0_text 46 = .ok (.aload_n 2, 1) := dk_44 (dk_at dksX0_text_1 22 rfl rfl)
theorem dX0_text_47 : decode cX0_text 47 = .ok (.getfield 389, 3) := dk_180 1 133 (dk_at dksX0_text_2 0 rfl rfl)
theorem dX0_text_50 : decode cX0_text 50 = .ok (.putfield 114, 3) := dk_181 0 114 (dk_at dksX0_text_2 3 rfl rfl)
theorem dX0_text_53 : decode cX0_text 53 = .ok (.iconst (-1), 1) := dk_2 (dk_at dksX0_text_2 6 rfl rfl)
theorem dX0_text_54 : decode cX0_text 54 = .ok (.istore_n 3, 1) := dk_62 (dk_at dksX0_text_2 7 rfl rfl)
theorem dX0_text_55 : decode cX0_text 55 = .ok (.aload_n 0, 1) := dk_42 (dk_at dksX0_text_2 8 rfl rfl)
theorem dX0_text_56 : decode cX0_text 56 = .ok (.iconst 0, 1) := dk_3 (dk_at dksX0_text_2 9 rfl rfl)
theorem dX0_text_57 : decode cX0_text 57 = .ok (.putfield 181, 3) := dk_181 0 181 (dk_at dksX0_text_2 10 rfl rfl)
theorem dX0_text_60 : decode cX0_text 60 = .ok (.iload_n 3, 1) := dk_29 (dk_at dksX0_text_2 13 rfl rfl)
theorem dX0_text_61 : decode cX0_text 61 = .ok (.ireturn, 1) := dk_172 (dk_at dksX0_text_2 14 rfl rfl)
theorem dX0_text_62 : decode cX0_text 62 = .ok (.astore 4, 2) := dk_58 4 (dk_at dksX0_text_2 15 rfl rfl)
theorem dX0_text_64 : decode cX0_text 64 = .ok (.aload_n 0, 1) := dk_42 (dk_at dksX0_text_2 17 rfl rfl)
theorem dX0_text_65 : decode cX0_text 65 = .ok (.iconst 0, 1) := dk_3 (dk_at dksX0_text_2 18 rfl rfl)
theorem dX0_text_66 : decode cX0_text 66 = .ok (.putfield 181, 3) := dk_181 0 181 (dk_at dksX0_text_2 19 rfl rfl)
theorem dX0_text_69 : decode cX0_text 69 = .ok (.aload 4, 2) := dk_25 4 (dk_at dksX0_text_2 22 rfl rfl)
theorem dX0_text_71 : decode cX0_text 71 = .ok (.athrow, 1) := dk_191 (dk_at dksX0_text_3 0 rfl rfl)
abbrev cX0_readsText : ByteArray := prog_1_method_39_code
def yX0_readsText : MethodName := ⟨RX0, "readsText", "(I)I"⟩
def dkwX0_readsText_4 : List UInt8 := [182, 1, 117, 181, 0, 131, 42, 3, 181, 1, 121, 42, 180, 0, 131, 190, 172]
abbrev dktX0_readsText_4 : List UInt8 := dkwX0_readsText_4 ++ []
def dkwX0_readsText_3 : List UInt8 := [42, 180, 0, 137, 190, 172, 42, 42, 182, 1, 113, 181, 0, 143, 42, 180, 0, 143, 190, 172, 42, 42]
abbrev dktX0_readsText_3 : List UInt8 := dkwX0_readsText_3 ++ dktX0_readsText_4
def dkwX0_readsText_2 : List UInt8 := [42, 42, 182, 1, 105, 181, 0, 121, 42, 180, 0, 121, 180, 1, 60, 172, 42, 42, 182, 1, 109, 181, 0, 137]
abbrev dktX0_readsText_2 : List UInt8 := dkwX0_readsText_2 ++ dktX0_readsText_3
def dkwX0_readsText_1 : List UInt8 := [170, 0, 0, 0, 0, 74, 0, 0, 0, 0, 0, 0, 0, 3, 0, 0, 0, 30, 0, 0, 0, 74, 0, 0, 0, 46, 0, 0, 0, 60]
abbrev dktX0_readsText_1 : List UInt8 := dkwX0_readsText_1 ++ dktX0_readsText_2
def dkwX0_readsText_0 : List UInt8 := [42, 27, 182, 1, 102, 27]
abbrev dktX0_readsText_0 : List UInt8 := dkwX0_readsText_0 ++ dktX0_readsText_1
theorem dksX0_readsText_0 : cX0_readsText.data.toList.drop 0 = dktX0_readsText_0 := by decide +kernel
theorem dksX0_readsText_1 : cX0_readsText.data.toList.drop 6 = dktX0_readsText_1 := dk_seg dksX0_readsText_0 6 rfl rfl
theorem dksX0_readsText_2 : cX0_readsText.data.toList.drop 36 = dktX0_readsText_2 := dk_seg dksX0_readsText_1 30 rfl rfl
theorem dksX0_readsText_3 : cX0_readsText.data.toList.drop 60 = dktX0_readsText_3 := dk_seg dksX0_readsText_2 24 rfl rfl
theorem dksX0_readsText_4 : cX0_readsText.data.toList.drop 82 = dktX0_readsText_4 := dk_seg dksX0_readsText_3 22 rfl rfl
theorem dX0_readsText_0 : decode cX0_readsText 0 = .ok (.aload_n 0, 1) := dk_42 (dk_at dksX0_readsText_0 0 rfl rfl)
theorem dX0_readsText_1 : decode cX0_readsText 1 = .ok (.iload_n 1, 1) := dk_27 (dk_at dksX0_readsText_0 1 rfl rfl)
theorem dX0_readsText_2 : decode cX0_readsText 2 = .ok (.invokevirtual 358, 3) := dk_182 1 102 (dk_at dksX0_readsText_0 2 rfl rfl)
theorem dX0_readsText_5 : decode cX0_readsText 5 = .ok (.iload_n 1, 1) := dk_27 (dk_at dksX0_readsText_0 5 rfl rfl)
theorem dX0_readsText_6 : decode cX0_readsText 6 = .ok (.tableswitch 74 0 3 #[30, 74, 46, 60], 30) := by decide +kernel
theorem dX0_readsText_36 : decode cX0_readsText 36 = .ok (.aload_n 0, 1) := dk_42 (dk_at dksX0_readsText_2 0 rfl rfl)
theorem dX0_readsText_37 : decode cX0_readsText 37 = .ok (.aload_n 0, 1) := dk_42 (dk_at dksX0_readsText_2 1 rfl rfl)
theorem dX0_readsText_38 : decode cX0_readsText 38 = .ok (.invokevirtual 361, 3) := dk_182 1 105 (dk_at dksX0_readsText_2 2 rfl rfl)
theorem dX0_readsText_41 : decode cX0_readsText 41 = .ok (.putfield 121, 3) := dk_181 0 121 (dk_at dksX0_readsText_2 5 rfl rfl)
theorem dX0_readsText_44 : decode cX0_readsText 44 = .ok (.aload_n 0, 1) := dk_42 (dk_at dksX0_readsText_2 8 rfl rfl)
theorem dX0_readsText_45 : decode cX0_readsText 45 = .ok (.getfield 121, 3) := dk_180 0 121 (dk_at dksX0_readsText_2 9 rfl rfl)
theorem dX0_readsText_48 : decode cX0_readsText 48 = .ok (.getfield 316, 3) := dk_180 1 60 (dk_at dksX0_readsText_2 12 rfl rfl)
theorem dX0_readsText_51 : decode cX0_readsText 51 = .ok (.ireturn, 1) := dk_172 (dk_at dksX0_readsText_2 15 rfl rfl)
theorem dX0_readsText_52 : decode cX0_readsText 52 = .ok (.aload_n 0, 1) := dk_42 (dk_at dksX0_readsText_2 16 rfl rfl)
theorem dX0_readsText_53 : decode cX0_readsText 53 = .ok (.aload_n 0, 1) := dk_42 (dk_at dksX0_readsText_2 17 rfl rfl)
theorem dX0_readsText_54 : decode cX0_readsText 54 = .ok (.invokevirtual 365, 3) := dk_182 1 109 (dk_at dksX0_readsText_2 18 rfl rfl)
theorem dX0_readsText_57 : decode cX0_readsText 57 = .ok (.putfield 137, 3) := dk_181 0 137 (dk_at dksX0_readsText_2 21 rfl rfl)
theorem dX0_readsText_60 : decode cX0_readsText 60 = .ok (.aload_n 0, 1) := dk_42 (dk_at dksX0_readsText_3 0 rfl rfl)
theorem dX0_readsText_61 : decode cX0_readsText 61 = .ok (.getfield 137, 3) := dk_180 0 137 (dk_at dksX0_readsText_3 1 rfl rfl)
theorem dX0_readsText_64 : decode cX0_readsText 64 = .ok (.arraylength, 1) := dk_190 (dk_at dksX0_readsText_3 4 rfl rfl)
theorem dX0_readsText_65 : decode cX0_readsText 65 = .ok (.ireturn, 1) := dk_172 (dk_at dksX0_readsText_3 5 rfl rfl)
theorem dX0_readsText_66 : decode cX0_readsText 66 = .ok (.aload_n 0, 1) := dk_42 (dk_at dksX0_readsText_3 6 rfl rfl)
theorem dX0_readsText_67 : decode cX0_readsText 67 = .ok (.aload_n 0, 1) := dk_42 (dk_at dksX0_readsText_3 7 rfl rfl)
theorem dX0_readsText_68 : decode cX0_readsText 68 = .ok (.invokevirtual 369, 3) := dk_182 1 113 (dk_at dksX0_readsText_3 8 rfl rfl)
theorem dX0_readsText_71 : decode cX0_readsText 71 = .ok (.putfield 143, 3) := dk_181 0 143 (dk_at dksX0_readsText_3 11 rfl rfl)
theorem dX0_readsText_74 : decode cX0_readsText 74 = .ok (.aload_n 0, 1) := dk_42 (dk_at dksX0_readsText_3 14 rfl rfl)
theorem dX0_readsText_75 : decode cX0_readsText 75 = .ok (.getfield 143, 3) := dk_180 0 143 (dk_at dksX0_readsText_3 15 rfl rfl)
theorem dX0_readsText_78 : decode cX0_readsText 78 = .ok (.arraylength, 1) := dk_190 (dk_at dksX0_readsText_3 18 rfl rfl)
theorem dX0_readsText_79 : decode cX0_readsText 79 = .ok (.ireturn, 1) := dk_172 (dk_at dksX0_readsText_3 19 rfl rfl)
theorem dX0_readsText_80 : decode cX0_readsText 80 = .ok (.aload_n 0, 1) := dk_42 (dk_at dksX0_readsText_3 20 rfl rfl)
theorem dX0_readsText_81 : decode cX0_readsText 81 = .ok (.aload_n 0, 1) := dk_42 (dk_at dksX0_readsText_3 21 rfl rfl)
theorem dX0_readsText_82 : decode cX0_readsText 82 = .ok (.invokevirtual 373, 3) := dk_182 1 117 (dk_at dksX0_readsText_4 0 rfl rfl)
theorem dX0_readsText_85 : decode cX0_readsText 85 = .ok (.putfield 131, 3) := dk_181 0 131 (dk_at dksX0_readsText_4 3 rfl rfl)
theorem dX0_readsText_88 : decode cX0_readsText 88 = .ok (.aload_n 0, 1) := dk_42 (dk_at dksX0_readsText_4 6 rfl rfl)
theorem dX0_readsText_89 : decode cX0_readsText 89 = .ok (.iconst 0, 1) := dk_3 (dk_at dksX0_readsText_4 7 rfl rfl)
theorem dX0_readsText_90 : decode cX0_readsText 90 = .ok (.putfield 377, 3) := dk_181 1 121 (dk_at dksX0_readsText_4 8 rfl rfl)
theorem dX0_readsText_93 : decode cX0_readsText 93 = .ok (.aload_n 0, 1) := dk_42 (dk_at dksX0_readsText_4 11 rfl rfl)
theorem dX0_readsText_94 : decode cX0_readsText 94 = .ok (.getfield 131, 3) := dk_180 0 131 (dk_at dksX0_readsText_4 12 rfl rfl)
theorem dX0_readsText_97 : decode cX0_readsText 97 = .ok (.arraylength, 1) := dk_190 (dk_at dksX0_readsText_4 15 rfl rfl)
theorem dX0_readsText_98 : decode cX0_readsText 98 = .ok (.ireturn, 1) := dk_172 (dk_at dksX0_readsText_4 16 rfl rfl)
abbrev cX0_openText : ByteArray := prog_1_method_38_code
def yX0_openText : MethodName := ⟨RX0, "openText", "(I)V"⟩
def dkwX0_openText_2 : List UInt8 := [181, 0, 111, 42, 3, 181, 0, 196, 42, 3, 181, 1, 31, 42, 182, 1, 9, 177]
abbrev dktX0_openText_2 : List UInt8 := dkwX0_openText_2 ++ []
def dkwX0_openText_1 : List UInt8 := [180, 0, 102, 181, 0, 108, 42, 27, 154, 0, 10, 42, 180, 0, 99, 167, 0, 7, 42, 180, 0, 102]
abbrev dktX0_openText_1 : List UInt8 := dkwX0_openText_1 ++ dktX0_openText_2
def dkwX0_openText_0 : List UInt8 := [42, 42, 180, 0, 70, 27, 50, 181, 0, 105, 42, 27, 154, 0, 10, 42, 180, 0, 88, 167, 0, 7, 42]
abbrev dktX0_openText_0 : List UInt8 := dkwX0_openText_0 ++ dktX0_openText_1
theorem dksX0_openText_0 : cX0_openText.data.toList.drop 0 = dktX0_openText_0 := by decide +kernel
theorem dksX0_openText_1 : cX0_openText.data.toList.drop 23 = dktX0_openText_1 := dk_seg dksX0_openText_0 23 rfl rfl
theorem dksX0_openText_2 : cX0_openText.data.toList.drop 45 = dktX0_openText_2 := dk_seg dksX0_openText_1 22 rfl rfl
theorem dX0_openText_0 : decode cX0_openText 0 = .ok (.aload_n 0, 1) := dk_42 (dk_at dksX0_openText_0 0 rfl rfl)
theorem dX0_openText_1 : decode cX0_openText 1 = .ok (.aload_n 0, 1) := dk_42 (dk_at dksX0_openText_0 1 rfl rfl)
theorem dX0_openText_2 : decode cX0_openText 2 = .ok (.getfield 70, 3) := dk_180 0 70 (dk_at dksX0_openText_0 2 rfl rfl)
theorem dX0_openText_5 : decode cX0_openText 5 = .ok (.iload_n 1, 1) := dk_27 (dk_at dksX0_openText_0 5 rfl rfl)
theorem dX0_openText_6 : decode cX0_openText 6 = .ok (.aaload, 1) := dk_50 (dk_at dksX0_openText_0 6 rfl rfl)
theorem dX0_openText_7 : decode cX0_openText 7 = .ok (.putfield 105, 3) := dk_181 0 105 (dk_at dksX0_openText_0 7 rfl rfl)
theorem dX0_openText_10 : decode cX0_openText 10 = .ok (.aload_n 0, 1) := dk_42 (dk_at dksX0_openText_0 10 rfl rfl)
theorem dX0_openText_11 : decode cX0_openText 11 = .ok (.iload_n 1, 1) := dk_27 (dk_at dksX0_openText_0 11 rfl rfl)
theorem dX0_openText_12 : decode cX0_openText 12 = .ok (.ifCond .ne 10, 3) := dk_154 0 10 (dk_at dksX0_openText_0 12 rfl rfl)
theorem dX0_openText_15 : decode cX0_openText 15 = .ok (.aload_n 0, 1) := dk_42 (dk_at dksX0_openText_0 15 rfl rfl)
theorem dX0_openText_16 : decode cX0_openText 16 = .ok (.getfield 88, 3) := dk_180 0 88 (dk_at dksX0_openText_0 16 rfl rfl)
theorem dX0_openText_19 : decode cX0_openText 19 = .ok (.goto 7, 3) := dk_167 0 7 (dk_at dksX0_openText_0 19 rfl rfl)
theorem dX0_openText_22 : decode cX0_openText 22 = .ok (.aload_n 0, 1) := dk_42 (dk_at dksX0_openText_0 22 rfl rfl)
theorem dX0_openText_23 : decode cX0_openText 23 = .ok (.getfield 102, 3) := dk_180 0 102 (dk_at dksX0_openText_1 0 rfl rfl)
theorem dX0_openText_26 : decode cX0_openText 26 = .ok (.putfield 108, 3) := dk_181 0 108 (dk_at dksX0_openText_1 3 rfl rfl)
theorem dX0_openText_29 : decode cX0_openText 29 = .ok (.aload_n 0, 1) := dk_42 (dk_at dksX0_openText_1 6 rfl rfl)
theorem dX0_openText_30 : decode cX0_openText 30 = .ok (.iload_n 1, 1) := dk_27 (dk_at dksX0_openText_1 7 rfl rfl)
theorem dX0_openText_31 : decode cX0_openText 31 = .ok (.ifCond .ne 10, 3) := dk_154 0 10 (dk_at dksX0_openText_1 8 rfl rfl)
theorem dX0_openText_34 : decode cX0_openText 34 = .ok (.aload_n 0, 1) := dk_42 (dk_at dksX0_openText_1 11 rfl rfl)
theorem dX0_openText_35 : decode cX0_openText 35 = .ok (.getfield 99, 3) := dk_180 0 99 (dk_at dksX0_openText_1 12 rfl rfl)
theorem dX0_openText_38 : decode cX0_openText 38 = .ok (.goto 7, 3) := dk_167 0 7 (dk_at dksX0_openText_1 15 rfl rfl)
theorem dX0_openText_41 : decode cX0_openText 41 = .ok (.aload_n 0, 1) := dk_42 (dk_at dksX0_openText_1 18 rfl rfl)
theorem dX0_openText_42 : decode cX0_openText 42 = .ok (.getfield 102, 3) := dk_180 0 102 (dk_at dksX0_openText_1 19 rfl rfl)
theorem dX0_openText_45 : decode cX0_openText 45 = .ok (.putfield 111, 3) := dk_181 0 111 (dk_at dksX0_openText_2 0 rfl rfl)
theorem dX0_openText_48 : decode cX0_openText 48 = .ok (.aload_n 0, 1) := dk_42 (dk_at dksX0_openText_2 3 rfl rfl)
theorem dX0_openText_49 : decode cX0_openText 49 = .ok (.iconst 0, 1) := dk_3 (dk_at dksX0_openText_2 4 rfl rfl)
theorem dX0_openText_50 : decode cX0_openText 50 = .ok (.putfield 196, 3) := dk_181 0 196 (dk_at dksX0_openText_2 5 rfl rfl)
theorem dX0_openText_53 : decode cX0_openText 53 = .ok (.aload_n 0, 1) := dk_42 (dk_at dksX0_openText_2 8 rfl rfl)
theorem dX0_openText_54 : decode cX0_openText 54 = .ok (.iconst 0, 1) := dk_3 (dk_at dksX0_openText_2 9 rfl rfl)
theorem dX0_openText_55 : decode cX0_openText 55 = .ok (.putfield 287, 3) := dk_181 1 31 (dk_at dksX0_openText_2 10 rfl rfl)
theorem dX0_openText_58 : decode cX0_openText 58 = .ok (.aload_n 0, 1) := dk_42 (dk_at dksX0_openText_2 13 rfl rfl)
theorem dX0_openText_59 : decode cX0_openText 59 = .ok (.invokevirtual 265, 3) := dk_182 1 9 (dk_at dksX0_openText_2 14 rfl rfl)
theorem dX0_openText_62 : decode cX0_openText 62 = .ok (.return_, 1) := dk_177 (dk_at dksX0_openText_2 17 rfl rfl)
abbrev cX0_readNext : ByteArray := prog_1_method_19_code
def yX0_readNext : MethodName := ⟨RX0, "readNext", "()V"⟩
def dkwX0_readNext_12 : List UInt8 := [181, 0, 208, 42, 27, 181, 0, 224, 177]
abbrev dktX0_readNext_12 : List UInt8 := dkwX0_readNext_12 ++ []
def dkwX0_readNext_11 : List UInt8 := [42, 178, 0, 244, 181, 0, 208, 167, 0, 24, 18, 247, 27, 182, 0, 249, 155, 0, 15, 42, 178, 0, 221]
abbrev dktX0_readNext_11 : List UInt8 := dkwX0_readNext_11 ++ dktX0_readNext_12
def dkwX0_readNext_10 : List UInt8 := [180, 0, 196, 4, 96, 181, 0, 196, 167, 255, 204, 42, 180, 0, 196, 42, 180, 0, 199, 100, 7, 163, 0, 34]
abbrev dktX0_readNext_10 : List UInt8 := dkwX0_readNext_10 ++ dktX0_readNext_11
def dkwX0_readNext_9 : List UInt8 := [180, 0, 224, 104, 42, 42, 180, 0, 196, 182, 0, 201, 96, 16, 48, 100, 184, 0, 1, 181, 0, 224, 42, 89]
abbrev dktX0_readNext_9 : List UInt8 := dkwX0_readNext_9 ++ dktX0_readNext_10
def dkwX0_readNext_8 : List UInt8 := [100, 181, 0, 224, 42, 42, 180, 0, 196, 182, 0, 201, 184, 0, 240, 153, 0, 44, 42, 18, 243, 16, 10, 42]
abbrev dktX0_readNext_8 : List UInt8 := dkwX0_readNext_8 ++ dktX0_readNext_9
def dkwX0_readNext_7 : List UInt8 := [160, 0, 127, 42, 178, 0, 230, 181, 0, 208, 167, 0, 117, 27, 184, 0, 240, 153, 0, 89, 42, 27, 16, 48]
abbrev dktX0_readNext_7 : List UInt8 := dkwX0_readNext_7 ++ dktX0_readNext_8
def dkwX0_readNext_6 : List UInt8 := [160, 0, 151, 42, 42, 180, 0, 108, 182, 0, 236, 2, 160, 0, 139, 42, 42, 180, 0, 111, 182, 0, 236, 2]
abbrev dktX0_readNext_6 : List UInt8 := dkwX0_readNext_6 ++ dktX0_readNext_7
def dkwX0_readNext_5 : List UInt8 := [181, 0, 196, 167, 255, 232, 42, 178, 0, 212, 181, 0, 208, 42, 42, 180, 0, 105, 182, 0, 236, 2]
abbrev dktX0_readNext_5 : List UInt8 := dkwX0_readNext_5 ++ dktX0_readNext_6
def dkwX0_readNext_4 : List UInt8 := [153, 0, 83, 42, 42, 180, 0, 196, 182, 0, 201, 184, 0, 233, 153, 0, 16, 42, 89, 180, 0, 196, 4, 96]
abbrev dktX0_readNext_4 : List UInt8 := dkwX0_readNext_4 ++ dktX0_readNext_5
def dkwX0_readNext_3 : List UInt8 := [181, 0, 208, 27, 2, 160, 0, 4, 177, 42, 89, 180, 0, 196, 4, 96, 181, 0, 196, 27, 184, 0, 233]
abbrev dktX0_readNext_3 : List UInt8 := dkwX0_readNext_3 ++ dktX0_readNext_4
def dkwX0_readNext_2 : List UInt8 := [42, 42, 180, 0, 196, 182, 0, 201, 60, 42, 27, 2, 160, 0, 9, 178, 0, 227, 167, 0, 6, 178, 0, 230]
abbrev dktX0_readNext_2 : List UInt8 := dkwX0_readNext_2 ++ dktX0_readNext_3
def dkwX0_readNext_1 : List UInt8 := [160, 0, 16, 42, 89, 180, 0, 196, 4, 96, 181, 0, 196, 167, 255, 220, 42, 42, 180, 0, 196, 181, 0, 199]
abbrev dktX0_readNext_1 : List UInt8 := dkwX0_readNext_1 ++ dktX0_readNext_2
def dkwX0_readNext_0 : List UInt8 := [42, 42, 180, 0, 196, 182, 0, 201, 16, 32, 159, 0, 16, 42, 42, 180, 0, 196, 182, 0, 201, 16, 10]
abbrev dktX0_readNext_0 : List UInt8 := dkwX0_readNext_0 ++ dktX0_readNext_1
theorem dksX0_readNext_0 : cX0_readNext.data.toList.drop 0 = dktX0_readNext_0 := by decide +kernel
theorem dksX0_readNext_1 : cX0_readNext.data.toList.drop 23 = dktX0_readNext_1 := dk_seg dksX0_readNext_0 23 rfl rfl
theorem dksX0_readNext_2 : cX0_readNext.data.toList.drop 47 = dktX0_readNext_2 := dk_seg dksX0_readNext_1 24 rfl rfl
theorem dksX0_readNext_3 : cX0_readNext.data.toList.drop 71 = dktX0_readNext_3 := dk_seg dksX0_readNext_2 24 rfl rfl
theorem dksX0_readNext_4 : cX0_readNext.data.toList.drop 94 = dktX0_readNext_4 := dk_seg dksX0_readNext_3 23 rfl rfl
theorem dksX0_readNext_5 : cX0_readNext.data.toList.drop 118 = dktX0_readNext_5 := dk_seg dksX0_readNext_4 24 rfl rfl
theorem dksX0_readNext_6 : cX0_readNext.data.toList.drop 140 = dktX0_readNext_6 := dk_seg dksX0_readNext_5 22 rfl rfl
theorem dksX0_readNext_7 : cX0_readNext.data.toList.drop 164 = dktX0_readNext_7 := dk_seg dksX0_readNext_6 24 rfl rfl
theorem dksX0_readNext_8 : cX0_readNext.data.toList.drop 188 = dktX0_readNext_8 := dk_seg dksX0_readNext_7 24 rfl rfl
theorem dksX0_readNext_9 : cX0_readNext.data.toList.drop 212 = dktX0_readNext_9 := dk_seg dksX0_readNext_8 24 rfl rfl
theorem dksX0_readNext_10 : cX0_readNext.data.toList.drop 236 = dktX0_readNext_10 := dk_seg dksX0_readNext_9 24 rfl rfl
theorem dksX0_readNext_11 : cX0_readNext.data.toList.drop 260 = dktX0_readNext_11 := dk_seg dksX0_readNext_10 24 rfl rfl
theorem dksX0_readNext_12 : cX0_readNext.data.toList.drop 283 = dktX0_readNext_12 := dk_seg dksX0_readNext_11 23 rfl rfl
theorem dX0_readNext_0 : decode cX0_readNext 0 = .ok (.aload_n 0, 1) := dk_42 (dk_at dksX0_readNext_0 0 rfl rfl)
theorem dX0_readNext_1 : decode cX0_readNext 1 = .ok (.aload_n 0, 1) := dk_42 (dk_at dksX0_readNext_0 1 rfl rfl)
theorem dX0_readNext_2 : decode cX0_readNext 2 = .ok (.getfield 196, 3) := dk_180 0 196 (dk_at dksX0_readNext_0 2 rfl rfl)
theorem dX0_readNext_5 : decode cX0_readNext 5 = .ok (.invokevirtual 201, 3) := dk_182 0 201 (dk_at dksX0_readNext_0 5 rfl rfl)
theorem dX0_readNext_8 : decode cX0_readNext 8 = .ok (.bipush 32, 2) := dk_16 32 (dk_at dksX0_readNext_0 8 rfl rfl)
theorem dX0_readNext_10 : decode cX0_readNext 10 = .ok (.if_icmp .eq 16, 3) := dk_159 0 16 (dk_at dksX0_readNext_0 10 rfl rfl)
theorem dX0_readNext_13 : decode cX0_readNext 13 = .ok (.aload_n 0, 1) := dk_42 (dk_at dksX0_readNext_0 13 rfl rfl)
theorem dX0_readNext_14 : decode cX0_readNext 14 = .ok (.aload_n 0, 1) := dk_42 (dk_at dksX0_readNext_0 14 rfl rfl)
theorem dX0_readNext_15 : decode cX0_readNext 15 = .ok (.getfield 196, 3) := dk_180 0 196 (dk_at dksX0_readNext_0 15 rfl rfl)
theorem dX0_readNext_18 : decode cX0_readNext 18 = .ok (.invokevirtual 201, 3) := dk_182 0 201 (dk_at dksX0_readNext_0 18 rfl rfl)
theorem dX0_readNext_21 : decode cX0_readNext 21 = .ok (.bipush 10, 2) := dk_16 10 (dk_at dksX0_readNext_0 21 rfl rfl)
theorem dX0_readNext_23 : decode cX0_readNext 23 = .ok (.if_icmp .ne 16, 3) := dk_160 0 16 (dk_at dksX0_readNext_1 0 rfl rfl)
theorem dX0_readNext_26 : decode cX0_readNext 26 = .ok (.aload_n 0, 1) := dk_42 (dk_at dksX0_readNext_1 3 rfl rfl)
theorem dX0_readNext_27 : decode cX0_readNext 27 = .ok (.dup, 1) := dk_89 (dk_at dksX0_readNext_1 4 rfl rfl)
theorem dX0_readNext_28 : decode cX0_readNext 28 = .ok (.getfield 196, 3) := dk_180 0 196 (dk_at dksX0_readNext_1 5 rfl rfl)
theorem dX0_readNext_31 : decode cX0_readNext 31 = .ok (.iconst 1, 1) := dk_4 (dk_at dksX0_readNext_1 8 rfl rfl)
theorem dX0_readNext_32 : decode cX0_readNext 32 = .ok (.iadd, 1) := dk_96 (dk_at dksX0_readNext_1 9 rfl rfl)
theorem dX0_readNext_33 : decode cX0_readNext 33 = .ok (.putfield 196, 3) := dk_181 0 196 (dk_at dksX0_readNext_1 10 rfl rfl)
theorem dX0_readNext_36 : decode cX0_readNext 36 = .ok (.goto (-36), 3) := dk_167 255 220 (dk_at dksX0_readNext_1 13 rfl rfl)
theorem dX0_readNext_39 : decode cX0_readNext 39 = .ok (.aload_n 0, 1) := dk_42 (dk_at dksX0_readNext_1 16 rfl rfl)
theorem dX0_readNext_40 : decode cX0_readNext 40 = .ok (.aload_n 0, 1) := dk_42 (dk_at dksX0_readNext_1 17 rfl rfl)
theorem dX0_readNext_41 : decode cX0_readNext 41 = .ok (.getfield 196, 3) := dk_180 0 196 (dk_at dksX0_readNext_1 18 rfl rfl)
theorem dX0_readNext_44 : decode cX0_readNext 44 = .ok (.putfield 199, 3) := dk_181 0 199 (dk_at dksX0_readNext_1 21 rfl rfl)
theorem dX0_readNext_47 : decode cX0_readNext 47 = .ok (.aload_n 0, 1) := dk_42 (dk_at dksX0_readNext_2 0 rfl rfl)
theorem dX0_readNext_48 : decode cX0_readNext 48 = .ok (.aload_n 0, 1) := dk_42 (dk_at dksX0_readNext_2 1 rfl rfl)
theorem dX0_readNext_49 : decode cX0_readNext 49 = .ok (.getfield 196, 3) := dk_180 0 196 (dk_at dksX0_readNext_2 2 rfl rfl)
theorem dX0_readNext_52 : decode cX0_readNext 52 = .ok (.invokevirtual 201, 3) := dk_182 0 201 (dk_at dksX0_readNext_2 5 rfl rfl)
theorem dX0_readNext_55 : decode cX0_readNext 55 = .ok (.istore_n 1, 1) := dk_60 (dk_at dksX0_readNext_2 8 rfl rfl)
theorem dX0_readNext_56 : decode cX0_readNext 56 = .ok (.aload_n 0, 1) := dk_42 (dk_at dksX0_readNext_2 9 rfl rfl)
theorem dX0_readNext_57 : decode cX0_readNext 57 = .ok (.iload_n 1, 1) := dk_27 (dk_at dksX0_readNext_2 10 rfl rfl)
theorem dX0_readNext_58 : decode cX0_readNext 58 = .ok (.iconst (-1), 1) := dk_2 (dk_at dksX0_readNext_2 11 rfl rfl)
theorem dX0_readNext_59 : decode cX0_readNext 59 = .ok (.if_icmp .ne 9, 3) := dk_160 0 9 (dk_at dksX0_readNext_2 12 rfl rfl)
theorem dX0_readNext_62 : decode cX0_readNext 62 = .ok (.getstatic 227, 3) := dk_178 0 227 (dk_at dksX0_readNext_2 15 rfl rfl)
theorem dX0_readNext_65 : decode cX0_readNext 65 = .ok (.goto 6, 3) := dk_167 0 6 (dk_at dksX0_readNext_2 18 rfl rfl)
theorem dX0_readNext_68 : decode cX0_readNext 68 = .ok (.getstatic 230, 3) := dk_178 0 230 (dk_at dksX0_readNext_2 21 rfl rfl)
theorem dX0_readNext_71 : decode cX0_readNext 71 = .ok (.putfield 208, 3) := dk_181 0 208 (dk_at dksX0_readNext_3 0 rfl rfl)
theorem dX0_readNext_74 : decode cX0_readNext 74 = .ok (.iload_n 1, 1) := dk_27 (dk_at dksX0_readNext_3 3 rfl rfl)
theorem dX0_readNext_75 : decode cX0_readNext 75 = .ok (.iconst (-1), 1) := dk_2 (dk_at dksX0_readNext_3 4 rfl rfl)
theorem dX0_readNext_76 : decode cX0_readNext 76 = .ok (.if_icmp .ne 4, 3) := dk_160 0 4 (dk_at dksX0_readNext_3 5 rfl rfl)
theorem dX0_readNext_79 : decode cX0_readNext 79 = .ok (.return_, 1) := dk_177 (dk_at dksX0_readNext_3 8 rfl rfl)
theorem dX0_readNext_80 : decode cX0_readNext 80 = .ok (.aload_n 0, 1) := dk_42 (dk_at dksX0_readNext_3 9 rfl rfl)
theorem dX0_readNext_81 : decode cX0_readNext 81 = .ok (.dup, 1) := dk_89 (dk_at dksX0_readNext_3 10 rfl rfl)
theorem dX0_readNext_82 : decode cX0_readNext 82 = .ok (.getfield 196, 3) := dk_180 0 196 (dk_at dksX0_readNext_3 11 rfl rfl)
theorem dX0_readNext_85 : decode cX0_readNext 85 = .ok (.iconst 1, 1) := dk_4 (dk_at dksX0_readNext_3 14 rfl rfl)
theorem dX0_readNext_86 : decode cX0_readNext 86 = .ok (.iadd, 1) := dk_96 (dk_at dksX0_readNext_3 15 rfl rfl)
theorem dX0_readNext_87 : decode cX0_readNext 87 = .ok (.putfield 196, 3) := dk_181 0 196 (dk_at dksX0_readNext_3 16 rfl rfl)
theorem dX0_readNext_90 : decode cX0_readNext 90 = .ok (.iload_n 1, 1) := dk_27 (dk_at dksX0_readNext_3 19 rfl rfl)
theorem dX0_readNext_91 : decode cX0_readNext 91 = .ok (.invokestatic 233, 3) := dk_184 0 233 (dk_at dksX0_readNext_3 20 rfl rfl)
theorem dX0_readNext_94 : decode cX0_readNext 94 = .ok (.ifCond .eq 83, 3) := dk_153 0 83 (dk_at dksX0_readNext_4 0 rfl rfl)
theorem dX0_readNext_97 : decode cX0_readNext 97 = .ok (.aload_n 0, 1) := dk_42 (dk_at dksX0_readNext_4 3 rfl rfl)
theorem dX0_readNext_98 : decode cX0_readNext 98 = .ok (.aload_n 0, 1) := dk_42 (dk_at dksX0_readNext_4 4 rfl rfl)
theorem dX0_readNext_99 : decode cX0_readNext 99 = .ok (.getfield 196, 3) := dk_180 0 196 (dk_at dksX0_readNext_4 5 rfl rfl)
theorem dX0_readNext_102 : decode cX0_readNext 102 = .ok (.invokevirtual 201, 3) := dk_182 0 201 (dk_at dksX0_readNext_4 8 rfl rfl)
theorem dX0_readNext_105 : decode cX0_readNext 105 = .ok (.invokestatic 233, 3) := dk_184 0 233 (dk_at dksX0_readNext_4 11 rfl rfl)
theorem dX0_readNext_108 : decode cX0_readNext 108 = .ok (.ifCond .eq 16, 3) := dk_153 0 16 (dk_at dksX0_readNext_4 14 rfl rfl)
theorem dX0_readNext_111 : decode cX0_readNext 111 = .ok (.aload_n 0, 1) := dk_42 (dk_at dksX0_readNext_4 17 rfl rfl)
theorem dX0_readNext_112 : decode cX0_readNext 112 = .ok (.dup, 1) := dk_89 (dk_at dksX0_readNext_4 18 rfl rfl)
theorem dX0_readNext_113 : decode cX0_readNext 113 = .ok (.getfield 196, 3) := dk_180 0 196 (dk_at dksX0_readNext_4 19 rfl rfl)
theorem dX0_readNext_116 : decode cX0_readNext 116 = .ok (.iconst 1, 1) := dk_4 (dk_at dksX0_readNext_4 22 rfl rfl)
theorem dX0_readNext_117 : decode cX0_readNext 117 = .ok (.iadd, 1) := dk_96 (dk_at dksX0_readNext_4 23 rfl rfl)
theorem dX0_readNext_118 : decode cX0_readNext 118 = .ok (.putfield 196, 3) := dk_181 0 196 (dk_at dksX0_readNext_5 0 rfl rfl)
theorem dX0_readNext_121 : decode cX0_readNext 121 = .ok (.goto (-24), 3) := dk_167 255 232 (dk_at dksX0_readNext_5 3 rfl rfl)
theorem dX0_readNext_124 : decode cX0_readNext 124 = .ok (.aload_n 0, 1) := dk_42 (dk_at dksX0_readNext_5 6 rfl rfl)
theorem dX0_readNext_125 : decode cX0_readNext 125 = .ok (.getstatic 212, 3) := dk_178 0 212 (dk_at dksX0_readNext_5 7 rfl rfl)
theorem dX0_readNext_128 : decode cX0_readNext 128 = .ok (.putfield 208, 3) := dk_181 0 208 (dk_at dksX0_readNext_5 10 rfl rfl)
theorem dX0_readNext_131 : decode cX0_readNext 131 = .ok (.aload_n 0, 1) := dk_42 (dk_at dksX0_readNext_5 13 rfl rfl)
theorem dX0_readNext_132 : decode cX0_readNext 132 = .ok (.aload_n 0, 1) := dk_42 (dk_at dksX0_readNext_5 14 rfl rfl)
theorem dX0_readNext_133 : decode cX0_readNext 133 = .ok (.getfield 105, 3) := dk_180 0 105 (dk_at dksX0_readNext_5 15 rfl rfl)
theorem dX0_readNext_136 : decode cX0_readNext 136 = .ok (.invokevirtual 236, 3) := dk_182 0 236 (dk_at dksX0_readNext_5 18 rfl rfl)
theorem dX0_readNext_139 : decode cX0_readNext 139 = .ok (.iconst (-1), 1) := dk_2 (dk_at dksX0_readNext_5 21 rfl rfl)
theorem dX0_readNext_140 : decode cX0_readNext 140 = .ok (.if_icmp .ne 151, 3) := dk_160 0 151 (dk_at dksX0_readNext_6 0 rfl rfl)
theorem dX0_readNext_143 : decode cX0_readNext 143 = .ok (.aload_n 0, 1) := dk_42 (dk_at dksX0_readNext_6 3 rfl rfl)
theorem dX0_readNext_144 : decode cX0_readNext 144 = .ok (.aload_n 0, 1) := dk_42 (dk_at dksX0_readNext_6 4 rfl rfl)
theorem dX0_readNext_145 : decode cX0_readNext 145 = .ok (.getfield 108, 3) := dk_180 0 108 (dk_at dksX0_readNext_6 5 rfl rfl)
theorem dX0_readNext_148 : decode cX0_readNext 148 = .ok (.invokevirtual 236, 3) := dk_182 0 236 (dk_at dksX0_readNext_6 8 rfl rfl)
theorem dX0_readNext_151 : decode cX0_readNext 151 = .ok (.iconst (-1), 1) := dk_2 (dk_at dksX0_readNext_6 11 rfl rfl)
theorem dX0_readNext_152 : decode cX0_readNext 152 = .ok (.if_icmp .ne 139, 3) := dk_160 0 139 (dk_at dksX0_readNext_6 12 rfl rfl)
theorem dX0_readNext_155 : decode cX0_readNext 155 = .ok (.aload_n 0, 1) := dk_42 (dk_at dksX0_readNext_6 15 rfl rfl)
theorem dX0_readNext_156 : decode cX0_readNext 156 = .ok (.aload_n 0, 1) := dk_42 (dk_at dksX0_readNext_6 16 rfl rfl)
theorem dX0_readNext_157 : decode cX0_readNext 157 = .ok (.getfield 111, 3) := dk_180 0 111 (dk_at dksX0_readNext_6 17 rfl rfl)
theorem dX0_readNext_160 : decode cX0_readNext 160 = .ok (.invokevirtual 236, 3) := dk_182 0 236 (dk_at dksX0_readNext_6 20 rfl rfl)
theorem dX0_readNext_163 : decode cX0_readNext 163 = .ok (.iconst (-1), 1) := dk_2 (dk_at dksX0_readNext_6 23 rfl rfl)
theorem dX0_readNext_164 : decode cX0_readNext 164 = .ok (.if_icmp .ne 127, 3) := dk_160 0 127 (dk_at dksX0_readNext_7 0 rfl rfl)
theorem dX0_readNext_167 : decode cX0_readNext 167 = .ok (.aload_n 0, 1) := dk_42 (dk_at dksX0_readNext_7 3 rfl rfl)
theorem dX0_readNext_168 : decode cX0_readNext 168 = .ok (.getstatic 230, 3) := dk_178 0 230 (dk_at dksX0_readNext_7 4 rfl rfl)
theorem dX0_readNext_171 : decode cX0_readNext 171 = .ok (.putfield 208, 3) := dk_181 0 208 (dk_at dksX0_readNext_7 7 rfl rfl)
theorem dX0_readNext_174 : decode cX0_readNext 174 = .ok (.goto 117, 3) := dk_167 0 117 (dk_at dksX0_readNext_7 10 rfl rfl)
theorem dX0_readNext_177 : decode cX0_readNext 177 = .ok (.iload_n 1, 1) := dk_27 (dk_at dksX0_readNext_7 13 rfl rfl)
theorem dX0_readNext_178 : decode cX0_readNext 178 = .ok (.invokestatic 240, 3) := dk_184 0 240 (dk_at dksX0_readNext_7 14 rfl rfl)
theorem dX0_readNext_181 : decode cX0_readNext 181 = .ok (.ifCond .eq 89, 3) := dk_153 0 89 (dk_at dksX0_readNext_7 17 rfl rfl)
theorem dX0_readNext_184 : decode cX0_readNext 184 = .ok (.aload_n 0, 1) := dk_42 (dk_at dksX0_readNext_7 20 rfl rfl)
theorem dX0_readNext_185 : decode cX0_readNext 185 = .ok (.iload_n 1, 1) := dk_27 (dk_at dksX0_readNext_7 21 rfl rfl)
theorem dX0_readNext_186 : decode cX0_readNext 186 = .ok (.bipush 48, 2) := dk_16 48 (dk_at dksX0_readNext_7 22 rfl rfl)
theorem dX0_readNext_188 : decode cX0_readNext 188 = .ok (.isub, 1) := dk_100 (dk_at dksX0_readNext_8 0 rfl rfl)
theorem dX0_readNext_189 : decode cX0_readNext 189 = .ok (.putfield 224, 3) := dk_181 0 224 (dk_at dksX0_readNext_8 1 rfl rfl)
theorem dX0_readNext_192 : decode cX0_readNext 192 = .ok (.aload_n 0, 1) := dk_42 (dk_at dksX0_readNext_8 4 rfl rfl)
theorem dX0_readNext_193 : decode cX0_readNext 193 = .ok (.aload_n 0, 1) := dk_42 (dk_at dksX0_readNext_8 5 rfl rfl)
theorem dX0_readNext_194 : decode cX0_readNext 194 = .ok (.getfield 196, 3) := dk_180 0 196 (dk_at dksX0_readNext_8 6 rfl rfl)
theorem dX0_readNext_197 : decode cX0_readNext 197 = .ok (.invokevirtual 201, 3) := dk_182 0 201 (dk_at dksX0_readNext_8 9 rfl rfl)
theorem dX0_readNext_200 : decode cX0_readNext 200 = .ok (.invokestatic 240, 3) := dk_184 0 240 (dk_at dksX0_readNext_8 12 rfl rfl)
theorem dX0_readNext_203 : decode cX0_readNext 203 = .ok (.ifCond .eq 44, 3) := dk_153 0 44 (dk_at dksX0_readNext_8 15 rfl rfl)
theorem dX0_readNext_206 : decode cX0_readNext 206 = .ok (.aload_n 0, 1) := dk_42 (dk_at dksX0_readNext_8 18 rfl rfl)
theorem dX0_readNext_207 : decode cX0_readNext 207 = .ok (.ldc 243, 2) := dk_18 243 (dk_at dksX0_readNext_8 19 rfl rfl)
theorem dX0_readNext_209 : decode cX0_readNext 209 = .ok (.bipush 10, 2) := dk_16 10 (dk_at dksX0_readNext_8 21 rfl rfl)
theorem dX0_readNext_211 : decode cX0_readNext 211 = .ok (.aload_n 0, 1) := dk_42 (dk_at dksX0_readNext_8 23 rfl rfl)
theorem dX0_readNext_212 : decode cX0_readNext 212 = .ok (.getfield 224, 3) := dk_180 0 224 (dk_at dksX0_readNext_9 0 rfl rfl)
theorem dX0_readNext_215 : decode cX0_readNext 215 = .ok (.imul, 1) := dk_104 (dk_at dksX0_readNext_9 3 rfl rfl)
theorem dX0_readNext_216 : decode cX0_readNext 216 = .ok (.aload_n 0, 1) := dk_42 (dk_at dksX0_readNext_9 4 rfl rfl)
theorem dX0_readNext_217 : decode cX0_readNext 217 = .ok (.aload_n 0, 1) := dk_42 (dk_at dksX0_readNext_9 5 rfl rfl)
theorem dX0_readNext_218 : decode cX0_readNext 218 = .ok (.getfield 196, 3) := dk_180 0 196 (dk_at dksX0_readNext_9 6 rfl rfl)
theorem dX0_readNext_221 : decode cX0_readNext 221 = .ok (.invokevirtual 201, 3) := dk_182 0 201 (dk_at dksX0_readNext_9 9 rfl rfl)
theorem dX0_readNext_224 : decode cX0_readNext 224 = .ok (.iadd, 1) := dk_96 (dk_at dksX0_readNext_9 12 rfl rfl)
theorem dX0_readNext_225 : decode cX0_readNext 225 = .ok (.bipush 48, 2) := dk_16 48 (dk_at dksX0_readNext_9 13 rfl rfl)
theorem dX0_readNext_227 : decode cX0_readNext 227 = .ok (.isub, 1) := dk_100 (dk_at dksX0_readNext_9 15 rfl rfl)
theorem dX0_readNext_228 : decode cX0_readNext 228 = .ok (.invokestatic 1, 3) := dk_184 0 1 (dk_at dksX0_readNext_9 16 rfl rfl)
theorem dX0_readNext_231 : decode cX0_readNext 231 = .ok (.putfield 224, 3) := dk_181 0 224 (dk_at dksX0_readNext_9 19 rfl rfl)
theorem dX0_readNext_234 : decode cX0_readNext 234 = .ok (.aload_n 0, 1) := dk_42 (dk_at dksX0_readNext_9 22 rfl rfl)
theorem dX0_readNext_235 : decode cX0_readNext 235 = .ok (.dup, 1) := dk_89 (dk_at dksX0_readNext_9 23 rfl rfl)
theorem dX0_readNext_236 : decode cX0_readNext 236 = .ok (.getfield 196, 3) := dk_180 0 196 (dk_at dksX0_readNext_10 0 rfl rfl)
theorem dX0_readNext_239 : decode cX0_readNext 239 = .ok (.iconst 1, 1) := dk_4 (dk_at dksX0_readNext_10 3 rfl rfl)
theorem dX0_readNext_240 : decode cX0_readNext 240 = .ok (.iadd, 1) := dk_96 (dk_at dksX0_readNext_10 4 rfl rfl)
theorem dX0_readNext_241 : decode cX0_readNext 241 = .ok (.putfield 196, 3) := dk_181 0 196 (dk_at dksX0_readNext_10 5 rfl rfl)
theorem dX0_readNext_244 : decode cX0_readNext 244 = .ok (.goto (-52), 3) := dk_167 255 204 (dk_at dksX0_readNext_10 8 rfl rfl)
theorem dX0_readNext_247 : decode cX0_readNext 247 = .ok (.aload_n 0, 1) := dk_42 (dk_at dksX0_readNext_10 11 rfl rfl)
theorem dX0_readNext_248 : decode cX0_readNext 248 = .ok (.getfield 196, 3) := dk_180 0 196 (dk_at dksX0_readNext_10 12 rfl rfl)
theorem dX0_readNext_251 : decode cX0_readNext 251 = .ok (.aload_n 0, 1) := dk_42 (dk_at dksX0_readNext_10 15 rfl rfl)
theorem dX0_readNext_252 : decode cX0_readNext 252 = .ok (.getfield 199, 3) := dk_180 0 199 (dk_at dksX0_readNext_10 16 rfl rfl)
theorem dX0_readNext_255 : decode cX0_readNext 255 = .ok (.isub, 1) := dk_100 (dk_at dksX0_readNext_10 19 rfl rfl)
theorem dX0_readNext_256 : decode cX0_readNext 256 = .ok (.iconst 4, 1) := dk_7 (dk_at dksX0_readNext_10 20 rfl rfl)
theorem dX0_readNext_257 : decode cX0_readNext 257 = .ok (.if_icmp .gt 34, 3) := dk_163 0 34 (dk_at dksX0_readNext_10 21 rfl rfl)
theorem dX0_readNext_260 : decode cX0_readNext 260 = .ok (.aload_n 0, 1) := dk_42 (dk_at dksX0_readNext_11 0 rfl rfl)
theorem dX0_readNext_261 : decode cX0_readNext 261 = .ok (.getstatic 244, 3) := dk_178 0 244 (dk_at dksX0_readNext_11 1 rfl rfl)
theorem dX0_readNext_264 : decode cX0_readNext 264 = .ok (.putfield 208, 3) := dk_181 0 208 (dk_at dksX0_readNext_11 4 rfl rfl)
theorem dX0_readNext_267 : decode cX0_readNext 267 = .ok (.goto 24, 3) := dk_167 0 24 (dk_at dksX0_readNext_11 7 rfl rfl)
theorem dX0_readNext_270 : decode cX0_readNext 270 = .ok (.ldc 247, 2) := dk_18 247 (dk_at dksX0_readNext_11 10 rfl rfl)
theorem dX0_readNext_272 : decode cX0_readNext 272 = .ok (.iload_n 1, 1) := dk_27 (dk_at dksX0_readNext_11 12 rfl rfl)
theorem dX0_readNext_273 : decode cX0_readNext 273 = .ok (.invokevirtual 249, 3) := dk_182 0 249 (dk_at dksX0_readNext_11 13 rfl rfl)
theorem dX0_readNext_276 : decode cX0_readNext 276 = .ok (.ifCond .lt 15, 3) := dk_155 0 15 (dk_at dksX0_readNext_11 16 rfl rfl)
theorem dX0_readNext_279 : decode cX0_readNext 279 = .ok (.aload_n 0, 1) := dk_42 (dk_at dksX0_readNext_11 19 rfl rfl)
theorem dX0_readNext_280 : decode cX0_readNext 280 = .ok (.getstatic 221, 3) := dk_178 0 221 (dk_at dksX0_readNext_11 20 rfl rfl)
theorem dX0_readNext_283 : decode cX0_readNext 283 = .ok (.putfield 208, 3) := dk_181 0 208 (dk_at dksX0_readNext_12 0 rfl rfl)
theorem dX0_readNext_286 : decode cX0_readNext 286 = .ok (.aload_n 0, 1) := dk_42 (dk_at dksX0_readNext_12 3 rfl rfl)
theorem dX0_readNext_287 : decode cX0_readNext 287 = .ok (.iload_n 1, 1) := dk_27 (dk_at dksX0_readNext_12 4 rfl rfl)
theorem dX0_readNext_288 : decode cX0_readNext 288 = .ok (.putfield 224, 3) := dk_181 0 224 (dk_at dksX0_readNext_12 5 rfl rfl)
theorem dX0_readNext_291 : decode cX0_readNext 291 = .ok (.return_, 1) := dk_177 (dk_at dksX0_readNext_12 8 rfl rfl)
abbrev cX0_raw : ByteArray := prog_1_method_12_code
def yX0_raw : MethodName := ⟨RX0, "raw", "(I)I"⟩
def dkwX0_raw_0 : List UInt8 := [27, 42, 180, 0, 181, 162, 0, 16, 42, 180, 0, 36, 27, 51, 17, 0, 255, 126, 167, 0, 4, 2, 172]
abbrev dktX0_raw_0 : List UInt8 := dkwX0_raw_0 ++ []
theorem dksX0_raw_0 : cX0_raw.data.toList.drop 0 = dktX0_raw_0 := by decide +kernel
theorem dX0_raw_0 : decode cX0_raw 0 = .ok (.iload_n 1, 1) := dk_27 (dk_at dksX0_raw_0 0 rfl rfl)
theorem dX0_raw_1 : decode cX0_raw 1 = .ok (.aload_n 0, 1) := dk_42 (dk_at dksX0_raw_0 1 rfl rfl)
theorem dX0_raw_2 : decode cX0_raw 2 = .ok (.getfield 181, 3) := dk_180 0 181 (dk_at dksX0_raw_0 2 rfl rfl)
theorem dX0_raw_5 : decode cX0_raw 5 = .ok (.if_icmp .ge 16, 3) := dk_162 0 16 (dk_at dksX0_raw_0 5 rfl rfl)
theorem dX0_raw_8 : decode cX0_raw 8 = .ok (.aload_n 0, 1) := dk_42 (dk_at dksX0_raw_0 8 rfl rfl)
theorem dX0_raw_9 : decode cX0_raw 9 = .ok (.getfield 36, 3) := dk_180 0 36 (dk_at dksX0_raw_0 9 rfl rfl)
theorem dX0_raw_12 : decode cX0_raw 12 = .ok (.iload_n 1, 1) := dk_27 (dk_at dksX0_raw_0 12 rfl rfl)
theorem dX0_raw_13 : decode cX0_raw 13 = .ok (.baload, 1) := dk_51 (dk_at dksX0_raw_0 13 rfl rfl)
theorem dX0_raw_14 : decode cX0_raw 14 = .ok (.sipush 255, 3) := dk_17 0 255 (dk_at dksX0_raw_0 14 rfl rfl)
theorem dX0_raw_17 : decode cX0_raw 17 = .ok (.iand, 1) := dk_126 (dk_at dksX0_raw_0 17 rfl rfl)
theorem dX0_raw_18 : decode cX0_raw 18 = .ok (.goto 4, 3) := dk_167 0 4 (dk_at dksX0_raw_0 18 rfl rfl)
theorem dX0_raw_21 : decode cX0_raw 21 = .ok (.iconst (-1), 1) := dk_2 (dk_at dksX0_raw_0 21 rfl rfl)
theorem dX0_raw_22 : decode cX0_raw 22 = .ok (.ireturn, 1) := dk_172 (dk_at dksX0_raw_0 22 rfl rfl)
abbrev cX0_isLetter : ByteArray := prog_1_method_13_code
def yX0_isLetter : MethodName := ⟨RX0, "isLetter", "(I)Z"⟩
def dkwX0_isLetter_1 : List UInt8 := [167, 0, 4, 3, 172]
abbrev dktX0_isLetter_1 : List UInt8 := dkwX0_isLetter_1 ++ []
def dkwX0_isLetter_0 : List UInt8 := [26, 16, 97, 16, 122, 184, 0, 188, 154, 0, 14, 26, 16, 65, 16, 90, 184, 0, 188, 153, 0, 7, 4]
abbrev dktX0_isLetter_0 : List UInt8 := dkwX0_isLetter_0 ++ dktX0_isLetter_1
theorem dksX0_isLetter_0 : cX0_isLetter.data.toList.drop 0 = dktX0_isLetter_0 := by decide +kernel
theorem dksX0_isLetter_1 : cX0_isLetter.data.toList.drop 23 = dktX0_isLetter_1 := dk_seg dksX0_isLetter_0 23 rfl rfl
theorem dX0_isLetter_0 : decode cX0_isLetter 0 = .ok (.iload_n 0, 1) := dk_26 (dk_at dksX0_isLetter_0 0 rfl rfl)
theorem dX0_isLetter_1 : decode cX0_isLetter 1 = .ok (.bipush 97, 2) := dk_16 97 (dk_at dksX0_isLetter_0 1 rfl rfl)
theorem dX0_isLetter_3 : decode cX0_isLetter 3 = .ok (.bipush 122, 2) := dk_16 122 (dk_at dksX0_isLetter_0 3 rfl rfl)
theorem dX0_isLetter_5 : decode cX0_isLetter 5 = .ok (.invokestatic 188, 3) := dk_184 0 188 (dk_at dksX0_isLetter_0 5 rfl rfl)
theorem dX0_isLetter_8 : decode cX0_isLetter 8 = .ok (.ifCond .ne 14, 3) := dk_154 0 14 (dk_at dksX0_isLetter_0 8 rfl rfl)
theorem dX0_isLetter_11 : decode cX0_isLetter 11 = .ok (.iload_n 0, 1) := dk_26 (dk_at dksX0_isLetter_0 11 rfl rfl)
theorem dX0_isLetter_12 : decode cX0_isLetter 12 = .ok (.bipush 65, 2) := dk_16 65 (dk_at dksX0_isLetter_0 12 rfl rfl)
theorem dX0_isLetter_14 : decode cX0_isLetter 14 = .ok (.bipush 90, 2) := dk_16 90 (dk_at dksX0_isLetter_0 14 rfl rfl)
theorem dX0_isLetter_16 : decode cX0_isLetter 16 = .ok (.invokestatic 188, 3) := dk_184 0 188 (dk_at dksX0_isLetter_0 16 rfl rfl)
theorem dX0_isLetter_19 : decode cX0_isLetter 19 = .ok (.ifCond .eq 7, 3) := dk_153 0 7 (dk_at dksX0_isLetter_0 19 rfl rfl)
theorem dX0_isLetter_22 : decode cX0_isLetter 22 = .ok (.iconst 1, 1) := dk_4 (dk_at dksX0_isLetter_0 22 rfl rfl)
theorem dX0_isLetter_23 : decode cX0_isLetter 23 = .ok (.goto 4, 3) := dk_167 0 4 (dk_at dksX0_isLetter_1 0 rfl rfl)
theorem dX0_isLetter_26 : decode cX0_isLetter 26 = .ok (.iconst 0, 1) := dk_3 (dk_at dksX0_isLetter_1 3 rfl rfl)
theorem dX0_isLetter_27 : decode cX0_isLetter 27 = .ok (.ireturn, 1) := dk_172 (dk_at dksX0_isLetter_1 4 rfl rfl)
abbrev cX0_wordOf : ByteArray := prog_1_method_16_code
def yX0_wordOf : MethodName := ⟨RX0, "wordOf", "([Ljava/lang/String;)I"⟩
def dkwX0_wordOf_1 : List UInt8 := [182, 0, 217, 153, 0, 5, 28, 172, 132, 2, 1, 167, 255, 225, 2, 172]
abbrev dktX0_wordOf_1 : List UInt8 := dkwX0_wordOf_1 ++ []
def dkwX0_wordOf_0 : List UInt8 := [3, 61, 28, 43, 190, 162, 0, 31, 42, 180, 0, 208, 178, 0, 212, 166, 0, 21, 42, 43, 28, 50]
abbrev dktX0_wordOf_0 : List UInt8 := dkwX0_wordOf_0 ++ dktX0_wordOf_1
theorem dksX0_wordOf_0 : cX0_wordOf.data.toList.drop 0 = dktX0_wordOf_0 := by decide +kernel
theorem dksX0_wordOf_1 : cX0_wordOf.data.toList.drop 22 = dktX0_wordOf_1 := dk_seg dksX0_wordOf_0 22 rfl rfl
theorem dX0_wordOf_0 : decode cX0_wordOf 0 = .ok (.iconst 0, 1) := dk_3 (dk_at dksX0_wordOf_0 0 rfl rfl)
theorem dX0_wordOf_1 : decode cX0_wordOf 1 = .ok (.istore_n 2, 1) := dk_61 (dk_at dksX0_wordOf_0 1 rfl rfl)
theorem dX0_wordOf_2 : decode cX0_wordOf 2 = .ok (.iload_n 2, 1) := dk_28 (dk_at dksX0_wordOf_0 2 rfl rfl)
theorem dX0_wordOf_3 : decode cX0_wordOf 3 = .ok (.aload_n 1, 1) := dk_43 (dk_at dksX0_wordOf_0 3 rfl rfl)
theorem dX0_wordOf_4 : decode cX0_wordOf 4 = .ok (.arraylength, 1) := dk_190 (dk_at dksX0_wordOf_0 4 rfl rfl)
theorem dX0_wordOf_5 : decode cX0_wordOf 5 = .ok (.if_icmp .ge 31, 3) := dk_162 0 31 (dk_at dksX0_wordOf_0 5 rfl rfl)
theorem dX0_wordOf_8 : decode cX0_wordOf 8 = .ok (.aload_n 0, 1) := dk_42 (dk_at dksX0_wordOf_0 8 rfl rfl)
theorem dX0_wordOf_9 : decode cX0_wordOf 9 = .ok (.getfield 208, 3) := dk_180 0 208 (dk_at dksX0_wordOf_0 9 rfl rfl)
theorem dX0_wordOf_12 : decode cX0_wordOf 12 = .ok (.getstatic 212, 3) := dk_178 0 212 (dk_at dksX0_wordOf_0 12 rfl rfl)
theorem dX0_wordOf_15 : decode cX0_wordOf 15 = .ok (.if_acmp .ne 21, 3) := dk_166 0 21 (dk_at dksX0_wordOf_0 15 rfl rfl)
theorem dX0_wordOf_18 : decode cX0_wordOf 18 = .ok (.aload_n 0, 1) := dk_42 (dk_at dksX0_wordOf_0 18 rfl rfl)
theorem dX0_wordOf_19 : decode cX0_wordOf 19 = .ok (.aload_n 1, 1) := dk_43 (dk_at dksX0_wordOf_0 19 rfl rfl)
theorem dX0_wordOf_20 : decode cX0_wordOf 20 = .ok (.iload_n 2, 1) := dk_28 (dk_at dksX0_wordOf_0 20 rfl rfl)
theorem dX0_wordOf_21 : decode cX0_wordOf 21 = .ok (.aaload, 1) := dk_50 (dk_at dksX0_wordOf_0 21 rfl rfl)
theorem dX0_wordOf_22 : decode cX0_wordOf 22 = .ok (.invokevirtual 217, 3) := dk_182 0 217 (dk_at dksX0_wordOf_1 0 rfl rfl)
theorem dX0_wordOf_25 : decode cX0_wordOf 25 = .ok (.ifCond .eq 5, 3) := dk_153 0 5 (dk_at dksX0_wordOf_1 3 rfl rfl)
theorem dX0_wordOf_28 : decode cX0_wordOf 28 = .ok (.iload_n 2, 1) := dk_28 (dk_at dksX0_wordOf_1 6 rfl rfl)
theorem dX0_wordOf_29 : decode cX0_wordOf 29 = .ok (.ireturn, 1) := dk_172 (dk_at dksX0_wordOf_1 7 rfl rfl)
theorem dX0_wordOf_30 : decode cX0_wordOf 30 = .ok (.iinc 2 1, 3) := dk_132 2 1 (dk_at dksX0_wordOf_1 8 rfl rfl)
theorem dX0_wordOf_33 : decode cX0_wordOf 33 = .ok (.goto (-31), 3) := dk_167 255 225 (dk_at dksX0_wordOf_1 11 rfl rfl)
theorem dX0_wordOf_36 : decode cX0_wordOf 36 = .ok (.iconst (-1), 1) := dk_2 (dk_at dksX0_wordOf_1 14 rfl rfl)
theorem dX0_wordOf_37 : decode cX0_wordOf 37 = .ok (.ireturn, 1) := dk_172 (dk_at dksX0_wordOf_1 15 rfl rfl)
abbrev cX0_spells : ByteArray := prog_1_method_15_code
def yX0_spells : MethodName := ⟨RX0, "spells", "(Ljava/lang/String;)Z"⟩
def dkwX0_spells_2 : List UInt8 := [3, 172, 132, 2, 1, 167, 255, 225, 4, 172]
abbrev dktX0_spells_2 : List UInt8 := dkwX0_spells_2 ++ []
def dkwX0_spells_1 : List UInt8 := [182, 0, 192, 162, 0, 29, 42, 42, 180, 0, 199, 28, 96, 182, 0, 201, 43, 28, 182, 0, 204, 159, 0, 5]
abbrev dktX0_spells_1 : List UInt8 := dkwX0_spells_1 ++ dktX0_spells_2
def dkwX0_spells_0 : List UInt8 := [43, 182, 0, 192, 42, 180, 0, 196, 42, 180, 0, 199, 100, 159, 0, 5, 3, 172, 3, 61, 28, 43]
abbrev dktX0_spells_0 : List UInt8 := dkwX0_spells_0 ++ dktX0_spells_1
theorem dksX0_spells_0 : cX0_spells.data.toList.drop 0 = dktX0_spells_0 := by decide +kernel
theorem dksX0_spells_1 : cX0_spells.data.toList.drop 22 = dktX0_spells_1 := dk_seg dksX0_spells_0 22 rfl rfl
theorem dksX0_spells_2 : cX0_spells.data.toList.drop 46 = dktX0_spells_2 := dk_seg dksX0_spells_1 24 rfl rfl
theorem dX0_spells_0 : decode cX0_spells 0 = .ok (.aload_n 1, 1) := dk_43 (dk_at dksX0_spells_0 0 rfl rfl)
theorem dX0_spells_1 : decode cX0_spells 1 = .ok (.invokevirtual 192, 3) := dk_182 0 192 (dk_at dksX0_spells_0 1 rfl rfl)
theorem dX0_spells_4 : decode cX0_spells 4 = .ok (.aload_n 0, 1) := dk_42 (dk_at dksX0_spells_0 4 rfl rfl)
theorem dX0_spells_5 : decode cX0_spells 5 = .ok (.getfield 196, 3) := dk_180 0 196 (dk_at dksX0_spells_0 5 rfl rfl)
theorem dX0_spells_8 : decode cX0_spells 8 = .ok (.aload_n 0, 1) := dk_42 (dk_at dksX0_spells_0 8 rfl rfl)
theorem dX0_spells_9 : decode cX0_spells 9 = .ok (.getfield 199, 3) := dk_180 0 199 (dk_at dksX0_spells_0 9 rfl rfl)
theorem dX0_spells_12 : decode cX0_spells 12 = .ok (.isub, 1) := dk_100 (dk_at dksX0_spells_0 12 rfl rfl)
theorem dX0_spells_13 : decode cX0_spells 13 = .ok (.if_icmp .eq 5, 3) := dk_159 0 5 (dk_at dksX0_spells_0 13 rfl rfl)
theorem dX0_spells_16 : decode cX0_spells 16 = .ok (.iconst 0, 1) := dk_3 (dk_at dksX0_spells_0 16 rfl rfl)
theorem dX0_spells_17 : decode cX0_spells 17 = .ok (.ireturn, 1) := dk_172 (dk_at dksX0_spells_0 17 rfl rfl)
theorem dX0_spells_18 : decode cX0_spells 18 = .ok (.iconst 0, 1) := dk_3 (dk_at dksX0_spells_0 18 rfl rfl)
theorem dX0_spells_19 : decode cX0_spells 19 = .ok (.istore_n 2, 1) := dk_61 (dk_at dksX0_spells_0 19 rfl rfl)
theorem dX0_spells_20 : decode cX0_spells 20 = .ok (.iload_n 2, 1) := dk_28 (dk_at dksX0_spells_0 20 rfl rfl)
theorem dX0_spells_21 : decode cX0_spells 21 = .ok (.aload_n 1, 1) := dk_43 (dk_at dksX0_spells_0 21 rfl rfl)
theorem dX0_spells_22 : decode cX0_spells 22 = .ok (.invokevirtual 192, 3) := dk_182 0 192 (dk_at dksX0_spells_1 0 rfl rfl)
theorem dX0_spells_25 : decode cX0_spells 25 = .ok (.if_icmp .ge 29, 3) := dk_162 0 29 (dk_at dksX0_spells_1 3 rfl rfl)
theorem dX0_spells_28 : decode cX0_spells 28 = .ok (.aload_n 0, 1) := dk_42 (dk_at dksX0_spells_1 6 rfl rfl)
theorem dX0_spells_29 : decode cX0_spells 29 = .ok (.aload_n 0, 1) := dk_42 (dk_at dksX0_spells_1 7 rfl rfl)
theorem dX0_spells_30 : decode cX0_spells 30 = .ok (.getfield 199, 3) := dk_180 0 199 (dk_at dksX0_spells_1 8 rfl rfl)
theorem dX0_spells_33 : decode cX0_spells 33 = .ok (.iload_n 2, 1) := dk_28 (dk_at dksX0_spells_1 11 rfl rfl)
theorem dX0_spells_34 : decode cX0_spells 34 = .ok (.iadd, 1) := dk_96 (dk_at dksX0_spells_1 12 rfl rfl)
theorem dX0_spells_35 : decode cX0_spells 35 = .ok (.invokevirtual 201, 3) := dk_182 0 201 (dk_at dksX0_spells_1 13 rfl rfl)
theorem dX0_spells_38 : decode cX0_spells 38 = .ok (.aload_n 1, 1) := dk_43 (dk_at dksX0_spells_1 16 rfl rfl)
theorem dX0_spells_39 : decode cX0_spells 39 = .ok (.iload_n 2, 1) := dk_28 (dk_at dksX0_spells_1 17 rfl rfl)
theorem dX0_spells_40 : decode cX0_spells 40 = .ok (.invokevirtual 204, 3) := dk_182 0 204 (dk_at dksX0_spells_1 18 rfl rfl)
theorem dX0_spells_43 : decode cX0_spells 43 = .ok (.if_icmp .eq 5, 3) := dk_159 0 5 (dk_at dksX0_spells_1 21 rfl rfl)
theorem dX0_spells_46 : decode cX0_spells 46 = .ok (.iconst 0, 1) := dk_3 (dk_at dksX0_spells_2 0 rfl rfl)
theorem dX0_spells_47 : decode cX0_spells 47 = .ok (.ireturn, 1) := dk_172 (dk_at dksX0_spells_2 1 rfl rfl)
theorem dX0_spells_48 : decode cX0_spells 48 = .ok (.iinc 2 1, 3) := dk_132 2 1 (dk_at dksX0_spells_2 2 rfl rfl)
theorem dX0_spells_51 : decode cX0_spells 51 = .ok (.goto (-31), 3) := dk_167 255 225 (dk_at dksX0_spells_2 5 rfl rfl)
theorem dX0_spells_54 : decode cX0_spells 54 = .ok (.iconst 1, 1) := dk_4 (dk_at dksX0_spells_2 8 rfl rfl)
theorem dX0_spells_55 : decode cX0_spells 55 = .ok (.ireturn, 1) := dk_172 (dk_at dksX0_spells_2 9 rfl rfl)
abbrev cX0_isDigit : ByteArray := prog_1_method_14_code
def yX0_isDigit : MethodName := ⟨RX0, "isDigit", "(I)Z"⟩
def dkwX0_isDigit_0 : List UInt8 := [26, 16, 48, 16, 57, 184, 0, 188, 172]
abbrev dktX0_isDigit_0 : List UInt8 := dkwX0_isDigit_0 ++ []
theorem dksX0_isDigit_0 : cX0_isDigit.data.toList.drop 0 = dktX0_isDigit_0 := by decide +kernel
theorem dX0_isDigit_0 : decode cX0_isDigit 0 = .ok (.iload_n 0, 1) := dk_26 (dk_at dksX0_isDigit_0 0 rfl rfl)
theorem dX0_isDigit_1 : decode cX0_isDigit 1 = .ok (.bipush 48, 2) := dk_16 48 (dk_at dksX0_isDigit_0 1 rfl rfl)
theorem dX0_isDigit_3 : decode cX0_isDigit 3 = .ok (.bipush 57, 2) := dk_16 57 (dk_at dksX0_isDigit_0 3 rfl rfl)
theorem dX0_isDigit_5 : decode cX0_isDigit 5 = .ok (.invokestatic 188, 3) := dk_184 0 188 (dk_at dksX0_isDigit_0 5 rfl rfl)
theorem dX0_isDigit_8 : decode cX0_isDigit 8 = .ok (.ireturn, 1) := dk_172 (dk_at dksX0_isDigit_0 8 rfl rfl)
abbrev cX0_readsLaw : ByteArray := prog_1_method_29_code
def yX0_readsLaw : MethodName := ⟨RX0, "readsLaw", "()LTwelveChain$Text;"⟩
def dkwX0_readsLaw_5 : List UInt8 := [96, 181, 1, 60, 167, 255, 146, 43, 176]
abbrev dktX0_readsLaw_5 : List UInt8 := dkwX0_readsLaw_5 ++ []
def dkwX0_readsLaw_4 : List UInt8 := [180, 1, 72, 43, 180, 1, 60, 42, 182, 1, 47, 83, 42, 16, 59, 182, 1, 50, 43, 89, 180, 1, 60, 4]
abbrev dktX0_readsLaw_4 : List UInt8 := dkwX0_readsLaw_4 ++ dktX0_readsLaw_5
def dkwX0_readsLaw_3 : List UInt8 := [180, 1, 60, 42, 182, 1, 54, 83, 42, 18, 91, 182, 1, 34, 153, 0, 20, 42, 182, 1, 9, 43]
abbrev dktX0_readsLaw_3 : List UInt8 := dkwX0_readsLaw_3 ++ dktX0_readsLaw_4
def dkwX0_readsLaw_2 : List UInt8 := [182, 1, 63, 42, 182, 1, 9, 43, 180, 1, 66, 43, 180, 1, 60, 28, 79, 43, 180, 1, 69, 43]
abbrev dktX0_readsLaw_2 : List UInt8 := dkwX0_readsLaw_2 ++ dktX0_readsLaw_3
def dkwX0_readsLaw_1 : List UInt8 := [182, 0, 236, 61, 42, 28, 2, 159, 0, 7, 4, 167, 0, 4, 3, 182, 1, 5, 42, 43, 180, 1, 60]
abbrev dktX0_readsLaw_1 : List UInt8 := dkwX0_readsLaw_1 ++ dktX0_readsLaw_2
def dkwX0_readsLaw_0 : List UInt8 := [187, 0, 118, 89, 183, 0, 120, 76, 42, 180, 0, 208, 178, 0, 227, 165, 0, 106, 42, 42, 180, 0, 105]
abbrev dktX0_readsLaw_0 : List UInt8 := dkwX0_readsLaw_0 ++ dktX0_readsLaw_1
theorem dksX0_readsLaw_0 : cX0_readsLaw.data.toList.drop 0 = dktX0_readsLaw_0 := by decide +kernel
theorem dksX0_readsLaw_1 : cX0_readsLaw.data.toList.drop 23 = dktX0_readsLaw_1 := dk_seg dksX0_readsLaw_0 23 rfl rfl
theorem dksX0_readsLaw_2 : cX0_readsLaw.data.toList.drop 46 = dktX0_readsLaw_2 := dk_seg dksX0_readsLaw_1 23 rfl rfl
theorem dksX0_readsLaw_3 : cX0_readsLaw.data.toList.drop 68 = dktX0_readsLaw_3 := dk_seg dksX0_readsLaw_2 22 rfl rfl
theorem dksX0_readsLaw_4 : cX0_readsLaw.data.toList.drop 90 = dktX0_readsLaw_4 := dk_seg dksX0_readsLaw_3 22 rfl rfl
theorem dksX0_readsLaw_5 : cX0_readsLaw.data.toList.drop 114 = dktX0_readsLaw_5 := dk_seg dksX0_readsLaw_4 24 rfl rfl
theorem dX0_readsLaw_0 : decode cX0_readsLaw 0 = .ok (.new 118, 3) := dk_187 0 118 (dk_at dksX0_readsLaw_0 0 rfl rfl)
theorem dX0_readsLaw_3 : decode cX0_readsLaw 3 = .ok (.dup, 1) := dk_89 (dk_at dksX0_readsLaw_0 3 rfl rfl)
theorem dX0_readsLaw_4 : decode cX0_readsLaw 4 = .ok (.invokespecial 120, 3) := dk_183 0 120 (dk_at dksX0_readsLaw_0 4 rfl rfl)
theorem dX0_readsLaw_7 : decode cX0_readsLaw 7 = .ok (.astore_n 1, 1) := dk_76 (dk_at dksX0_readsLaw_0 7 rfl rfl)
theorem dX0_readsLaw_8 : decode cX0_readsLaw 8 = .ok (.aload_n 0, 1) := dk_42 (dk_at dksX0_readsLaw_0 8 rfl rfl)
theorem dX0_readsLaw_9 : decode cX0_readsLaw 9 = .ok (.getfield 208, 3) := dk_180 0 208 (dk_at dksX0_readsLaw_0 9 rfl rfl)
theorem dX0_readsLaw_12 : decode cX0_readsLaw 12 = .ok (.getstatic 227, 3) := dk_178 0 227 (dk_at dksX0_readsLaw_0 12 rfl rfl)
theorem dX0_readsLaw_15 : decode cX0_readsLaw 15 = .ok (.if_acmp .eq 106, 3) := dk_165 0 106 (dk_at dksX0_readsLaw_0 15 rfl rfl)
theorem dX0_readsLaw_18 : decode cX0_readsLaw 18 = .ok (.aload_n 0, 1) := dk_42 (dk_at dksX0_readsLaw_0 18 rfl rfl)
theorem dX0_readsLaw_19 : decode cX0_readsLaw 19 = .ok (.aload_n 0, 1) := dk_42 (dk_at dksX0_readsLaw_0 19 rfl rfl)
theorem dX0_readsLaw_20 : decode cX0_readsLaw 20 = .ok (.getfield 105, 3) := dk_180 0 105 (dk_at dksX0_readsLaw_0 20 rfl rfl)
theorem dX0_readsLaw_23 : decode cX0_readsLaw 23 = .ok (.invokevirtual 236, 3) := dk_182 0 236 (dk_at dksX0_readsLaw_1 0 rfl rfl)
theorem dX0_readsLaw_26 : decode cX0_readsLaw 26 = .ok (.istore_n 2, 1) := dk_61 (dk_at dksX0_readsLaw_1 3 rfl rfl)
theorem dX0_readsLaw_27 : decode cX0_readsLaw 27 = .ok (.aload_n 0, 1) := dk_42 (dk_at dksX0_readsLaw_1 4 rfl rfl)
theorem dX0_readsLaw_28 : decode cX0_readsLaw 28 = .ok (.iload_n 2, 1) := dk_28 (dk_at dksX0_readsLaw_1 5 rfl rfl)
theorem dX0_readsLaw_29 : decode cX0_readsLaw 29 = .ok (.iconst (-1), 1) := dk_2 (dk_at dksX0_readsLaw_1 6 rfl rfl)
theorem dX0_readsLaw_30 : decode cX0_readsLaw 30 = .ok (.if_icmp .eq 7, 3) := dk_159 0 7 (dk_at dksX0_readsLaw_1 7 rfl rfl)
theorem dX0_readsLaw_33 : decode cX0_readsLaw 33 = .ok (.iconst 1, 1) := dk_4 (dk_at dksX0_readsLaw_1 10 rfl rfl)
theorem dX0_readsLaw_34 : decode cX0_readsLaw 34 = .ok (.goto 4, 3) := dk_167 0 4 (dk_at dksX0_readsLaw_1 11 rfl rfl)
theorem dX0_readsLaw_37 : decode cX0_readsLaw 37 = .ok (.iconst 0, 1) := dk_3 (dk_at dksX0_readsLaw_1 14 rfl rfl)
theorem dX0_readsLaw_38 : decode cX0_readsLaw 38 = .ok (.invokevirtual 261, 3) := dk_182 1 5 (dk_at dksX0_readsLaw_1 15 rfl rfl)
theorem dX0_readsLaw_41 : decode cX0_readsLaw 41 = .ok (.aload_n 0, 1) := dk_42 (dk_at dksX0_readsLaw_1 18 rfl rfl)
theorem dX0_readsLaw_42 : decode cX0_readsLaw 42 = .ok (.aload_n 1, 1) := dk_43 (dk_at dksX0_readsLaw_1 19 rfl rfl)
theorem dX0_readsLaw_43 : decode cX0_readsLaw 43 = .ok (.getfield 316, 3) := dk_180 1 60 (dk_at dksX0_readsLaw_1 20 rfl rfl)
theorem dX0_readsLaw_46 : decode cX0_readsLaw 46 = .ok (.invokevirtual 319, 3) := dk_182 1 63 (dk_at dksX0_readsLaw_2 0 rfl rfl)
theorem dX0_readsLaw_49 : decode cX0_readsLaw 49 = .ok (.aload_n 0, 1) := dk_42 (dk_at dksX0_readsLaw_2 3 rfl rfl)
theorem dX0_readsLaw_50 : decode cX0_readsLaw 50 = .ok (.invokevirtual 265, 3) := dk_182 1 9 (dk_at dksX0_readsLaw_2 4 rfl rfl)
theorem dX0_readsLaw_53 : decode cX0_readsLaw 53 = .ok (.aload_n 1, 1) := dk_43 (dk_at dksX0_readsLaw_2 7 rfl rfl)
theorem dX0_readsLaw_54 : decode cX0_readsLaw 54 = .ok (.getfield 322, 3) := dk_180 1 66 (dk_at dksX0_readsLaw_2 8 rfl rfl)
theorem dX0_readsLaw_57 : decode cX0_readsLaw 57 = .ok (.aload_n 1, 1) := dk_43 (dk_at dksX0_readsLaw_2 11 rfl rfl)
theorem dX0_readsLaw_58 : decode cX0_readsLaw 58 = .ok (.getfield 316, 3) := dk_180 1 60 (dk_at dksX0_readsLaw_2 12 rfl rfl)
theorem dX0_readsLaw_61 : decode cX0_readsLaw 61 = .ok (.iload_n 2, 1) := dk_28 (dk_at dksX0_readsLaw_2 15 rfl rfl)
theorem dX0_readsLaw_62 : decode cX0_readsLaw 62 = .ok (.iastore, 1) := dk_79 (dk_at dksX0_readsLaw_2 16 rfl rfl)
theorem dX0_readsLaw_63 : decode cX0_readsLaw 63 = .ok (.aload_n 1, 1) := dk_43 (dk_at dksX0_readsLaw_2 17 rfl rfl)
theorem dX0_readsLaw_64 : decode cX0_readsLaw 64 = .ok (.getfield 325, 3) := dk_180 1 69 (dk_at dksX0_readsLaw_2 18 rfl rfl)
theorem dX0_readsLaw_67 : decode cX0_readsLaw 67 = .ok (.aload_n 1, 1) := dk_43 (dk_at dksX0_readsLaw_2 21 rfl rfl)
theorem dX0_readsLaw_68 : decode cX0_readsLaw 68 = .ok (.getfield 316, 3) := dk_180 1 60 (dk_at dksX0_readsLaw_3 0 rfl rfl)
theorem dX0_readsLaw_71 : decode cX0_readsLaw 71 = .ok (.aload_n 0, 1) := dk_42 (dk_at dksX0_readsLaw_3 3 rfl rfl)
theorem dX0_readsLaw_72 : decode cX0_readsLaw 72 = .ok (.invokevirtual 310, 3) := dk_182 1 54 (dk_at dksX0_readsLaw_3 4 rfl rfl)
theorem dX0_readsLaw_75 : decode cX0_readsLaw 75 = .ok (.aastore, 1) := dk_83 (dk_at dksX0_readsLaw_3 7 rfl rfl)
theorem dX0_readsLaw_76 : decode cX0_readsLaw 76 = .ok (.aload_n 0, 1) := dk_42 (dk_at dksX0_readsLaw_3 8 rfl rfl)
theorem dX0_readsLaw_77 : decode cX0_readsLaw 77 = .ok (.ldc 91, 2) := dk_18 91 (dk_at dksX0_readsLaw_3 9 rfl rfl)
theorem dX0_readsLaw_79 : decode cX0_readsLaw 79 = .ok (.invokevirtual 290, 3) := dk_182 1 34 (dk_at dksX0_readsLaw_3 11 rfl rfl)
theorem dX0_readsLaw_82 : decode cX0_readsLaw 82 = .ok (.ifCond .eq 20, 3) := dk_153 0 20 (dk_at dksX0_readsLaw_3 14 rfl rfl)
theorem dX0_readsLaw_85 : decode cX0_readsLaw 85 = .ok (.aload_n 0, 1) := dk_42 (dk_at dksX0_readsLaw_3 17 rfl rfl)
theorem dX0_readsLaw_86 : decode cX0_readsLaw 86 = .ok (.invokevirtual 265, 3) := dk_182 1 9 (dk_at dksX0_readsLaw_3 18 rfl rfl)
theorem dX0_readsLaw_89 : decode cX0_readsLaw 89 = .ok (.aload_n 1, 1) := dk_43 (dk_at dksX0_readsLaw_3 21 rfl rfl)
theorem dX0_readsLaw_90 : decode cX0_readsLaw 90 = .ok (.getfield 328, 3) := dk_180 1 72 (dk_at dksX0_readsLaw_4 0 rfl rfl)
theorem dX0_readsLaw_93 : decode cX0_readsLaw 93 = .ok (.aload_n 1, 1) := dk_43 (dk_at dksX0_readsLaw_4 3 rfl rfl)
theorem dX0_readsLaw_94 : decode cX0_readsLaw 94 = .ok (.getfield 316, 3) := dk_180 1 60 (dk_at dksX0_readsLaw_4 4 rfl rfl)
theorem dX0_readsLaw_97 : decode cX0_readsLaw 97 = .ok (.aload_n 0, 1) := dk_42 (dk_at dksX0_readsLaw_4 7 rfl rfl)
theorem dX0_readsLaw_98 : decode cX0_readsLaw 98 = .ok (.invokevirtual 303, 3) := dk_182 1 47 (dk_at dksX0_readsLaw_4 8 rfl rfl)
theorem dX0_readsLaw_101 : decode cX0_readsLaw 101 = .ok (.aastore, 1) := dk_83 (dk_at dksX0_readsLaw_4 11 rfl rfl)
theorem dX0_readsLaw_102 : decode cX0_readsLaw 102 = .ok (.aload_n 0, 1) := dk_42 (dk_at dksX0_readsLaw_4 12 rfl rfl)
theorem dX0_readsLaw_103 : decode cX0_readsLaw 103 = .ok (.bipush 59, 2) := dk_16 59 (dk_at dksX0_readsLaw_4 13 rfl rfl)
theorem dX0_readsLaw_105 : decode cX0_readsLaw 105 = .ok (.invokevirtual 306, 3) := dk_182 1 50 (dk_at dksX0_readsLaw_4 15 rfl rfl)
theorem dX0_readsLaw_108 : decode cX0_readsLaw 108 = .ok (.aload_n 1, 1) := dk_43 (dk_at dksX0_readsLaw_4 18 rfl rfl)
theorem dX0_readsLaw_109 : decode cX0_readsLaw 109 = .ok (.dup, 1) := dk_89 (dk_at dksX0_readsLaw_4 19 rfl rfl)
theorem dX0_readsLaw_110 : decode cX0_readsLaw 110 = .ok (.getfield 316, 3) := dk_180 1 60 (dk_at dksX0_readsLaw_4 20 rfl rfl)
theorem dX0_readsLaw_113 : decode cX0_readsLaw 113 = .ok (.iconst 1, 1) := dk_4 (dk_at dksX0_readsLaw_4 23 rfl rfl)
theorem dX0_readsLaw_114 : decode cX0_readsLaw 114 = .ok (.iadd, 1) := dk_96 (dk_at dksX0_readsLaw_5 0 rfl rfl)
theorem dX0_readsLaw_115 : decode cX0_readsLaw 115 = .ok (.putfield 316, 3) := dk_181 1 60 (dk_at dksX0_readsLaw_5 1 rfl rfl)
theorem dX0_readsLaw_118 : decode cX0_readsLaw 118 = .ok (.goto (-110), 3) := dk_167 255 146 (dk_at dksX0_readsLaw_5 4 rfl rfl)
theorem dX0_readsLaw_121 : decode cX0_readsLaw 121 = .ok (.aload_n 1, 1) := dk_43 (dk_at dksX0_readsLaw_5 7 rfl rfl)
theorem dX0_readsLaw_122 : decode cX0_readsLaw 122 = .ok (.areturn, 1) := dk_176 (dk_at dksX0_readsLaw_5 8 rfl rfl)
abbrev cX0_must : ByteArray := prog_1_method_20_code
def yX0_must : MethodName := ⟨RX0, "must", "(Z)V"⟩
def dkwX0_must_0 : List UInt8 := [27, 154, 0, 16, 187, 0, 252, 89, 4, 42, 180, 0, 199, 183, 0, 254, 191, 177]
abbrev dktX0_must_0 : List UInt8 := dkwX0_must_0 ++ []
theorem dksX0_must_0 : cX0_must.data.toList.drop 0 = dktX0_must_0 := by decide +kernel
theorem dX0_must_0 : decode cX0_must 0 = .ok (.iload_n 1, 1) := dk_27 (dk_at dksX0_must_0 0 rfl rfl)
theorem dX0_must_1 : decode cX0_must 1 = .ok (.ifCond .ne 16, 3) := dk_154 0 16 (dk_at dksX0_must_0 1 rfl rfl)
theorem dX0_must_4 : decode cX0_must 4 = .ok (.new 252, 3) := dk_187 0 252 (dk_at dksX0_must_0 4 rfl rfl)
theorem dX0_must_7 : decode cX0_must 7 = .ok (.dup, 1) := dk_89 (dk_at dksX0_must_0 7 rfl rfl)
theorem dX0_must_8 : decode cX0_must 8 = .ok (.iconst 1, 1) := dk_4 (dk_at dksX0_must_0 8 rfl rfl)
theorem dX0_must_9 : decode cX0_must 9 = .ok (.aload_n 0, 1) := dk_42 (dk_at dksX0_must_0 9 rfl rfl)
theorem dX0_must_10 : decode cX0_must 10 = .ok (.getfield 199, 3) := dk_180 0 199 (dk_at dksX0_must_0 10 rfl rfl)
theorem dX0_must_13 : decode cX0_must 13 = .ok (.invokespecial 254, 3) := dk_183 0 254 (dk_at dksX0_must_0 13 rfl rfl)
theorem dX0_must_16 : decode cX0_must 16 = .ok (.athrow, 1) := dk_191 (dk_at dksX0_must_0 16 rfl rfl)
theorem dX0_must_17 : decode cX0_must 17 = .ok (.return_, 1) := dk_177 (dk_at dksX0_must_0 17 rfl rfl)
abbrev cX0_isRoom : ByteArray := prog_1_method_31_code
def yX0_isRoom : MethodName := ⟨RX0, "isRoom", "(I)V"⟩
def dkwX0_isRoom_0 : List UInt8 := [27, 16, 16, 160, 0, 16, 187, 0, 252, 89, 6, 42, 180, 0, 199, 183, 0, 254, 191, 177]
abbrev dktX0_isRoom_0 : List UInt8 := dkwX0_isRoom_0 ++ []
theorem dksX0_isRoom_0 : cX0_isRoom.data.toList.drop 0 = dktX0_isRoom_0 := by decide +kernel
theorem dX0_isRoom_0 : decode cX0_isRoom 0 = .ok (.iload_n 1, 1) := dk_27 (dk_at dksX0_isRoom_0 0 rfl rfl)
theorem dX0_isRoom_1 : decode cX0_isRoom 1 = .ok (.bipush 16, 2) := dk_16 16 (dk_at dksX0_isRoom_0 1 rfl rfl)
theorem dX0_isRoom_3 : decode cX0_isRoom 3 = .ok (.if_icmp .ne 16, 3) := dk_160 0 16 (dk_at dksX0_isRoom_0 3 rfl rfl)
theorem dX0_isRoom_6 : decode cX0_isRoom 6 = .ok (.new 252, 3) := dk_187 0 252 (dk_at dksX0_isRoom_0 6 rfl rfl)
theorem dX0_isRoom_9 : decode cX0_isRoom 9 = .ok (.dup, 1) := dk_89 (dk_at dksX0_isRoom_0 9 rfl rfl)
theorem dX0_isRoom_10 : decode cX0_isRoom 10 = .ok (.iconst 3, 1) := dk_6 (dk_at dksX0_isRoom_0 10 rfl rfl)
theorem dX0_isRoom_11 : decode cX0_isRoom 11 = .ok (.aload_n 0, 1) := dk_42 (dk_at dksX0_isRoom_0 11 rfl rfl)
theorem dX0_isRoom_12 : decode cX0_isRoom 12 = .ok (.getfield 199, 3) := dk_180 0 199 (dk_at dksX0_isRoom_0 12 rfl rfl)
theorem dX0_isRoom_15 : decode cX0_isRoom 15 = .ok (.invokespecial 254, 3) := dk_183 0 254 (dk_at dksX0_isRoom_0 15 rfl rfl)
theorem dX0_isRoom_18 : decode cX0_isRoom 18 = .ok (.athrow, 1) := dk_191 (dk_at dksX0_isRoom_0 18 rfl rfl)
theorem dX0_isRoom_19 : decode cX0_isRoom 19 = .ok (.return_, 1) := dk_177 (dk_at dksX0_isRoom_0 19 rfl rfl)
abbrev cX0_sum : ByteArray := prog_1_method_24_code
def yX0_sum : MethodName := ⟨RX0, "sum", "()LTwelveChain$Term;"⟩
def dkwX0_sum_2 : List UInt8 := [167, 255, 214, 43, 176]
abbrev dktX0_sum_2 : List UInt8 := dkwX0_sum_2 ++ []
def dkwX0_sum_1 : List UInt8 := [180, 0, 224, 146, 61, 42, 182, 1, 9, 187, 1, 23, 89, 28, 43, 42, 182, 1, 28, 183, 1, 25, 76]
abbrev dktX0_sum_1 : List UInt8 := dkwX0_sum_1 ++ dktX0_sum_2
def dkwX0_sum_0 : List UInt8 := [42, 182, 1, 28, 76, 42, 16, 43, 182, 1, 1, 154, 0, 12, 42, 16, 45, 182, 1, 1, 153, 0, 30, 42]
abbrev dktX0_sum_0 : List UInt8 := dkwX0_sum_0 ++ dktX0_sum_1
theorem dksX0_sum_0 : cX0_sum.data.toList.drop 0 = dktX0_sum_0 := by decide +kernel
theorem dksX0_sum_1 : cX0_sum.data.toList.drop 24 = dktX0_sum_1 := dk_seg dksX0_sum_0 24 rfl rfl
theorem dksX0_sum_2 : cX0_sum.data.toList.drop 47 = dktX0_sum_2 := dk_seg dksX0_sum_1 23 rfl rfl
theorem dX0_sum_0 : decode cX0_sum 0 = .ok (.aload_n 0, 1) := dk_42 (dk_at dksX0_sum_0 0 rfl rfl)
theorem dX0_sum_1 : decode cX0_sum 1 = .ok (.invokevirtual 284, 3) := dk_182 1 28 (dk_at dksX0_sum_0 1 rfl rfl)
theorem dX0_sum_4 : decode cX0_sum 4 = .ok (.astore_n 1, 1) := dk_76 (dk_at dksX0_sum_0 4 rfl rfl)
theorem dX0_sum_5 : decode cX0_sum 5 = .ok (.aload_n 0, 1) := dk_42 (dk_at dksX0_sum_0 5 rfl rfl)
theorem dX0_sum_6 : decode cX0_sum 6 = .ok (.bipush 43, 2) := dk_16 43 (dk_at dksX0_sum_0 6 rfl rfl)
theorem dX0_sum_8 : decode cX0_sum 8 = .ok (.invokevirtual 257, 3) := dk_182 1 1 (dk_at dksX0_sum_0 8 rfl rfl)
theorem dX0_sum_11 : decode cX0_sum 11 = .ok (.ifCond .ne 12, 3) := dk_154 0 12 (dk_at dksX0_sum_0 11 rfl rfl)
theorem dX0_sum_14 : decode cX0_sum 14 = .ok (.aload_n 0, 1) := dk_42 (dk_at dksX0_sum_0 14 rfl rfl)
theorem dX0_sum_15 : decode cX0_sum 15 = .ok (.bipush 45, 2) := dk_16 45 (dk_at dksX0_sum_0 15 rfl rfl)
theorem dX0_sum_17 : decode cX0_sum 17 = .ok (.invokevirtual 257, 3) := dk_182 1 1 (dk_at dksX0_sum_0 17 rfl rfl)
theorem dX0_sum_20 : decode cX0_sum 20 = .ok (.ifCond .eq 30, 3) := dk_153 0 30 (dk_at dksX0_sum_0 20 rfl rfl)
theorem dX0_sum_23 : decode cX0_sum 23 = .ok (.aload_n 0, 1) := dk_42 (dk_at dksX0_sum_0 23 rfl rfl)
theorem dX0_sum_24 : decode cX0_sum 24 = .ok (.getfield 224, 3) := dk_180 0 224 (dk_at dksX0_sum_1 0 rfl rfl)
theorem dX0_sum_27 : decode cX0_sum 27 = .ok (.i2c, 1) := dk_146 (dk_at dksX0_sum_1 3 rfl rfl)
theorem dX0_sum_28 : decode cX0_sum 28 = .ok (.istore_n 2, 1) := dk_61 (dk_at dksX0_sum_1 4 rfl rfl)
theorem dX0_sum_29 : decode cX0_sum 29 = .ok (.aload_n 0, 1) := dk_42 (dk_at dksX0_sum_1 5 rfl rfl)
theorem dX0_sum_30 : decode cX0_sum 30 = .ok (.invokevirtual 265, 3) := dk_182 1 9 (dk_at dksX0_sum_1 6 rfl rfl)
theorem dX0_sum_33 : decode cX0_sum 33 = .ok (.new 279, 3) := dk_187 1 23 (dk_at dksX0_sum_1 9 rfl rfl)
theorem dX0_sum_36 : decode cX0_sum 36 = .ok (.dup, 1) := dk_89 (dk_at dksX0_sum_1 12 rfl rfl)
theorem dX0_sum_37 : decode cX0_sum 37 = .ok (.iload_n 2, 1) := dk_28 (dk_at dksX0_sum_1 13 rfl rfl)
theorem dX0_sum_38 : decode cX0_sum 38 = .ok (.aload_n 1, 1) := dk_43 (dk_at dksX0_sum_1 14 rfl rfl)
theorem dX0_sum_39 : decode cX0_sum 39 = .ok (.aload_n 0, 1) := dk_42 (dk_at dksX0_sum_1 15 rfl rfl)
theorem dX0_sum_40 : decode cX0_sum 40 = .ok (.invokevirtual 284, 3) := dk_182 1 28 (dk_at dksX0_sum_1 16 rfl rfl)
theorem dX0_sum_43 : decode cX0_sum 43 = .ok (.invokespecial 281, 3) := dk_183 1 25 (dk_at dksX0_sum_1 19 rfl rfl)
theorem dX0_sum_46 : decode cX0_sum 46 = .ok (.astore_n 1, 1) := dk_76 (dk_at dksX0_sum_1 22 rfl rfl)
theorem dX0_sum_47 : decode cX0_sum 47 = .ok (.goto (-42), 3) := dk_167 255 214 (dk_at dksX0_sum_2 0 rfl rfl)
theorem dX0_sum_50 : decode cX0_sum 50 = .ok (.aload_n 1, 1) := dk_43 (dk_at dksX0_sum_2 3 rfl rfl)
theorem dX0_sum_51 : decode cX0_sum 51 = .ok (.areturn, 1) := dk_176 (dk_at dksX0_sum_2 4 rfl rfl)
abbrev cX0_product : ByteArray := prog_1_method_23_code
def yX0_product : MethodName := ⟨RX0, "product", "()LTwelveChain$Term;"⟩
def dkwX0_product_4 : List UInt8 := [43, 176]
abbrev dktX0_product_4 : List UInt8 := dkwX0_product_4 ++ []
def dkwX0_product_3 : List UInt8 := [180, 0, 199, 183, 0, 254, 191, 187, 1, 23, 89, 28, 43, 42, 182, 1, 19, 183, 1, 25, 76, 167, 255, 169]
abbrev dktX0_product_3 : List UInt8 := dkwX0_product_3 ++ dktX0_product_4
def dkwX0_product_2 : List UInt8 := [166, 0, 7, 4, 167, 0, 4, 3, 182, 1, 5, 42, 180, 0, 224, 154, 0, 16, 187, 0, 252, 89, 5, 42]
abbrev dktX0_product_2 : List UInt8 := dkwX0_product_2 ++ dktX0_product_3
def dkwX0_product_1 : List UInt8 := [180, 0, 224, 146, 61, 42, 182, 1, 9, 28, 16, 47, 160, 0, 42, 42, 42, 180, 0, 208, 178, 0, 244]
abbrev dktX0_product_1 : List UInt8 := dkwX0_product_1 ++ dktX0_product_2
def dkwX0_product_0 : List UInt8 := [42, 182, 1, 19, 76, 42, 16, 42, 182, 1, 1, 154, 0, 12, 42, 16, 47, 182, 1, 1, 153, 0, 75, 42]
abbrev dktX0_product_0 : List UInt8 := dkwX0_product_0 ++ dktX0_product_1
theorem dksX0_product_0 : cX0_product.data.toList.drop 0 = dktX0_product_0 := by decide +kernel
theorem dksX0_product_1 : cX0_product.data.toList.drop 24 = dktX0_product_1 := dk_seg dksX0_product_0 24 rfl rfl
theorem dksX0_product_2 : cX0_product.data.toList.drop 47 = dktX0_product_2 := dk_seg dksX0_product_1 23 rfl rfl
theorem dksX0_product_3 : cX0_product.data.toList.drop 71 = dktX0_product_3 := dk_seg dksX0_product_2 24 rfl rfl
theorem dksX0_product_4 : cX0_product.data.toList.drop 95 = dktX0_product_4 := dk_seg dksX0_product_3 24 rfl rfl
theorem dX0_product_0 : decode cX0_product 0 = .ok (.aload_n 0, 1) := dk_42 (dk_at dksX0_product_0 0 rfl rfl)
theorem dX0_product_1 : decode cX0_product 1 = .ok (.invokevirtual 275, 3) := dk_182 1 19 (dk_at dksX0_product_0 1 rfl rfl)
theorem dX0_product_4 : decode cX0_product 4 = .ok (.astore_n 1, 1) := dk_76 (dk_at dksX0_product_0 4 rfl rfl)
theorem dX0_product_5 : decode cX0_product 5 = .ok (.aload_n 0, 1) := dk_42 (dk_at dksX0_product_0 5 rfl rfl)
theorem dX0_product_6 : decode cX0_product 6 = .ok (.bipush 42, 2) := dk_16 42 (dk_at dksX0_product_0 6 rfl rfl)
theorem dX0_product_8 : decode cX0_product 8 = .ok (.invokevirtual 257, 3) := dk_182 1 1 (dk_at dksX0_product_0 8 rfl rfl)
theorem dX0_product_11 : decode cX0_product 11 = .ok (.ifCond .ne 12, 3) := dk_154 0 12 (dk_at dksX0_product_0 11 rfl rfl)
theorem dX0_product_14 : decode cX0_product 14 = .ok (.aload_n 0, 1) := dk_42 (dk_at dksX0_product_0 14 rfl rfl)
theorem dX0_product_15 : decode cX0_product 15 = .ok (.bipush 47, 2) := dk_16 47 (dk_at dksX0_product_0 15 rfl rfl)
theorem dX0_product_17 : decode cX0_product 17 = .ok (.invokevirtual 257, 3) := dk_182 1 1 (dk_at dksX0_product_0 17 rfl rfl)
theorem dX0_product_20 : decode cX0_product 20 = .ok (.ifCond .eq 75, 3) := dk_153 0 75 (dk_at dksX0_product_0 20 rfl rfl)
theorem dX0_product_23 : decode cX0_product 23 = .ok (.aload_n 0, 1) := dk_42 (dk_at dksX0_product_0 23 rfl rfl)
theorem dX0_product_24 : decode cX0_product 24 = .ok (.getfield 224, 3) := dk_180 0 224 (dk_at dksX0_product_1 0 rfl rfl)
theorem dX0_product_27 : decode cX0_product 27 = .ok (.i2c, 1) := dk_146 (dk_at dksX0_product_1 3 rfl rfl)
theorem dX0_product_28 : decode cX0_product 28 = .ok (.istore_n 2, 1) := dk_61 (dk_at dksX0_product_1 4 rfl rfl)
theorem dX0_product_29 : decode cX0_product 29 = .ok (.aload_n 0, 1) := dk_42 (dk_at dksX0_product_1 5 rfl rfl)
theorem dX0_product_30 : decode cX0_product 30 = .ok (.invokevirtual 265, 3) := dk_182 1 9 (dk_at dksX0_product_1 6 rfl rfl)
theorem dX0_product_33 : decode cX0_product 33 = .ok (.iload_n 2, 1) := dk_28 (dk_at dksX0_product_1 9 rfl rfl)
theorem dX0_product_34 : decode cX0_product 34 = .ok (.bipush 47, 2) := dk_16 47 (dk_at dksX0_product_1 10 rfl rfl)
theorem dX0_product_36 : decode cX0_product 36 = .ok (.if_icmp .ne 42, 3) := dk_160 0 42 (dk_at dksX0_product_1 12 rfl rfl)
theorem dX0_product_39 : decode cX0_product 39 = .ok (.aload_n 0, 1) := dk_42 (dk_at dksX0_product_1 15 rfl rfl)
theorem dX0_product_40 : decode cX0_product 40 = .ok (.aload_n 0, 1) := dk_42 (dk_at dksX0_product_1 16 rfl rfl)
theorem dX0_product_41 : decode cX0_product 41 = .ok (.getfield 208, 3) := dk_180 0 208 (dk_at dksX0_product_1 17 rfl rfl)
theorem dX0_product_44 : decode cX0_product 44 = .ok (.getstatic 244, 3) := dk_178 0 244 (dk_at dksX0_product_1 20 rfl rfl)
theorem dX0_product_47 : decode cX0_product 47 = .ok (.if_acmp .ne 7, 3) := dk_166 0 7 (dk_at dksX0_product_2 0 rfl rfl)
theorem dX0_product_50 : decode cX0_product 50 = .ok (.iconst 1, 1) := dk_4 (dk_at dksX0_product_2 3 rfl rfl)
theorem dX0_product_51 : decode cX0_product 51 = .ok (.goto 4, 3) := dk_167 0 4 (dk_at dksX0_product_2 4 rfl rfl)
theorem dX0_product_54 : decode cX0_product 54 = .ok (.iconst 0, 1) := dk_3 (dk_at dksX0_product_2 7 rfl rfl)
theorem dX0_product_55 : decode cX0_product 55 = .ok (.invokevirtual 261, 3) := dk_182 1 5 (dk_at dksX0_product_2 8 rfl rfl)
theorem dX0_product_58 : decode cX0_product 58 = .ok (.aload_n 0, 1) := dk_42 (dk_at dksX0_product_2 11 rfl rfl)
theorem dX0_product_59 : decode cX0_product 59 = .ok (.getfield 224, 3) := dk_180 0 224 (dk_at dksX0_product_2 12 rfl rfl)
theorem dX0_product_62 : decode cX0_product 62 = .ok (.ifCond .ne 16, 3) := dk_154 0 16 (dk_at dksX0_product_2 15 rfl rfl)
theorem dX0_product_65 : decode cX0_product 65 = .ok (.new 252, 3) := dk_187 0 252 (dk_at dksX0_product_2 18 rfl rfl)
theorem dX0_product_68 : decode cX0_product 68 = .ok (.dup, 1) := dk_89 (dk_at dksX0_product_2 21 rfl rfl)
theorem dX0_product_69 : decode cX0_product 69 = .ok (.iconst 2, 1) := dk_5 (dk_at dksX0_product_2 22 rfl rfl)
theorem dX0_product_70 : decode cX0_product 70 = .ok (.aload_n 0, 1) := dk_42 (dk_at dksX0_product_2 23 rfl rfl)
theorem dX0_product_71 : decode cX0_product 71 = .ok (.getfield 199, 3) := dk_180 0 199 (dk_at dksX0_product_3 0 rfl rfl)
theorem dX0_product_74 : decode cX0_product 74 = .ok (.invokespecial 254, 3) := dk_183 0 254 (dk_at dksX0_product_3 3 rfl rfl)
theorem dX0_product_77 : decode cX0_product 77 = .ok (.athrow, 1) := dk_191 (dk_at dksX0_product_3 6 rfl rfl)
theorem dX0_product_78 : decode cX0_product 78 = .ok (.new 279, 3) := dk_187 1 23 (dk_at dksX0_product_3 7 rfl rfl)
theorem dX0_product_81 : decode cX0_product 81 = .ok (.dup, 1) := dk_89 (dk_at dksX0_product_3 10 rfl rfl)
theorem dX0_product_82 : decode cX0_product 82 = .ok (.iload_n 2, 1) := dk_28 (dk_at dksX0_product_3 11 rfl rfl)
theorem dX0_product_83 : decode cX0_product 83 = .ok (.aload_n 1, 1) := dk_43 (dk_at dksX0_product_3 12 rfl rfl)
theorem dX0_product_84 : decode cX0_product 84 = .ok (.aload_n 0, 1) := dk_42 (dk_at dksX0_product_3 13 rfl rfl)
theorem dX0_product_85 : decode cX0_product 85 = .ok (.invokevirtual 275, 3) := dk_182 1 19 (dk_at dksX0_product_3 14 rfl rfl)
theorem dX0_product_88 : decode cX0_product 88 = .ok (.invokespecial 281, 3) := dk_183 1 25 (dk_at dksX0_product_3 17 rfl rfl)
theorem dX0_product_91 : decode cX0_product 91 = .ok (.astore_n 1, 1) := dk_76 (dk_at dksX0_product_3 20 rfl rfl)
theorem dX0_product_92 : decode cX0_product 92 = .ok (.goto (-87), 3) := dk_167 255 169 (dk_at dksX0_product_3 21 rfl rfl)
theorem dX0_product_95 : decode cX0_product 95 = .ok (.aload_n 1, 1) := dk_43 (dk_at dksX0_product_4 0 rfl rfl)
theorem dX0_product_96 : decode cX0_product 96 = .ok (.areturn, 1) := dk_176 (dk_at dksX0_product_4 1 rfl rfl)
abbrev cX0_unit : ByteArray := prog_1_method_22_code
def yX0_unit : MethodName := ⟨RX0, "unit", "()LTwelveChain$Term;"⟩
def dkwX0_unit_2 : List UInt8 := [182, 1, 5, 42, 182, 1, 9, 187, 1, 16, 89, 27, 183, 1, 18, 176]
abbrev dktX0_unit_2 : List UInt8 := dkwX0_unit_2 ++ []
def dkwX0_unit_1 : List UInt8 := [183, 1, 14, 176, 42, 42, 180, 0, 108, 182, 0, 236, 60, 42, 27, 2, 159, 0, 7, 4, 167, 0, 4, 3]
abbrev dktX0_unit_1 : List UInt8 := dkwX0_unit_1 ++ dktX0_unit_2
def dkwX0_unit_0 : List UInt8 := [42, 180, 0, 208, 178, 0, 244, 166, 0, 21, 42, 180, 0, 224, 60, 42, 182, 1, 9, 187, 1, 12, 89, 27]
abbrev dktX0_unit_0 : List UInt8 := dkwX0_unit_0 ++ dktX0_unit_1
theorem dksX0_unit_0 : cX0_unit.data.toList.drop 0 = dktX0_unit_0 := by decide +kernel
theorem dksX0_unit_1 : cX0_unit.data.toList.drop 24 = dktX0_unit_1 := dk_seg dksX0_unit_0 24 rfl rfl
theorem dksX0_unit_2 : cX0_unit.data.toList.drop 48 = dktX0_unit_2 := dk_seg dksX0_unit_1 24 rfl rfl
theorem dX0_unit_0 : decode cX0_unit 0 = .ok (.aload_n 0, 1) := dk_42 (dk_at dksX0_unit_0 0 rfl rfl)
theorem dX0_unit_1 : decode cX0_unit 1 = .ok (.getfield 208, 3) := dk_180 0 208 (dk_at dksX0_unit_0 1 rfl rfl)
theorem dX0_unit_4 : decode cX0_unit 4 = .ok (.getstatic 244, 3) := dk_178 0 244 (dk_at dksX0_unit_0 4 rfl rfl)
theorem dX0_unit_7 : decode cX0_unit 7 = .ok (.if_acmp .ne 21, 3) := dk_166 0 21 (dk_at dksX0_unit_0 7 rfl rfl)
theorem dX0_unit_10 : decode cX0_unit 10 = .ok (.aload_n 0, 1) := dk_42 (dk_at dksX0_unit_0 10 rfl rfl)
theorem dX0_unit_11 : decode cX0_unit 11 = .ok (.getfield 224, 3) := dk_180 0 224 (dk_at dksX0_unit_0 11 rfl rfl)
theorem dX0_unit_14 : decode cX0_unit 14 = .ok (.istore_n 1, 1) := dk_60 (dk_at dksX0_unit_0 14 rfl rfl)
theorem dX0_unit_15 : decode cX0_unit 15 = .ok (.aload_n 0, 1) := dk_42 (dk_at dksX0_unit_0 15 rfl rfl)
theorem dX0_unit_16 : decode cX0_unit 16 = .ok (.invokevirtual 265, 3) := dk_182 1 9 (dk_at dksX0_unit_0 16 rfl rfl)
theorem dX0_unit_19 : decode cX0_unit 19 = .ok (.new 268, 3) := dk_187 1 12 (dk_at dksX0_unit_0 19 rfl rfl)
theorem dX0_unit_22 : decode cX0_unit 22 = .ok (.dup, 1) := dk_89 (dk_at dksX0_unit_0 22 rfl rfl)
theorem dX0_unit_23 : decode cX0_unit 23 = .ok (.iload_n 1, 1) := dk_27 (dk_at dksX0_unit_0 23 rfl rfl)
theorem dX0_unit_24 : decode cX0_unit 24 = .ok (.invokespecial 270, 3) := dk_183 1 14 (dk_at dksX0_unit_1 0 rfl rfl)
theorem dX0_unit_27 : decode cX0_unit 27 = .ok (.areturn, 1) := dk_176 (dk_at dksX0_unit_1 3 rfl rfl)
theorem dX0_unit_28 : decode cX0_unit 28 = .ok (.aload_n 0, 1) := dk_42 (dk_at dksX0_unit_1 4 rfl rfl)
theorem dX0_unit_29 : decode cX0_unit 29 = .ok (.aload_n 0, 1) := dk_42 (dk_at dksX0_unit_1 5 rfl rfl)
theorem dX0_unit_30 : decode cX0_unit 30 = .ok (.getfield 108, 3) := dk_180 0 108 (dk_at dksX0_unit_1 6 rfl rfl)
theorem dX0_unit_33 : decode cX0_unit 33 = .ok (.invokevirtual 236, 3) := dk_182 0 236 (dk_at dksX0_unit_1 9 rfl rfl)
theorem dX0_unit_36 : decode cX0_unit 36 = .ok (.istore_n 1, 1) := dk_60 (dk_at dksX0_unit_1 12 rfl rfl)
theorem dX0_unit_37 : decode cX0_unit 37 = .ok (.aload_n 0, 1) := dk_42 (dk_at dksX0_unit_1 13 rfl rfl)
theorem dX0_unit_38 : decode cX0_unit 38 = .ok (.iload_n 1, 1) := dk_27 (dk_at dksX0_unit_1 14 rfl rfl)
theorem dX0_unit_39 : decode cX0_unit 39 = .ok (.iconst (-1), 1) := dk_2 (dk_at dksX0_unit_1 15 rfl rfl)
theorem dX0_unit_40 : decode cX0_unit 40 = .ok (.if_icmp .eq 7, 3) := dk_159 0 7 (dk_at dksX0_unit_1 16 rfl rfl)
theorem dX0_unit_43 : decode cX0_unit 43 = .ok (.iconst 1, 1) := dk_4 (dk_at dksX0_unit_1 19 rfl rfl)
theorem dX0_unit_44 : decode cX0_unit 44 = .ok (.goto 4, 3) := dk_167 0 4 (dk_at dksX0_unit_1 20 rfl rfl)
theorem dX0_unit_47 : decode cX0_unit 47 = .ok (.iconst 0, 1) := dk_3 (dk_at dksX0_unit_1 23 rfl rfl)
theorem dX0_unit_48 : decode cX0_unit 48 = .ok (.invokevirtual 261, 3) := dk_182 1 5 (dk_at dksX0_unit_2 0 rfl rfl)
theorem dX0_unit_51 : decode cX0_unit 51 = .ok (.aload_n 0, 1) := dk_42 (dk_at dksX0_unit_2 3 rfl rfl)
theorem dX0_unit_52 : decode cX0_unit 52 = .ok (.invokevirtual 265, 3) := dk_182 1 9 (dk_at dksX0_unit_2 4 rfl rfl)
theorem dX0_unit_55 : decode cX0_unit 55 = .ok (.new 272, 3) := dk_187 1 16 (dk_at dksX0_unit_2 7 rfl rfl)
theorem dX0_unit_58 : decode cX0_unit 58 = .ok (.dup, 1) := dk_89 (dk_at dksX0_unit_2 10 rfl rfl)
theorem dX0_unit_59 : decode cX0_unit 59 = .ok (.iload_n 1, 1) := dk_27 (dk_at dksX0_unit_2 11 rfl rfl)
theorem dX0_unit_60 : decode cX0_unit 60 = .ok (.invokespecial 274, 3) := dk_183 1 18 (dk_at dksX0_unit_2 12 rfl rfl)
theorem dX0_unit_63 : decode cX0_unit 63 = .ok (.areturn, 1) := dk_176 (dk_at dksX0_unit_2 15 rfl rfl)
abbrev cX0_isSign : ByteArray := prog_1_method_18_code
def yX0_isSign : MethodName := ⟨RX0, "isSign", "(C)Z"⟩
def dkwX0_isSign_0 : List UInt8 := [42, 180, 0, 208, 178, 0, 221, 166, 0, 15, 42, 180, 0, 224, 27, 160, 0, 7, 4, 167, 0, 4, 3, 172]
abbrev dktX0_isSign_0 : List UInt8 := dkwX0_isSign_0 ++ []
theorem dksX0_isSign_0 : cX0_isSign.data.toList.drop 0 = dktX0_isSign_0 := by decide +kernel
theorem dX0_isSign_0 : decode cX0_isSign 0 = .ok (.aload_n 0, 1) := dk_42 (dk_at dksX0_isSign_0 0 rfl rfl)
theorem dX0_isSign_1 : decode cX0_isSign 1 = .ok (.getfield 208, 3) := dk_180 0 208 (dk_at dksX0_isSign_0 1 rfl rfl)
theorem dX0_isSign_4 : decode cX0_isSign 4 = .ok (.getstatic 221, 3) := dk_178 0 221 (dk_at dksX0_isSign_0 4 rfl rfl)
theorem dX0_isSign_7 : decode cX0_isSign 7 = .ok (.if_acmp .ne 15, 3) := dk_166 0 15 (dk_at dksX0_isSign_0 7 rfl rfl)
theorem dX0_isSign_10 : decode cX0_isSign 10 = .ok (.aload_n 0, 1) := dk_42 (dk_at dksX0_isSign_0 10 rfl rfl)
theorem dX0_isSign_11 : decode cX0_isSign 11 = .ok (.getfield 224, 3) := dk_180 0 224 (dk_at dksX0_isSign_0 11 rfl rfl)
theorem dX0_isSign_14 : decode cX0_isSign 14 = .ok (.iload_n 1, 1) := dk_27 (dk_at dksX0_isSign_0 14 rfl rfl)
theorem dX0_isSign_15 : decode cX0_isSign 15 = .ok (.if_icmp .ne 7, 3) := dk_160 0 7 (dk_at dksX0_isSign_0 15 rfl rfl)
theorem dX0_isSign_18 : decode cX0_isSign 18 = .ok (.iconst 1, 1) := dk_4 (dk_at dksX0_isSign_0 18 rfl rfl)
theorem dX0_isSign_19 : decode cX0_isSign 19 = .ok (.goto 4, 3) := dk_167 0 4 (dk_at dksX0_isSign_0 19 rfl rfl)
theorem dX0_isSign_22 : decode cX0_isSign 22 = .ok (.iconst 0, 1) := dk_3 (dk_at dksX0_isSign_0 22 rfl rfl)
theorem dX0_isSign_23 : decode cX0_isSign 23 = .ok (.ireturn, 1) := dk_172 (dk_at dksX0_isSign_0 23 rfl rfl)
abbrev cX0_isWord : ByteArray := prog_1_method_17_code
def yX0_isWord : MethodName := ⟨RX0, "isWord", "(Ljava/lang/String;)Z"⟩
def dkwX0_isWord_0 : List UInt8 := [42, 180, 0, 208, 178, 0, 212, 166, 0, 15, 42, 43, 182, 0, 217, 153, 0, 7, 4, 167, 0, 4, 3, 172]
abbrev dktX0_isWord_0 : List UInt8 := dkwX0_isWord_0 ++ []
theorem dksX0_isWord_0 : cX0_isWord.data.toList.drop 0 = dktX0_isWord_0 := by decide +kernel
theorem dX0_isWord_0 : decode cX0_isWord 0 = .ok (.aload_n 0, 1) := dk_42 (dk_at dksX0_isWord_0 0 rfl rfl)
theorem dX0_isWord_1 : decode cX0_isWord 1 = .ok (.getfield 208, 3) := dk_180 0 208 (dk_at dksX0_isWord_0 1 rfl rfl)
theorem dX0_isWord_4 : decode cX0_isWord 4 = .ok (.getstatic 212, 3) := dk_178 0 212 (dk_at dksX0_isWord_0 4 rfl rfl)
theorem dX0_isWord_7 : decode cX0_isWord 7 = .ok (.if_acmp .ne 15, 3) := dk_166 0 15 (dk_at dksX0_isWord_0 7 rfl rfl)
theorem dX0_isWord_10 : decode cX0_isWord 10 = .ok (.aload_n 0, 1) := dk_42 (dk_at dksX0_isWord_0 10 rfl rfl)
theorem dX0_isWord_11 : decode cX0_isWord 11 = .ok (.aload_n 1, 1) := dk_43 (dk_at dksX0_isWord_0 11 rfl rfl)
theorem dX0_isWord_12 : decode cX0_isWord 12 = .ok (.invokevirtual 217, 3) := dk_182 0 217 (dk_at dksX0_isWord_0 12 rfl rfl)
theorem dX0_isWord_15 : decode cX0_isWord 15 = .ok (.ifCond .eq 7, 3) := dk_153 0 7 (dk_at dksX0_isWord_0 15 rfl rfl)
theorem dX0_isWord_18 : decode cX0_isWord 18 = .ok (.iconst 1, 1) := dk_4 (dk_at dksX0_isWord_0 18 rfl rfl)
theorem dX0_isWord_19 : decode cX0_isWord 19 = .ok (.goto 4, 3) := dk_167 0 4 (dk_at dksX0_isWord_0 19 rfl rfl)
theorem dX0_isWord_22 : decode cX0_isWord 22 = .ok (.iconst 0, 1) := dk_3 (dk_at dksX0_isWord_0 22 rfl rfl)
theorem dX0_isWord_23 : decode cX0_isWord 23 = .ok (.ireturn, 1) := dk_172 (dk_at dksX0_isWord_0 23 rfl rfl)
abbrev cX0_any : ByteArray := prog_1_method_28_code
def yX0_any : MethodName := ⟨RX0, "any", "()LTwelveChain$Term;"⟩
def dkwX0_any_1 : List UInt8 := [43, 42, 182, 1, 57, 183, 1, 25, 76, 167, 255, 228, 43, 176]
abbrev dktX0_any_1 : List UInt8 := dkwX0_any_1 ++ []
def dkwX0_any_0 : List UInt8 := [42, 182, 1, 57, 76, 42, 18, 93, 182, 1, 34, 153, 0, 25, 42, 182, 1, 9, 187, 1, 23, 89, 16, 124]
abbrev dktX0_any_0 : List UInt8 := dkwX0_any_0 ++ dktX0_any_1
theorem dksX0_any_0 : cX0_any.data.toList.drop 0 = dktX0_any_0 := by decide +kernel
theorem dksX0_any_1 : cX0_any.data.toList.drop 24 = dktX0_any_1 := dk_seg dksX0_any_0 24 rfl rfl
theorem dX0_any_0 : decode cX0_any 0 = .ok (.aload_n 0, 1) := dk_42 (dk_at dksX0_any_0 0 rfl rfl)
theorem dX0_any_1 : decode cX0_any 1 = .ok (.invokevirtual 313, 3) := dk_182 1 57 (dk_at dksX0_any_0 1 rfl rfl)
theorem dX0_any_4 : decode cX0_any 4 = .ok (.astore_n 1, 1) := dk_76 (dk_at dksX0_any_0 4 rfl rfl)
theorem dX0_any_5 : decode cX0_any 5 = .ok (.aload_n 0, 1) := dk_42 (dk_at dksX0_any_0 5 rfl rfl)
theorem dX0_any_6 : decode cX0_any 6 = .ok (.ldc 93, 2) := dk_18 93 (dk_at dksX0_any_0 6 rfl rfl)
theorem dX0_any_8 : decode cX0_any 8 = .ok (.invokevirtual 290, 3) := dk_182 1 34 (dk_at dksX0_any_0 8 rfl rfl)
theorem dX0_any_11 : decode cX0_any 11 = .ok (.ifCond .eq 25, 3) := dk_153 0 25 (dk_at dksX0_any_0 11 rfl rfl)
theorem dX0_any_14 : decode cX0_any 14 = .ok (.aload_n 0, 1) := dk_42 (dk_at dksX0_any_0 14 rfl rfl)
theorem dX0_any_15 : decode cX0_any 15 = .ok (.invokevirtual 265, 3) := dk_182 1 9 (dk_at dksX0_any_0 15 rfl rfl)
theorem dX0_any_18 : decode cX0_any 18 = .ok (.new 279, 3) := dk_187 1 23 (dk_at dksX0_any_0 18 rfl rfl)
theorem dX0_any_21 : decode cX0_any 21 = .ok (.dup, 1) := dk_89 (dk_at dksX0_any_0 21 rfl rfl)
theorem dX0_any_22 : decode cX0_any 22 = .ok (.bipush 124, 2) := dk_16 124 (dk_at dksX0_any_0 22 rfl rfl)
theorem dX0_any_24 : decode cX0_any 24 = .ok (.aload_n 1, 1) := dk_43 (dk_at dksX0_any_1 0 rfl rfl)
theorem dX0_any_25 : decode cX0_any 25 = .ok (.aload_n 0, 1) := dk_42 (dk_at dksX0_any_1 1 rfl rfl)
theorem dX0_any_26 : decode cX0_any 26 = .ok (.invokevirtual 313, 3) := dk_182 1 57 (dk_at dksX0_any_1 2 rfl rfl)
theorem dX0_any_29 : decode cX0_any 29 = .ok (.invokespecial 281, 3) := dk_183 1 25 (dk_at dksX0_any_1 5 rfl rfl)
theorem dX0_any_32 : decode cX0_any 32 = .ok (.astore_n 1, 1) := dk_76 (dk_at dksX0_any_1 8 rfl rfl)
theorem dX0_any_33 : decode cX0_any 33 = .ok (.goto (-28), 3) := dk_167 255 228 (dk_at dksX0_any_1 9 rfl rfl)
theorem dX0_any_36 : decode cX0_any 36 = .ok (.aload_n 1, 1) := dk_43 (dk_at dksX0_any_1 12 rfl rfl)
theorem dX0_any_37 : decode cX0_any 37 = .ok (.areturn, 1) := dk_176 (dk_at dksX0_any_1 13 rfl rfl)
abbrev cX0_both : ByteArray := prog_1_method_27_code
def yX0_both : MethodName := ⟨RX0, "both", "()LTwelveChain$Term;"⟩
def dkwX0_both_1 : List UInt8 := [43, 42, 182, 1, 39, 183, 1, 25, 76, 167, 255, 228, 43, 176]
abbrev dktX0_both_1 : List UInt8 := dkwX0_both_1 ++ []
def dkwX0_both_0 : List UInt8 := [42, 182, 1, 39, 76, 42, 18, 95, 182, 1, 34, 153, 0, 25, 42, 182, 1, 9, 187, 1, 23, 89, 16, 38]
abbrev dktX0_both_0 : List UInt8 := dkwX0_both_0 ++ dktX0_both_1
theorem dksX0_both_0 : cX0_both.data.toList.drop 0 = dktX0_both_0 := by decide +kernel
theorem dksX0_both_1 : cX0_both.data.toList.drop 24 = dktX0_both_1 := dk_seg dksX0_both_0 24 rfl rfl
theorem dX0_both_0 : decode cX0_both 0 = .ok (.aload_n 0, 1) := dk_42 (dk_at dksX0_both_0 0 rfl rfl)
theorem dX0_both_1 : decode cX0_both 1 = .ok (.invokevirtual 295, 3) := dk_182 1 39 (dk_at dksX0_both_0 1 rfl rfl)
theorem dX0_both_4 : decode cX0_both 4 = .ok (.astore_n 1, 1) := dk_76 (dk_at dksX0_both_0 4 rfl rfl)
theorem dX0_both_5 : decode cX0_both 5 = .ok (.aload_n 0, 1) := dk_42 (dk_at dksX0_both_0 5 rfl rfl)
theorem dX0_both_6 : decode cX0_both 6 = .ok (.ldc 95, 2) := dk_18 95 (dk_at dksX0_both_0 6 rfl rfl)
theorem dX0_both_8 : decode cX0_both 8 = .ok (.invokevirtual 290, 3) := dk_182 1 34 (dk_at dksX0_both_0 8 rfl rfl)
theorem dX0_both_11 : decode cX0_both 11 = .ok (.ifCond .eq 25, 3) := dk_153 0 25 (dk_at dksX0_both_0 11 rfl rfl)
theorem dX0_both_14 : decode cX0_both 14 = .ok (.aload_n 0, 1) := dk_42 (dk_at dksX0_both_0 14 rfl rfl)
theorem dX0_both_15 : decode cX0_both 15 = .ok (.invokevirtual 265, 3) := dk_182 1 9 (dk_at dksX0_both_0 15 rfl rfl)
theorem dX0_both_18 : decode cX0_both 18 = .ok (.new 279, 3) := dk_187 1 23 (dk_at dksX0_both_0 18 rfl rfl)
theorem dX0_both_21 : decode cX0_both 21 = .ok (.dup, 1) := dk_89 (dk_at dksX0_both_0 21 rfl rfl)
theorem dX0_both_22 : decode cX0_both 22 = .ok (.bipush 38, 2) := dk_16 38 (dk_at dksX0_both_0 22 rfl rfl)
theorem dX0_both_24 : decode cX0_both 24 = .ok (.aload_n 1, 1) := dk_43 (dk_at dksX0_both_1 0 rfl rfl)
theorem dX0_both_25 : decode cX0_both 25 = .ok (.aload_n 0, 1) := dk_42 (dk_at dksX0_both_1 1 rfl rfl)
theorem dX0_both_26 : decode cX0_both 26 = .ok (.invokevirtual 295, 3) := dk_182 1 39 (dk_at dksX0_both_1 2 rfl rfl)
theorem dX0_both_29 : decode cX0_both 29 = .ok (.invokespecial 281, 3) := dk_183 1 25 (dk_at dksX0_both_1 5 rfl rfl)
theorem dX0_both_32 : decode cX0_both 32 = .ok (.astore_n 1, 1) := dk_76 (dk_at dksX0_both_1 8 rfl rfl)
theorem dX0_both_33 : decode cX0_both 33 = .ok (.goto (-28), 3) := dk_167 255 228 (dk_at dksX0_both_1 9 rfl rfl)
theorem dX0_both_36 : decode cX0_both 36 = .ok (.aload_n 1, 1) := dk_43 (dk_at dksX0_both_1 12 rfl rfl)
theorem dX0_both_37 : decode cX0_both 37 = .ok (.areturn, 1) := dk_176 (dk_at dksX0_both_1 13 rfl rfl)
abbrev cX0_oneOf : ByteArray := prog_1_method_26_code
def yX0_oneOf : MethodName := ⟨RX0, "oneOf", "()LTwelveChain$Term;"⟩
def dkwX0_oneOf_5 : List UInt8 := [146, 61, 42, 182, 1, 9, 187, 1, 23, 89, 28, 43, 42, 182, 1, 54, 183, 1, 25, 176]
abbrev dktX0_oneOf_5 : List UInt8 := dkwX0_oneOf_5 ++ []
def dkwX0_oneOf_4 : List UInt8 := [154, 0, 12, 42, 16, 62, 182, 1, 1, 153, 0, 7, 4, 167, 0, 4, 3, 182, 1, 5, 42, 180, 0, 224]
abbrev dktX0_oneOf_4 : List UInt8 := dkwX0_oneOf_4 ++ dktX0_oneOf_5
def dkwX0_oneOf_3 : List UInt8 := [43, 176, 42, 182, 1, 54, 76, 42, 42, 16, 60, 182, 1, 1, 154, 0, 21, 42, 16, 61, 182, 1, 1]
abbrev dktX0_oneOf_3 : List UInt8 := dkwX0_oneOf_3 ++ dktX0_oneOf_4
def dkwX0_oneOf_2 : List UInt8 := [182, 1, 37, 42, 182, 1, 47, 76, 42, 16, 41, 182, 1, 50, 42, 89, 180, 1, 31, 4, 100, 181, 1, 31]
abbrev dktX0_oneOf_2 : List UInt8 := dkwX0_oneOf_2 ++ dktX0_oneOf_3
def dkwX0_oneOf_1 : List UInt8 := [100, 181, 1, 31, 187, 1, 42, 89, 43, 183, 1, 44, 176, 42, 16, 40, 182, 1, 1, 153, 0, 30, 42]
abbrev dktX0_oneOf_1 : List UInt8 := dkwX0_oneOf_1 ++ dktX0_oneOf_2
def dkwX0_oneOf_0 : List UInt8 := [42, 18, 97, 182, 1, 34, 153, 0, 31, 42, 182, 1, 37, 42, 182, 1, 39, 76, 42, 89, 180, 1, 31, 4]
abbrev dktX0_oneOf_0 : List UInt8 := dkwX0_oneOf_0 ++ dktX0_oneOf_1
theorem dksX0_oneOf_0 : cX0_oneOf.data.toList.drop 0 = dktX0_oneOf_0 := by decide +kernel
theorem dksX0_oneOf_1 : cX0_oneOf.data.toList.drop 24 = dktX0_oneOf_1 := dk_seg dksX0_oneOf_0 24 rfl rfl
theorem dksX0_oneOf_2 : cX0_oneOf.data.toList.drop 47 = dktX0_oneOf_2 := dk_seg dksX0_oneOf_1 23 rfl rfl
theorem dksX0_oneOf_3 : cX0_oneOf.data.toList.drop 71 = dktX0_oneOf_3 := dk_seg dksX0_oneOf_2 24 rfl rfl
theorem dksX0_oneOf_4 : cX0_oneOf.data.toList.drop 94 = dktX0_oneOf_4 := dk_seg dksX0_oneOf_3 23 rfl rfl
theorem dksX0_oneOf_5 : cX0_oneOf.data.toList.drop 118 = dktX0_oneOf_5 := dk_seg dksX0_oneOf_4 24 rfl rfl
theorem dX0_oneOf_0 : decode cX0_oneOf 0 = .ok (.aload_n 0, 1) := dk_42 (dk_at dksX0_oneOf_0 0 rfl rfl)
theorem dX0_oneOf_1 : decode cX0_oneOf 1 = .ok (.ldc 97, 2) := dk_18 97 (dk_at dksX0_oneOf_0 1 rfl rfl)
theorem dX0_oneOf_3 : decode cX0_oneOf 3 = .ok (.invokevirtual 290, 3) := dk_182 1 34 (dk_at dksX0_oneOf_0 3 rfl rfl)
theorem dX0_oneOf_6 : decode cX0_oneOf 6 = .ok (.ifCond .eq 31, 3) := dk_153 0 31 (dk_at dksX0_oneOf_0 6 rfl rfl)
theorem dX0_oneOf_9 : decode cX0_oneOf 9 = .ok (.aload_n 0, 1) := dk_42 (dk_at dksX0_oneOf_0 9 rfl rfl)
theorem dX0_oneOf_10 : decode cX0_oneOf 10 = .ok (.invokevirtual 293, 3) := dk_182 1 37 (dk_at dksX0_oneOf_0 10 rfl rfl)
theorem dX0_oneOf_13 : decode cX0_oneOf 13 = .ok (.aload_n 0, 1) := dk_42 (dk_at dksX0_oneOf_0 13 rfl rfl)
theorem dX0_oneOf_14 : decode cX0_oneOf 14 = .ok (.invokevirtual 295, 3) := dk_182 1 39 (dk_at dksX0_oneOf_0 14 rfl rfl)
theorem dX0_oneOf_17 : decode cX0_oneOf 17 = .ok (.astore_n 1, 1) := dk_76 (dk_at dksX0_oneOf_0 17 rfl rfl)
theorem dX0_oneOf_18 : decode cX0_oneOf 18 = .ok (.aload_n 0, 1) := dk_42 (dk_at dksX0_oneOf_0 18 rfl rfl)
theorem dX0_oneOf_19 : decode cX0_oneOf 19 = .ok (.dup, 1) := dk_89 (dk_at dksX0_oneOf_0 19 rfl rfl)
theorem dX0_oneOf_20 : decode cX0_oneOf 20 = .ok (.getfield 287, 3) := dk_180 1 31 (dk_at dksX0_oneOf_0 20 rfl rfl)
theorem dX0_oneOf_23 : decode cX0_oneOf 23 = .ok (.iconst 1, 1) := dk_4 (dk_at dksX0_oneOf_0 23 rfl rfl)
theorem dX0_oneOf_24 : decode cX0_oneOf 24 = .ok (.isub, 1) := dk_100 (dk_at dksX0_oneOf_1 0 rfl rfl)
theorem dX0_oneOf_25 : decode cX0_oneOf 25 = .ok (.putfield 287, 3) := dk_181 1 31 (dk_at dksX0_oneOf_1 1 rfl rfl)
theorem dX0_oneOf_28 : decode cX0_oneOf 28 = .ok (.new 298, 3) := dk_187 1 42 (dk_at dksX0_oneOf_1 4 rfl rfl)
theorem dX0_oneOf_31 : decode cX0_oneOf 31 = .ok (.dup, 1) := dk_89 (dk_at dksX0_oneOf_1 7 rfl rfl)
theorem dX0_oneOf_32 : decode cX0_oneOf 32 = .ok (.aload_n 1, 1) := dk_43 (dk_at dksX0_oneOf_1 8 rfl rfl)
theorem dX0_oneOf_33 : decode cX0_oneOf 33 = .ok (.invokespecial 300, 3) := dk_183 1 44 (dk_at dksX0_oneOf_1 9 rfl rfl)
theorem dX0_oneOf_36 : decode cX0_oneOf 36 = .ok (.areturn, 1) := dk_176 (dk_at dksX0_oneOf_1 12 rfl rfl)
theorem dX0_oneOf_37 : decode cX0_oneOf 37 = .ok (.aload_n 0, 1) := dk_42 (dk_at dksX0_oneOf_1 13 rfl rfl)
theorem dX0_oneOf_38 : decode cX0_oneOf 38 = .ok (.bipush 40, 2) := dk_16 40 (dk_at dksX0_oneOf_1 14 rfl rfl)
theorem dX0_oneOf_40 : decode cX0_oneOf 40 = .ok (.invokevirtual 257, 3) := dk_182 1 1 (dk_at dksX0_oneOf_1 16 rfl rfl)
theorem dX0_oneOf_43 : decode cX0_oneOf 43 = .ok (.ifCond .eq 30, 3) := dk_153 0 30 (dk_at dksX0_oneOf_1 19 rfl rfl)
theorem dX0_oneOf_46 : decode cX0_oneOf 46 = .ok (.aload_n 0, 1) := dk_42 (dk_at dksX0_oneOf_1 22 rfl rfl)
theorem dX0_oneOf_47 : decode cX0_oneOf 47 = .ok (.invokevirtual 293, 3) := dk_182 1 37 (dk_at dksX0_oneOf_2 0 rfl rfl)
theorem dX0_oneOf_50 : decode cX0_oneOf 50 = .ok (.aload_n 0, 1) := dk_42 (dk_at dksX0_oneOf_2 3 rfl rfl)
theorem dX0_oneOf_51 : decode cX0_oneOf 51 = .ok (.invokevirtual 303, 3) := dk_182 1 47 (dk_at dksX0_oneOf_2 4 rfl rfl)
theorem dX0_oneOf_54 : decode cX0_oneOf 54 = .ok (.astore_n 1, 1) := dk_76 (dk_at dksX0_oneOf_2 7 rfl rfl)
theorem dX0_oneOf_55 : decode cX0_oneOf 55 = .ok (.aload_n 0, 1) := dk_42 (dk_at dksX0_oneOf_2 8 rfl rfl)
theorem dX0_oneOf_56 : decode cX0_oneOf 56 = .ok (.bipush 41, 2) := dk_16 41 (dk_at dksX0_oneOf_2 9 rfl rfl)
theorem dX0_oneOf_58 : decode cX0_oneOf 58 = .ok (.invokevirtual 306, 3) := dk_182 1 50 (dk_at dksX0_oneOf_2 11 rfl rfl)
theorem dX0_oneOf_61 : decode cX0_oneOf 61 = .ok (.aload_n 0, 1) := dk_42 (dk_at dksX0_oneOf_2 14 rfl rfl)
theorem dX0_oneOf_62 : decode cX0_oneOf 62 = .ok (.dup, 1) := dk_89 (dk_at dksX0_oneOf_2 15 rfl rfl)
theorem dX0_oneOf_63 : decode cX0_oneOf 63 = .ok (.getfield 287, 3) := dk_180 1 31 (dk_at dksX0_oneOf_2 16 rfl rfl)
theorem dX0_oneOf_66 : decode cX0_oneOf 66 = .ok (.iconst 1, 1) := dk_4 (dk_at dksX0_oneOf_2 19 rfl rfl)
theorem dX0_oneOf_67 : decode cX0_oneOf 67 = .ok (.isub, 1) := dk_100 (dk_at dksX0_oneOf_2 20 rfl rfl)
theorem dX0_oneOf_68 : decode cX0_oneOf 68 = .ok (.putfield 287, 3) := dk_181 1 31 (dk_at dksX0_oneOf_2 21 rfl rfl)
theorem dX0_oneOf_71 : decode cX0_oneOf 71 = .ok (.aload_n 1, 1) := dk_43 (dk_at dksX0_oneOf_3 0 rfl rfl)
theorem dX0_oneOf_72 : decode cX0_oneOf 72 = .ok (.areturn, 1) := dk_176 (dk_at dksX0_oneOf_3 1 rfl rfl)
theorem dX0_oneOf_73 : decode cX0_oneOf 73 = .ok (.aload_n 0, 1) := dk_42 (dk_at dksX0_oneOf_3 2 rfl rfl)
theorem dX0_oneOf_74 : decode cX0_oneOf 74 = .ok (.invokevirtual 310, 3) := dk_182 1 54 (dk_at dksX0_oneOf_3 3 rfl rfl)
theorem dX0_oneOf_77 : decode cX0_oneOf 77 = .ok (.astore_n 1, 1) := dk_76 (dk_at dksX0_oneOf_3 6 rfl rfl)
theorem dX0_oneOf_78 : decode cX0_oneOf 78 = .ok (.aload_n 0, 1) := dk_42 (dk_at dksX0_oneOf_3 7 rfl rfl)
theorem dX0_oneOf_79 : decode cX0_oneOf 79 = .ok (.aload_n 0, 1) := dk_42 (dk_at dksX0_oneOf_3 8 rfl rfl)
theorem dX0_oneOf_80 : decode cX0_oneOf 80 = .ok (.bipush 60, 2) := dk_16 60 (dk_at dksX0_oneOf_3 9 rfl rfl)
theorem dX0_oneOf_82 : decode cX0_oneOf 82 = .ok (.invokevirtual 257, 3) := dk_182 1 1 (dk_at dksX0_oneOf_3 11 rfl rfl)
theorem dX0_oneOf_85 : decode cX0_oneOf 85 = .ok (.ifCond .ne 21, 3) := dk_154 0 21 (dk_at dksX0_oneOf_3 14 rfl rfl)
theorem dX0_oneOf_88 : decode cX0_oneOf 88 = .ok (.aload_n 0, 1) := dk_42 (dk_at dksX0_oneOf_3 17 rfl rfl)
theorem dX0_oneOf_89 : decode cX0_oneOf 89 = .ok (.bipush 61, 2) := dk_16 61 (dk_at dksX0_oneOf_3 18 rfl rfl)
theorem dX0_oneOf_91 : decode cX0_oneOf 91 = .ok (.invokevirtual 257, 3) := dk_182 1 1 (dk_at dksX0_oneOf_3 20 rfl rfl)
theorem dX0_oneOf_94 : decode cX0_oneOf 94 = .ok (.ifCond .ne 12, 3) := dk_154 0 12 (dk_at dksX0_oneOf_4 0 rfl rfl)
theorem dX0_oneOf_97 : decode cX0_oneOf 97 = .ok (.aload_n 0, 1) := dk_42 (dk_at dksX0_oneOf_4 3 rfl rfl)
theorem dX0_oneOf_98 : decode cX0_oneOf 98 = .ok (.bipush 62, 2) := dk_16 62 (dk_at dksX0_oneOf_4 4 rfl rfl)
theorem dX0_oneOf_100 : decode cX0_oneOf 100 = .ok (.invokevirtual 257, 3) := dk_182 1 1 (dk_at dksX0_oneOf_4 6 rfl rfl)
theorem dX0_oneOf_103 : decode cX0_oneOf 103 = .ok (.ifCond .eq 7, 3) := dk_153 0 7 (dk_at dksX0_oneOf_4 9 rfl rfl)
theorem dX0_oneOf_106 : decode cX0_oneOf 106 = .ok (.iconst 1, 1) := dk_4 (dk_at dksX0_oneOf_4 12 rfl rfl)
theorem dX0_oneOf_107 : decode cX0_oneOf 107 = .ok (.goto 4, 3) := dk_167 0 4 (dk_at dksX0_oneOf_4 13 rfl rfl)
theorem dX0_oneOf_110 : decode cX0_oneOf 110 = .ok (.iconst 0, 1) := dk_3 (dk_at dksX0_oneOf_4 16 rfl rfl)
theorem dX0_oneOf_111 : decode cX0_oneOf 111 = .ok (.invokevirtual 261, 3) := dk_182 1 5 (dk_at dksX0_oneOf_4 17 rfl rfl)
theorem dX0_oneOf_114 : decode cX0_oneOf 114 = .ok (.aload_n 0, 1) := dk_42 (dk_at dksX0_oneOf_4 20 rfl rfl)
theorem dX0_oneOf_115 : decode cX0_oneOf 115 = .ok (.getfield 224, 3) := dk_180 0 224 (dk_at dksX0_oneOf_4 21 rfl rfl)
theorem dX0_oneOf_118 : decode cX0_oneOf 118 = .ok (.i2c, 1) := dk_146 (dk_at dksX0_oneOf_5 0 rfl rfl)
theorem dX0_oneOf_119 : decode cX0_oneOf 119 = .ok (.istore_n 2, 1) := dk_61 (dk_at dksX0_oneOf_5 1 rfl rfl)
theorem dX0_oneOf_120 : decode cX0_oneOf 120 = .ok (.aload_n 0, 1) := dk_42 (dk_at dksX0_oneOf_5 2 rfl rfl)
theorem dX0_oneOf_121 : decode cX0_oneOf 121 = .ok (.invokevirtual 265, 3) := dk_182 1 9 (dk_at dksX0_oneOf_5 3 rfl rfl)
theorem dX0_oneOf_124 : decode cX0_oneOf 124 = .ok (.new 279, 3) := dk_187 1 23 (dk_at dksX0_oneOf_5 6 rfl rfl)
theorem dX0_oneOf_127 : decode cX0_oneOf 127 = .ok (.dup, 1) := dk_89 (dk_at dksX0_oneOf_5 9 rfl rfl)
theorem dX0_oneOf_128 : decode cX0_oneOf 128 = .ok (.iload_n 2, 1) := dk_28 (dk_at dksX0_oneOf_5 10 rfl rfl)
theorem dX0_oneOf_129 : decode cX0_oneOf 129 = .ok (.aload_n 1, 1) := dk_43 (dk_at dksX0_oneOf_5 11 rfl rfl)
theorem dX0_oneOf_130 : decode cX0_oneOf 130 = .ok (.aload_n 0, 1) := dk_42 (dk_at dksX0_oneOf_5 12 rfl rfl)
theorem dX0_oneOf_131 : decode cX0_oneOf 131 = .ok (.invokevirtual 310, 3) := dk_182 1 54 (dk_at dksX0_oneOf_5 13 rfl rfl)
theorem dX0_oneOf_134 : decode cX0_oneOf 134 = .ok (.invokespecial 281, 3) := dk_183 1 25 (dk_at dksX0_oneOf_5 16 rfl rfl)
theorem dX0_oneOf_137 : decode cX0_oneOf 137 = .ok (.areturn, 1) := dk_176 (dk_at dksX0_oneOf_5 19 rfl rfl)
abbrev cX0_opens : ByteArray := prog_1_method_25_code
def yX0_opens : MethodName := ⟨RX0, "opens", "()V"⟩
def dkwX0_opens_1 : List UInt8 := [180, 1, 31, 4, 96, 181, 1, 31, 42, 182, 1, 9, 177]
abbrev dktX0_opens_1 : List UInt8 := dkwX0_opens_1 ++ []
def dkwX0_opens_0 : List UInt8 := [42, 180, 1, 31, 16, 8, 160, 0, 16, 187, 0, 252, 89, 6, 42, 180, 0, 199, 183, 0, 254, 191, 42, 89]
abbrev dktX0_opens_0 : List UInt8 := dkwX0_opens_0 ++ dktX0_opens_1
theorem dksX0_opens_0 : cX0_opens.data.toList.drop 0 = dktX0_opens_0 := by decide +kernel
theorem dksX0_opens_1 : cX0_opens.data.toList.drop 24 = dktX0_opens_1 := dk_seg dksX0_opens_0 24 rfl rfl
theorem dX0_opens_0 : decode cX0_opens 0 = .ok (.aload_n 0, 1) := dk_42 (dk_at dksX0_opens_0 0 rfl rfl)
theorem dX0_opens_1 : decode cX0_opens 1 = .ok (.getfield 287, 3) := dk_180 1 31 (dk_at dksX0_opens_0 1 rfl rfl)
theorem dX0_opens_4 : decode cX0_opens 4 = .ok (.bipush 8, 2) := dk_16 8 (dk_at dksX0_opens_0 4 rfl rfl)
theorem dX0_opens_6 : decode cX0_opens 6 = .ok (.if_icmp .ne 16, 3) := dk_160 0 16 (dk_at dksX0_opens_0 6 rfl rfl)
theorem dX0_opens_9 : decode cX0_opens 9 = .ok (.new 252, 3) := dk_187 0 252 (dk_at dksX0_opens_0 9 rfl rfl)
theorem dX0_opens_12 : decode cX0_opens 12 = .ok (.dup, 1) := dk_89 (dk_at dksX0_opens_0 12 rfl rfl)
theorem dX0_opens_13 : decode cX0_opens 13 = .ok (.iconst 3, 1) := dk_6 (dk_at dksX0_opens_0 13 rfl rfl)
theorem dX0_opens_14 : decode cX0_opens 14 = .ok (.aload_n 0, 1) := dk_42 (dk_at dksX0_opens_0 14 rfl rfl)
theorem dX0_opens_15 : decode cX0_opens 15 = .ok (.getfield 199, 3) := dk_180 0 199 (dk_at dksX0_opens_0 15 rfl rfl)
theorem dX0_opens_18 : decode cX0_opens 18 = .ok (.invokespecial 254, 3) := dk_183 0 254 (dk_at dksX0_opens_0 18 rfl rfl)
theorem dX0_opens_21 : decode cX0_opens 21 = .ok (.athrow, 1) := dk_191 (dk_at dksX0_opens_0 21 rfl rfl)
theorem dX0_opens_22 : decode cX0_opens 22 = .ok (.aload_n 0, 1) := dk_42 (dk_at dksX0_opens_0 22 rfl rfl)
theorem dX0_opens_23 : decode cX0_opens 23 = .ok (.dup, 1) := dk_89 (dk_at dksX0_opens_0 23 rfl rfl)
theorem dX0_opens_24 : decode cX0_opens 24 = .ok (.getfield 287, 3) := dk_180 1 31 (dk_at dksX0_opens_1 0 rfl rfl)
theorem dX0_opens_27 : decode cX0_opens 27 = .ok (.iconst 1, 1) := dk_4 (dk_at dksX0_opens_1 3 rfl rfl)
theorem dX0_opens_28 : decode cX0_opens 28 = .ok (.iadd, 1) := dk_96 (dk_at dksX0_opens_1 4 rfl rfl)
theorem dX0_opens_29 : decode cX0_opens 29 = .ok (.putfield 287, 3) := dk_181 1 31 (dk_at dksX0_opens_1 5 rfl rfl)
theorem dX0_opens_32 : decode cX0_opens 32 = .ok (.aload_n 0, 1) := dk_42 (dk_at dksX0_opens_1 8 rfl rfl)
theorem dX0_opens_33 : decode cX0_opens 33 = .ok (.invokevirtual 265, 3) := dk_182 1 9 (dk_at dksX0_opens_1 9 rfl rfl)
theorem dX0_opens_36 : decode cX0_opens 36 = .ok (.return_, 1) := dk_177 (dk_at dksX0_opens_1 12 rfl rfl)
abbrev cX0_takesSign : ByteArray := prog_1_method_21_code
def yX0_takesSign : MethodName := ⟨RX0, "takesSign", "(C)V"⟩
def dkwX0_takesSign_0 : List UInt8 := [42, 42, 27, 182, 1, 1, 182, 1, 5, 42, 182, 1, 9, 177]
abbrev dktX0_takesSign_0 : List UInt8 := dkwX0_takesSign_0 ++ []
theorem dksX0_takesSign_0 : cX0_takesSign.data.toList.drop 0 = dktX0_takesSign_0 := by decide +kernel
theorem dX0_takesSign_0 : decode cX0_takesSign 0 = .ok (.aload_n 0, 1) := dk_42 (dk_at dksX0_takesSign_0 0 rfl rfl)
theorem dX0_takesSign_1 : decode cX0_takesSign 1 = .ok (.aload_n 0, 1) := dk_42 (dk_at dksX0_takesSign_0 1 rfl rfl)
theorem dX0_takesSign_2 : decode cX0_takesSign 2 = .ok (.iload_n 1, 1) := dk_27 (dk_at dksX0_takesSign_0 2 rfl rfl)
theorem dX0_takesSign_3 : decode cX0_takesSign 3 = .ok (.invokevirtual 257, 3) := dk_182 1 1 (dk_at dksX0_takesSign_0 3 rfl rfl)
theorem dX0_takesSign_6 : decode cX0_takesSign 6 = .ok (.invokevirtual 261, 3) := dk_182 1 5 (dk_at dksX0_takesSign_0 6 rfl rfl)
theorem dX0_takesSign_9 : decode cX0_takesSign 9 = .ok (.aload_n 0, 1) := dk_42 (dk_at dksX0_takesSign_0 9 rfl rfl)
theorem dX0_takesSign_10 : decode cX0_takesSign 10 = .ok (.invokevirtual 265, 3) := dk_182 1 9 (dk_at dksX0_takesSign_0 10 rfl rfl)
theorem dX0_takesSign_13 : decode cX0_takesSign 13 = .ok (.return_, 1) := dk_177 (dk_at dksX0_takesSign_0 13 rfl rfl)
abbrev cX0_readsPhones : ByteArray := prog_1_method_36_code
def yX0_readsPhones : MethodName := ⟨RX0, "readsPhones", "()[LTwelveChain$Phone;"⟩
def dkwX0_readsPhones_5 : List UInt8 := [43, 21, 4, 50, 83, 132, 4, 1, 167, 255, 238, 45, 176]
abbrev dktX0_readsPhones_5 : List UInt8 := dkwX0_readsPhones_5 ++ []
def dkwX0_readsPhones_4 : List UInt8 := [132, 2, 1, 167, 255, 170, 28, 189, 0, 135, 78, 3, 54, 4, 21, 4, 45, 190, 162, 0, 17, 45, 21, 4]
abbrev dktX0_readsPhones_4 : List UInt8 := dkwX0_readsPhones_4 ++ dktX0_readsPhones_5
def dkwX0_readsPhones_3 : List UInt8 := [18, 66, 21, 4, 4, 96, 17, 0, 240, 182, 1, 86, 183, 1, 98, 83, 42, 16, 59, 182, 1, 50]
abbrev dktX0_readsPhones_3 : List UInt8 := dkwX0_readsPhones_3 ++ dktX0_readsPhones_4
def dkwX0_readsPhones_2 : List UInt8 := [62, 42, 18, 64, 3, 17, 0, 240, 182, 1, 86, 54, 4, 43, 28, 187, 0, 135, 89, 29, 21, 4, 42]
abbrev dktX0_readsPhones_2 : List UInt8 := dkwX0_readsPhones_2 ++ dktX0_readsPhones_3
def dkwX0_readsPhones_1 : List UInt8 := [182, 1, 34, 182, 1, 5, 42, 28, 182, 1, 63, 42, 18, 62, 3, 42, 180, 1, 90, 4, 100, 182, 1, 86]
abbrev dktX0_readsPhones_1 : List UInt8 := dkwX0_readsPhones_1 ++ dktX0_readsPhones_2
def dkwX0_readsPhones_0 : List UInt8 := [16, 16, 189, 0, 135, 76, 3, 61, 42, 180, 0, 208, 178, 0, 227, 165, 0, 82, 42, 42, 18, 62]
abbrev dktX0_readsPhones_0 : List UInt8 := dkwX0_readsPhones_0 ++ dktX0_readsPhones_1
theorem dksX0_readsPhones_0 : cX0_readsPhones.data.toList.drop 0 = dktX0_readsPhones_0 := by decide +kernel
theorem dksX0_readsPhones_1 : cX0_readsPhones.data.toList.drop 22 = dktX0_readsPhones_1 := dk_seg dksX0_readsPhones_0 22 rfl rfl
theorem dksX0_readsPhones_2 : cX0_readsPhones.data.toList.drop 46 = dktX0_readsPhones_2 := dk_seg dksX0_readsPhones_1 24 rfl rfl
theorem dksX0_readsPhones_3 : cX0_readsPhones.data.toList.drop 69 = dktX0_readsPhones_3 := dk_seg dksX0_readsPhones_2 23 rfl rfl
theorem dksX0_readsPhones_4 : cX0_readsPhones.data.toList.drop 91 = dktX0_readsPhones_4 := dk_seg dksX0_readsPhones_3 22 rfl rfl
theorem dksX0_readsPhones_5 : cX0_readsPhones.data.toList.drop 115 = dktX0_readsPhones_5 := dk_seg dksX0_readsPhones_4 24 rfl rfl
theorem dX0_readsPhones_0 : decode cX0_readsPhones 0 = .ok (.bipush 16, 2) := dk_16 16 (dk_at dksX0_readsPhones_0 0 rfl rfl)
theorem dX0_readsPhones_2 : decode cX0_readsPhones 2 = .ok (.anewarray 135, 3) := dk_189 0 135 (dk_at dksX0_readsPhones_0 2 rfl rfl)
theorem dX0_readsPhones_5 : decode cX0_readsPhones 5 = .ok (.astore_n 1, 1) := dk_76 (dk_at dksX0_readsPhones_0 5 rfl rfl)
theorem dX0_readsPhones_6 : decode cX0_readsPhones 6 = .ok (.iconst 0, 1) := dk_3 (dk_at dksX0_readsPhones_0 6 rfl rfl)
theorem dX0_readsPhones_7 : decode cX0_readsPhones 7 = .ok (.istore_n 2, 1) := dk_61 (dk_at dksX0_readsPhones_0 7 rfl rfl)
theorem dX0_readsPhones_8 : decode cX0_readsPhones 8 = .ok (.aload_n 0, 1) := dk_42 (dk_at dksX0_readsPhones_0 8 rfl rfl)
theorem dX0_readsPhones_9 : decode cX0_readsPhones 9 = .ok (.getfield 208, 3) := dk_180 0 208 (dk_at dksX0_readsPhones_0 9 rfl rfl)
theorem dX0_readsPhones_12 : decode cX0_readsPhones 12 = .ok (.getstatic 227, 3) := dk_178 0 227 (dk_at dksX0_readsPhones_0 12 rfl rfl)
theorem dX0_readsPhones_15 : decode cX0_readsPhones 15 = .ok (.if_acmp .eq 82, 3) := dk_165 0 82 (dk_at dksX0_readsPhones_0 15 rfl rfl)
theorem dX0_readsPhones_18 : decode cX0_readsPhones 18 = .ok (.aload_n 0, 1) := dk_42 (dk_at dksX0_readsPhones_0 18 rfl rfl)
theorem dX0_readsPhones_19 : decode cX0_readsPhones 19 = .ok (.aload_n 0, 1) := dk_42 (dk_at dksX0_readsPhones_0 19 rfl rfl)
theorem dX0_readsPhones_20 : decode cX0_readsPhones 20 = .ok (.ldc 62, 2) := dk_18 62 (dk_at dksX0_readsPhones_0 20 rfl rfl)
theorem dX0_readsPhones_22 : decode cX0_readsPhones 22 = .ok (.invokevirtual 290, 3) := dk_182 1 34 (dk_at dksX0_readsPhones_1 0 rfl rfl)
theorem dX0_readsPhones_25 : decode cX0_readsPhones 25 = .ok (.invokevirtual 261, 3) := dk_182 1 5 (dk_at dksX0_readsPhones_1 3 rfl rfl)
theorem dX0_readsPhones_28 : decode cX0_readsPhones 28 = .ok (.aload_n 0, 1) := dk_42 (dk_at dksX0_readsPhones_1 6 rfl rfl)
theorem dX0_readsPhones_29 : decode cX0_readsPhones 29 = .ok (.iload_n 2, 1) := dk_28 (dk_at dksX0_readsPhones_1 7 rfl rfl)
theorem dX0_readsPhones_30 : decode cX0_readsPhones 30 = .ok (.invokevirtual 319, 3) := dk_182 1 63 (dk_at dksX0_readsPhones_1 8 rfl rfl)
theorem dX0_readsPhones_33 : decode cX0_readsPhones 33 = .ok (.aload_n 0, 1) := dk_42 (dk_at dksX0_readsPhones_1 11 rfl rfl)
theorem dX0_readsPhones_34 : decode cX0_readsPhones 34 = .ok (.ldc 62, 2) := dk_18 62 (dk_at dksX0_readsPhones_1 12 rfl rfl)
theorem dX0_readsPhones_36 : decode cX0_readsPhones 36 = .ok (.iconst 0, 1) := dk_3 (dk_at dksX0_readsPhones_1 14 rfl rfl)
theorem dX0_readsPhones_37 : decode cX0_readsPhones 37 = .ok (.aload_n 0, 1) := dk_42 (dk_at dksX0_readsPhones_1 15 rfl rfl)
theorem dX0_readsPhones_38 : decode cX0_readsPhones 38 = .ok (.getfield 346, 3) := dk_180 1 90 (dk_at dksX0_readsPhones_1 16 rfl rfl)
theorem dX0_readsPhones_41 : decode cX0_readsPhones 41 = .ok (.iconst 1, 1) := dk_4 (dk_at dksX0_readsPhones_1 19 rfl rfl)
theorem dX0_readsPhones_42 : decode cX0_readsPhones 42 = .ok (.isub, 1) := dk_100 (dk_at dksX0_readsPhones_1 20 rfl rfl)
theorem dX0_readsPhones_43 : decode cX0_readsPhones 43 = .ok (.invokevirtual 342, 3) := dk_182 1 86 (dk_at dksX0_readsPhones_1 21 rfl rfl)
theorem dX0_readsPhones_46 : decode cX0_readsPhones 46 = .ok (.istore_n 3, 1) := dk_62 (dk_at dksX0_readsPhones_2 0 rfl rfl)
theorem dX0_readsPhones_47 : decode cX0_readsPhones 47 = .ok (.aload_n 0, 1) := dk_42 (dk_at dksX0_readsPhones_2 1 rfl rfl)
theorem dX0_readsPhones_48 : decode cX0_readsPhones 48 = .ok (.ldc 64, 2) := dk_18 64 (dk_at dksX0_readsPhones_2 2 rfl rfl)
theorem dX0_readsPhones_50 : decode cX0_readsPhones 50 = .ok (.iconst 0, 1) := dk_3 (dk_at dksX0_readsPhones_2 4 rfl rfl)
theorem dX0_readsPhones_51 : decode cX0_readsPhones 51 = .ok (.sipush 240, 3) := dk_17 0 240 (dk_at dksX0_readsPhones_2 5 rfl rfl)
theorem dX0_readsPhones_54 : decode cX0_readsPhones 54 = .ok (.invokevirtual 342, 3) := dk_182 1 86 (dk_at dksX0_readsPhones_2 8 rfl rfl)
theorem dX0_readsPhones_57 : decode cX0_readsPhones 57 = .ok (.istore 4, 2) := dk_54 4 (dk_at dksX0_readsPhones_2 11 rfl rfl)
theorem dX0_readsPhones_59 : decode cX0_readsPhones 59 = .ok (.aload_n 1, 1) := dk_43 (dk_at dksX0_readsPhones_2 13 rfl rfl)
theorem dX0_readsPhones_60 : decode cX0_readsPhones 60 = .ok (.iload_n 2, 1) := dk_28 (dk_at dksX0_readsPhones_2 14 rfl rfl)
theorem dX0_readsPhones_61 : decode cX0_readsPhones 61 = .ok (.new 135, 3) := dk_187 0 135 (dk_at dksX0_readsPhones_2 15 rfl rfl)
theorem dX0_readsPhones_64 : decode cX0_readsPhones 64 = .ok (.dup, 1) := dk_89 (dk_at dksX0_readsPhones_2 18 rfl rfl)
theorem dX0_readsPhones_65 : decode cX0_readsPhones 65 = .ok (.iload_n 3, 1) := dk_29 (dk_at dksX0_readsPhones_2 19 rfl rfl)
theorem dX0_readsPhones_66 : decode cX0_readsPhones 66 = .ok (.iload 4, 2) := dk_21 4 (dk_at dksX0_readsPhones_2 20 rfl rfl)
theorem dX0_readsPhones_68 : decode cX0_readsPhones 68 = .ok (.aload_n 0, 1) := dk_42 (dk_at dksX0_readsPhones_2 22 rfl rfl)
theorem dX0_readsPhones_69 : decode cX0_readsPhones 69 = .ok (.ldc 66, 2) := dk_18 66 (dk_at dksX0_readsPhones_3 0 rfl rfl)
theorem dX0_readsPhones_71 : decode cX0_readsPhones 71 = .ok (.iload 4, 2) := dk_21 4 (dk_at dksX0_readsPhones_3 2 rfl rfl)
theorem dX0_readsPhones_73 : decode cX0_readsPhones 73 = .ok (.iconst 1, 1) := dk_4 (dk_at dksX0_readsPhones_3 4 rfl rfl)
theorem dX0_readsPhones_74 : decode cX0_readsPhones 74 = .ok (.iadd, 1) := dk_96 (dk_at dksX0_readsPhones_3 5 rfl rfl)
theorem dX0_readsPhones_75 : decode cX0_readsPhones 75 = .ok (.sipush 240, 3) := dk_17 0 240 (dk_at dksX0_readsPhones_3 6 rfl rfl)
theorem dX0_readsPhones_78 : decode cX0_readsPhones 78 = .ok (.invokevirtual 342, 3) := dk_182 1 86 (dk_at dksX0_readsPhones_3 9 rfl rfl)
theorem dX0_readsPhones_81 : decode cX0_readsPhones 81 = .ok (.invokespecial 354, 3) := dk_183 1 98 (dk_at dksX0_readsPhones_3 12 rfl rfl)
theorem dX0_readsPhones_84 : decode cX0_readsPhones 84 = .ok (.aastore, 1) := dk_83 (dk_at dksX0_readsPhones_3 15 rfl rfl)
theorem dX0_readsPhones_85 : decode cX0_readsPhones 85 = .ok (.aload_n 0, 1) := dk_42 (dk_at dksX0_readsPhones_3 16 rfl rfl)
theorem dX0_readsPhones_86 : decode cX0_readsPhones 86 = .ok (.bipush 59, 2) := dk_16 59 (dk_at dksX0_readsPhones_3 17 rfl rfl)
theorem dX0_readsPhones_88 : decode cX0_readsPhones 88 = .ok (.invokevirtual 306, 3) := dk_182 1 50 (dk_at dksX0_readsPhones_3 19 rfl rfl)
theorem dX0_readsPhones_91 : decode cX0_readsPhones 91 = .ok (.iinc 2 1, 3) := dk_132 2 1 (dk_at dksX0_readsPhones_4 0 rfl rfl)
theorem dX0_readsPhones_94 : decode cX0_readsPhones 94 = .ok (.goto (-86), 3) := dk_167 255 170 (dk_at dksX0_readsPhones_4 3 rfl rfl)
theorem dX0_readsPhones_97 : decode cX0_readsPhones 97 = .ok (.iload_n 2, 1) := dk_28 (dk_at dksX0_readsPhones_4 6 rfl rfl)
theorem dX0_readsPhones_98 : decode cX0_readsPhones 98 = .ok (.anewarray 135, 3) := dk_189 0 135 (dk_at dksX0_readsPhones_4 7 rfl rfl)
theorem dX0_readsPhones_101 : decode cX0_readsPhones 101 = .ok (.astore_n 3, 1) := dk_78 (dk_at dksX0_readsPhones_4 10 rfl rfl)
theorem dX0_readsPhones_102 : decode cX0_readsPhones 102 = .ok (.iconst 0, 1) := dk_3 (dk_at dksX0_readsPhones_4 11 rfl rfl)
theorem dX0_readsPhones_103 : decode cX0_readsPhones 103 = .ok (.istore 4, 2) := dk_54 4 (dk_at dksX0_readsPhones_4 12 rfl rfl)
theorem dX0_readsPhones_105 : decode cX0_readsPhones 105 = .ok (.iload 4, 2) := dk_21 4 (dk_at dksX0_readsPhones_4 14 rfl rfl)
theorem dX0_readsPhones_107 : decode cX0_readsPhones 107 = .ok (.aload_n 3, 1) := dk_45 (dk_at dksX0_readsPhones_4 16 rfl rfl)
theorem dX0_readsPhones_108 : decode cX0_readsPhones 108 = .ok (.arraylength, 1) := dk_190 (dk_at dksX0_readsPhones_4 17 rfl rfl)
theorem dX0_readsPhones_109 : decode cX0_readsPhones 109 = .ok (.if_icmp .ge 17, 3) := dk_162 0 17 (dk_at dksX0_readsPhones_4 18 rfl rfl)
theorem dX0_readsPhones_112 : decode cX0_readsPhones 112 = .ok (.aload_n 3, 1) := dk_45 (dk_at dksX0_readsPhones_4 21 rfl rfl)
theorem dX0_readsPhones_113 : decode cX0_readsPhones 113 = .ok (.iload 4, 2) := dk_21 4 (dk_at dksX0_readsPhones_4 22 rfl rfl)
theorem dX0_readsPhones_115 : decode cX0_readsPhones 115 = .ok (.aload_n 1, 1) := dk_43 (dk_at dksX0_readsPhones_5 0 rfl rfl)
theorem dX0_readsPhones_116 : decode cX0_readsPhones 116 = .ok (.iload 4, 2) := dk_21 4 (dk_at dksX0_readsPhones_5 1 rfl rfl)
theorem dX0_readsPhones_118 : decode cX0_readsPhones 118 = .ok (.aaload, 1) := dk_50 (dk_at dksX0_readsPhones_5 3 rfl rfl)
theorem dX0_readsPhones_119 : decode cX0_readsPhones 119 = .ok (.aastore, 1) := dk_83 (dk_at dksX0_readsPhones_5 4 rfl rfl)
theorem dX0_readsPhones_120 : decode cX0_readsPhones 120 = .ok (.iinc 4 1, 3) := dk_132 4 1 (dk_at dksX0_readsPhones_5 5 rfl rfl)
theorem dX0_readsPhones_123 : decode cX0_readsPhones 123 = .ok (.goto (-18), 3) := dk_167 255 238 (dk_at dksX0_readsPhones_5 8 rfl rfl)
theorem dX0_readsPhones_126 : decode cX0_readsPhones 126 = .ok (.aload_n 3, 1) := dk_45 (dk_at dksX0_readsPhones_5 11 rfl rfl)
theorem dX0_readsPhones_127 : decode cX0_readsPhones 127 = .ok (.areturn, 1) := dk_176 (dk_at dksX0_readsPhones_5 12 rfl rfl)
abbrev cX0_told : ByteArray := prog_1_method_33_code
def yX0_told : MethodName := ⟨RX0, "told", "(Ljava/lang/String;II)I"⟩
def dkwX0_told_0 : List UInt8 := [42, 42, 43, 182, 1, 34, 182, 1, 5, 42, 182, 1, 9, 42, 28, 29, 182, 1, 83, 172]
abbrev dktX0_told_0 : List UInt8 := dkwX0_told_0 ++ []
theorem dksX0_told_0 : cX0_told.data.toList.drop 0 = dktX0_told_0 := by decide +kernel
theorem dX0_told_0 : decode cX0_told 0 = .ok (.aload_n 0, 1) := dk_42 (dk_at dksX0_told_0 0 rfl rfl)
theorem dX0_told_1 : decode cX0_told 1 = .ok (.aload_n 0, 1) := dk_42 (dk_at dksX0_told_0 1 rfl rfl)
theorem dX0_told_2 : decode cX0_told 2 = .ok (.aload_n 1, 1) := dk_43 (dk_at dksX0_told_0 2 rfl rfl)
theorem dX0_told_3 : decode cX0_told 3 = .ok (.invokevirtual 290, 3) := dk_182 1 34 (dk_at dksX0_told_0 3 rfl rfl)
theorem dX0_told_6 : decode cX0_told 6 = .ok (.invokevirtual 261, 3) := dk_182 1 5 (dk_at dksX0_told_0 6 rfl rfl)
theorem dX0_told_9 : decode cX0_told 9 = .ok (.aload_n 0, 1) := dk_42 (dk_at dksX0_told_0 9 rfl rfl)
theorem dX0_told_10 : decode cX0_told 10 = .ok (.invokevirtual 265, 3) := dk_182 1 9 (dk_at dksX0_told_0 10 rfl rfl)
theorem dX0_told_13 : decode cX0_told 13 = .ok (.aload_n 0, 1) := dk_42 (dk_at dksX0_told_0 13 rfl rfl)
theorem dX0_told_14 : decode cX0_told 14 = .ok (.iload_n 2, 1) := dk_28 (dk_at dksX0_told_0 14 rfl rfl)
theorem dX0_told_15 : decode cX0_told 15 = .ok (.iload_n 3, 1) := dk_29 (dk_at dksX0_told_0 15 rfl rfl)
theorem dX0_told_16 : decode cX0_told 16 = .ok (.invokevirtual 339, 3) := dk_182 1 83 (dk_at dksX0_told_0 16 rfl rfl)
theorem dX0_told_19 : decode cX0_told 19 = .ok (.ireturn, 1) := dk_172 (dk_at dksX0_told_0 19 rfl rfl)
abbrev cX0_number : ByteArray := prog_1_method_32_code
def yX0_number : MethodName := ⟨RX0, "number", "(II)I"⟩
def dkwX0_number_2 : List UInt8 := [62, 42, 182, 1, 9, 29, 172]
abbrev dktX0_number_2 : List UInt8 := dkwX0_number_2 ++ []
def dkwX0_number_1 : List UInt8 := [28, 184, 0, 188, 154, 0, 16, 187, 0, 252, 89, 5, 42, 180, 0, 199, 183, 0, 254, 191, 42, 180, 0, 224]
abbrev dktX0_number_1 : List UInt8 := dkwX0_number_1 ++ dktX0_number_2
def dkwX0_number_0 : List UInt8 := [42, 42, 180, 0, 208, 178, 0, 244, 166, 0, 7, 4, 167, 0, 4, 3, 182, 1, 5, 42, 180, 0, 224, 27]
abbrev dktX0_number_0 : List UInt8 := dkwX0_number_0 ++ dktX0_number_1
theorem dksX0_number_0 : cX0_number.data.toList.drop 0 = dktX0_number_0 := by decide +kernel
theorem dksX0_number_1 : cX0_number.data.toList.drop 24 = dktX0_number_1 := dk_seg dksX0_number_0 24 rfl rfl
theorem dksX0_number_2 : cX0_number.data.toList.drop 48 = dktX0_number_2 := dk_seg dksX0_number_1 24 rfl rfl
theorem dX0_number_0 : decode cX0_number 0 = .ok (.aload_n 0, 1) := dk_42 (dk_at dksX0_number_0 0 rfl rfl)
theorem dX0_number_1 : decode cX0_number 1 = .ok (.aload_n 0, 1) := dk_42 (dk_at dksX0_number_0 1 rfl rfl)
theorem dX0_number_2 : decode cX0_number 2 = .ok (.getfield 208, 3) := dk_180 0 208 (dk_at dksX0_number_0 2 rfl rfl)
theorem dX0_number_5 : decode cX0_number 5 = .ok (.getstatic 244, 3) := dk_178 0 244 (dk_at dksX0_number_0 5 rfl rfl)
theorem dX0_number_8 : decode cX0_number 8 = .ok (.if_acmp .ne 7, 3) := dk_166 0 7 (dk_at dksX0_number_0 8 rfl rfl)
theorem dX0_number_11 : decode cX0_number 11 = .ok (.iconst 1, 1) := dk_4 (dk_at dksX0_number_0 11 rfl rfl)
theorem dX0_number_12 : decode cX0_number 12 = .ok (.goto 4, 3) := dk_167 0 4 (dk_at dksX0_number_0 12 rfl rfl)
theorem dX0_number_15 : decode cX0_number 15 = .ok (.iconst 0, 1) := dk_3 (dk_at dksX0_number_0 15 rfl rfl)
theorem dX0_number_16 : decode cX0_number 16 = .ok (.invokevirtual 261, 3) := dk_182 1 5 (dk_at dksX0_number_0 16 rfl rfl)
theorem dX0_number_19 : decode cX0_number 19 = .ok (.aload_n 0, 1) := dk_42 (dk_at dksX0_number_0 19 rfl rfl)
theorem dX0_number_20 : decode cX0_number 20 = .ok (.getfield 224, 3) := dk_180 0 224 (dk_at dksX0_number_0 20 rfl rfl)
theorem dX0_number_23 : decode cX0_number 23 = .ok (.iload_n 1, 1) := dk_27 (dk_at dksX0_number_0 23 rfl rfl)
theorem dX0_number_24 : decode cX0_number 24 = .ok (.iload_n 2, 1) := dk_28 (dk_at dksX0_number_1 0 rfl rfl)
theorem dX0_number_25 : decode cX0_number 25 = .ok (.invokestatic 188, 3) := dk_184 0 188 (dk_at dksX0_number_1 1 rfl rfl)
theorem dX0_number_28 : decode cX0_number 28 = .ok (.ifCond .ne 16, 3) := dk_154 0 16 (dk_at dksX0_number_1 4 rfl rfl)
theorem dX0_number_31 : decode cX0_number 31 = .ok (.new 252, 3) := dk_187 0 252 (dk_at dksX0_number_1 7 rfl rfl)
theorem dX0_number_34 : decode cX0_number 34 = .ok (.dup, 1) := dk_89 (dk_at dksX0_number_1 10 rfl rfl)
theorem dX0_number_35 : decode cX0_number 35 = .ok (.iconst 2, 1) := dk_5 (dk_at dksX0_number_1 11 rfl rfl)
theorem dX0_number_36 : decode cX0_number 36 = .ok (.aload_n 0, 1) := dk_42 (dk_at dksX0_number_1 12 rfl rfl)
theorem dX0_number_37 : decode cX0_number 37 = .ok (.getfield 199, 3) := dk_180 0 199 (dk_at dksX0_number_1 13 rfl rfl)
theorem dX0_number_40 : decode cX0_number 40 = .ok (.invokespecial 254, 3) := dk_183 0 254 (dk_at dksX0_number_1 16 rfl rfl)
theorem dX0_number_43 : decode cX0_number 43 = .ok (.athrow, 1) := dk_191 (dk_at dksX0_number_1 19 rfl rfl)
theorem dX0_number_44 : decode cX0_number 44 = .ok (.aload_n 0, 1) := dk_42 (dk_at dksX0_number_1 20 rfl rfl)
theorem dX0_number_45 : decode cX0_number 45 = .ok (.getfield 224, 3) := dk_180 0 224 (dk_at dksX0_number_1 21 rfl rfl)
theorem dX0_number_48 : decode cX0_number 48 = .ok (.istore_n 3, 1) := dk_62 (dk_at dksX0_number_2 0 rfl rfl)
theorem dX0_number_49 : decode cX0_number 49 = .ok (.aload_n 0, 1) := dk_42 (dk_at dksX0_number_2 1 rfl rfl)
theorem dX0_number_50 : decode cX0_number 50 = .ok (.invokevirtual 265, 3) := dk_182 1 9 (dk_at dksX0_number_2 2 rfl rfl)
theorem dX0_number_53 : decode cX0_number 53 = .ok (.iload_n 3, 1) := dk_29 (dk_at dksX0_number_2 5 rfl rfl)
theorem dX0_number_54 : decode cX0_number 54 = .ok (.ireturn, 1) := dk_172 (dk_at dksX0_number_2 6 rfl rfl)
abbrev cX0_readsRecords : ByteArray := prog_1_method_37_code
def yX0_readsRecords : MethodName := ⟨RX0, "readsRecords", "()[LTwelveChain$Wrote;"⟩
def dkwX0_readsRecords_4 : List UInt8 := [162, 0, 17, 45, 21, 4, 43, 21, 4, 50, 83, 132, 4, 1, 167, 255, 238, 45, 176]
abbrev dktX0_readsRecords_4 : List UInt8 := dkwX0_readsRecords_4 ++ []
def dkwX0_readsRecords_3 : List UInt8 := [16, 59, 182, 1, 50, 132, 2, 1, 167, 255, 187, 28, 189, 0, 141, 78, 3, 54, 4, 21, 4, 45, 190]
abbrev dktX0_readsRecords_3 : List UInt8 := dkwX0_readsRecords_3 ++ dktX0_readsRecords_4
def dkwX0_readsRecords_2 : List UInt8 := [187, 0, 141, 89, 29, 42, 18, 62, 3, 42, 180, 1, 90, 4, 100, 182, 1, 86, 183, 1, 101, 83, 42]
abbrev dktX0_readsRecords_2 : List UInt8 := dkwX0_readsRecords_2 ++ dktX0_readsRecords_3
def dkwX0_readsRecords_1 : List UInt8 := [182, 1, 34, 182, 1, 5, 42, 28, 182, 1, 63, 42, 18, 68, 3, 17, 3, 231, 182, 1, 86, 62, 43, 28]
abbrev dktX0_readsRecords_1 : List UInt8 := dkwX0_readsRecords_1 ++ dktX0_readsRecords_2
def dkwX0_readsRecords_0 : List UInt8 := [16, 16, 189, 0, 141, 76, 3, 61, 42, 180, 0, 208, 178, 0, 227, 165, 0, 65, 42, 42, 18, 68]
abbrev dktX0_readsRecords_0 : List UInt8 := dkwX0_readsRecords_0 ++ dktX0_readsRecords_1
theorem dksX0_readsRecords_0 : cX0_readsRecords.data.toList.drop 0 = dktX0_readsRecords_0 := by decide +kernel
theorem dksX0_readsRecords_1 : cX0_readsRecords.data.toList.drop 22 = dktX0_readsRecords_1 := dk_seg dksX0_readsRecords_0 22 rfl rfl
theorem dksX0_readsRecords_2 : cX0_readsRecords.data.toList.drop 46 = dktX0_readsRecords_2 := dk_seg dksX0_readsRecords_1 24 rfl rfl
theorem dksX0_readsRecords_3 : cX0_readsRecords.data.toList.drop 69 = dktX0_readsRecords_3 := dk_seg dksX0_readsRecords_2 23 rfl rfl
theorem dksX0_readsRecords_4 : cX0_readsRecords.data.toList.drop 92 = dktX0_readsRecords_4 := dk_seg dksX0_readsRecords_3 23 rfl rfl
theorem dX0_readsRecords_0 : decode cX0_readsRecords 0 = .ok (.bipush 16, 2) := dk_16 16 (dk_at dksX0_readsRecords_0 0 rfl rfl)
theorem dX0_readsRecords_2 : decode cX0_readsRecords 2 = .ok (.anewarray 141, 3) := dk_189 0 141 (dk_at dksX0_readsRecords_0 2 rfl rfl)
theorem dX0_readsRecords_5 : decode cX0_readsRecords 5 = .ok (.astore_n 1, 1) := dk_76 (dk_at dksX0_readsRecords_0 5 rfl rfl)
theorem dX0_readsRecords_6 : decode cX0_readsRecords 6 = .ok (.iconst 0, 1) := dk_3 (dk_at dksX0_readsRecords_0 6 rfl rfl)
theorem dX0_readsRecords_7 : decode cX0_readsRecords 7 = .ok (.istore_n 2, 1) := dk_61 (dk_at dksX0_readsRecords_0 7 rfl rfl)
theorem dX0_readsRecords_8 : decode cX0_readsRecords 8 = .ok (.aload_n 0, 1) := dk_42 (dk_at dksX0_readsRecords_0 8 rfl rfl)
theorem dX0_readsRecords_9 : decode cX0_readsRecords 9 = .ok (.getfield 208, 3) := dk_180 0 208 (dk_at dksX0_readsRecords_0 9 rfl rfl)
theorem dX0_readsRecords_12 : decode cX0_readsRecords 12 = .ok (.getstatic 227, 3) := dk_178 0 227 (dk_at dksX0_readsRecords_0 12 rfl rfl)
theorem dX0_readsRecords_15 : decode cX0_readsRecords 15 = .ok (.if_acmp .eq 65, 3) := dk_165 0 65 (dk_at dksX0_readsRecords_0 15 rfl rfl)
theorem dX0_readsRecords_18 : decode cX0_readsRecords 18 = .ok (.aload_n 0, 1) := dk_42 (dk_at dksX0_readsRecords_0 18 rfl rfl)
theorem dX0_readsRecords_19 : decode cX0_readsRecords 19 = .ok (.aload_n 0, 1) := dk_42 (dk_at dksX0_readsRecords_0 19 rfl rfl)
theorem dX0_readsRecords_20 : decode cX0_readsRecords 20 = .ok (.ldc 68, 2) := dk_18 68 (dk_at dksX0_readsRecords_0 20 rfl rfl)
theorem dX0_readsRecords_22 : decode cX0_readsRecords 22 = .ok (.invokevirtual 290, 3) := dk_182 1 34 (dk_at dksX0_readsRecords_1 0 rfl rfl)
theorem dX0_readsRecords_25 : decode cX0_readsRecords 25 = .ok (.invokevirtual 261, 3) := dk_182 1 5 (dk_at dksX0_readsRecords_1 3 rfl rfl)
theorem dX0_readsRecords_28 : decode cX0_readsRecords 28 = .ok (.aload_n 0, 1) := dk_42 (dk_at dksX0_readsRecords_1 6 rfl rfl)
theorem dX0_readsRecords_29 : decode cX0_readsRecords 29 = .ok (.iload_n 2, 1) := dk_28 (dk_at dksX0_readsRecords_1 7 rfl rfl)
theorem dX0_readsRecords_30 : decode cX0_readsRecords 30 = .ok (.invokevirtual 319, 3) := dk_182 1 63 (dk_at dksX0_readsRecords_1 8 rfl rfl)
theorem dX0_readsRecords_33 : decode cX0_readsRecords 33 = .ok (.aload_n 0, 1) := dk_42 (dk_at dksX0_readsRecords_1 11 rfl rfl)
theorem dX0_readsRecords_34 : decode cX0_readsRecords 34 = .ok (.ldc 68, 2) := dk_18 68 (dk_at dksX0_readsRecords_1 12 rfl rfl)
theorem dX0_readsRecords_36 : decode cX0_readsRecords 36 = .ok (.iconst 0, 1) := dk_3 (dk_at dksX0_readsRecords_1 14 rfl rfl)
theorem dX0_readsRecords_37 : decode cX0_readsRecords 37 = .ok (.sipush 999, 3) := dk_17 3 231 (dk_at dksX0_readsRecords_1 15 rfl rfl)
theorem dX0_readsRecords_40 : decode cX0_readsRecords 40 = .ok (.invokevirtual 342, 3) := dk_182 1 86 (dk_at dksX0_readsRecords_1 18 rfl rfl)
theorem dX0_readsRecords_43 : decode cX0_readsRecords 43 = .ok (.istore_n 3, 1) := dk_62 (dk_at dksX0_readsRecords_1 21 rfl rfl)
theorem dX0_readsRecords_44 : decode cX0_readsRecords 44 = .ok (.aload_n 1, 1) := dk_43 (dk_at dksX0_readsRecords_1 22 rfl rfl)
theorem dX0_readsRecords_45 : decode cX0_readsRecords 45 = .ok (.iload_n 2, 1) := dk_28 (dk_at dksX0_readsRecords_1 23 rfl rfl)
theorem dX0_readsRecords_46 : decode cX0_readsRecords 46 = .ok (.new 141, 3) := dk_187 0 141 (dk_at dksX0_readsRecords_2 0 rfl rfl)
theorem dX0_readsRecords_49 : decode cX0_readsRecords 49 = .ok (.dup, 1) := dk_89 (dk_at dksX0_readsRecords_2 3 rfl rfl)
theorem dX0_readsRecords_50 : decode cX0_readsRecords 50 = .ok (.iload_n 3, 1) := dk_29 (dk_at dksX0_readsRecords_2 4 rfl rfl)
theorem dX0_readsRecords_51 : decode cX0_readsRecords 51 = .ok (.aload_n 0, 1) := dk_42 (dk_at dksX0_readsRecords_2 5 rfl rfl)
theorem dX0_readsRecords_52 : decode cX0_readsRecords 52 = .ok (.ldc 62, 2) := dk_18 62 (dk_at dksX0_readsRecords_2 6 rfl rfl)
theorem dX0_readsRecords_54 : decode cX0_readsRecords 54 = .ok (.iconst 0, 1) := dk_3 (dk_at dksX0_readsRecords_2 8 rfl rfl)
theorem dX0_readsRecords_55 : decode cX0_readsRecords 55 = .ok (.aload_n 0, 1) := dk_42 (dk_at dksX0_readsRecords_2 9 rfl rfl)
theorem dX0_readsRecords_56 : decode cX0_readsRecords 56 = .ok (.getfield 346, 3) := dk_180 1 90 (dk_at dksX0_readsRecords_2 10 rfl rfl)
theorem dX0_readsRecords_59 : decode cX0_readsRecords 59 = .ok (.iconst 1, 1) := dk_4 (dk_at dksX0_readsRecords_2 13 rfl rfl)
theorem dX0_readsRecords_60 : decode cX0_readsRecords 60 = .ok (.isub, 1) := dk_100 (dk_at dksX0_readsRecords_2 14 rfl rfl)
theorem dX0_readsRecords_61 : decode cX0_readsRecords 61 = .ok (.invokevirtual 342, 3) := dk_182 1 86 (dk_at dksX0_readsRecords_2 15 rfl rfl)
theorem dX0_readsRecords_64 : decode cX0_readsRecords 64 = .ok (.invokespecial 357, 3) := dk_183 1 101 (dk_at dksX0_readsRecords_2 18 rfl rfl)
theorem dX0_readsRecords_67 : decode cX0_readsRecords 67 = .ok (.aastore, 1) := dk_83 (dk_at dksX0_readsRecords_2 21 rfl rfl)
theorem dX0_readsRecords_68 : decode cX0_readsRecords 68 = .ok (.aload_n 0, 1) := dk_42 (dk_at dksX0_readsRecords_2 22 rfl rfl)
theorem dX0_readsRecords_69 : decode cX0_readsRecords 69 = .ok (.bipush 59, 2) := dk_16 59 (dk_at dksX0_readsRecords_3 0 rfl rfl)
theorem dX0_readsRecords_71 : decode cX0_readsRecords 71 = .ok (.invokevirtual 306, 3) := dk_182 1 50 (dk_at dksX0_readsRecords_3 2 rfl rfl)
theorem dX0_readsRecords_74 : decode cX0_readsRecords 74 = .ok (.iinc 2 1, 3) := dk_132 2 1 (dk_at dksX0_readsRecords_3 5 rfl rfl)
theorem dX0_readsRecords_77 : decode cX0_readsRecords 77 = .ok (.goto (-69), 3) := dk_167 255 187 (dk_at dksX0_readsRecords_3 8 rfl rfl)
theorem dX0_readsRecords_80 : decode cX0_readsRecords 80 = .ok (.iload_n 2, 1) := dk_28 (dk_at dksX0_readsRecords_3 11 rfl rfl)
theorem dX0_readsRecords_81 : decode cX0_readsRecords 81 = .ok (.anewarray 141, 3) := dk_189 0 141 (dk_at dksX0_readsRecords_3 12 rfl rfl)
theorem dX0_readsRecords_84 : decode cX0_readsRecords 84 = .ok (.astore_n 3, 1) := dk_78 (dk_at dksX0_readsRecords_3 15 rfl rfl)
theorem dX0_readsRecords_85 : decode cX0_readsRecords 85 = .ok (.iconst 0, 1) := dk_3 (dk_at dksX0_readsRecords_3 16 rfl rfl)
theorem dX0_readsRecords_86 : decode cX0_readsRecords 86 = .ok (.istore 4, 2) := dk_54 4 (dk_at dksX0_readsRecords_3 17 rfl rfl)
theorem dX0_readsRecords_88 : decode cX0_readsRecords 88 = .ok (.iload 4, 2) := dk_21 4 (dk_at dksX0_readsRecords_3 19 rfl rfl)
theorem dX0_readsRecords_90 : decode cX0_readsRecords 90 = .ok (.aload_n 3, 1) := dk_45 (dk_at dksX0_readsRecords_3 21 rfl rfl)
theorem dX0_readsRecords_91 : decode cX0_readsRecords 91 = .ok (.arraylength, 1) := dk_190 (dk_at dksX0_readsRecords_3 22 rfl rfl)
theorem dX0_readsRecords_92 : decode cX0_readsRecords 92 = .ok (.if_icmp .ge 17, 3) := dk_162 0 17 (dk_at dksX0_readsRecords_4 0 rfl rfl)
theorem dX0_readsRecords_95 : decode cX0_readsRecords 95 = .ok (.aload_n 3, 1) := dk_45 (dk_at dksX0_readsRecords_4 3 rfl rfl)
theorem dX0_readsRecords_96 : decode cX0_readsRecords 96 = .ok (.iload 4, 2) := dk_21 4 (dk_at dksX0_readsRecords_4 4 rfl rfl)
theorem dX0_readsRecords_98 : decode cX0_readsRecords 98 = .ok (.aload_n 1, 1) := dk_43 (dk_at dksX0_readsRecords_4 6 rfl rfl)
theorem dX0_readsRecords_99 : decode cX0_readsRecords 99 = .ok (.iload 4, 2) := dk_21 4 (dk_at dksX0_readsRecords_4 7 rfl rfl)
theorem dX0_readsRecords_101 : decode cX0_readsRecords 101 = .ok (.aaload, 1) := dk_50 (dk_at dksX0_readsRecords_4 9 rfl rfl)
theorem dX0_readsRecords_102 : decode cX0_readsRecords 102 = .ok (.aastore, 1) := dk_83 (dk_at dksX0_readsRecords_4 10 rfl rfl)
theorem dX0_readsRecords_103 : decode cX0_readsRecords 103 = .ok (.iinc 4 1, 3) := dk_132 4 1 (dk_at dksX0_readsRecords_4 11 rfl rfl)
theorem dX0_readsRecords_106 : decode cX0_readsRecords 106 = .ok (.goto (-18), 3) := dk_167 255 238 (dk_at dksX0_readsRecords_4 14 rfl rfl)
theorem dX0_readsRecords_109 : decode cX0_readsRecords 109 = .ok (.aload_n 3, 1) := dk_45 (dk_at dksX0_readsRecords_4 17 rfl rfl)
theorem dX0_readsRecords_110 : decode cX0_readsRecords 110 = .ok (.areturn, 1) := dk_176 (dk_at dksX0_readsRecords_4 18 rfl rfl)
abbrev cX0_readsPlan : ByteArray := prog_1_method_35_code
def yX0_readsPlan : MethodName := ⟨RX0, "readsPlan", "()[LTwelveChain$Deed;"⟩
def dkwX0_readsPlan_3 : List UInt8 := [43, 21, 4, 50, 83, 132, 4, 1, 167, 255, 238, 45, 176]
abbrev dktX0_readsPlan_3 : List UInt8 := dkwX0_readsPlan_3 ++ []
def dkwX0_readsPlan_2 : List UInt8 := [132, 2, 1, 167, 255, 215, 28, 189, 0, 129, 78, 3, 54, 4, 21, 4, 45, 190, 162, 0, 17, 45, 21, 4]
abbrev dktX0_readsPlan_2 : List UInt8 := dkwX0_readsPlan_2 ++ dktX0_readsPlan_3
def dkwX0_readsPlan_1 : List UInt8 := [182, 1, 34, 182, 1, 5, 42, 28, 182, 1, 63, 43, 28, 42, 182, 1, 94, 83, 42, 16, 59, 182, 1, 50]
abbrev dktX0_readsPlan_1 : List UInt8 := dkwX0_readsPlan_1 ++ dktX0_readsPlan_2
def dkwX0_readsPlan_0 : List UInt8 := [16, 16, 189, 0, 129, 76, 3, 61, 42, 180, 0, 208, 178, 0, 227, 165, 0, 37, 42, 42, 18, 60]
abbrev dktX0_readsPlan_0 : List UInt8 := dkwX0_readsPlan_0 ++ dktX0_readsPlan_1
theorem dksX0_readsPlan_0 : cX0_readsPlan.data.toList.drop 0 = dktX0_readsPlan_0 := by decide +kernel
theorem dksX0_readsPlan_1 : cX0_readsPlan.data.toList.drop 22 = dktX0_readsPlan_1 := dk_seg dksX0_readsPlan_0 22 rfl rfl
theorem dksX0_readsPlan_2 : cX0_readsPlan.data.toList.drop 46 = dktX0_readsPlan_2 := dk_seg dksX0_readsPlan_1 24 rfl rfl
theorem dksX0_readsPlan_3 : cX0_readsPlan.data.toList.drop 70 = dktX0_readsPlan_3 := dk_seg dksX0_readsPlan_2 24 rfl rfl
theorem dX0_readsPlan_0 : decode cX0_readsPlan 0 = .ok (.bipush 16, 2) := dk_16 16 (dk_at dksX0_readsPlan_0 0 rfl rfl)
theorem dX0_readsPlan_2 : decode cX0_readsPlan 2 = .ok (.anewarray 129, 3) := dk_189 0 129 (dk_at dksX0_readsPlan_0 2 rfl rfl)
theorem dX0_readsPlan_5 : decode cX0_readsPlan 5 = .ok (.astore_n 1, 1) := dk_76 (dk_at dksX0_readsPlan_0 5 rfl rfl)
theorem dX0_readsPlan_6 : decode cX0_readsPlan 6 = .ok (.iconst 0, 1) := dk_3 (dk_at dksX0_readsPlan_0 6 rfl rfl)
theorem dX0_readsPlan_7 : decode cX0_readsPlan 7 = .ok (.istore_n 2, 1) := dk_61 (dk_at dksX0_readsPlan_0 7 rfl rfl)
theorem dX0_readsPlan_8 : decode cX0_readsPlan 8 = .ok (.aload_n 0, 1) := dk_42 (dk_at dksX0_readsPlan_0 8 rfl rfl)
theorem dX0_readsPlan_9 : decode cX0_readsPlan 9 = .ok (.getfield 208, 3) := dk_180 0 208 (dk_at dksX0_readsPlan_0 9 rfl rfl)
theorem dX0_readsPlan_12 : decode cX0_readsPlan 12 = .ok (.getstatic 227, 3) := dk_178 0 227 (dk_at dksX0_readsPlan_0 12 rfl rfl)
theorem dX0_readsPlan_15 : decode cX0_readsPlan 15 = .ok (.if_acmp .eq 37, 3) := dk_165 0 37 (dk_at dksX0_readsPlan_0 15 rfl rfl)
theorem dX0_readsPlan_18 : decode cX0_readsPlan 18 = .ok (.aload_n 0, 1) := dk_42 (dk_at dksX0_readsPlan_0 18 rfl rfl)
theorem dX0_readsPlan_19 : decode cX0_readsPlan 19 = .ok (.aload_n 0, 1) := dk_42 (dk_at dksX0_readsPlan_0 19 rfl rfl)
theorem dX0_readsPlan_20 : decode cX0_readsPlan 20 = .ok (.ldc 60, 2) := dk_18 60 (dk_at dksX0_readsPlan_0 20 rfl rfl)
theorem dX0_readsPlan_22 : decode cX0_readsPlan 22 = .ok (.invokevirtual 290, 3) := dk_182 1 34 (dk_at dksX0_readsPlan_1 0 rfl rfl)
theorem dX0_readsPlan_25 : decode cX0_readsPlan 25 = .ok (.invokevirtual 261, 3) := dk_182 1 5 (dk_at dksX0_readsPlan_1 3 rfl rfl)
theorem dX0_readsPlan_28 : decode cX0_readsPlan 28 = .ok (.aload_n 0, 1) := dk_42 (dk_at dksX0_readsPlan_1 6 rfl rfl)
theorem dX0_readsPlan_29 : decode cX0_readsPlan 29 = .ok (.iload_n 2, 1) := dk_28 (dk_at dksX0_readsPlan_1 7 rfl rfl)
theorem dX0_readsPlan_30 : decode cX0_readsPlan 30 = .ok (.invokevirtual 319, 3) := dk_182 1 63 (dk_at dksX0_readsPlan_1 8 rfl rfl)
theorem dX0_readsPlan_33 : decode cX0_readsPlan 33 = .ok (.aload_n 1, 1) := dk_43 (dk_at dksX0_readsPlan_1 11 rfl rfl)
theorem dX0_readsPlan_34 : decode cX0_readsPlan 34 = .ok (.iload_n 2, 1) := dk_28 (dk_at dksX0_readsPlan_1 12 rfl rfl)
theorem dX0_readsPlan_35 : decode cX0_readsPlan 35 = .ok (.aload_n 0, 1) := dk_42 (dk_at dksX0_readsPlan_1 13 rfl rfl)
theorem dX0_readsPlan_36 : decode cX0_readsPlan 36 = .ok (.invokevirtual 350, 3) := dk_182 1 94 (dk_at dksX0_readsPlan_1 14 rfl rfl)
theorem dX0_readsPlan_39 : decode cX0_readsPlan 39 = .ok (.aastore, 1) := dk_83 (dk_at dksX0_readsPlan_1 17 rfl rfl)
theorem dX0_readsPlan_40 : decode cX0_readsPlan 40 = .ok (.aload_n 0, 1) := dk_42 (dk_at dksX0_readsPlan_1 18 rfl rfl)
theorem dX0_readsPlan_41 : decode cX0_readsPlan 41 = .ok (.bipush 59, 2) := dk_16 59 (dk_at dksX0_readsPlan_1 19 rfl rfl)
theorem dX0_readsPlan_43 : decode cX0_readsPlan 43 = .ok (.invokevirtual 306, 3) := dk_182 1 50 (dk_at dksX0_readsPlan_1 21 rfl rfl)
theorem dX0_readsPlan_46 : decode cX0_readsPlan 46 = .ok (.iinc 2 1, 3) := dk_132 2 1 (dk_at dksX0_readsPlan_2 0 rfl rfl)
theorem dX0_readsPlan_49 : decode cX0_readsPlan 49 = .ok (.goto (-41), 3) := dk_167 255 215 (dk_at dksX0_readsPlan_2 3 rfl rfl)
theorem dX0_readsPlan_52 : decode cX0_readsPlan 52 = .ok (.iload_n 2, 1) := dk_28 (dk_at dksX0_readsPlan_2 6 rfl rfl)
theorem dX0_readsPlan_53 : decode cX0_readsPlan 53 = .ok (.anewarray 129, 3) := dk_189 0 129 (dk_at dksX0_readsPlan_2 7 rfl rfl)
theorem dX0_readsPlan_56 : decode cX0_readsPlan 56 = .ok (.astore_n 3, 1) := dk_78 (dk_at dksX0_readsPlan_2 10 rfl rfl)
theorem dX0_readsPlan_57 : decode cX0_readsPlan 57 = .ok (.iconst 0, 1) := dk_3 (dk_at dksX0_readsPlan_2 11 rfl rfl)
theorem dX0_readsPlan_58 : decode cX0_readsPlan 58 = .ok (.istore 4, 2) := dk_54 4 (dk_at dksX0_readsPlan_2 12 rfl rfl)
theorem dX0_readsPlan_60 : decode cX0_readsPlan 60 = .ok (.iload 4, 2) := dk_21 4 (dk_at dksX0_readsPlan_2 14 rfl rfl)
theorem dX0_readsPlan_62 : decode cX0_readsPlan 62 = .ok (.aload_n 3, 1) := dk_45 (dk_at dksX0_readsPlan_2 16 rfl rfl)
theorem dX0_readsPlan_63 : decode cX0_readsPlan 63 = .ok (.arraylength, 1) := dk_190 (dk_at dksX0_readsPlan_2 17 rfl rfl)
theorem dX0_readsPlan_64 : decode cX0_readsPlan 64 = .ok (.if_icmp .ge 17, 3) := dk_162 0 17 (dk_at dksX0_readsPlan_2 18 rfl rfl)
theorem dX0_readsPlan_67 : decode cX0_readsPlan 67 = .ok (.aload_n 3, 1) := dk_45 (dk_at dksX0_readsPlan_2 21 rfl rfl)
theorem dX0_readsPlan_68 : decode cX0_readsPlan 68 = .ok (.iload 4, 2) := dk_21 4 (dk_at dksX0_readsPlan_2 22 rfl rfl)
theorem dX0_readsPlan_70 : decode cX0_readsPlan 70 = .ok (.aload_n 1, 1) := dk_43 (dk_at dksX0_readsPlan_3 0 rfl rfl)
theorem dX0_readsPlan_71 : decode cX0_readsPlan 71 = .ok (.iload 4, 2) := dk_21 4 (dk_at dksX0_readsPlan_3 1 rfl rfl)
theorem dX0_readsPlan_73 : decode cX0_readsPlan 73 = .ok (.aaload, 1) := dk_50 (dk_at dksX0_readsPlan_3 3 rfl rfl)
theorem dX0_readsPlan_74 : decode cX0_readsPlan 74 = .ok (.aastore, 1) := dk_83 (dk_at dksX0_readsPlan_3 4 rfl rfl)
theorem dX0_readsPlan_75 : decode cX0_readsPlan 75 = .ok (.iinc 4 1, 3) := dk_132 4 1 (dk_at dksX0_readsPlan_3 5 rfl rfl)
theorem dX0_readsPlan_78 : decode cX0_readsPlan 78 = .ok (.goto (-18), 3) := dk_167 255 238 (dk_at dksX0_readsPlan_3 8 rfl rfl)
theorem dX0_readsPlan_81 : decode cX0_readsPlan 81 = .ok (.aload_n 3, 1) := dk_45 (dk_at dksX0_readsPlan_3 11 rfl rfl)
theorem dX0_readsPlan_82 : decode cX0_readsPlan 82 = .ok (.areturn, 1) := dk_176 (dk_at dksX0_readsPlan_3 12 rfl rfl)
abbrev cX0_deed : ByteArray := prog_1_method_34_code
def yX0_deed : MethodName := ⟨RX0, "deed", "()LTwelveChain$Deed;"⟩
def dkwX0_deed_5 : List UInt8 := [3, 183, 1, 91, 176]
abbrev dktX0_deed_5 : List UInt8 := dkwX0_deed_5 ++ []
def dkwX0_deed_4 : List UInt8 := [27, 28, 29, 21, 5, 28, 153, 0, 8, 28, 5, 160, 0, 13, 42, 4, 16, 99, 182, 1, 83, 167, 0, 4]
abbrev dktX0_deed_4 : List UInt8 := dkwX0_deed_4 ++ dktX0_deed_5
def dkwX0_deed_3 : List UInt8 := [2, 54, 5, 21, 5, 29, 160, 0, 14, 187, 0, 252, 89, 5, 21, 4, 183, 0, 254, 191, 187, 0, 129, 89]
abbrev dktX0_deed_3 : List UInt8 := dkwX0_deed_3 ++ dktX0_deed_4
def dkwX0_deed_2 : List UInt8 := [180, 0, 199, 54, 4, 28, 5, 160, 0, 17, 42, 3, 42, 180, 1, 90, 4, 100, 182, 1, 83, 167, 0, 4]
abbrev dktX0_deed_2 : List UInt8 := dkwX0_deed_2 ++ dktX0_deed_3
def dkwX0_deed_1 : List UInt8 := [184, 0, 188, 182, 1, 5, 42, 182, 1, 9, 42, 3, 42, 180, 1, 90, 4, 100, 182, 1, 83, 62, 42]
abbrev dktX0_deed_1 : List UInt8 := dkwX0_deed_1 ++ dktX0_deed_2
def dkwX0_deed_0 : List UInt8 := [42, 18, 60, 3, 17, 3, 231, 182, 1, 86, 60, 42, 42, 180, 0, 105, 182, 0, 236, 61, 42, 28, 3, 6]
abbrev dktX0_deed_0 : List UInt8 := dkwX0_deed_0 ++ dktX0_deed_1
theorem dksX0_deed_0 : cX0_deed.data.toList.drop 0 = dktX0_deed_0 := by decide +kernel
theorem dksX0_deed_1 : cX0_deed.data.toList.drop 24 = dktX0_deed_1 := dk_seg dksX0_deed_0 24 rfl rfl
theorem dksX0_deed_2 : cX0_deed.data.toList.drop 47 = dktX0_deed_2 := dk_seg dksX0_deed_1 23 rfl rfl
theorem dksX0_deed_3 : cX0_deed.data.toList.drop 71 = dktX0_deed_3 := dk_seg dksX0_deed_2 24 rfl rfl
theorem dksX0_deed_4 : cX0_deed.data.toList.drop 95 = dktX0_deed_4 := dk_seg dksX0_deed_3 24 rfl rfl
theorem dksX0_deed_5 : cX0_deed.data.toList.drop 119 = dktX0_deed_5 := dk_seg dksX0_deed_4 24 rfl rfl
theorem dX0_deed_0 : decode cX0_deed 0 = .ok (.aload_n 0, 1) := dk_42 (dk_at dksX0_deed_0 0 rfl rfl)
theorem dX0_deed_1 : decode cX0_deed 1 = .ok (.ldc 60, 2) := dk_18 60 (dk_at dksX0_deed_0 1 rfl rfl)
theorem dX0_deed_3 : decode cX0_deed 3 = .ok (.iconst 0, 1) := dk_3 (dk_at dksX0_deed_0 3 rfl rfl)
theorem dX0_deed_4 : decode cX0_deed 4 = .ok (.sipush 999, 3) := dk_17 3 231 (dk_at dksX0_deed_0 4 rfl rfl)
theorem dX0_deed_7 : decode cX0_deed 7 = .ok (.invokevirtual 342, 3) := dk_182 1 86 (dk_at dksX0_deed_0 7 rfl rfl)
theorem dX0_deed_10 : decode cX0_deed 10 = .ok (.istore_n 1, 1) := dk_60 (dk_at dksX0_deed_0 10 rfl rfl)
theorem dX0_deed_11 : decode cX0_deed 11 = .ok (.aload_n 0, 1) := dk_42 (dk_at dksX0_deed_0 11 rfl rfl)
theorem dX0_deed_12 : decode cX0_deed 12 = .ok (.aload_n 0, 1) := dk_42 (dk_at dksX0_deed_0 12 rfl rfl)
theorem dX0_deed_13 : decode cX0_deed 13 = .ok (.getfield 105, 3) := dk_180 0 105 (dk_at dksX0_deed_0 13 rfl rfl)
theorem dX0_deed_16 : decode cX0_deed 16 = .ok (.invokevirtual 236, 3) := dk_182 0 236 (dk_at dksX0_deed_0 16 rfl rfl)
theorem dX0_deed_19 : decode cX0_deed 19 = .ok (.istore_n 2, 1) := dk_61 (dk_at dksX0_deed_0 19 rfl rfl)
theorem dX0_deed_20 : decode cX0_deed 20 = .ok (.aload_n 0, 1) := dk_42 (dk_at dksX0_deed_0 20 rfl rfl)
theorem dX0_deed_21 : decode cX0_deed 21 = .ok (.iload_n 2, 1) := dk_28 (dk_at dksX0_deed_0 21 rfl rfl)
theorem dX0_deed_22 : decode cX0_deed 22 = .ok (.iconst 0, 1) := dk_3 (dk_at dksX0_deed_0 22 rfl rfl)
theorem dX0_deed_23 : decode cX0_deed 23 = .ok (.iconst 3, 1) := dk_6 (dk_at dksX0_deed_0 23 rfl rfl)
theorem dX0_deed_24 : decode cX0_deed 24 = .ok (.invokestatic 188, 3) := dk_184 0 188 (dk_at dksX0_deed_1 0 rfl rfl)
theorem dX0_deed_27 : decode cX0_deed 27 = .ok (.invokevirtual 261, 3) := dk_182 1 5 (dk_at dksX0_deed_1 3 rfl rfl)
theorem dX0_deed_30 : decode cX0_deed 30 = .ok (.aload_n 0, 1) := dk_42 (dk_at dksX0_deed_1 6 rfl rfl)
theorem dX0_deed_31 : decode cX0_deed 31 = .ok (.invokevirtual 265, 3) := dk_182 1 9 (dk_at dksX0_deed_1 7 rfl rfl)
theorem dX0_deed_34 : decode cX0_deed 34 = .ok (.aload_n 0, 1) := dk_42 (dk_at dksX0_deed_1 10 rfl rfl)
theorem dX0_deed_35 : decode cX0_deed 35 = .ok (.iconst 0, 1) := dk_3 (dk_at dksX0_deed_1 11 rfl rfl)
theorem dX0_deed_36 : decode cX0_deed 36 = .ok (.aload_n 0, 1) := dk_42 (dk_at dksX0_deed_1 12 rfl rfl)
theorem dX0_deed_37 : decode cX0_deed 37 = .ok (.getfield 346, 3) := dk_180 1 90 (dk_at dksX0_deed_1 13 rfl rfl)
theorem dX0_deed_40 : decode cX0_deed 40 = .ok (.iconst 1, 1) := dk_4 (dk_at dksX0_deed_1 16 rfl rfl)
theorem dX0_deed_41 : decode cX0_deed 41 = .ok (.isub, 1) := dk_100 (dk_at dksX0_deed_1 17 rfl rfl)
theorem dX0_deed_42 : decode cX0_deed 42 = .ok (.invokevirtual 339, 3) := dk_182 1 83 (dk_at dksX0_deed_1 18 rfl rfl)
theorem dX0_deed_45 : decode cX0_deed 45 = .ok (.istore_n 3, 1) := dk_62 (dk_at dksX0_deed_1 21 rfl rfl)
theorem dX0_deed_46 : decode cX0_deed 46 = .ok (.aload_n 0, 1) := dk_42 (dk_at dksX0_deed_1 22 rfl rfl)
theorem dX0_deed_47 : decode cX0_deed 47 = .ok (.getfield 199, 3) := dk_180 0 199 (dk_at dksX0_deed_2 0 rfl rfl)
theorem dX0_deed_50 : decode cX0_deed 50 = .ok (.istore 4, 2) := dk_54 4 (dk_at dksX0_deed_2 3 rfl rfl)
theorem dX0_deed_52 : decode cX0_deed 52 = .ok (.iload_n 2, 1) := dk_28 (dk_at dksX0_deed_2 5 rfl rfl)
theorem dX0_deed_53 : decode cX0_deed 53 = .ok (.iconst 2, 1) := dk_5 (dk_at dksX0_deed_2 6 rfl rfl)
theorem dX0_deed_54 : decode cX0_deed 54 = .ok (.if_icmp .ne 17, 3) := dk_160 0 17 (dk_at dksX0_deed_2 7 rfl rfl)
theorem dX0_deed_57 : decode cX0_deed 57 = .ok (.aload_n 0, 1) := dk_42 (dk_at dksX0_deed_2 10 rfl rfl)
theorem dX0_deed_58 : decode cX0_deed 58 = .ok (.iconst 0, 1) := dk_3 (dk_at dksX0_deed_2 11 rfl rfl)
theorem dX0_deed_59 : decode cX0_deed 59 = .ok (.aload_n 0, 1) := dk_42 (dk_at dksX0_deed_2 12 rfl rfl)
theorem dX0_deed_60 : decode cX0_deed 60 = .ok (.getfield 346, 3) := dk_180 1 90 (dk_at dksX0_deed_2 13 rfl rfl)
theorem dX0_deed_63 : decode cX0_deed 63 = .ok (.iconst 1, 1) := dk_4 (dk_at dksX0_deed_2 16 rfl rfl)
theorem dX0_deed_64 : decode cX0_deed 64 = .ok (.isub, 1) := dk_100 (dk_at dksX0_deed_2 17 rfl rfl)
theorem dX0_deed_65 : decode cX0_deed 65 = .ok (.invokevirtual 339, 3) := dk_182 1 83 (dk_at dksX0_deed_2 18 rfl rfl)
theorem dX0_deed_68 : decode cX0_deed 68 = .ok (.goto 4, 3) := dk_167 0 4 (dk_at dksX0_deed_2 21 rfl rfl)
theorem dX0_deed_71 : decode cX0_deed 71 = .ok (.iconst (-1), 1) := dk_2 (dk_at dksX0_deed_3 0 rfl rfl)
theorem dX0_deed_72 : decode cX0_deed 72 = .ok (.istore 5, 2) := dk_54 5 (dk_at dksX0_deed_3 1 rfl rfl)
theorem dX0_deed_74 : decode cX0_deed 74 = .ok (.iload 5, 2) := dk_21 5 (dk_at dksX0_deed_3 3 rfl rfl)
theorem dX0_deed_76 : decode cX0_deed 76 = .ok (.iload_n 3, 1) := dk_29 (dk_at dksX0_deed_3 5 rfl rfl)
theorem dX0_deed_77 : decode cX0_deed 77 = .ok (.if_icmp .ne 14, 3) := dk_160 0 14 (dk_at dksX0_deed_3 6 rfl rfl)
theorem dX0_deed_80 : decode cX0_deed 80 = .ok (.new 252, 3) := dk_187 0 252 (dk_at dksX0_deed_3 9 rfl rfl)
theorem dX0_deed_83 : decode cX0_deed 83 = .ok (.dup, 1) := dk_89 (dk_at dksX0_deed_3 12 rfl rfl)
theorem dX0_deed_84 : decode cX0_deed 84 = .ok (.iconst 2, 1) := dk_5 (dk_at dksX0_deed_3 13 rfl rfl)
theorem dX0_deed_85 : decode cX0_deed 85 = .ok (.iload 4, 2) := dk_21 4 (dk_at dksX0_deed_3 14 rfl rfl)
theorem dX0_deed_87 : decode cX0_deed 87 = .ok (.invokespecial 254, 3) := dk_183 0 254 (dk_at dksX0_deed_3 16 rfl rfl)
theorem dX0_deed_90 : decode cX0_deed 90 = .ok (.athrow, 1) := dk_191 (dk_at dksX0_deed_3 19 rfl rfl)
theorem dX0_deed_91 : decode cX0_deed 91 = .ok (.new 129, 3) := dk_187 0 129 (dk_at dksX0_deed_3 20 rfl rfl)
theorem dX0_deed_94 : decode cX0_deed 94 = .ok (.dup, 1) := dk_89 (dk_at dksX0_deed_3 23 rfl rfl)
theorem dX0_deed_95 : decode cX0_deed 95 = .ok (.iload_n 1, 1) := dk_27 (dk_at dksX0_deed_4 0 rfl rfl)
theorem dX0_deed_96 : decode cX0_deed 96 = .ok (.iload_n 2, 1) := dk_28 (dk_at dksX0_deed_4 1 rfl rfl)
theorem dX0_deed_97 : decode cX0_deed 97 = .ok (.iload_n 3, 1) := dk_29 (dk_at dksX0_deed_4 2 rfl rfl)
theorem dX0_deed_98 : decode cX0_deed 98 = .ok (.iload 5, 2) := dk_21 5 (dk_at dksX0_deed_4 3 rfl rfl)
theorem dX0_deed_100 : decode cX0_deed 100 = .ok (.iload_n 2, 1) := dk_28 (dk_at dksX0_deed_4 5 rfl rfl)
theorem dX0_deed_101 : decode cX0_deed 101 = .ok (.ifCond .eq 8, 3) := dk_153 0 8 (dk_at dksX0_deed_4 6 rfl rfl)
theorem dX0_deed_104 : decode cX0_deed 104 = .ok (.iload_n 2, 1) := dk_28 (dk_at dksX0_deed_4 9 rfl rfl)
theorem dX0_deed_105 : decode cX0_deed 105 = .ok (.iconst 2, 1) := dk_5 (dk_at dksX0_deed_4 10 rfl rfl)
theorem dX0_deed_106 : decode cX0_deed 106 = .ok (.if_icmp .ne 13, 3) := dk_160 0 13 (dk_at dksX0_deed_4 11 rfl rfl)
theorem dX0_deed_109 : decode cX0_deed 109 = .ok (.aload_n 0, 1) := dk_42 (dk_at dksX0_deed_4 14 rfl rfl)
theorem dX0_deed_110 : decode cX0_deed 110 = .ok (.iconst 1, 1) := dk_4 (dk_at dksX0_deed_4 15 rfl rfl)
theorem dX0_deed_111 : decode cX0_deed 111 = .ok (.bipush 99, 2) := dk_16 99 (dk_at dksX0_deed_4 16 rfl rfl)
theorem dX0_deed_113 : decode cX0_deed 113 = .ok (.invokevirtual 339, 3) := dk_182 1 83 (dk_at dksX0_deed_4 18 rfl rfl)
theorem dX0_deed_116 : decode cX0_deed 116 = .ok (.goto 4, 3) := dk_167 0 4 (dk_at dksX0_deed_4 21 rfl rfl)
theorem dX0_deed_119 : decode cX0_deed 119 = .ok (.iconst 0, 1) := dk_3 (dk_at dksX0_deed_5 0 rfl rfl)
theorem dX0_deed_120 : decode cX0_deed 120 = .ok (.invokespecial 347, 3) := dk_183 1 91 (dk_at dksX0_deed_5 1 rfl rfl)
theorem dX0_deed_123 : decode cX0_deed 123 = .ok (.areturn, 1) := dk_176 (dk_at dksX0_deed_5 4 rfl rfl)
abbrev cX0_fault : ByteArray := prog_1_method_41_code
def yX0_fault : MethodName := ⟨RX0, "fault", "(I)I"⟩
def dkwX0_fault_1 : List UInt8 := [172]
abbrev dktX0_fault_1 : List UInt8 := dkwX0_fault_1 ++ []
def dkwX0_fault_0 : List UInt8 := [27, 154, 0, 10, 42, 180, 1, 124, 167, 0, 16, 27, 4, 160, 0, 10, 42, 180, 0, 114, 167, 0, 4, 2]
abbrev dktX0_fault_0 : List UInt8 := dkwX0_fault_0 ++ dktX0_fault_1
theorem dksX0_fault_0 : cX0_fault.data.toList.drop 0 = dktX0_fault_0 := by decide +kernel
theorem dksX0_fault_1 : cX0_fault.data.toList.drop 24 = dktX0_fault_1 := dk_seg dksX0_fault_0 24 rfl rfl
theorem dX0_fault_0 : decode cX0_fault 0 = .ok (.iload_n 1, 1) := dk_27 (dk_at dksX0_fault_0 0 rfl rfl)
theorem dX0_fault_1 : decode cX0_fault 1 = .ok (.ifCond .ne 10, 3) := dk_154 0 10 (dk_at dksX0_fault_0 1 rfl rfl)
theorem dX0_fault_4 : decode cX0_fault 4 = .ok (.aload_n 0, 1) := dk_42 (dk_at dksX0_fault_0 4 rfl rfl)
theorem dX0_fault_5 : decode cX0_fault 5 = .ok (.getfield 380, 3) := dk_180 1 124 (dk_at dksX0_fault_0 5 rfl rfl)
theorem dX0_fault_8 : decode cX0_fault 8 = .ok (.goto 16, 3) := dk_167 0 16 (dk_at dksX0_fault_0 8 rfl rfl)
theorem dX0_fault_11 : decode cX0_fault 11 = .ok (.iload_n 1, 1) := dk_27 (dk_at dksX0_fault_0 11 rfl rfl)
theorem dX0_fault_12 : decode cX0_fault 12 = .ok (.iconst 1, 1) := dk_4 (dk_at dksX0_fault_0 12 rfl rfl)
theorem dX0_fault_13 : decode cX0_fault 13 = .ok (.if_icmp .ne 10, 3) := dk_160 0 10 (dk_at dksX0_fault_0 13 rfl rfl)
theorem dX0_fault_16 : decode cX0_fault 16 = .ok (.aload_n 0, 1) := dk_42 (dk_at dksX0_fault_0 16 rfl rfl)
theorem dX0_fault_17 : decode cX0_fault 17 = .ok (.getfield 114, 3) := dk_180 0 114 (dk_at dksX0_fault_0 17 rfl rfl)
theorem dX0_fault_20 : decode cX0_fault 20 = .ok (.goto 4, 3) := dk_167 0 4 (dk_at dksX0_fault_0 20 rfl rfl)
theorem dX0_fault_23 : decode cX0_fault 23 = .ok (.iconst (-1), 1) := dk_2 (dk_at dksX0_fault_0 23 rfl rfl)
theorem dX0_fault_24 : decode cX0_fault 24 = .ok (.ireturn, 1) := dk_172 (dk_at dksX0_fault_1 0 rfl rfl)
abbrev cX0_undo : ByteArray := prog_1_method_44_code
def yX0_undo : MethodName := ⟨RX0, "undo", "()Z"⟩
def dkwX0_undo_1 : List UInt8 := [180, 0, 165, 42, 180, 1, 121, 50, 182, 1, 141, 4, 172]
abbrev dktX0_undo_1 : List UInt8 := dkwX0_undo_1 ++ []
def dkwX0_undo_0 : List UInt8 := [42, 180, 1, 121, 154, 0, 5, 3, 172, 42, 89, 180, 1, 121, 4, 100, 181, 1, 121, 42, 180, 0, 152, 42]
abbrev dktX0_undo_0 : List UInt8 := dkwX0_undo_0 ++ dktX0_undo_1
theorem dksX0_undo_0 : cX0_undo.data.toList.drop 0 = dktX0_undo_0 := by decide +kernel
theorem dksX0_undo_1 : cX0_undo.data.toList.drop 24 = dktX0_undo_1 := dk_seg dksX0_undo_0 24 rfl rfl
theorem dX0_undo_0 : decode cX0_undo 0 = .ok (.aload_n 0, 1) := dk_42 (dk_at dksX0_undo_0 0 rfl rfl)
theorem dX0_undo_1 : decode cX0_undo 1 = .ok (.getfield 377, 3) := dk_180 1 121 (dk_at dksX0_undo_0 1 rfl rfl)
theorem dX0_undo_4 : decode cX0_undo 4 = .ok (.ifCond .ne 5, 3) := dk_154 0 5 (dk_at dksX0_undo_0 4 rfl rfl)
theorem dX0_undo_7 : decode cX0_undo 7 = .ok (.iconst 0, 1) := dk_3 (dk_at dksX0_undo_0 7 rfl rfl)
theorem dX0_undo_8 : decode cX0_undo 8 = .ok (.ireturn, 1) := dk_172 (dk_at dksX0_undo_0 8 rfl rfl)
theorem dX0_undo_9 : decode cX0_undo 9 = .ok (.aload_n 0, 1) := dk_42 (dk_at dksX0_undo_0 9 rfl rfl)
theorem dX0_undo_10 : decode cX0_undo 10 = .ok (.dup, 1) := dk_89 (dk_at dksX0_undo_0 10 rfl rfl)
theorem dX0_undo_11 : decode cX0_undo 11 = .ok (.getfield 377, 3) := dk_180 1 121 (dk_at dksX0_undo_0 11 rfl rfl)
theorem dX0_undo_14 : decode cX0_undo 14 = .ok (.iconst 1, 1) := dk_4 (dk_at dksX0_undo_0 14 rfl rfl)
theorem dX0_undo_15 : decode cX0_undo 15 = .ok (.isub, 1) := dk_100 (dk_at dksX0_undo_0 15 rfl rfl)
theorem dX0_undo_16 : decode cX0_undo 16 = .ok (.putfield 377, 3) := dk_181 1 121 (dk_at dksX0_undo_0 16 rfl rfl)
theorem dX0_undo_19 : decode cX0_undo 19 = .ok (.aload_n 0, 1) := dk_42 (dk_at dksX0_undo_0 19 rfl rfl)
theorem dX0_undo_20 : decode cX0_undo 20 = .ok (.getfield 152, 3) := dk_180 0 152 (dk_at dksX0_undo_0 20 rfl rfl)
theorem dX0_undo_23 : decode cX0_undo 23 = .ok (.aload_n 0, 1) := dk_42 (dk_at dksX0_undo_0 23 rfl rfl)
theorem dX0_undo_24 : decode cX0_undo 24 = .ok (.getfield 165, 3) := dk_180 0 165 (dk_at dksX0_undo_1 0 rfl rfl)
theorem dX0_undo_27 : decode cX0_undo 27 = .ok (.aload_n 0, 1) := dk_42 (dk_at dksX0_undo_1 3 rfl rfl)
theorem dX0_undo_28 : decode cX0_undo 28 = .ok (.getfield 377, 3) := dk_180 1 121 (dk_at dksX0_undo_1 4 rfl rfl)
theorem dX0_undo_31 : decode cX0_undo 31 = .ok (.aaload, 1) := dk_50 (dk_at dksX0_undo_1 7 rfl rfl)
theorem dX0_undo_32 : decode cX0_undo 32 = .ok (.invokevirtual 397, 3) := dk_182 1 141 (dk_at dksX0_undo_1 8 rfl rfl)
theorem dX0_undo_35 : decode cX0_undo 35 = .ok (.iconst 1, 1) := dk_4 (dk_at dksX0_undo_1 11 rfl rfl)
theorem dX0_undo_36 : decode cX0_undo 36 = .ok (.ireturn, 1) := dk_172 (dk_at dksX0_undo_1 12 rfl rfl)
abbrev cX0_copies : ByteArray := prog_1_method_4_code
def yX0_copies : MethodName := ⟨RX0, "copies", "([I[I)V"⟩
def dkwX0_copies_0 : List UInt8 := [42, 3, 43, 3, 42, 190, 184, 0, 10, 177]
abbrev dktX0_copies_0 : List UInt8 := dkwX0_copies_0 ++ []
theorem dksX0_copies_0 : cX0_copies.data.toList.drop 0 = dktX0_copies_0 := by decide +kernel
theorem dX0_copies_0 : decode cX0_copies 0 = .ok (.aload_n 0, 1) := dk_42 (dk_at dksX0_copies_0 0 rfl rfl)
theorem dX0_copies_1 : decode cX0_copies 1 = .ok (.iconst 0, 1) := dk_3 (dk_at dksX0_copies_0 1 rfl rfl)
theorem dX0_copies_2 : decode cX0_copies 2 = .ok (.aload_n 1, 1) := dk_43 (dk_at dksX0_copies_0 2 rfl rfl)
theorem dX0_copies_3 : decode cX0_copies 3 = .ok (.iconst 0, 1) := dk_3 (dk_at dksX0_copies_0 3 rfl rfl)
theorem dX0_copies_4 : decode cX0_copies 4 = .ok (.aload_n 0, 1) := dk_42 (dk_at dksX0_copies_0 4 rfl rfl)
theorem dX0_copies_5 : decode cX0_copies 5 = .ok (.arraylength, 1) := dk_190 (dk_at dksX0_copies_0 5 rfl rfl)
theorem dX0_copies_6 : decode cX0_copies 6 = .ok (.invokestatic 10, 3) := dk_184 0 10 (dk_at dksX0_copies_0 6 rfl rfl)
theorem dX0_copies_9 : decode cX0_copies 9 = .ok (.return_, 1) := dk_177 (dk_at dksX0_copies_0 9 rfl rfl)
abbrev cX0_state : ByteArray := prog_1_method_46_code
def yX0_state : MethodName := ⟨RX0, "state", "(I)I"⟩
def dkwX0_state_0 : List UInt8 := [42, 180, 0, 152, 180, 1, 145, 61, 42, 180, 0, 152, 27, 181, 1, 145, 42, 3, 181, 1, 121, 28, 172]
abbrev dktX0_state_0 : List UInt8 := dkwX0_state_0 ++ []
theorem dksX0_state_0 : cX0_state.data.toList.drop 0 = dktX0_state_0 := by decide +kernel
theorem dX0_state_0 : decode cX0_state 0 = .ok (.aload_n 0, 1) := dk_42 (dk_at dksX0_state_0 0 rfl rfl)
theorem dX0_state_1 : decode cX0_state 1 = .ok (.getfield 152, 3) := dk_180 0 152 (dk_at dksX0_state_0 1 rfl rfl)
theorem dX0_state_4 : decode cX0_state 4 = .ok (.getfield 401, 3) := dk_180 1 145 (dk_at dksX0_state_0 4 rfl rfl)
theorem dX0_state_7 : decode cX0_state 7 = .ok (.istore_n 2, 1) := dk_61 (dk_at dksX0_state_0 7 rfl rfl)
theorem dX0_state_8 : decode cX0_state 8 = .ok (.aload_n 0, 1) := dk_42 (dk_at dksX0_state_0 8 rfl rfl)
theorem dX0_state_9 : decode cX0_state 9 = .ok (.getfield 152, 3) := dk_180 0 152 (dk_at dksX0_state_0 9 rfl rfl)
theorem dX0_state_12 : decode cX0_state 12 = .ok (.iload_n 1, 1) := dk_27 (dk_at dksX0_state_0 12 rfl rfl)
theorem dX0_state_13 : decode cX0_state 13 = .ok (.putfield 401, 3) := dk_181 1 145 (dk_at dksX0_state_0 13 rfl rfl)
theorem dX0_state_16 : decode cX0_state 16 = .ok (.aload_n 0, 1) := dk_42 (dk_at dksX0_state_0 16 rfl rfl)
theorem dX0_state_17 : decode cX0_state 17 = .ok (.iconst 0, 1) := dk_3 (dk_at dksX0_state_0 17 rfl rfl)
theorem dX0_state_18 : decode cX0_state 18 = .ok (.putfield 377, 3) := dk_181 1 121 (dk_at dksX0_state_0 18 rfl rfl)
theorem dX0_state_21 : decode cX0_state 21 = .ok (.iload_n 2, 1) := dk_28 (dk_at dksX0_state_0 21 rfl rfl)
theorem dX0_state_22 : decode cX0_state 22 = .ok (.ireturn, 1) := dk_172 (dk_at dksX0_state_0 22 rfl rfl)
abbrev cX0_link : ByteArray := prog_1_method_47_code
def yX0_link : MethodName := ⟨RX0, "link", "(IIII)I"⟩
def dkwX0_link_7 : List UInt8 := [181, 1, 164, 42, 89, 180, 1, 90, 4, 96, 181, 1, 90, 42, 3, 181, 1, 121, 21, 5, 172]
abbrev dktX0_link_7 : List UInt8 := dkwX0_link_7 ++ []
def dkwX0_link_6 : List UInt8 := [180, 0, 152, 89, 180, 1, 161, 21, 6, 126, 181, 1, 161, 42, 180, 0, 152, 89, 180, 1, 164, 21, 6, 126]
abbrev dktX0_link_6 : List UInt8 := dkwX0_link_6 ++ dktX0_link_7
def dkwX0_link_5 : List UInt8 := [79, 4, 21, 5, 120, 4, 100, 54, 6, 42, 180, 0, 152, 89, 180, 1, 159, 21, 6, 126, 181, 1, 159, 42]
abbrev dktX0_link_5 : List UInt8 := dkwX0_link_5 ++ dktX0_link_6
def dkwX0_link_4 : List UInt8 := [29, 79, 42, 180, 0, 152, 180, 1, 154, 21, 5, 21, 4, 79, 42, 180, 0, 152, 180, 1, 156, 21, 5, 2]
abbrev dktX0_link_4 : List UInt8 := dkwX0_link_4 ++ dktX0_link_5
def dkwX0_link_3 : List UInt8 := [21, 5, 27, 79, 42, 180, 0, 152, 180, 1, 150, 21, 5, 28, 79, 42, 180, 0, 152, 180, 1, 152, 21, 5]
abbrev dktX0_link_3 : List UInt8 := dkwX0_link_3 ++ dktX0_link_4
def dkwX0_link_2 : List UInt8 := [42, 180, 1, 90, 16, 12, 160, 0, 5, 2, 172, 42, 180, 1, 90, 54, 5, 42, 180, 0, 152, 180, 1, 148]
abbrev dktX0_link_2 : List UInt8 := dkwX0_link_2 ++ dktX0_link_3
def dkwX0_link_1 : List UInt8 := [29, 17, 252, 25, 17, 3, 231, 184, 0, 188, 153, 0, 23, 21, 4, 3, 16, 9, 184, 0, 188, 153, 0, 12]
abbrev dktX0_link_1 : List UInt8 := dkwX0_link_1 ++ dktX0_link_2
def dkwX0_link_0 : List UInt8 := [27, 4, 17, 3, 231, 184, 0, 188, 153, 0, 49, 28, 17, 216, 241, 17, 39, 15, 184, 0, 188, 153, 0, 36]
abbrev dktX0_link_0 : List UInt8 := dkwX0_link_0 ++ dktX0_link_1
theorem dksX0_link_0 : cX0_link.data.toList.drop 0 = dktX0_link_0 := by decide +kernel
theorem dksX0_link_1 : cX0_link.data.toList.drop 24 = dktX0_link_1 := dk_seg dksX0_link_0 24 rfl rfl
theorem dksX0_link_2 : cX0_link.data.toList.drop 48 = dktX0_link_2 := dk_seg dksX0_link_1 24 rfl rfl
theorem dksX0_link_3 : cX0_link.data.toList.drop 72 = dktX0_link_3 := dk_seg dksX0_link_2 24 rfl rfl
theorem dksX0_link_4 : cX0_link.data.toList.drop 96 = dktX0_link_4 := dk_seg dksX0_link_3 24 rfl rfl
theorem dksX0_link_5 : cX0_link.data.toList.drop 120 = dktX0_link_5 := dk_seg dksX0_link_4 24 rfl rfl
theorem dksX0_link_6 : cX0_link.data.toList.drop 144 = dktX0_link_6 := dk_seg dksX0_link_5 24 rfl rfl
theorem dksX0_link_7 : cX0_link.data.toList.drop 168 = dktX0_link_7 := dk_seg dksX0_link_6 24 rfl rfl
theorem dX0_link_0 : decode cX0_link 0 = .ok (.iload_n 1, 1) := dk_27 (dk_at dksX0_link_0 0 rfl rfl)
theorem dX0_link_1 : decode cX0_link 1 = .ok (.iconst 1, 1) := dk_4 (dk_at dksX0_link_0 1 rfl rfl)
theorem dX0_link_2 : decode cX0_link 2 = .ok (.sipush 999, 3) := dk_17 3 231 (dk_at dksX0_link_0 2 rfl rfl)
theorem dX0_link_5 : decode cX0_link 5 = .ok (.invokestatic 188, 3) := dk_184 0 188 (dk_at dksX0_link_0 5 rfl rfl)
theorem dX0_link_8 : decode cX0_link 8 = .ok (.ifCond .eq 49, 3) := dk_153 0 49 (dk_at dksX0_link_0 8 rfl rfl)
theorem dX0_link_11 : decode cX0_link 11 = .ok (.iload_n 2, 1) := dk_28 (dk_at dksX0_link_0 11 rfl rfl)
theorem dX0_link_12 : decode cX0_link 12 = .ok (.sipush (-9999), 3) := dk_17 216 241 (dk_at dksX0_link_0 12 rfl rfl)
theorem dX0_link_15 : decode cX0_link 15 = .ok (.sipush 9999, 3) := dk_17 39 15 (dk_at dksX0_link_0 15 rfl rfl)
theorem dX0_link_18 : decode cX0_link 18 = .ok (.invokestatic 188, 3) := dk_184 0 188 (dk_at dksX0_link_0 18 rfl rfl)
theorem dX0_link_21 : decode cX0_link 21 = .ok (.ifCond .eq 36, 3) := dk_153 0 36 (dk_at dksX0_link_0 21 rfl rfl)
theorem dX0_link_24 : decode cX0_link 24 = .ok (.iload_n 3, 1) := dk_29 (dk_at dksX0_link_1 0 rfl rfl)
theorem dX0_link_25 : decode cX0_link 25 = .ok (.sipush (-999), 3) := dk_17 252 25 (dk_at dksX0_link_1 1 rfl rfl)
theorem dX0_link_28 : decode cX0_link 28 = .ok (.sipush 999, 3) := dk_17 3 231 (dk_at dksX0_link_1 4 rfl rfl)
theorem dX0_link_31 : decode cX0_link 31 = .ok (.invokestatic 188, 3) := dk_184 0 188 (dk_at dksX0_link_1 7 rfl rfl)
theorem dX0_link_34 : decode cX0_link 34 = .ok (.ifCond .eq 23, 3) := dk_153 0 23 (dk_at dksX0_link_1 10 rfl rfl)
theorem dX0_link_37 : decode cX0_link 37 = .ok (.iload 4, 2) := dk_21 4 (dk_at dksX0_link_1 13 rfl rfl)
theorem dX0_link_39 : decode cX0_link 39 = .ok (.iconst 0, 1) := dk_3 (dk_at dksX0_link_1 15 rfl rfl)
theorem dX0_link_40 : decode cX0_link 40 = .ok (.bipush 9, 2) := dk_16 9 (dk_at dksX0_link_1 16 rfl rfl)
theorem dX0_link_42 : decode cX0_link 42 = .ok (.invokestatic 188, 3) := dk_184 0 188 (dk_at dksX0_link_1 18 rfl rfl)
theorem dX0_link_45 : decode cX0_link 45 = .ok (.ifCond .eq 12, 3) := dk_153 0 12 (dk_at dksX0_link_1 21 rfl rfl)
theorem dX0_link_48 : decode cX0_link 48 = .ok (.aload_n 0, 1) := dk_42 (dk_at dksX0_link_2 0 rfl rfl)
theorem dX0_link_49 : decode cX0_link 49 = .ok (.getfield 346, 3) := dk_180 1 90 (dk_at dksX0_link_2 1 rfl rfl)
theorem dX0_link_52 : decode cX0_link 52 = .ok (.bipush 12, 2) := dk_16 12 (dk_at dksX0_link_2 4 rfl rfl)
theorem dX0_link_54 : decode cX0_link 54 = .ok (.if_icmp .ne 5, 3) := dk_160 0 5 (dk_at dksX0_link_2 6 rfl rfl)
theorem dX0_link_57 : decode cX0_link 57 = .ok (.iconst (-1), 1) := dk_2 (dk_at dksX0_link_2 9 rfl rfl)
theorem dX0_link_58 : decode cX0_link 58 = .ok (.ireturn, 1) := dk_172 (dk_at dksX0_link_2 10 rfl rfl)
theorem dX0_link_59 : decode cX0_link 59 = .ok (.aload_n 0, 1) := dk_42 (dk_at dksX0_link_2 11 rfl rfl)
theorem dX0_link_60 : decode cX0_link 60 = .ok (.getfield 346, 3) := dk_180 1 90 (dk_at dksX0_link_2 12 rfl rfl)
theorem dX0_link_63 : decode cX0_link 63 = .ok (.istore 5, 2) := dk_54 5 (dk_at dksX0_link_2 15 rfl rfl)
theorem dX0_link_65 : decode cX0_link 65 = .ok (.aload_n 0, 1) := dk_42 (dk_at dksX0_link_2 17 rfl rfl)
theorem dX0_link_66 : decode cX0_link 66 = .ok (.getfield 152, 3) := dk_180 0 152 (dk_at dksX0_link_2 18 rfl rfl)
theorem dX0_link_69 : decode cX0_link 69 = .ok (.getfield 404, 3) := dk_180 1 148 (dk_at dksX0_link_2 21 rfl rfl)
theorem dX0_link_72 : decode cX0_link 72 = .ok (.iload 5, 2) := dk_21 5 (dk_at dksX0_link_3 0 rfl rfl)
theorem dX0_link_74 : decode cX0_link 74 = .ok (.iload_n 1, 1) := dk_27 (dk_at dksX0_link_3 2 rfl rfl)
theorem dX0_link_75 : decode cX0_link 75 = .ok (.iastore, 1) := dk_79 (dk_at dksX0_link_3 3 rfl rfl)
theorem dX0_link_76 : decode cX0_link 76 = .ok (.aload_n 0, 1) := dk_42 (dk_at dksX0_link_3 4 rfl rfl)
theorem dX0_link_77 : decode cX0_link 77 = .ok (.getfield 152, 3) := dk_180 0 152 (dk_at dksX0_link_3 5 rfl rfl)
theorem dX0_link_80 : decode cX0_link 80 = .ok (.getfield 406, 3) := dk_180 1 150 (dk_at dksX0_link_3 8 rfl rfl)
theorem dX0_link_83 : decode cX0_link 83 = .ok (.iload 5, 2) := dk_21 5 (dk_at dksX0_link_3 11 rfl rfl)
theorem dX0_link_85 : decode cX0_link 85 = .ok (.iload_n 2, 1) := dk_28 (dk_at dksX0_link_3 13 rfl rfl)
theorem dX0_link_86 : decode cX0_link 86 = .ok (.iastore, 1) := dk_79 (dk_at dksX0_link_3 14 rfl rfl)
theorem dX0_link_87 : decode cX0_link 87 = .ok (.aload_n 0, 1) := dk_42 (dk_at dksX0_link_3 15 rfl rfl)
theorem dX0_link_88 : decode cX0_link 88 = .ok (.getfield 152, 3) := dk_180 0 152 (dk_at dksX0_link_3 16 rfl rfl)
theorem dX0_link_91 : decode cX0_link 91 = .ok (.getfield 408, 3) := dk_180 1 152 (dk_at dksX0_link_3 19 rfl rfl)
theorem dX0_link_94 : decode cX0_link 94 = .ok (.iload 5, 2) := dk_21 5 (dk_at dksX0_link_3 22 rfl rfl)
theorem dX0_link_96 : decode cX0_link 96 = .ok (.iload_n 3, 1) := dk_29 (dk_at dksX0_link_4 0 rfl rfl)
theorem dX0_link_97 : decode cX0_link 97 = .ok (.iastore, 1) := dk_79 (dk_at dksX0_link_4 1 rfl rfl)
theorem dX0_link_98 : decode cX0_link 98 = .ok (.aload_n 0, 1) := dk_42 (dk_at dksX0_link_4 2 rfl rfl)
theorem dX0_link_99 : decode cX0_link 99 = .ok (.getfield 152, 3) := dk_180 0 152 (dk_at dksX0_link_4 3 rfl rfl)
theorem dX0_link_102 : decode cX0_link 102 = .ok (.getfield 410, 3) := dk_180 1 154 (dk_at dksX0_link_4 6 rfl rfl)
theorem dX0_link_105 : decode cX0_link 105 = .ok (.iload 5, 2) := dk_21 5 (dk_at dksX0_link_4 9 rfl rfl)
theorem dX0_link_107 : decode cX0_link 107 = .ok (.iload 4, 2) := dk_21 4 (dk_at dksX0_link_4 11 rfl rfl)
theorem dX0_link_109 : decode cX0_link 109 = .ok (.iastore, 1) := dk_79 (dk_at dksX0_link_4 13 rfl rfl)
theorem dX0_link_110 : decode cX0_link 110 = .ok (.aload_n 0, 1) := dk_42 (dk_at dksX0_link_4 14 rfl rfl)
theorem dX0_link_111 : decode cX0_link 111 = .ok (.getfield 152, 3) := dk_180 0 152 (dk_at dksX0_link_4 15 rfl rfl)
theorem dX0_link_114 : decode cX0_link 114 = .ok (.getfield 412, 3) := dk_180 1 156 (dk_at dksX0_link_4 18 rfl rfl)
theorem dX0_link_117 : decode cX0_link 117 = .ok (.iload 5, 2) := dk_21 5 (dk_at dksX0_link_4 21 rfl rfl)
theorem dX0_link_119 : decode cX0_link 119 = .ok (.iconst (-1), 1) := dk_2 (dk_at dksX0_link_4 23 rfl rfl)
theorem dX0_link_120 : decode cX0_link 120 = .ok (.iastore, 1) := dk_79 (dk_at dksX0_link_5 0 rfl rfl)
theorem dX0_link_121 : decode cX0_link 121 = .ok (.iconst 1, 1) := dk_4 (dk_at dksX0_link_5 1 rfl rfl)
theorem dX0_link_122 : decode cX0_link 122 = .ok (.iload 5, 2) := dk_21 5 (dk_at dksX0_link_5 2 rfl rfl)
theorem dX0_link_124 : decode cX0_link 124 = .ok (.ishl, 1) := dk_120 (dk_at dksX0_link_5 4 rfl rfl)
theorem dX0_link_125 : decode cX0_link 125 = .ok (.iconst 1, 1) := dk_4 (dk_at dksX0_link_5 5 rfl rfl)
theorem dX0_link_126 : decode cX0_link 126 = .ok (.isub, 1) := dk_100 (dk_at dksX0_link_5 6 rfl rfl)
theorem dX0_link_127 : decode cX0_link 127 = .ok (.istore 6, 2) := dk_54 6 (dk_at dksX0_link_5 7 rfl rfl)
theorem dX0_link_129 : decode cX0_link 129 = .ok (.aload_n 0, 1) := dk_42 (dk_at dksX0_link_5 9 rfl rfl)
theorem dX0_link_130 : decode cX0_link 130 = .ok (.getfield 152, 3) := dk_180 0 152 (dk_at dksX0_link_5 10 rfl rfl)
theorem dX0_link_133 : decode cX0_link 133 = .ok (.dup, 1) := dk_89 (dk_at dksX0_link_5 13 rfl rfl)
theorem dX0_link_134 : decode cX0_link 134 = .ok (.getfield 415, 3) := dk_180 1 159 (dk_at dksX0_link_5 14 rfl rfl)
theorem dX0_link_137 : decode cX0_link 137 = .ok (.iload 6, 2) := dk_21 6 (dk_at dksX0_link_5 17 rfl rfl)
theorem dX0_link_139 : decode cX0_link 139 = .ok (.iand, 1) := dk_126 (dk_at dksX0_link_5 19 rfl rfl)
theorem dX0_link_140 : decode cX0_link 140 = .ok (.putfield 415, 3) := dk_181 1 159 (dk_at dksX0_link_5 20 rfl rfl)
theorem dX0_link_143 : decode cX0_link 143 = .ok (.aload_n 0, 1) := dk_42 (dk_at dksX0_link_5 23 rfl rfl)
theorem dX0_link_144 : decode cX0_link 144 = .ok (.getfield 152, 3) := dk_180 0 152 (dk_at dksX0_link_6 0 rfl rfl)
theorem dX0_link_147 : decode cX0_link 147 = .ok (.dup, 1) := dk_89 (dk_at dksX0_link_6 3 rfl rfl)
theorem dX0_link_148 : decode cX0_link 148 = .ok (.getfield 417, 3) := dk_180 1 161 (dk_at dksX0_link_6 4 rfl rfl)
theorem dX0_link_151 : decode cX0_link 151 = .ok (.iload 6, 2) := dk_21 6 (dk_at dksX0_link_6 7 rfl rfl)
theorem dX0_link_153 : decode cX0_link 153 = .ok (.iand, 1) := dk_126 (dk_at dksX0_link_6 9 rfl rfl)
theorem dX0_link_154 : decode cX0_link 154 = .ok (.putfield 417, 3) := dk_181 1 161 (dk_at dksX0_link_6 10 rfl rfl)
theorem dX0_link_157 : decode cX0_link 157 = .ok (.aload_n 0, 1) := dk_42 (dk_at dksX0_link_6 13 rfl rfl)
theorem dX0_link_158 : decode cX0_link 158 = .ok (.getfield 152, 3) := dk_180 0 152 (dk_at dksX0_link_6 14 rfl rfl)
theorem dX0_link_161 : decode cX0_link 161 = .ok (.dup, 1) := dk_89 (dk_at dksX0_link_6 17 rfl rfl)
theorem dX0_link_162 : decode cX0_link 162 = .ok (.getfield 420, 3) := dk_180 1 164 (dk_at dksX0_link_6 18 rfl rfl)
theorem dX0_link_165 : decode cX0_link 165 = .ok (.iload 6, 2) := dk_21 6 (dk_at dksX0_link_6 21 rfl rfl)
theorem dX0_link_167 : decode cX0_link 167 = .ok (.iand, 1) := dk_126 (dk_at dksX0_link_6 23 rfl rfl)
theorem dX0_link_168 : decode cX0_link 168 = .ok (.putfield 420, 3) := dk_181 1 164 (dk_at dksX0_link_7 0 rfl rfl)
theorem dX0_link_171 : decode cX0_link 171 = .ok (.aload_n 0, 1) := dk_42 (dk_at dksX0_link_7 3 rfl rfl)
theorem dX0_link_172 : decode cX0_link 172 = .ok (.dup, 1) := dk_89 (dk_at dksX0_link_7 4 rfl rfl)
theorem dX0_link_173 : decode cX0_link 173 = .ok (.getfield 346, 3) := dk_180 1 90 (dk_at dksX0_link_7 5 rfl rfl)
theorem dX0_link_176 : decode cX0_link 176 = .ok (.iconst 1, 1) := dk_4 (dk_at dksX0_link_7 8 rfl rfl)
theorem dX0_link_177 : decode cX0_link 177 = .ok (.iadd, 1) := dk_96 (dk_at dksX0_link_7 9 rfl rfl)
theorem dX0_link_178 : decode cX0_link 178 = .ok (.putfield 346, 3) := dk_181 1 90 (dk_at dksX0_link_7 10 rfl rfl)
theorem dX0_link_181 : decode cX0_link 181 = .ok (.aload_n 0, 1) := dk_42 (dk_at dksX0_link_7 13 rfl rfl)
theorem dX0_link_182 : decode cX0_link 182 = .ok (.iconst 0, 1) := dk_3 (dk_at dksX0_link_7 14 rfl rfl)
theorem dX0_link_183 : decode cX0_link 183 = .ok (.putfield 377, 3) := dk_181 1 121 (dk_at dksX0_link_7 15 rfl rfl)
theorem dX0_link_186 : decode cX0_link 186 = .ok (.iload 5, 2) := dk_21 5 (dk_at dksX0_link_7 18 rfl rfl)
theorem dX0_link_188 : decode cX0_link 188 = .ok (.ireturn, 1) := dk_172 (dk_at dksX0_link_7 20 rfl rfl)
abbrev cX0_set : ByteArray := prog_1_method_49_code
def yX0_set : MethodName := ⟨RX0, "set", "(III)Z"⟩
def dkwX0_set_5 : List UInt8 := [79, 42, 3, 181, 1, 121, 4, 172]
abbrev dktX0_set_5 : List UInt8 := dkwX0_set_5 ++ []
def dkwX0_set_4 : List UInt8 := [27, 5, 160, 0, 13, 42, 180, 0, 152, 180, 1, 152, 167, 0, 10, 42, 180, 0, 152, 180, 1, 154, 28, 29]
abbrev dktX0_set_4 : List UInt8 := dkwX0_set_4 ++ dktX0_set_5
def dkwX0_set_3 : List UInt8 := [180, 0, 152, 180, 1, 148, 167, 0, 40, 27, 4, 160, 0, 13, 42, 180, 0, 152, 180, 1, 150, 167, 0, 25]
abbrev dktX0_set_3 : List UInt8 := dkwX0_set_3 ++ dktX0_set_4
def dkwX0_set_2 : List UInt8 := [180, 0, 152, 180, 1, 159, 4, 28, 120, 2, 130, 126, 181, 1, 159, 167, 0, 57, 27, 154, 0, 13, 42]
abbrev dktX0_set_2 : List UInt8 := dkwX0_set_2 ++ dktX0_set_3
def dkwX0_set_1 : List UInt8 := [180, 0, 152, 29, 4, 160, 0, 17, 42, 180, 0, 152, 180, 1, 159, 4, 28, 120, 128, 167, 0, 16, 42]
abbrev dktX0_set_1 : List UInt8 := dkwX0_set_1 ++ dktX0_set_2
def dkwX0_set_0 : List UInt8 := [42, 28, 182, 1, 166, 153, 0, 11, 27, 29, 184, 1, 169, 154, 0, 5, 3, 172, 27, 7, 160, 0, 45, 42]
abbrev dktX0_set_0 : List UInt8 := dkwX0_set_0 ++ dktX0_set_1
theorem dksX0_set_0 : cX0_set.data.toList.drop 0 = dktX0_set_0 := by decide +kernel
theorem dksX0_set_1 : cX0_set.data.toList.drop 24 = dktX0_set_1 := dk_seg dksX0_set_0 24 rfl rfl
theorem dksX0_set_2 : cX0_set.data.toList.drop 47 = dktX0_set_2 := dk_seg dksX0_set_1 23 rfl rfl
theorem dksX0_set_3 : cX0_set.data.toList.drop 70 = dktX0_set_3 := dk_seg dksX0_set_2 23 rfl rfl
theorem dksX0_set_4 : cX0_set.data.toList.drop 94 = dktX0_set_4 := dk_seg dksX0_set_3 24 rfl rfl
theorem dksX0_set_5 : cX0_set.data.toList.drop 118 = dktX0_set_5 := dk_seg dksX0_set_4 24 rfl rfl
theorem dX0_set_0 : decode cX0_set 0 = .ok (.aload_n 0, 1) := dk_42 (dk_at dksX0_set_0 0 rfl rfl)
theorem dX0_set_1 : decode cX0_set 1 = .ok (.iload_n 2, 1) := dk_28 (dk_at dksX0_set_0 1 rfl rfl)
theorem dX0_set_2 : decode cX0_set 2 = .ok (.invokevirtual 422, 3) := dk_182 1 166 (dk_at dksX0_set_0 2 rfl rfl)
theorem dX0_set_5 : decode cX0_set 5 = .ok (.ifCond .eq 11, 3) := dk_153 0 11 (dk_at dksX0_set_0 5 rfl rfl)
theorem dX0_set_8 : decode cX0_set 8 = .ok (.iload_n 1, 1) := dk_27 (dk_at dksX0_set_0 8 rfl rfl)
theorem dX0_set_9 : decode cX0_set 9 = .ok (.iload_n 3, 1) := dk_29 (dk_at dksX0_set_0 9 rfl rfl)
theorem dX0_set_10 : decode cX0_set 10 = .ok (.invokestatic 425, 3) := dk_184 1 169 (dk_at dksX0_set_0 10 rfl rfl)
theorem dX0_set_13 : decode cX0_set 13 = .ok (.ifCond .ne 5, 3) := dk_154 0 5 (dk_at dksX0_set_0 13 rfl rfl)
theorem dX0_set_16 : decode cX0_set 16 = .ok (.iconst 0, 1) := dk_3 (dk_at dksX0_set_0 16 rfl rfl)
theorem dX0_set_17 : decode cX0_set 17 = .ok (.ireturn, 1) := dk_172 (dk_at dksX0_set_0 17 rfl rfl)
theorem dX0_set_18 : decode cX0_set 18 = .ok (.iload_n 1, 1) := dk_27 (dk_at dksX0_set_0 18 rfl rfl)
theorem dX0_set_19 : decode cX0_set 19 = .ok (.iconst 4, 1) := dk_7 (dk_at dksX0_set_0 19 rfl rfl)
theorem dX0_set_20 : decode cX0_set 20 = .ok (.if_icmp .ne 45, 3) := dk_160 0 45 (dk_at dksX0_set_0 20 rfl rfl)
theorem dX0_set_23 : decode cX0_set 23 = .ok (.aload_n 0, 1) := dk_42 (dk_at dksX0_set_0 23 rfl rfl)
theorem dX0_set_24 : decode cX0_set 24 = .ok (.getfield 152, 3) := dk_180 0 152 (dk_at dksX0_set_1 0 rfl rfl)
theorem dX0_set_27 : decode cX0_set 27 = .ok (.iload_n 3, 1) := dk_29 (dk_at dksX0_set_1 3 rfl rfl)
theorem dX0_set_28 : decode cX0_set 28 = .ok (.iconst 1, 1) := dk_4 (dk_at dksX0_set_1 4 rfl rfl)
theorem dX0_set_29 : decode cX0_set 29 = .ok (.if_icmp .ne 17, 3) := dk_160 0 17 (dk_at dksX0_set_1 5 rfl rfl)
theorem dX0_set_32 : decode cX0_set 32 = .ok (.aload_n 0, 1) := dk_42 (dk_at dksX0_set_1 8 rfl rfl)
theorem dX0_set_33 : decode cX0_set 33 = .ok (.getfield 152, 3) := dk_180 0 152 (dk_at dksX0_set_1 9 rfl rfl)
theorem dX0_set_36 : decode cX0_set 36 = .ok (.getfield 415, 3) := dk_180 1 159 (dk_at dksX0_set_1 12 rfl rfl)
theorem dX0_set_39 : decode cX0_set 39 = .ok (.iconst 1, 1) := dk_4 (dk_at dksX0_set_1 15 rfl rfl)
theorem dX0_set_40 : decode cX0_set 40 = .ok (.iload_n 2, 1) := dk_28 (dk_at dksX0_set_1 16 rfl rfl)
theorem dX0_set_41 : decode cX0_set 41 = .ok (.ishl, 1) := dk_120 (dk_at dksX0_set_1 17 rfl rfl)
theorem dX0_set_42 : decode cX0_set 42 = .ok (.ior, 1) := dk_128 (dk_at dksX0_set_1 18 rfl rfl)
theorem dX0_set_43 : decode cX0_set 43 = .ok (.goto 16, 3) := dk_167 0 16 (dk_at dksX0_set_1 19 rfl rfl)
theorem dX0_set_46 : decode cX0_set 46 = .ok (.aload_n 0, 1) := dk_42 (dk_at dksX0_set_1 22 rfl rfl)
theorem dX0_set_47 : decode cX0_set 47 = .ok (.getfield 152, 3) := dk_180 0 152 (dk_at dksX0_set_2 0 rfl rfl)
theorem dX0_set_50 : decode cX0_set 50 = .ok (.getfield 415, 3) := dk_180 1 159 (dk_at dksX0_set_2 3 rfl rfl)
theorem dX0_set_53 : decode cX0_set 53 = .ok (.iconst 1, 1) := dk_4 (dk_at dksX0_set_2 6 rfl rfl)
theorem dX0_set_54 : decode cX0_set 54 = .ok (.iload_n 2, 1) := dk_28 (dk_at dksX0_set_2 7 rfl rfl)
theorem dX0_set_55 : decode cX0_set 55 = .ok (.ishl, 1) := dk_120 (dk_at dksX0_set_2 8 rfl rfl)
theorem dX0_set_56 : decode cX0_set 56 = .ok (.iconst (-1), 1) := dk_2 (dk_at dksX0_set_2 9 rfl rfl)
theorem dX0_set_57 : decode cX0_set 57 = .ok (.ixor, 1) := dk_130 (dk_at dksX0_set_2 10 rfl rfl)
theorem dX0_set_58 : decode cX0_set 58 = .ok (.iand, 1) := dk_126 (dk_at dksX0_set_2 11 rfl rfl)
theorem dX0_set_59 : decode cX0_set 59 = .ok (.putfield 415, 3) := dk_181 1 159 (dk_at dksX0_set_2 12 rfl rfl)
theorem dX0_set_62 : decode cX0_set 62 = .ok (.goto 57, 3) := dk_167 0 57 (dk_at dksX0_set_2 15 rfl rfl)
theorem dX0_set_65 : decode cX0_set 65 = .ok (.iload_n 1, 1) := dk_27 (dk_at dksX0_set_2 18 rfl rfl)
theorem dX0_set_66 : decode cX0_set 66 = .ok (.ifCond .ne 13, 3) := dk_154 0 13 (dk_at dksX0_set_2 19 rfl rfl)
theorem dX0_set_69 : decode cX0_set 69 = .ok (.aload_n 0, 1) := dk_42 (dk_at dksX0_set_2 22 rfl rfl)
theorem dX0_set_70 : decode cX0_set 70 = .ok (.getfield 152, 3) := dk_180 0 152 (dk_at dksX0_set_3 0 rfl rfl)
theorem dX0_set_73 : decode cX0_set 73 = .ok (.getfield 404, 3) := dk_180 1 148 (dk_at dksX0_set_3 3 rfl rfl)
theorem dX0_set_76 : decode cX0_set 76 = .ok (.goto 40, 3) := dk_167 0 40 (dk_at dksX0_set_3 6 rfl rfl)
theorem dX0_set_79 : decode cX0_set 79 = .ok (.iload_n 1, 1) := dk_27 (dk_at dksX0_set_3 9 rfl rfl)
theorem dX0_set_80 : decode cX0_set 80 = .ok (.iconst 1, 1) := dk_4 (dk_at dksX0_set_3 10 rfl rfl)
theorem dX0_set_81 : decode cX0_set 81 = .ok (.if_icmp .ne 13, 3) := dk_160 0 13 (dk_at dksX0_set_3 11 rfl rfl)
theorem dX0_set_84 : decode cX0_set 84 = .ok (.aload_n 0, 1) := dk_42 (dk_at dksX0_set_3 14 rfl rfl)
theorem dX0_set_85 : decode cX0_set 85 = .ok (.getfield 152, 3) := dk_180 0 152 (dk_at dksX0_set_3 15 rfl rfl)
theorem dX0_set_88 : decode cX0_set 88 = .ok (.getfield 406, 3) := dk_180 1 150 (dk_at dksX0_set_3 18 rfl rfl)
theorem dX0_set_91 : decode cX0_set 91 = .ok (.goto 25, 3) := dk_167 0 25 (dk_at dksX0_set_3 21 rfl rfl)
theorem dX0_set_94 : decode cX0_set 94 = .ok (.iload_n 1, 1) := dk_27 (dk_at dksX0_set_4 0 rfl rfl)
theorem dX0_set_95 : decode cX0_set 95 = .ok (.iconst 2, 1) := dk_5 (dk_at dksX0_set_4 1 rfl rfl)
theorem dX0_set_96 : decode cX0_set 96 = .ok (.if_icmp .ne 13, 3) := dk_160 0 13 (dk_at dksX0_set_4 2 rfl rfl)
theorem dX0_set_99 : decode cX0_set 99 = .ok (.aload_n 0, 1) := dk_42 (dk_at dksX0_set_4 5 rfl rfl)
theorem dX0_set_100 : decode cX0_set 100 = .ok (.getfield 152, 3) := dk_180 0 152 (dk_at dksX0_set_4 6 rfl rfl)
theorem dX0_set_103 : decode cX0_set 103 = .ok (.getfield 408, 3) := dk_180 1 152 (dk_at dksX0_set_4 9 rfl rfl)
theorem dX0_set_106 : decode cX0_set 106 = .ok (.goto 10, 3) := dk_167 0 10 (dk_at dksX0_set_4 12 rfl rfl)
theorem dX0_set_109 : decode cX0_set 109 = .ok (.aload_n 0, 1) := dk_42 (dk_at dksX0_set_4 15 rfl rfl)
theorem dX0_set_110 : decode cX0_set 110 = .ok (.getfield 152, 3) := dk_180 0 152 (dk_at dksX0_set_4 16 rfl rfl)
theorem dX0_set_113 : decode cX0_set 113 = .ok (.getfield 410, 3) := dk_180 1 154 (dk_at dksX0_set_4 19 rfl rfl)
theorem dX0_set_116 : decode cX0_set 116 = .ok (.iload_n 2, 1) := dk_28 (dk_at dksX0_set_4 22 rfl rfl)
theorem dX0_set_117 : decode cX0_set 117 = .ok (.iload_n 3, 1) := dk_29 (dk_at dksX0_set_4 23 rfl rfl)
theorem dX0_set_118 : decode cX0_set 118 = .ok (.iastore, 1) := dk_79 (dk_at dksX0_set_5 0 rfl rfl)
theorem dX0_set_119 : decode cX0_set 119 = .ok (.aload_n 0, 1) := dk_42 (dk_at dksX0_set_5 1 rfl rfl)
theorem dX0_set_120 : decode cX0_set 120 = .ok (.iconst 0, 1) := dk_3 (dk_at dksX0_set_5 2 rfl rfl)
theorem dX0_set_121 : decode cX0_set 121 = .ok (.putfield 377, 3) := dk_181 1 121 (dk_at dksX0_set_5 3 rfl rfl)
theorem dX0_set_124 : decode cX0_set 124 = .ok (.iconst 1, 1) := dk_4 (dk_at dksX0_set_5 6 rfl rfl)
theorem dX0_set_125 : decode cX0_set 125 = .ok (.ireturn, 1) := dk_172 (dk_at dksX0_set_5 7 rfl rfl)
abbrev cX0_isLink : ByteArray := prog_1_method_45_code
def yX0_isLink : MethodName := ⟨RX0, "isLink", "(I)Z"⟩
def dkwX0_isLink_0 : List UInt8 := [27, 3, 42, 180, 1, 90, 4, 100, 184, 0, 188, 172]
abbrev dktX0_isLink_0 : List UInt8 := dkwX0_isLink_0 ++ []
theorem dksX0_isLink_0 : cX0_isLink.data.toList.drop 0 = dktX0_isLink_0 := by decide +kernel
theorem dX0_isLink_0 : decode cX0_isLink 0 = .ok (.iload_n 1, 1) := dk_27 (dk_at dksX0_isLink_0 0 rfl rfl)
theorem dX0_isLink_1 : decode cX0_isLink 1 = .ok (.iconst 0, 1) := dk_3 (dk_at dksX0_isLink_0 1 rfl rfl)
theorem dX0_isLink_2 : decode cX0_isLink 2 = .ok (.aload_n 0, 1) := dk_42 (dk_at dksX0_isLink_0 2 rfl rfl)
theorem dX0_isLink_3 : decode cX0_isLink 3 = .ok (.getfield 346, 3) := dk_180 1 90 (dk_at dksX0_isLink_0 3 rfl rfl)
theorem dX0_isLink_6 : decode cX0_isLink 6 = .ok (.iconst 1, 1) := dk_4 (dk_at dksX0_isLink_0 6 rfl rfl)
theorem dX0_isLink_7 : decode cX0_isLink 7 = .ok (.isub, 1) := dk_100 (dk_at dksX0_isLink_0 7 rfl rfl)
theorem dX0_isLink_8 : decode cX0_isLink 8 = .ok (.invokestatic 188, 3) := dk_184 0 188 (dk_at dksX0_isLink_0 8 rfl rfl)
theorem dX0_isLink_11 : decode cX0_isLink 11 = .ok (.ireturn, 1) := dk_172 (dk_at dksX0_isLink_0 11 rfl rfl)
abbrev cX0_isWithin : ByteArray := prog_1_method_48_code
def yX0_isWithin : MethodName := ⟨RX0, "isWithin", "(II)Z"⟩
def dkwX0_isWithin_4 : List UInt8 := [184, 0, 188, 153, 0, 7, 4, 167, 0, 4, 3, 172]
abbrev dktX0_isWithin_4 : List UInt8 := dkwX0_isWithin_4 ++ []
def dkwX0_isWithin_3 : List UInt8 := [17, 3, 231, 184, 0, 188, 172, 27, 3, 16, 9, 184, 0, 188, 172, 26, 7, 160, 0, 16, 27, 3, 4]
abbrev dktX0_isWithin_3 : List UInt8 := dkwX0_isWithin_3 ++ dktX0_isWithin_4
def dkwX0_isWithin_2 : List UInt8 := [27, 4, 17, 3, 231, 184, 0, 188, 172, 27, 17, 216, 241, 17, 39, 15, 184, 0, 188, 172, 27, 17, 252, 25]
abbrev dktX0_isWithin_2 : List UInt8 := dkwX0_isWithin_2 ++ dktX0_isWithin_3
def dkwX0_isWithin_1 : List UInt8 := [170, 0, 0, 0, 0, 0, 70, 0, 0, 0, 0, 0, 0, 0, 3, 0, 0, 0, 31, 0, 0, 0, 40, 0, 0, 0, 51, 0, 0, 0, 62]
abbrev dktX0_isWithin_1 : List UInt8 := dkwX0_isWithin_1 ++ dktX0_isWithin_2
def dkwX0_isWithin_0 : List UInt8 := [26]
abbrev dktX0_isWithin_0 : List UInt8 := dkwX0_isWithin_0 ++ dktX0_isWithin_1
theorem dksX0_isWithin_0 : cX0_isWithin.data.toList.drop 0 = dktX0_isWithin_0 := by decide +kernel
theorem dksX0_isWithin_1 : cX0_isWithin.data.toList.drop 1 = dktX0_isWithin_1 := dk_seg dksX0_isWithin_0 1 rfl rfl
theorem dksX0_isWithin_2 : cX0_isWithin.data.toList.drop 32 = dktX0_isWithin_2 := dk_seg dksX0_isWithin_1 31 rfl rfl
theorem dksX0_isWithin_3 : cX0_isWithin.data.toList.drop 56 = dktX0_isWithin_3 := dk_seg dksX0_isWithin_2 24 rfl rfl
theorem dksX0_isWithin_4 : cX0_isWithin.data.toList.drop 79 = dktX0_isWithin_4 := dk_seg dksX0_isWithin_3 23 rfl rfl
theorem dX0_isWithin_0 : decode cX0_isWithin 0 = .ok (.iload_n 0, 1) := dk_26 (dk_at dksX0_isWithin_0 0 rfl rfl)
theorem dX0_isWithin_1 : decode cX0_isWithin 1 = .ok (.tableswitch 70 0 3 #[31, 40, 51, 62], 31) := by decide +kernel
theorem dX0_isWithin_32 : decode cX0_isWithin 32 = .ok (.iload_n 1, 1) := dk_27 (dk_at dksX0_isWithin_2 0 rfl rfl)
theorem dX0_isWithin_33 : decode cX0_isWithin 33 = .ok (.iconst 1, 1) := dk_4 (dk_at dksX0_isWithin_2 1 rfl rfl)
theorem dX0_isWithin_34 : decode cX0_isWithin 34 = .ok (.sipush 999, 3) := dk_17 3 231 (dk_at dksX0_isWithin_2 2 rfl rfl)
theorem dX0_isWithin_37 : decode cX0_isWithin 37 = .ok (.invokestatic 188, 3) := dk_184 0 188 (dk_at dksX0_isWithin_2 5 rfl rfl)
theorem dX0_isWithin_40 : decode cX0_isWithin 40 = .ok (.ireturn, 1) := dk_172 (dk_at dksX0_isWithin_2 8 rfl rfl)
theorem dX0_isWithin_41 : decode cX0_isWithin 41 = .ok (.iload_n 1, 1) := dk_27 (dk_at dksX0_isWithin_2 9 rfl rfl)
theorem dX0_isWithin_42 : decode cX0_isWithin 42 = .ok (.sipush (-9999), 3) := dk_17 216 241 (dk_at dksX0_isWithin_2 10 rfl rfl)
theorem dX0_isWithin_45 : decode cX0_isWithin 45 = .ok (.sipush 9999, 3) := dk_17 39 15 (dk_at dksX0_isWithin_2 13 rfl rfl)
theorem dX0_isWithin_48 : decode cX0_isWithin 48 = .ok (.invokestatic 188, 3) := dk_184 0 188 (dk_at dksX0_isWithin_2 16 rfl rfl)
theorem dX0_isWithin_51 : decode cX0_isWithin 51 = .ok (.ireturn, 1) := dk_172 (dk_at dksX0_isWithin_2 19 rfl rfl)
theorem dX0_isWithin_52 : decode cX0_isWithin 52 = .ok (.iload_n 1, 1) := dk_27 (dk_at dksX0_isWithin_2 20 rfl rfl)
theorem dX0_isWithin_53 : decode cX0_isWithin 53 = .ok (.sipush (-999), 3) := dk_17 252 25 (dk_at dksX0_isWithin_2 21 rfl rfl)
theorem dX0_isWithin_56 : decode cX0_isWithin 56 = .ok (.sipush 999, 3) := dk_17 3 231 (dk_at dksX0_isWithin_3 0 rfl rfl)
theorem dX0_isWithin_59 : decode cX0_isWithin 59 = .ok (.invokestatic 188, 3) := dk_184 0 188 (dk_at dksX0_isWithin_3 3 rfl rfl)
theorem dX0_isWithin_62 : decode cX0_isWithin 62 = .ok (.ireturn, 1) := dk_172 (dk_at dksX0_isWithin_3 6 rfl rfl)
theorem dX0_isWithin_63 : decode cX0_isWithin 63 = .ok (.iload_n 1, 1) := dk_27 (dk_at dksX0_isWithin_3 7 rfl rfl)
theorem dX0_isWithin_64 : decode cX0_isWithin 64 = .ok (.iconst 0, 1) := dk_3 (dk_at dksX0_isWithin_3 8 rfl rfl)
theorem dX0_isWithin_65 : decode cX0_isWithin 65 = .ok (.bipush 9, 2) := dk_16 9 (dk_at dksX0_isWithin_3 9 rfl rfl)
theorem dX0_isWithin_67 : decode cX0_isWithin 67 = .ok (.invokestatic 188, 3) := dk_184 0 188 (dk_at dksX0_isWithin_3 11 rfl rfl)
theorem dX0_isWithin_70 : decode cX0_isWithin 70 = .ok (.ireturn, 1) := dk_172 (dk_at dksX0_isWithin_3 14 rfl rfl)
theorem dX0_isWithin_71 : decode cX0_isWithin 71 = .ok (.iload_n 0, 1) := dk_26 (dk_at dksX0_isWithin_3 15 rfl rfl)
theorem dX0_isWithin_72 : decode cX0_isWithin 72 = .ok (.iconst 4, 1) := dk_7 (dk_at dksX0_isWithin_3 16 rfl rfl)
theorem dX0_isWithin_73 : decode cX0_isWithin 73 = .ok (.if_icmp .ne 16, 3) := dk_160 0 16 (dk_at dksX0_isWithin_3 17 rfl rfl)
theorem dX0_isWithin_76 : decode cX0_isWithin 76 = .ok (.iload_n 1, 1) := dk_27 (dk_at dksX0_isWithin_3 20 rfl rfl)
theorem dX0_isWithin_77 : decode cX0_isWithin 77 = .ok (.iconst 0, 1) := dk_3 (dk_at dksX0_isWithin_3 21 rfl rfl)
theorem dX0_isWithin_78 : decode cX0_isWithin 78 = .ok (.iconst 1, 1) := dk_4 (dk_at dksX0_isWithin_3 22 rfl rfl)
theorem dX0_isWithin_79 : decode cX0_isWithin 79 = .ok (.invokestatic 188, 3) := dk_184 0 188 (dk_at dksX0_isWithin_4 0 rfl rfl)
theorem dX0_isWithin_82 : decode cX0_isWithin 82 = .ok (.ifCond .eq 7, 3) := dk_153 0 7 (dk_at dksX0_isWithin_4 3 rfl rfl)
theorem dX0_isWithin_85 : decode cX0_isWithin 85 = .ok (.iconst 1, 1) := dk_4 (dk_at dksX0_isWithin_4 6 rfl rfl)
theorem dX0_isWithin_86 : decode cX0_isWithin 86 = .ok (.goto 4, 3) := dk_167 0 4 (dk_at dksX0_isWithin_4 7 rfl rfl)
theorem dX0_isWithin_89 : decode cX0_isWithin 89 = .ok (.iconst 0, 1) := dk_3 (dk_at dksX0_isWithin_4 10 rfl rfl)
theorem dX0_isWithin_90 : decode cX0_isWithin 90 = .ok (.ireturn, 1) := dk_172 (dk_at dksX0_isWithin_4 11 rfl rfl)
abbrev cX0_ask : ByteArray := prog_1_method_50_code
def yX0_ask : MethodName := ⟨RX0, "ask", "(II)I"⟩
def dkwX0_ask_1 : List UInt8 := [182, 1, 173, 154, 0, 5, 2, 172, 42, 182, 1, 176, 42, 180, 0, 152, 27, 4, 96, 28, 182, 1, 179, 172]
abbrev dktX0_ask_1 : List UInt8 := dkwX0_ask_1 ++ []
def dkwX0_ask_0 : List UInt8 := [42, 27, 182, 1, 166, 153, 0, 24, 28, 4, 16, 99, 184, 0, 188, 153, 0, 14, 42, 180, 0, 152, 27]
abbrev dktX0_ask_0 : List UInt8 := dkwX0_ask_0 ++ dktX0_ask_1
theorem dksX0_ask_0 : cX0_ask.data.toList.drop 0 = dktX0_ask_0 := by decide +kernel
theorem dksX0_ask_1 : cX0_ask.data.toList.drop 23 = dktX0_ask_1 := dk_seg dksX0_ask_0 23 rfl rfl
theorem dX0_ask_0 : decode cX0_ask 0 = .ok (.aload_n 0, 1) := dk_42 (dk_at dksX0_ask_0 0 rfl rfl)
theorem dX0_ask_1 : decode cX0_ask 1 = .ok (.iload_n 1, 1) := dk_27 (dk_at dksX0_ask_0 1 rfl rfl)
theorem dX0_ask_2 : decode cX0_ask 2 = .ok (.invokevirtual 422, 3) := dk_182 1 166 (dk_at dksX0_ask_0 2 rfl rfl)
theorem dX0_ask_5 : decode cX0_ask 5 = .ok (.ifCond .eq 24, 3) := dk_153 0 24 (dk_at dksX0_ask_0 5 rfl rfl)
theorem dX0_ask_8 : decode cX0_ask 8 = .ok (.iload_n 2, 1) := dk_28 (dk_at dksX0_ask_0 8 rfl rfl)
theorem dX0_ask_9 : decode cX0_ask 9 = .ok (.iconst 1, 1) := dk_4 (dk_at dksX0_ask_0 9 rfl rfl)
theorem dX0_ask_10 : decode cX0_ask 10 = .ok (.bipush 99, 2) := dk_16 99 (dk_at dksX0_ask_0 10 rfl rfl)
theorem dX0_ask_12 : decode cX0_ask 12 = .ok (.invokestatic 188, 3) := dk_184 0 188 (dk_at dksX0_ask_0 12 rfl rfl)
theorem dX0_ask_15 : decode cX0_ask 15 = .ok (.ifCond .eq 14, 3) := dk_153 0 14 (dk_at dksX0_ask_0 15 rfl rfl)
theorem dX0_ask_18 : decode cX0_ask 18 = .ok (.aload_n 0, 1) := dk_42 (dk_at dksX0_ask_0 18 rfl rfl)
theorem dX0_ask_19 : decode cX0_ask 19 = .ok (.getfield 152, 3) := dk_180 0 152 (dk_at dksX0_ask_0 19 rfl rfl)
theorem dX0_ask_22 : decode cX0_ask 22 = .ok (.iload_n 1, 1) := dk_27 (dk_at dksX0_ask_0 22 rfl rfl)
theorem dX0_ask_23 : decode cX0_ask 23 = .ok (.invokevirtual 429, 3) := dk_182 1 173 (dk_at dksX0_ask_1 0 rfl rfl)
theorem dX0_ask_26 : decode cX0_ask 26 = .ok (.ifCond .ne 5, 3) := dk_154 0 5 (dk_at dksX0_ask_1 3 rfl rfl)
theorem dX0_ask_29 : decode cX0_ask 29 = .ok (.iconst (-1), 1) := dk_2 (dk_at dksX0_ask_1 6 rfl rfl)
theorem dX0_ask_30 : decode cX0_ask 30 = .ok (.ireturn, 1) := dk_172 (dk_at dksX0_ask_1 7 rfl rfl)
theorem dX0_ask_31 : decode cX0_ask 31 = .ok (.aload_n 0, 1) := dk_42 (dk_at dksX0_ask_1 8 rfl rfl)
theorem dX0_ask_32 : decode cX0_ask 32 = .ok (.invokevirtual 432, 3) := dk_182 1 176 (dk_at dksX0_ask_1 9 rfl rfl)
theorem dX0_ask_35 : decode cX0_ask 35 = .ok (.aload_n 0, 1) := dk_42 (dk_at dksX0_ask_1 12 rfl rfl)
theorem dX0_ask_36 : decode cX0_ask 36 = .ok (.getfield 152, 3) := dk_180 0 152 (dk_at dksX0_ask_1 13 rfl rfl)
theorem dX0_ask_39 : decode cX0_ask 39 = .ok (.iload_n 1, 1) := dk_27 (dk_at dksX0_ask_1 16 rfl rfl)
theorem dX0_ask_40 : decode cX0_ask 40 = .ok (.iconst 1, 1) := dk_4 (dk_at dksX0_ask_1 17 rfl rfl)
theorem dX0_ask_41 : decode cX0_ask 41 = .ok (.iadd, 1) := dk_96 (dk_at dksX0_ask_1 18 rfl rfl)
theorem dX0_ask_42 : decode cX0_ask 42 = .ok (.iload_n 2, 1) := dk_28 (dk_at dksX0_ask_1 19 rfl rfl)
theorem dX0_ask_43 : decode cX0_ask 43 = .ok (.invokevirtual 435, 3) := dk_182 1 179 (dk_at dksX0_ask_1 20 rfl rfl)
theorem dX0_ask_46 : decode cX0_ask 46 = .ok (.ireturn, 1) := dk_172 (dk_at dksX0_ask_1 23 rfl rfl)
abbrev cX0_has : ByteArray := prog_1_method_3_code
def yX0_has : MethodName := ⟨RX0, "has", "(II)Z"⟩
def dkwX0_has_0 : List UInt8 := [26, 27, 122, 4, 126, 4, 160, 0, 7, 4, 167, 0, 4, 3, 172]
abbrev dktX0_has_0 : List UInt8 := dkwX0_has_0 ++ []
theorem dksX0_has_0 : cX0_has.data.toList.drop 0 = dktX0_has_0 := by decide +kernel
theorem dX0_has_0 : decode cX0_has 0 = .ok (.iload_n 0, 1) := dk_26 (dk_at dksX0_has_0 0 rfl rfl)
theorem dX0_has_1 : decode cX0_has 1 = .ok (.iload_n 1, 1) := dk_27 (dk_at dksX0_has_0 1 rfl rfl)
theorem dX0_has_2 : decode cX0_has 2 = .ok (.ishr, 1) := dk_122 (dk_at dksX0_has_0 2 rfl rfl)
theorem dX0_has_3 : decode cX0_has 3 = .ok (.iconst 1, 1) := dk_4 (dk_at dksX0_has_0 3 rfl rfl)
theorem dX0_has_4 : decode cX0_has 4 = .ok (.iand, 1) := dk_126 (dk_at dksX0_has_0 4 rfl rfl)
theorem dX0_has_5 : decode cX0_has 5 = .ok (.iconst 1, 1) := dk_4 (dk_at dksX0_has_0 5 rfl rfl)
theorem dX0_has_6 : decode cX0_has 6 = .ok (.if_icmp .ne 7, 3) := dk_160 0 7 (dk_at dksX0_has_0 6 rfl rfl)
theorem dX0_has_9 : decode cX0_has 9 = .ok (.iconst 1, 1) := dk_4 (dk_at dksX0_has_0 9 rfl rfl)
theorem dX0_has_10 : decode cX0_has 10 = .ok (.goto 4, 3) := dk_167 0 4 (dk_at dksX0_has_0 10 rfl rfl)
theorem dX0_has_13 : decode cX0_has 13 = .ok (.iconst 0, 1) := dk_3 (dk_at dksX0_has_0 13 rfl rfl)
theorem dX0_has_14 : decode cX0_has 14 = .ok (.ireturn, 1) := dk_172 (dk_at dksX0_has_0 14 rfl rfl)
abbrev cX0_keepsAhead : ByteArray := prog_1_method_43_code
def yX0_keepsAhead : MethodName := ⟨RX0, "keepsAhead", "()V"⟩
def dkwX0_keepsAhead_4 : List UInt8 := [180, 0, 152, 182, 1, 141, 42, 89, 180, 1, 121, 4, 96, 181, 1, 121, 177]
abbrev dktX0_keepsAhead_4 : List UInt8 := dkwX0_keepsAhead_4 ++ []
def dkwX0_keepsAhead_3 : List UInt8 := [180, 1, 121, 187, 0, 147, 89, 42, 183, 0, 149, 83, 42, 180, 0, 165, 42, 180, 1, 121, 50, 42]
abbrev dktX0_keepsAhead_3 : List UInt8 := dkwX0_keepsAhead_3 ++ dktX0_keepsAhead_4
def dkwX0_keepsAhead_2 : List UInt8 := [180, 1, 121, 43, 83, 42, 180, 0, 165, 42, 180, 1, 121, 50, 199, 0, 20, 42, 180, 0, 165, 42]
abbrev dktX0_keepsAhead_2 : List UInt8 := dkwX0_keepsAhead_2 ++ dktX0_keepsAhead_3
def dkwX0_keepsAhead_1 : List UInt8 := [180, 0, 165, 3, 8, 184, 0, 10, 42, 89, 180, 1, 121, 4, 100, 181, 1, 121, 42, 180, 0, 165, 42]
abbrev dktX0_keepsAhead_1 : List UInt8 := dkwX0_keepsAhead_1 ++ dktX0_keepsAhead_2
def dkwX0_keepsAhead_0 : List UInt8 := [42, 180, 1, 121, 16, 6, 160, 0, 44, 42, 180, 0, 165, 3, 50, 76, 42, 180, 0, 165, 4, 42]
abbrev dktX0_keepsAhead_0 : List UInt8 := dkwX0_keepsAhead_0 ++ dktX0_keepsAhead_1
theorem dksX0_keepsAhead_0 : cX0_keepsAhead.data.toList.drop 0 = dktX0_keepsAhead_0 := by decide +kernel
theorem dksX0_keepsAhead_1 : cX0_keepsAhead.data.toList.drop 22 = dktX0_keepsAhead_1 := dk_seg dksX0_keepsAhead_0 22 rfl rfl
theorem dksX0_keepsAhead_2 : cX0_keepsAhead.data.toList.drop 45 = dktX0_keepsAhead_2 := dk_seg dksX0_keepsAhead_1 23 rfl rfl
theorem dksX0_keepsAhead_3 : cX0_keepsAhead.data.toList.drop 67 = dktX0_keepsAhead_3 := dk_seg dksX0_keepsAhead_2 22 rfl rfl
theorem dksX0_keepsAhead_4 : cX0_keepsAhead.data.toList.drop 89 = dktX0_keepsAhead_4 := dk_seg dksX0_keepsAhead_3 22 rfl rfl
theorem dX0_keepsAhead_0 : decode cX0_keepsAhead 0 = .ok (.aload_n 0, 1) := dk_42 (dk_at dksX0_keepsAhead_0 0 rfl rfl)
theorem dX0_keepsAhead_1 : decode cX0_keepsAhead 1 = .ok (.getfield 377, 3) := dk_180 1 121 (dk_at dksX0_keepsAhead_0 1 rfl rfl)
theorem dX0_keepsAhead_4 : decode cX0_keepsAhead 4 = .ok (.bipush 6, 2) := dk_16 6 (dk_at dksX0_keepsAhead_0 4 rfl rfl)
theorem dX0_keepsAhead_6 : decode cX0_keepsAhead 6 = .ok (.if_icmp .ne 44, 3) := dk_160 0 44 (dk_at dksX0_keepsAhead_0 6 rfl rfl)
theorem dX0_keepsAhead_9 : decode cX0_keepsAhead 9 = .ok (.aload_n 0, 1) := dk_42 (dk_at dksX0_keepsAhead_0 9 rfl rfl)
theorem dX0_keepsAhead_10 : decode cX0_keepsAhead 10 = .ok (.getfield 165, 3) := dk_180 0 165 (dk_at dksX0_keepsAhead_0 10 rfl rfl)
theorem dX0_keepsAhead_13 : decode cX0_keepsAhead 13 = .ok (.iconst 0, 1) := dk_3 (dk_at dksX0_keepsAhead_0 13 rfl rfl)
theorem dX0_keepsAhead_14 : decode cX0_keepsAhead 14 = .ok (.aaload, 1) := dk_50 (dk_at dksX0_keepsAhead_0 14 rfl rfl)
theorem dX0_keepsAhead_15 : decode cX0_keepsAhead 15 = .ok (.astore_n 1, 1) := dk_76 (dk_at dksX0_keepsAhead_0 15 rfl rfl)
theorem dX0_keepsAhead_16 : decode cX0_keepsAhead 16 = .ok (.aload_n 0, 1) := dk_42 (dk_at dksX0_keepsAhead_0 16 rfl rfl)
theorem dX0_keepsAhead_17 : decode cX0_keepsAhead 17 = .ok (.getfield 165, 3) := dk_180 0 165 (dk_at dksX0_keepsAhead_0 17 rfl rfl)
theorem dX0_keepsAhead_20 : decode cX0_keepsAhead 20 = .ok (.iconst 1, 1) := dk_4 (dk_at dksX0_keepsAhead_0 20 rfl rfl)
theorem dX0_keepsAhead_21 : decode cX0_keepsAhead 21 = .ok (.aload_n 0, 1) := dk_42 (dk_at dksX0_keepsAhead_0 21 rfl rfl)
theorem dX0_keepsAhead_22 : decode cX0_keepsAhead 22 = .ok (.getfield 165, 3) := dk_180 0 165 (dk_at dksX0_keepsAhead_1 0 rfl rfl)
theorem dX0_keepsAhead_25 : decode cX0_keepsAhead 25 = .ok (.iconst 0, 1) := dk_3 (dk_at dksX0_keepsAhead_1 3 rfl rfl)
theorem dX0_keepsAhead_26 : decode cX0_keepsAhead 26 = .ok (.iconst 5, 1) := dk_8 (dk_at dksX0_keepsAhead_1 4 rfl rfl)
theorem dX0_keepsAhead_27 : decode cX0_keepsAhead 27 = .ok (.invokestatic 10, 3) := dk_184 0 10 (dk_at dksX0_keepsAhead_1 5 rfl rfl)
theorem dX0_keepsAhead_30 : decode cX0_keepsAhead 30 = .ok (.aload_n 0, 1) := dk_42 (dk_at dksX0_keepsAhead_1 8 rfl rfl)
theorem dX0_keepsAhead_31 : decode cX0_keepsAhead 31 = .ok (.dup, 1) := dk_89 (dk_at dksX0_keepsAhead_1 9 rfl rfl)
theorem dX0_keepsAhead_32 : decode cX0_keepsAhead 32 = .ok (.getfield 377, 3) := dk_180 1 121 (dk_at dksX0_keepsAhead_1 10 rfl rfl)
theorem dX0_keepsAhead_35 : decode cX0_keepsAhead 35 = .ok (.iconst 1, 1) := dk_4 (dk_at dksX0_keepsAhead_1 13 rfl rfl)
theorem dX0_keepsAhead_36 : decode cX0_keepsAhead 36 = .ok (.isub, 1) := dk_100 (dk_at dksX0_keepsAhead_1 14 rfl rfl)
theorem dX0_keepsAhead_37 : decode cX0_keepsAhead 37 = .ok (.putfield 377, 3) := dk_181 1 121 (dk_at dksX0_keepsAhead_1 15 rfl rfl)
theorem dX0_keepsAhead_40 : decode cX0_keepsAhead 40 = .ok (.aload_n 0, 1) := dk_42 (dk_at dksX0_keepsAhead_1 18 rfl rfl)
theorem dX0_keepsAhead_41 : decode cX0_keepsAhead 41 = .ok (.getfield 165, 3) := dk_180 0 165 (dk_at dksX0_keepsAhead_1 19 rfl rfl)
theorem dX0_keepsAhead_44 : decode cX0_keepsAhead 44 = .ok (.aload_n 0, 1) := dk_42 (dk_at dksX0_keepsAhead_1 22 rfl rfl)
theorem dX0_keepsAhead_45 : decode cX0_keepsAhead 45 = .ok (.getfield 377, 3) := dk_180 1 121 (dk_at dksX0_keepsAhead_2 0 rfl rfl)
theorem dX0_keepsAhead_48 : decode cX0_keepsAhead 48 = .ok (.aload_n 1, 1) := dk_43 (dk_at dksX0_keepsAhead_2 3 rfl rfl)
theorem dX0_keepsAhead_49 : decode cX0_keepsAhead 49 = .ok (.aastore, 1) := dk_83 (dk_at dksX0_keepsAhead_2 4 rfl rfl)
theorem dX0_keepsAhead_50 : decode cX0_keepsAhead 50 = .ok (.aload_n 0, 1) := dk_42 (dk_at dksX0_keepsAhead_2 5 rfl rfl)
theorem dX0_keepsAhead_51 : decode cX0_keepsAhead 51 = .ok (.getfield 165, 3) := dk_180 0 165 (dk_at dksX0_keepsAhead_2 6 rfl rfl)
theorem dX0_keepsAhead_54 : decode cX0_keepsAhead 54 = .ok (.aload_n 0, 1) := dk_42 (dk_at dksX0_keepsAhead_2 9 rfl rfl)
theorem dX0_keepsAhead_55 : decode cX0_keepsAhead 55 = .ok (.getfield 377, 3) := dk_180 1 121 (dk_at dksX0_keepsAhead_2 10 rfl rfl)
theorem dX0_keepsAhead_58 : decode cX0_keepsAhead 58 = .ok (.aaload, 1) := dk_50 (dk_at dksX0_keepsAhead_2 13 rfl rfl)
theorem dX0_keepsAhead_59 : decode cX0_keepsAhead 59 = .ok (.ifnonnull 20, 3) := dk_199 0 20 (dk_at dksX0_keepsAhead_2 14 rfl rfl)
theorem dX0_keepsAhead_62 : decode cX0_keepsAhead 62 = .ok (.aload_n 0, 1) := dk_42 (dk_at dksX0_keepsAhead_2 17 rfl rfl)
theorem dX0_keepsAhead_63 : decode cX0_keepsAhead 63 = .ok (.getfield 165, 3) := dk_180 0 165 (dk_at dksX0_keepsAhead_2 18 rfl rfl)
theorem dX0_keepsAhead_66 : decode cX0_keepsAhead 66 = .ok (.aload_n 0, 1) := dk_42 (dk_at dksX0_keepsAhead_2 21 rfl rfl)
theorem dX0_keepsAhead_67 : decode cX0_keepsAhead 67 = .ok (.getfield 377, 3) := dk_180 1 121 (dk_at dksX0_keepsAhead_3 0 rfl rfl)
theorem dX0_keepsAhead_70 : decode cX0_keepsAhead 70 = .ok (.new 147, 3) := dk_187 0 147 (dk_at dksX0_keepsAhead_3 3 rfl rfl)
theorem dX0_keepsAhead_73 : decode cX0_keepsAhead 73 = .ok (.dup, 1) := dk_89 (dk_at dksX0_keepsAhead_3 6 rfl rfl)
theorem dX0_keepsAhead_74 : decode cX0_keepsAhead 74 = .ok (.aload_n 0, 1) := dk_42 (dk_at dksX0_keepsAhead_3 7 rfl rfl)
theorem dX0_keepsAhead_75 : decode cX0_keepsAhead 75 = .ok (.invokespecial 149, 3) := dk_183 0 149 (dk_at dksX0_keepsAhead_3 8 rfl rfl)
theorem dX0_keepsAhead_78 : decode cX0_keepsAhead 78 = .ok (.aastore, 1) := dk_83 (dk_at dksX0_keepsAhead_3 11 rfl rfl)
theorem dX0_keepsAhead_79 : decode cX0_keepsAhead 79 = .ok (.aload_n 0, 1) := dk_42 (dk_at dksX0_keepsAhead_3 12 rfl rfl)
theorem dX0_keepsAhead_80 : decode cX0_keepsAhead 80 = .ok (.getfield 165, 3) := dk_180 0 165 (dk_at dksX0_keepsAhead_3 13 rfl rfl)
theorem dX0_keepsAhead_83 : decode cX0_keepsAhead 83 = .ok (.aload_n 0, 1) := dk_42 (dk_at dksX0_keepsAhead_3 16 rfl rfl)
theorem dX0_keepsAhead_84 : decode cX0_keepsAhead 84 = .ok (.getfield 377, 3) := dk_180 1 121 (dk_at dksX0_keepsAhead_3 17 rfl rfl)
theorem dX0_keepsAhead_87 : decode cX0_keepsAhead 87 = .ok (.aaload, 1) := dk_50 (dk_at dksX0_keepsAhead_3 20 rfl rfl)
theorem dX0_keepsAhead_88 : decode cX0_keepsAhead 88 = .ok (.aload_n 0, 1) := dk_42 (dk_at dksX0_keepsAhead_3 21 rfl rfl)
theorem dX0_keepsAhead_89 : decode cX0_keepsAhead 89 = .ok (.getfield 152, 3) := dk_180 0 152 (dk_at dksX0_keepsAhead_4 0 rfl rfl)
theorem dX0_keepsAhead_92 : decode cX0_keepsAhead 92 = .ok (.invokevirtual 397, 3) := dk_182 1 141 (dk_at dksX0_keepsAhead_4 3 rfl rfl)
theorem dX0_keepsAhead_95 : decode cX0_keepsAhead 95 = .ok (.aload_n 0, 1) := dk_42 (dk_at dksX0_keepsAhead_4 6 rfl rfl)
theorem dX0_keepsAhead_96 : decode cX0_keepsAhead 96 = .ok (.dup, 1) := dk_89 (dk_at dksX0_keepsAhead_4 7 rfl rfl)
theorem dX0_keepsAhead_97 : decode cX0_keepsAhead 97 = .ok (.getfield 377, 3) := dk_180 1 121 (dk_at dksX0_keepsAhead_4 8 rfl rfl)
theorem dX0_keepsAhead_100 : decode cX0_keepsAhead 100 = .ok (.iconst 1, 1) := dk_4 (dk_at dksX0_keepsAhead_4 11 rfl rfl)
theorem dX0_keepsAhead_101 : decode cX0_keepsAhead 101 = .ok (.iadd, 1) := dk_96 (dk_at dksX0_keepsAhead_4 12 rfl rfl)
theorem dX0_keepsAhead_102 : decode cX0_keepsAhead 102 = .ok (.putfield 377, 3) := dk_181 1 121 (dk_at dksX0_keepsAhead_4 13 rfl rfl)
theorem dX0_keepsAhead_105 : decode cX0_keepsAhead 105 = .ok (.return_, 1) := dk_177 (dk_at dksX0_keepsAhead_4 16 rfl rfl)
abbrev cX0_tells : ByteArray := prog_1_method_30_code
def yX0_tells : MethodName := ⟨RX0, "tells", "(III)I"⟩
def dkwX0_tells_4 : List UInt8 := [42, 180, 0, 125, 182, 1, 74, 3, 29, 184, 1, 79, 172]
abbrev dktX0_tells_4 : List UInt8 := dkwX0_tells_4 ++ []
def dkwX0_tells_3 : List UInt8 := [42, 180, 0, 121, 180, 1, 60, 160, 0, 7, 28, 167, 0, 20, 42, 180, 0, 121, 180, 1, 69, 21, 4, 50]
abbrev dktX0_tells_3 : List UInt8 := dkwX0_tells_3 ++ dktX0_tells_4
def dkwX0_tells_2 : List UInt8 := [180, 1, 72, 21, 4, 50, 42, 180, 0, 125, 182, 1, 74, 154, 0, 9, 132, 4, 1, 167, 255, 194, 21, 4]
abbrev dktX0_tells_2 : List UInt8 := dkwX0_tells_2 ++ dktX0_tells_3
def dkwX0_tells_1 : List UInt8 := [46, 27, 160, 0, 36, 42, 180, 0, 121, 180, 1, 72, 21, 4, 50, 198, 0, 29, 42, 180, 0, 121]
abbrev dktX0_tells_1 : List UInt8 := dkwX0_tells_1 ++ dktX0_tells_2
def dkwX0_tells_0 : List UInt8 := [3, 54, 4, 21, 4, 42, 180, 0, 121, 180, 1, 60, 162, 0, 56, 42, 180, 0, 121, 180, 1, 66, 21, 4]
abbrev dktX0_tells_0 : List UInt8 := dkwX0_tells_0 ++ dktX0_tells_1
theorem dksX0_tells_0 : cX0_tells.data.toList.drop 0 = dktX0_tells_0 := by decide +kernel
theorem dksX0_tells_1 : cX0_tells.data.toList.drop 24 = dktX0_tells_1 := dk_seg dksX0_tells_0 24 rfl rfl
theorem dksX0_tells_2 : cX0_tells.data.toList.drop 46 = dktX0_tells_2 := dk_seg dksX0_tells_1 22 rfl rfl
theorem dksX0_tells_3 : cX0_tells.data.toList.drop 70 = dktX0_tells_3 := dk_seg dksX0_tells_2 24 rfl rfl
theorem dksX0_tells_4 : cX0_tells.data.toList.drop 94 = dktX0_tells_4 := dk_seg dksX0_tells_3 24 rfl rfl
theorem dX0_tells_0 : decode cX0_tells 0 = .ok (.iconst 0, 1) := dk_3 (dk_at dksX0_tells_0 0 rfl rfl)
theorem dX0_tells_1 : decode cX0_tells 1 = .ok (.istore 4, 2) := dk_54 4 (dk_at dksX0_tells_0 1 rfl rfl)
theorem dX0_tells_3 : decode cX0_tells 3 = .ok (.iload 4, 2) := dk_21 4 (dk_at dksX0_tells_0 3 rfl rfl)
theorem dX0_tells_5 : decode cX0_tells 5 = .ok (.aload_n 0, 1) := dk_42 (dk_at dksX0_tells_0 5 rfl rfl)
theorem dX0_tells_6 : decode cX0_tells 6 = .ok (.getfield 121, 3) := dk_180 0 121 (dk_at dksX0_tells_0 6 rfl rfl)
theorem dX0_tells_9 : decode cX0_tells 9 = .ok (.getfield 316, 3) := dk_180 1 60 (dk_at dksX0_tells_0 9 rfl rfl)
theorem dX0_tells_12 : decode cX0_tells 12 = .ok (.if_icmp .ge 56, 3) := dk_162 0 56 (dk_at dksX0_tells_0 12 rfl rfl)
theorem dX0_tells_15 : decode cX0_tells 15 = .ok (.aload_n 0, 1) := dk_42 (dk_at dksX0_tells_0 15 rfl rfl)
theorem dX0_tells_16 : decode cX0_tells 16 = .ok (.getfield 121, 3) := dk_180 0 121 (dk_at dksX0_tells_0 16 rfl rfl)
theorem dX0_tells_19 : decode cX0_tells 19 = .ok (.getfield 322, 3) := dk_180 1 66 (dk_at dksX0_tells_0 19 rfl rfl)
theorem dX0_tells_22 : decode cX0_tells 22 = .ok (.iload 4, 2) := dk_21 4 (dk_at dksX0_tells_0 22 rfl rfl)
theorem dX0_tells_24 : decode cX0_tells 24 = .ok (.iaload, 1) := dk_46 (dk_at dksX0_tells_1 0 rfl rfl)
theorem dX0_tells_25 : decode cX0_tells 25 = .ok (.iload_n 1, 1) := dk_27 (dk_at dksX0_tells_1 1 rfl rfl)
theorem dX0_tells_26 : decode cX0_tells 26 = .ok (.if_icmp .ne 36, 3) := dk_160 0 36 (dk_at dksX0_tells_1 2 rfl rfl)
theorem dX0_tells_29 : decode cX0_tells 29 = .ok (.aload_n 0, 1) := dk_42 (dk_at dksX0_tells_1 5 rfl rfl)
theorem dX0_tells_30 : decode cX0_tells 30 = .ok (.getfield 121, 3) := dk_180 0 121 (dk_at dksX0_tells_1 6 rfl rfl)
theorem dX0_tells_33 : decode cX0_tells 33 = .ok (.getfield 328, 3) := dk_180 1 72 (dk_at dksX0_tells_1 9 rfl rfl)
theorem dX0_tells_36 : decode cX0_tells 36 = .ok (.iload 4, 2) := dk_21 4 (dk_at dksX0_tells_1 12 rfl rfl)
theorem dX0_tells_38 : decode cX0_tells 38 = .ok (.aaload, 1) := dk_50 (dk_at dksX0_tells_1 14 rfl rfl)
theorem dX0_tells_39 : decode cX0_tells 39 = .ok (.ifnull 29, 3) := dk_198 0 29 (dk_at dksX0_tells_1 15 rfl rfl)
theorem dX0_tells_42 : decode cX0_tells 42 = .ok (.aload_n 0, 1) := dk_42 (dk_at dksX0_tells_1 18 rfl rfl)
theorem dX0_tells_43 : decode cX0_tells 43 = .ok (.getfield 121, 3) := dk_180 0 121 (dk_at dksX0_tells_1 19 rfl rfl)
theorem dX0_tells_46 : decode cX0_tells 46 = .ok (.getfield 328, 3) := dk_180 1 72 (dk_at dksX0_tells_2 0 rfl rfl)
theorem dX0_tells_49 : decode cX0_tells 49 = .ok (.iload 4, 2) := dk_21 4 (dk_at dksX0_tells_2 3 rfl rfl)
theorem dX0_tells_51 : decode cX0_tells 51 = .ok (.aaload, 1) := dk_50 (dk_at dksX0_tells_2 5 rfl rfl)
theorem dX0_tells_52 : decode cX0_tells 52 = .ok (.aload_n 0, 1) := dk_42 (dk_at dksX0_tells_2 6 rfl rfl)
theorem dX0_tells_53 : decode cX0_tells 53 = .ok (.getfield 125, 3) := dk_180 0 125 (dk_at dksX0_tells_2 7 rfl rfl)
theorem dX0_tells_56 : decode cX0_tells 56 = .ok (.invokevirtual 330, 3) := dk_182 1 74 (dk_at dksX0_tells_2 10 rfl rfl)
theorem dX0_tells_59 : decode cX0_tells 59 = .ok (.ifCond .ne 9, 3) := dk_154 0 9 (dk_at dksX0_tells_2 13 rfl rfl)
theorem dX0_tells_62 : decode cX0_tells 62 = .ok (.iinc 4 1, 3) := dk_132 4 1 (dk_at dksX0_tells_2 16 rfl rfl)
theorem dX0_tells_65 : decode cX0_tells 65 = .ok (.goto (-62), 3) := dk_167 255 194 (dk_at dksX0_tells_2 19 rfl rfl)
theorem dX0_tells_68 : decode cX0_tells 68 = .ok (.iload 4, 2) := dk_21 4 (dk_at dksX0_tells_2 22 rfl rfl)
theorem dX0_tells_70 : decode cX0_tells 70 = .ok (.aload_n 0, 1) := dk_42 (dk_at dksX0_tells_3 0 rfl rfl)
theorem dX0_tells_71 : decode cX0_tells 71 = .ok (.getfield 121, 3) := dk_180 0 121 (dk_at dksX0_tells_3 1 rfl rfl)
theorem dX0_tells_74 : decode cX0_tells 74 = .ok (.getfield 316, 3) := dk_180 1 60 (dk_at dksX0_tells_3 4 rfl rfl)
theorem dX0_tells_77 : decode cX0_tells 77 = .ok (.if_icmp .ne 7, 3) := dk_160 0 7 (dk_at dksX0_tells_3 7 rfl rfl)
theorem dX0_tells_80 : decode cX0_tells 80 = .ok (.iload_n 2, 1) := dk_28 (dk_at dksX0_tells_3 10 rfl rfl)
theorem dX0_tells_81 : decode cX0_tells 81 = .ok (.goto 20, 3) := dk_167 0 20 (dk_at dksX0_tells_3 11 rfl rfl)
theorem dX0_tells_84 : decode cX0_tells 84 = .ok (.aload_n 0, 1) := dk_42 (dk_at dksX0_tells_3 14 rfl rfl)
theorem dX0_tells_85 : decode cX0_tells 85 = .ok (.getfield 121, 3) := dk_180 0 121 (dk_at dksX0_tells_3 15 rfl rfl)
theorem dX0_tells_88 : decode cX0_tells 88 = .ok (.getfield 325, 3) := dk_180 1 69 (dk_at dksX0_tells_3 18 rfl rfl)
theorem dX0_tells_91 : decode cX0_tells 91 = .ok (.iload 4, 2) := dk_21 4 (dk_at dksX0_tells_3 21 rfl rfl)
theorem dX0_tells_93 : decode cX0_tells 93 = .ok (.aaload, 1) := dk_50 (dk_at dksX0_tells_3 23 rfl rfl)
theorem dX0_tells_94 : decode cX0_tells 94 = .ok (.aload_n 0, 1) := dk_42 (dk_at dksX0_tells_4 0 rfl rfl)
theorem dX0_tells_95 : decode cX0_tells 95 = .ok (.getfield 125, 3) := dk_180 0 125 (dk_at dksX0_tells_4 1 rfl rfl)
theorem dX0_tells_98 : decode cX0_tells 98 = .ok (.invokevirtual 330, 3) := dk_182 1 74 (dk_at dksX0_tells_4 4 rfl rfl)
theorem dX0_tells_101 : decode cX0_tells 101 = .ok (.iconst 0, 1) := dk_3 (dk_at dksX0_tells_4 7 rfl rfl)
theorem dX0_tells_102 : decode cX0_tells 102 = .ok (.iload_n 3, 1) := dk_29 (dk_at dksX0_tells_4 8 rfl rfl)
theorem dX0_tells_103 : decode cX0_tells 103 = .ok (.invokestatic 335, 3) := dk_184 1 79 (dk_at dksX0_tells_4 9 rfl rfl)
theorem dX0_tells_106 : decode cX0_tells 106 = .ok (.ireturn, 1) := dk_172 (dk_at dksX0_tells_4 12 rfl rfl)
abbrev cX0_held : ByteArray := prog_1_method_2_code
def yX0_held : MethodName := ⟨RX0, "held", "(III)I"⟩
def dkwX0_held_0 : List UInt8 := [27, 28, 26, 184, 0, 1, 184, 0, 7, 172]
abbrev dktX0_held_0 : List UInt8 := dkwX0_held_0 ++ []
theorem dksX0_held_0 : cX0_held.data.toList.drop 0 = dktX0_held_0 := by decide +kernel
theorem dX0_held_0 : decode cX0_held 0 = .ok (.iload_n 1, 1) := dk_27 (dk_at dksX0_held_0 0 rfl rfl)
theorem dX0_held_1 : decode cX0_held 1 = .ok (.iload_n 2, 1) := dk_28 (dk_at dksX0_held_0 1 rfl rfl)
theorem dX0_held_2 : decode cX0_held 2 = .ok (.iload_n 0, 1) := dk_26 (dk_at dksX0_held_0 2 rfl rfl)
theorem dX0_held_3 : decode cX0_held 3 = .ok (.invokestatic 1, 3) := dk_184 0 1 (dk_at dksX0_held_0 3 rfl rfl)
theorem dX0_held_6 : decode cX0_held 6 = .ok (.invokestatic 7, 3) := dk_184 0 7 (dk_at dksX0_held_0 6 rfl rfl)
theorem dX0_held_9 : decode cX0_held 9 = .ok (.ireturn, 1) := dk_172 (dk_at dksX0_held_0 9 rfl rfl)
abbrev cX0_writes : ByteArray := prog_1_method_42_code
def yX0_writes : MethodName := ⟨RX0, "writes", "(III)V"⟩
def dkwX0_writes_3 : List UInt8 := [180, 0, 152, 89, 180, 1, 136, 4, 96, 181, 1, 136, 177]
abbrev dktX0_writes_3 : List UInt8 := dkwX0_writes_3 ++ []
def dkwX0_writes_2 : List UInt8 := [27, 79, 42, 180, 0, 162, 21, 4, 5, 96, 28, 79, 42, 180, 0, 162, 21, 4, 6, 96, 29, 79, 42]
abbrev dktX0_writes_2 : List UInt8 := dkwX0_writes_2 ++ dktX0_writes_3
def dkwX0_writes_1 : List UInt8 := [54, 4, 42, 180, 0, 162, 21, 4, 42, 180, 0, 152, 180, 1, 139, 79, 42, 180, 0, 162, 21, 4, 4, 96]
abbrev dktX0_writes_1 : List UInt8 := dkwX0_writes_1 ++ dktX0_writes_2
def dkwX0_writes_0 : List UInt8 := [42, 180, 0, 152, 180, 1, 136, 17, 0, 150, 160, 0, 4, 177, 7, 42, 180, 0, 152, 180, 1, 136, 104]
abbrev dktX0_writes_0 : List UInt8 := dkwX0_writes_0 ++ dktX0_writes_1
theorem dksX0_writes_0 : cX0_writes.data.toList.drop 0 = dktX0_writes_0 := by decide +kernel
theorem dksX0_writes_1 : cX0_writes.data.toList.drop 23 = dktX0_writes_1 := dk_seg dksX0_writes_0 23 rfl rfl
theorem dksX0_writes_2 : cX0_writes.data.toList.drop 47 = dktX0_writes_2 := dk_seg dksX0_writes_1 24 rfl rfl
theorem dksX0_writes_3 : cX0_writes.data.toList.drop 70 = dktX0_writes_3 := dk_seg dksX0_writes_2 23 rfl rfl
theorem dX0_writes_0 : decode cX0_writes 0 = .ok (.aload_n 0, 1) := dk_42 (dk_at dksX0_writes_0 0 rfl rfl)
theorem dX0_writes_1 : decode cX0_writes 1 = .ok (.getfield 152, 3) := dk_180 0 152 (dk_at dksX0_writes_0 1 rfl rfl)
theorem dX0_writes_4 : decode cX0_writes 4 = .ok (.getfield 392, 3) := dk_180 1 136 (dk_at dksX0_writes_0 4 rfl rfl)
theorem dX0_writes_7 : decode cX0_writes 7 = .ok (.sipush 150, 3) := dk_17 0 150 (dk_at dksX0_writes_0 7 rfl rfl)
theorem dX0_writes_10 : decode cX0_writes 10 = .ok (.if_icmp .ne 4, 3) := dk_160 0 4 (dk_at dksX0_writes_0 10 rfl rfl)
theorem dX0_writes_13 : decode cX0_writes 13 = .ok (.return_, 1) := dk_177 (dk_at dksX0_writes_0 13 rfl rfl)
theorem dX0_writes_14 : decode cX0_writes 14 = .ok (.iconst 4, 1) := dk_7 (dk_at dksX0_writes_0 14 rfl rfl)
theorem dX0_writes_15 : decode cX0_writes 15 = .ok (.aload_n 0, 1) := dk_42 (dk_at dksX0_writes_0 15 rfl rfl)
theorem dX0_writes_16 : decode cX0_writes 16 = .ok (.getfield 152, 3) := dk_180 0 152 (dk_at dksX0_writes_0 16 rfl rfl)
theorem dX0_writes_19 : decode cX0_writes 19 = .ok (.getfield 392, 3) := dk_180 1 136 (dk_at dksX0_writes_0 19 rfl rfl)
theorem dX0_writes_22 : decode cX0_writes 22 = .ok (.imul, 1) := dk_104 (dk_at dksX0_writes_0 22 rfl rfl)
theorem dX0_writes_23 : decode cX0_writes 23 = .ok (.istore 4, 2) := dk_54 4 (dk_at dksX0_writes_1 0 rfl rfl)
theorem dX0_writes_25 : decode cX0_writes 25 = .ok (.aload_n 0, 1) := dk_42 (dk_at dksX0_writes_1 2 rfl rfl)
theorem dX0_writes_26 : decode cX0_writes 26 = .ok (.getfield 162, 3) := dk_180 0 162 (dk_at dksX0_writes_1 3 rfl rfl)
theorem dX0_writes_29 : decode cX0_writes 29 = .ok (.iload 4, 2) := dk_21 4 (dk_at dksX0_writes_1 6 rfl rfl)
theorem dX0_writes_31 : decode cX0_writes 31 = .ok (.aload_n 0, 1) := dk_42 (dk_at dksX0_writes_1 8 rfl rfl)
theorem dX0_writes_32 : decode cX0_writes 32 = .ok (.getfield 152, 3) := dk_180 0 152 (dk_at dksX0_writes_1 9 rfl rfl)
theorem dX0_writes_35 : decode cX0_writes 35 = .ok (.getfield 395, 3) := dk_180 1 139 (dk_at dksX0_writes_1 12 rfl rfl)
theorem dX0_writes_38 : decode cX0_writes 38 = .ok (.iastore, 1) := dk_79 (dk_at dksX0_writes_1 15 rfl rfl)
theorem dX0_writes_39 : decode cX0_writes 39 = .ok (.aload_n 0, 1) := dk_42 (dk_at dksX0_writes_1 16 rfl rfl)
theorem dX0_writes_40 : decode cX0_writes 40 = .ok (.getfield 162, 3) := dk_180 0 162 (dk_at dksX0_writes_1 17 rfl rfl)
theorem dX0_writes_43 : decode cX0_writes 43 = .ok (.iload 4, 2) := dk_21 4 (dk_at dksX0_writes_1 20 rfl rfl)
theorem dX0_writes_45 : decode cX0_writes 45 = .ok (.iconst 1, 1) := dk_4 (dk_at dksX0_writes_1 22 rfl rfl)
theorem dX0_writes_46 : decode cX0_writes 46 = .ok (.iadd, 1) := dk_96 (dk_at dksX0_writes_1 23 rfl rfl)
theorem dX0_writes_47 : decode cX0_writes 47 = .ok (.iload_n 1, 1) := dk_27 (dk_at dksX0_writes_2 0 rfl rfl)
theorem dX0_writes_48 : decode cX0_writes 48 = .ok (.iastore, 1) := dk_79 (dk_at dksX0_writes_2 1 rfl rfl)
theorem dX0_writes_49 : decode cX0_writes 49 = .ok (.aload_n 0, 1) := dk_42 (dk_at dksX0_writes_2 2 rfl rfl)
theorem dX0_writes_50 : decode cX0_writes 50 = .ok (.getfield 162, 3) := dk_180 0 162 (dk_at dksX0_writes_2 3 rfl rfl)
theorem dX0_writes_53 : decode cX0_writes 53 = .ok (.iload 4, 2) := dk_21 4 (dk_at dksX0_writes_2 6 rfl rfl)
theorem dX0_writes_55 : decode cX0_writes 55 = .ok (.iconst 2, 1) := dk_5 (dk_at dksX0_writes_2 8 rfl rfl)
theorem dX0_writes_56 : decode cX0_writes 56 = .ok (.iadd, 1) := dk_96 (dk_at dksX0_writes_2 9 rfl rfl)
theorem dX0_writes_57 : decode cX0_writes 57 = .ok (.iload_n 2, 1) := dk_28 (dk_at dksX0_writes_2 10 rfl rfl)
theorem dX0_writes_58 : decode cX0_writes 58 = .ok (.iastore, 1) := dk_79 (dk_at dksX0_writes_2 11 rfl rfl)
theorem dX0_writes_59 : decode cX0_writes 59 = .ok (.aload_n 0, 1) := dk_42 (dk_at dksX0_writes_2 12 rfl rfl)
theorem dX0_writes_60 : decode cX0_writes 60 = .ok (.getfield 162, 3) := dk_180 0 162 (dk_at dksX0_writes_2 13 rfl rfl)
theorem dX0_writes_63 : decode cX0_writes 63 = .ok (.iload 4, 2) := dk_21 4 (dk_at dksX0_writes_2 16 rfl rfl)
theorem dX0_writes_65 : decode cX0_writes 65 = .ok (.iconst 3, 1) := dk_6 (dk_at dksX0_writes_2 18 rfl rfl)
theorem dX0_writes_66 : decode cX0_writes 66 = .ok (.iadd, 1) := dk_96 (dk_at dksX0_writes_2 19 rfl rfl)
theorem dX0_writes_67 : decode cX0_writes 67 = .ok (.iload_n 3, 1) := dk_29 (dk_at dksX0_writes_2 20 rfl rfl)
theorem dX0_writes_68 : decode cX0_writes 68 = .ok (.iastore, 1) := dk_79 (dk_at dksX0_writes_2 21 rfl rfl)
theorem dX0_writes_69 : decode cX0_writes 69 = .ok (.aload_n 0, 1) := dk_42 (dk_at dksX0_writes_2 22 rfl rfl)
theorem dX0_writes_70 : decode cX0_writes 70 = .ok (.getfield 152, 3) := dk_180 0 152 (dk_at dksX0_writes_3 0 rfl rfl)
theorem dX0_writes_73 : decode cX0_writes 73 = .ok (.dup, 1) := dk_89 (dk_at dksX0_writes_3 3 rfl rfl)
theorem dX0_writes_74 : decode cX0_writes 74 = .ok (.getfield 392, 3) := dk_180 1 136 (dk_at dksX0_writes_3 4 rfl rfl)
theorem dX0_writes_77 : decode cX0_writes 77 = .ok (.iconst 1, 1) := dk_4 (dk_at dksX0_writes_3 7 rfl rfl)
theorem dX0_writes_78 : decode cX0_writes 78 = .ok (.iadd, 1) := dk_96 (dk_at dksX0_writes_3 8 rfl rfl)
theorem dX0_writes_79 : decode cX0_writes 79 = .ok (.putfield 392, 3) := dk_181 1 136 (dk_at dksX0_writes_3 9 rfl rfl)
theorem dX0_writes_82 : decode cX0_writes 82 = .ok (.return_, 1) := dk_177 (dk_at dksX0_writes_3 12 rfl rfl)
abbrev cX0_bridge : ByteArray := prog_1_method_51_code
def yX0_bridge : MethodName := ⟨RX0, "bridge", "(I)Z"⟩
def dkwX0_bridge_1 : List UInt8 := [182, 1, 176, 42, 180, 0, 152, 27, 182, 1, 185, 4, 172]
abbrev dktX0_bridge_1 : List UInt8 := dkwX0_bridge_1 ++ []
def dkwX0_bridge_0 : List UInt8 := [42, 27, 182, 1, 166, 153, 0, 14, 42, 180, 0, 152, 27, 182, 1, 182, 154, 0, 5, 3, 172, 42]
abbrev dktX0_bridge_0 : List UInt8 := dkwX0_bridge_0 ++ dktX0_bridge_1
theorem dksX0_bridge_0 : cX0_bridge.data.toList.drop 0 = dktX0_bridge_0 := by decide +kernel
theorem dksX0_bridge_1 : cX0_bridge.data.toList.drop 22 = dktX0_bridge_1 := dk_seg dksX0_bridge_0 22 rfl rfl
theorem dX0_bridge_0 : decode cX0_bridge 0 = .ok (.aload_n 0, 1) := dk_42 (dk_at dksX0_bridge_0 0 rfl rfl)
theorem dX0_bridge_1 : decode cX0_bridge 1 = .ok (.iload_n 1, 1) := dk_27 (dk_at dksX0_bridge_0 1 rfl rfl)
theorem dX0_bridge_2 : decode cX0_bridge 2 = .ok (.invokevirtual 422, 3) := dk_182 1 166 (dk_at dksX0_bridge_0 2 rfl rfl)
theorem dX0_bridge_5 : decode cX0_bridge 5 = .ok (.ifCond .eq 14, 3) := dk_153 0 14 (dk_at dksX0_bridge_0 5 rfl rfl)
theorem dX0_bridge_8 : decode cX0_bridge 8 = .ok (.aload_n 0, 1) := dk_42 (dk_at dksX0_bridge_0 8 rfl rfl)
theorem dX0_bridge_9 : decode cX0_bridge 9 = .ok (.getfield 152, 3) := dk_180 0 152 (dk_at dksX0_bridge_0 9 rfl rfl)
theorem dX0_bridge_12 : decode cX0_bridge 12 = .ok (.iload_n 1, 1) := dk_27 (dk_at dksX0_bridge_0 12 rfl rfl)
theorem dX0_bridge_13 : decode cX0_bridge 13 = .ok (.invokevirtual 438, 3) := dk_182 1 182 (dk_at dksX0_bridge_0 13 rfl rfl)
theorem dX0_bridge_16 : decode cX0_bridge 16 = .ok (.ifCond .ne 5, 3) := dk_154 0 5 (dk_at dksX0_bridge_0 16 rfl rfl)
theorem dX0_bridge_19 : decode cX0_bridge 19 = .ok (.iconst 0, 1) := dk_3 (dk_at dksX0_bridge_0 19 rfl rfl)
theorem dX0_bridge_20 : decode cX0_bridge 20 = .ok (.ireturn, 1) := dk_172 (dk_at dksX0_bridge_0 20 rfl rfl)
theorem dX0_bridge_21 : decode cX0_bridge 21 = .ok (.aload_n 0, 1) := dk_42 (dk_at dksX0_bridge_0 21 rfl rfl)
theorem dX0_bridge_22 : decode cX0_bridge 22 = .ok (.invokevirtual 432, 3) := dk_182 1 176 (dk_at dksX0_bridge_1 0 rfl rfl)
theorem dX0_bridge_25 : decode cX0_bridge 25 = .ok (.aload_n 0, 1) := dk_42 (dk_at dksX0_bridge_1 3 rfl rfl)
theorem dX0_bridge_26 : decode cX0_bridge 26 = .ok (.getfield 152, 3) := dk_180 0 152 (dk_at dksX0_bridge_1 4 rfl rfl)
theorem dX0_bridge_29 : decode cX0_bridge 29 = .ok (.iload_n 1, 1) := dk_27 (dk_at dksX0_bridge_1 7 rfl rfl)
theorem dX0_bridge_30 : decode cX0_bridge 30 = .ok (.invokevirtual 441, 3) := dk_182 1 185 (dk_at dksX0_bridge_1 8 rfl rfl)
theorem dX0_bridge_33 : decode cX0_bridge 33 = .ok (.iconst 1, 1) := dk_4 (dk_at dksX0_bridge_1 11 rfl rfl)
theorem dX0_bridge_34 : decode cX0_bridge 34 = .ok (.ireturn, 1) := dk_172 (dk_at dksX0_bridge_1 12 rfl rfl)
abbrev cX0_pay : ByteArray := prog_1_method_52_code
def yX0_pay : MethodName := ⟨RX0, "pay", "(III)Z"⟩
def dkwX0_pay_2 : List UInt8 := [182, 1, 176, 42, 180, 0, 152, 27, 28, 29, 182, 1, 191, 4, 172]
abbrev dktX0_pay_2 : List UInt8 := dkwX0_pay_2 ++ []
def dkwX0_pay_1 : List UInt8 := [16, 99, 184, 0, 188, 153, 0, 16, 42, 180, 0, 152, 27, 28, 29, 182, 1, 188, 154, 0, 5, 3, 172, 42]
abbrev dktX0_pay_1 : List UInt8 := dkwX0_pay_1 ++ dktX0_pay_2
def dkwX0_pay_0 : List UInt8 := [42, 27, 182, 1, 166, 153, 0, 39, 42, 28, 182, 1, 166, 153, 0, 31, 27, 28, 159, 0, 26, 29, 4]
abbrev dktX0_pay_0 : List UInt8 := dkwX0_pay_0 ++ dktX0_pay_1
theorem dksX0_pay_0 : cX0_pay.data.toList.drop 0 = dktX0_pay_0 := by decide +kernel
theorem dksX0_pay_1 : cX0_pay.data.toList.drop 23 = dktX0_pay_1 := dk_seg dksX0_pay_0 23 rfl rfl
theorem dksX0_pay_2 : cX0_pay.data.toList.drop 47 = dktX0_pay_2 := dk_seg dksX0_pay_1 24 rfl rfl
theorem dX0_pay_0 : decode cX0_pay 0 = .ok (.aload_n 0, 1) := dk_42 (dk_at dksX0_pay_0 0 rfl rfl)
theorem dX0_pay_1 : decode cX0_pay 1 = .ok (.iload_n 1, 1) := dk_27 (dk_at dksX0_pay_0 1 rfl rfl)
theorem dX0_pay_2 : decode cX0_pay 2 = .ok (.invokevirtual 422, 3) := dk_182 1 166 (dk_at dksX0_pay_0 2 rfl rfl)
theorem dX0_pay_5 : decode cX0_pay 5 = .ok (.ifCond .eq 39, 3) := dk_153 0 39 (dk_at dksX0_pay_0 5 rfl rfl)
theorem dX0_pay_8 : decode cX0_pay 8 = .ok (.aload_n 0, 1) := dk_42 (dk_at dksX0_pay_0 8 rfl rfl)
theorem dX0_pay_9 : decode cX0_pay 9 = .ok (.iload_n 2, 1) := dk_28 (dk_at dksX0_pay_0 9 rfl rfl)
theorem dX0_pay_10 : decode cX0_pay 10 = .ok (.invokevirtual 422, 3) := dk_182 1 166 (dk_at dksX0_pay_0 10 rfl rfl)
theorem dX0_pay_13 : decode cX0_pay 13 = .ok (.ifCond .eq 31, 3) := dk_153 0 31 (dk_at dksX0_pay_0 13 rfl rfl)
theorem dX0_pay_16 : decode cX0_pay 16 = .ok (.iload_n 1, 1) := dk_27 (dk_at dksX0_pay_0 16 rfl rfl)
theorem dX0_pay_17 : decode cX0_pay 17 = .ok (.iload_n 2, 1) := dk_28 (dk_at dksX0_pay_0 17 rfl rfl)
theorem dX0_pay_18 : decode cX0_pay 18 = .ok (.if_icmp .eq 26, 3) := dk_159 0 26 (dk_at dksX0_pay_0 18 rfl rfl)
theorem dX0_pay_21 : decode cX0_pay 21 = .ok (.iload_n 3, 1) := dk_29 (dk_at dksX0_pay_0 21 rfl rfl)
theorem dX0_pay_22 : decode cX0_pay 22 = .ok (.iconst 1, 1) := dk_4 (dk_at dksX0_pay_0 22 rfl rfl)
theorem dX0_pay_23 : decode cX0_pay 23 = .ok (.bipush 99, 2) := dk_16 99 (dk_at dksX0_pay_1 0 rfl rfl)
theorem dX0_pay_25 : decode cX0_pay 25 = .ok (.invokestatic 188, 3) := dk_184 0 188 (dk_at dksX0_pay_1 2 rfl rfl)
theorem dX0_pay_28 : decode cX0_pay 28 = .ok (.ifCond .eq 16, 3) := dk_153 0 16 (dk_at dksX0_pay_1 5 rfl rfl)
theorem dX0_pay_31 : decode cX0_pay 31 = .ok (.aload_n 0, 1) := dk_42 (dk_at dksX0_pay_1 8 rfl rfl)
theorem dX0_pay_32 : decode cX0_pay 32 = .ok (.getfield 152, 3) := dk_180 0 152 (dk_at dksX0_pay_1 9 rfl rfl)
theorem dX0_pay_35 : decode cX0_pay 35 = .ok (.iload_n 1, 1) := dk_27 (dk_at dksX0_pay_1 12 rfl rfl)
theorem dX0_pay_36 : decode cX0_pay 36 = .ok (.iload_n 2, 1) := dk_28 (dk_at dksX0_pay_1 13 rfl rfl)
theorem dX0_pay_37 : decode cX0_pay 37 = .ok (.iload_n 3, 1) := dk_29 (dk_at dksX0_pay_1 14 rfl rfl)
theorem dX0_pay_38 : decode cX0_pay 38 = .ok (.invokevirtual 444, 3) := dk_182 1 188 (dk_at dksX0_pay_1 15 rfl rfl)
theorem dX0_pay_41 : decode cX0_pay 41 = .ok (.ifCond .ne 5, 3) := dk_154 0 5 (dk_at dksX0_pay_1 18 rfl rfl)
theorem dX0_pay_44 : decode cX0_pay 44 = .ok (.iconst 0, 1) := dk_3 (dk_at dksX0_pay_1 21 rfl rfl)
theorem dX0_pay_45 : decode cX0_pay 45 = .ok (.ireturn, 1) := dk_172 (dk_at dksX0_pay_1 22 rfl rfl)
theorem dX0_pay_46 : decode cX0_pay 46 = .ok (.aload_n 0, 1) := dk_42 (dk_at dksX0_pay_1 23 rfl rfl)
theorem dX0_pay_47 : decode cX0_pay 47 = .ok (.invokevirtual 432, 3) := dk_182 1 176 (dk_at dksX0_pay_2 0 rfl rfl)
theorem dX0_pay_50 : decode cX0_pay 50 = .ok (.aload_n 0, 1) := dk_42 (dk_at dksX0_pay_2 3 rfl rfl)
theorem dX0_pay_51 : decode cX0_pay 51 = .ok (.getfield 152, 3) := dk_180 0 152 (dk_at dksX0_pay_2 4 rfl rfl)
theorem dX0_pay_54 : decode cX0_pay 54 = .ok (.iload_n 1, 1) := dk_27 (dk_at dksX0_pay_2 7 rfl rfl)
theorem dX0_pay_55 : decode cX0_pay 55 = .ok (.iload_n 2, 1) := dk_28 (dk_at dksX0_pay_2 8 rfl rfl)
theorem dX0_pay_56 : decode cX0_pay 56 = .ok (.iload_n 3, 1) := dk_29 (dk_at dksX0_pay_2 9 rfl rfl)
theorem dX0_pay_57 : decode cX0_pay 57 = .ok (.invokevirtual 447, 3) := dk_182 1 191 (dk_at dksX0_pay_2 10 rfl rfl)
theorem dX0_pay_60 : decode cX0_pay 60 = .ok (.iconst 1, 1) := dk_4 (dk_at dksX0_pay_2 13 rfl rfl)
theorem dX0_pay_61 : decode cX0_pay 61 = .ok (.ireturn, 1) := dk_172 (dk_at dksX0_pay_2 14 rfl rfl)
abbrev cX0_paper : ByteArray := prog_1_method_53_code
def yX0_paper : MethodName := ⟨RX0, "paper", "(I)Z"⟩
def dkwX0_paper_1 : List UInt8 := [182, 1, 176, 42, 180, 0, 152, 27, 182, 1, 197, 4, 172]
abbrev dktX0_paper_1 : List UInt8 := dkwX0_paper_1 ++ []
def dkwX0_paper_0 : List UInt8 := [42, 27, 182, 1, 166, 153, 0, 14, 42, 180, 0, 152, 27, 182, 1, 194, 154, 0, 5, 3, 172, 42]
abbrev dktX0_paper_0 : List UInt8 := dkwX0_paper_0 ++ dktX0_paper_1
theorem dksX0_paper_0 : cX0_paper.data.toList.drop 0 = dktX0_paper_0 := by decide +kernel
theorem dksX0_paper_1 : cX0_paper.data.toList.drop 22 = dktX0_paper_1 := dk_seg dksX0_paper_0 22 rfl rfl
theorem dX0_paper_0 : decode cX0_paper 0 = .ok (.aload_n 0, 1) := dk_42 (dk_at dksX0_paper_0 0 rfl rfl)
theorem dX0_paper_1 : decode cX0_paper 1 = .ok (.iload_n 1, 1) := dk_27 (dk_at dksX0_paper_0 1 rfl rfl)
theorem dX0_paper_2 : decode cX0_paper 2 = .ok (.invokevirtual 422, 3) := dk_182 1 166 (dk_at dksX0_paper_0 2 rfl rfl)
theorem dX0_paper_5 : decode cX0_paper 5 = .ok (.ifCond .eq 14, 3) := dk_153 0 14 (dk_at dksX0_paper_0 5 rfl rfl)
theorem dX0_paper_8 : decode cX0_paper 8 = .ok (.aload_n 0, 1) := dk_42 (dk_at dksX0_paper_0 8 rfl rfl)
theorem dX0_paper_9 : decode cX0_paper 9 = .ok (.getfield 152, 3) := dk_180 0 152 (dk_at dksX0_paper_0 9 rfl rfl)
theorem dX0_paper_12 : decode cX0_paper 12 = .ok (.iload_n 1, 1) := dk_27 (dk_at dksX0_paper_0 12 rfl rfl)
theorem dX0_paper_13 : decode cX0_paper 13 = .ok (.invokevirtual 450, 3) := dk_182 1 194 (dk_at dksX0_paper_0 13 rfl rfl)
theorem dX0_paper_16 : decode cX0_paper 16 = .ok (.ifCond .ne 5, 3) := dk_154 0 5 (dk_at dksX0_paper_0 16 rfl rfl)
theorem dX0_paper_19 : decode cX0_paper 19 = .ok (.iconst 0, 1) := dk_3 (dk_at dksX0_paper_0 19 rfl rfl)
theorem dX0_paper_20 : decode cX0_paper 20 = .ok (.ireturn, 1) := dk_172 (dk_at dksX0_paper_0 20 rfl rfl)
theorem dX0_paper_21 : decode cX0_paper 21 = .ok (.aload_n 0, 1) := dk_42 (dk_at dksX0_paper_0 21 rfl rfl)
theorem dX0_paper_22 : decode cX0_paper 22 = .ok (.invokevirtual 432, 3) := dk_182 1 176 (dk_at dksX0_paper_1 0 rfl rfl)
theorem dX0_paper_25 : decode cX0_paper 25 = .ok (.aload_n 0, 1) := dk_42 (dk_at dksX0_paper_1 3 rfl rfl)
theorem dX0_paper_26 : decode cX0_paper 26 = .ok (.getfield 152, 3) := dk_180 0 152 (dk_at dksX0_paper_1 4 rfl rfl)
theorem dX0_paper_29 : decode cX0_paper 29 = .ok (.iload_n 1, 1) := dk_27 (dk_at dksX0_paper_1 7 rfl rfl)
theorem dX0_paper_30 : decode cX0_paper 30 = .ok (.invokevirtual 453, 3) := dk_182 1 197 (dk_at dksX0_paper_1 8 rfl rfl)
theorem dX0_paper_33 : decode cX0_paper 33 = .ok (.iconst 1, 1) := dk_4 (dk_at dksX0_paper_1 11 rfl rfl)
theorem dX0_paper_34 : decode cX0_paper 34 = .ok (.ireturn, 1) := dk_172 (dk_at dksX0_paper_1 12 rfl rfl)
abbrev cX0_join : ByteArray := prog_1_method_54_code
def yX0_join : MethodName := ⟨RX0, "join", "(I)Z"⟩
def dkwX0_join_1 : List UInt8 := [42, 182, 1, 176, 42, 180, 0, 152, 27, 182, 1, 203, 4, 172]
abbrev dktX0_join_1 : List UInt8 := dkwX0_join_1 ++ []
def dkwX0_join_0 : List UInt8 := [42, 27, 182, 1, 166, 153, 0, 17, 42, 180, 0, 152, 180, 1, 161, 27, 184, 1, 200, 154, 0, 5, 3, 172]
abbrev dktX0_join_0 : List UInt8 := dkwX0_join_0 ++ dktX0_join_1
theorem dksX0_join_0 : cX0_join.data.toList.drop 0 = dktX0_join_0 := by decide +kernel
theorem dksX0_join_1 : cX0_join.data.toList.drop 24 = dktX0_join_1 := dk_seg dksX0_join_0 24 rfl rfl
theorem dX0_join_0 : decode cX0_join 0 = .ok (.aload_n 0, 1) := dk_42 (dk_at dksX0_join_0 0 rfl rfl)
theorem dX0_join_1 : decode cX0_join 1 = .ok (.iload_n 1, 1) := dk_27 (dk_at dksX0_join_0 1 rfl rfl)
theorem dX0_join_2 : decode cX0_join 2 = .ok (.invokevirtual 422, 3) := dk_182 1 166 (dk_at dksX0_join_0 2 rfl rfl)
theorem dX0_join_5 : decode cX0_join 5 = .ok (.ifCond .eq 17, 3) := dk_153 0 17 (dk_at dksX0_join_0 5 rfl rfl)
theorem dX0_join_8 : decode cX0_join 8 = .ok (.aload_n 0, 1) := dk_42 (dk_at dksX0_join_0 8 rfl rfl)
theorem dX0_join_9 : decode cX0_join 9 = .ok (.getfield 152, 3) := dk_180 0 152 (dk_at dksX0_join_0 9 rfl rfl)
theorem dX0_join_12 : decode cX0_join 12 = .ok (.getfield 417, 3) := dk_180 1 161 (dk_at dksX0_join_0 12 rfl rfl)
theorem dX0_join_15 : decode cX0_join 15 = .ok (.iload_n 1, 1) := dk_27 (dk_at dksX0_join_0 15 rfl rfl)
theorem dX0_join_16 : decode cX0_join 16 = .ok (.invokestatic 456, 3) := dk_184 1 200 (dk_at dksX0_join_0 16 rfl rfl)
theorem dX0_join_19 : decode cX0_join 19 = .ok (.ifCond .ne 5, 3) := dk_154 0 5 (dk_at dksX0_join_0 19 rfl rfl)
theorem dX0_join_22 : decode cX0_join 22 = .ok (.iconst 0, 1) := dk_3 (dk_at dksX0_join_0 22 rfl rfl)
theorem dX0_join_23 : decode cX0_join 23 = .ok (.ireturn, 1) := dk_172 (dk_at dksX0_join_0 23 rfl rfl)
theorem dX0_join_24 : decode cX0_join 24 = .ok (.aload_n 0, 1) := dk_42 (dk_at dksX0_join_1 0 rfl rfl)
theorem dX0_join_25 : decode cX0_join 25 = .ok (.invokevirtual 432, 3) := dk_182 1 176 (dk_at dksX0_join_1 1 rfl rfl)
theorem dX0_join_28 : decode cX0_join 28 = .ok (.aload_n 0, 1) := dk_42 (dk_at dksX0_join_1 4 rfl rfl)
theorem dX0_join_29 : decode cX0_join 29 = .ok (.getfield 152, 3) := dk_180 0 152 (dk_at dksX0_join_1 5 rfl rfl)
theorem dX0_join_32 : decode cX0_join 32 = .ok (.iload_n 1, 1) := dk_27 (dk_at dksX0_join_1 8 rfl rfl)
theorem dX0_join_33 : decode cX0_join 33 = .ok (.invokevirtual 459, 3) := dk_182 1 203 (dk_at dksX0_join_1 9 rfl rfl)
theorem dX0_join_36 : decode cX0_join 36 = .ok (.iconst 1, 1) := dk_4 (dk_at dksX0_join_1 12 rfl rfl)
theorem dX0_join_37 : decode cX0_join 37 = .ok (.ireturn, 1) := dk_172 (dk_at dksX0_join_1 13 rfl rfl)
abbrev cX0_days : ByteArray := prog_1_method_55_code
def yX0_days : MethodName := ⟨RX0, "days", "(I)I"⟩
def dkwX0_days_2 : List UInt8 := [182, 1, 205, 96, 61, 132, 3, 1, 167, 255, 234, 28, 172]
abbrev dktX0_days_2 : List UInt8 := dkwX0_days_2 ++ []
def dkwX0_days_1 : List UInt8 := [164, 0, 5, 2, 172, 3, 61, 3, 62, 29, 27, 162, 0, 23, 42, 182, 1, 176, 28, 42, 180, 0, 152]
abbrev dktX0_days_1 : List UInt8 := dkwX0_days_1 ++ dktX0_days_2
def dkwX0_days_0 : List UInt8 := [27, 4, 16, 60, 184, 0, 188, 153, 0, 18, 42, 180, 0, 152, 180, 1, 139, 27, 96, 17, 39, 15]
abbrev dktX0_days_0 : List UInt8 := dkwX0_days_0 ++ dktX0_days_1
theorem dksX0_days_0 : cX0_days.data.toList.drop 0 = dktX0_days_0 := by decide +kernel
theorem dksX0_days_1 : cX0_days.data.toList.drop 22 = dktX0_days_1 := dk_seg dksX0_days_0 22 rfl rfl
theorem dksX0_days_2 : cX0_days.data.toList.drop 45 = dktX0_days_2 := dk_seg dksX0_days_1 23 rfl rfl
theorem dX0_days_0 : decode cX0_days 0 = .ok (.iload_n 1, 1) := dk_27 (dk_at dksX0_days_0 0 rfl rfl)
theorem dX0_days_1 : decode cX0_days 1 = .ok (.iconst 1, 1) := dk_4 (dk_at dksX0_days_0 1 rfl rfl)
theorem dX0_days_2 : decode cX0_days 2 = .ok (.bipush 60, 2) := dk_16 60 (dk_at dksX0_days_0 2 rfl rfl)
theorem dX0_days_4 : decode cX0_days 4 = .ok (.invokestatic 188, 3) := dk_184 0 188 (dk_at dksX0_days_0 4 rfl rfl)
theorem dX0_days_7 : decode cX0_days 7 = .ok (.ifCond .eq 18, 3) := dk_153 0 18 (dk_at dksX0_days_0 7 rfl rfl)
theorem dX0_days_10 : decode cX0_days 10 = .ok (.aload_n 0, 1) := dk_42 (dk_at dksX0_days_0 10 rfl rfl)
theorem dX0_days_11 : decode cX0_days 11 = .ok (.getfield 152, 3) := dk_180 0 152 (dk_at dksX0_days_0 11 rfl rfl)
theorem dX0_days_14 : decode cX0_days 14 = .ok (.getfield 395, 3) := dk_180 1 139 (dk_at dksX0_days_0 14 rfl rfl)
theorem dX0_days_17 : decode cX0_days 17 = .ok (.iload_n 1, 1) := dk_27 (dk_at dksX0_days_0 17 rfl rfl)
theorem dX0_days_18 : decode cX0_days 18 = .ok (.iadd, 1) := dk_96 (dk_at dksX0_days_0 18 rfl rfl)
theorem dX0_days_19 : decode cX0_days 19 = .ok (.sipush 9999, 3) := dk_17 39 15 (dk_at dksX0_days_0 19 rfl rfl)
theorem dX0_days_22 : decode cX0_days 22 = .ok (.if_icmp .le 5, 3) := dk_164 0 5 (dk_at dksX0_days_1 0 rfl rfl)
theorem dX0_days_25 : decode cX0_days 25 = .ok (.iconst (-1), 1) := dk_2 (dk_at dksX0_days_1 3 rfl rfl)
theorem dX0_days_26 : decode cX0_days 26 = .ok (.ireturn, 1) := dk_172 (dk_at dksX0_days_1 4 rfl rfl)
theorem dX0_days_27 : decode cX0_days 27 = .ok (.iconst 0, 1) := dk_3 (dk_at dksX0_days_1 5 rfl rfl)
theorem dX0_days_28 : decode cX0_days 28 = .ok (.istore_n 2, 1) := dk_61 (dk_at dksX0_days_1 6 rfl rfl)
theorem dX0_days_29 : decode cX0_days 29 = .ok (.iconst 0, 1) := dk_3 (dk_at dksX0_days_1 7 rfl rfl)
theorem dX0_days_30 : decode cX0_days 30 = .ok (.istore_n 3, 1) := dk_62 (dk_at dksX0_days_1 8 rfl rfl)
theorem dX0_days_31 : decode cX0_days 31 = .ok (.iload_n 3, 1) := dk_29 (dk_at dksX0_days_1 9 rfl rfl)
theorem dX0_days_32 : decode cX0_days 32 = .ok (.iload_n 1, 1) := dk_27 (dk_at dksX0_days_1 10 rfl rfl)
theorem dX0_days_33 : decode cX0_days 33 = .ok (.if_icmp .ge 23, 3) := dk_162 0 23 (dk_at dksX0_days_1 11 rfl rfl)
theorem dX0_days_36 : decode cX0_days 36 = .ok (.aload_n 0, 1) := dk_42 (dk_at dksX0_days_1 14 rfl rfl)
theorem dX0_days_37 : decode cX0_days 37 = .ok (.invokevirtual 432, 3) := dk_182 1 176 (dk_at dksX0_days_1 15 rfl rfl)
theorem dX0_days_40 : decode cX0_days 40 = .ok (.iload_n 2, 1) := dk_28 (dk_at dksX0_days_1 18 rfl rfl)
theorem dX0_days_41 : decode cX0_days 41 = .ok (.aload_n 0, 1) := dk_42 (dk_at dksX0_days_1 19 rfl rfl)
theorem dX0_days_42 : decode cX0_days 42 = .ok (.getfield 152, 3) := dk_180 0 152 (dk_at dksX0_days_1 20 rfl rfl)
theorem dX0_days_45 : decode cX0_days 45 = .ok (.invokevirtual 461, 3) := dk_182 1 205 (dk_at dksX0_days_2 0 rfl rfl)
theorem dX0_days_48 : decode cX0_days 48 = .ok (.iadd, 1) := dk_96 (dk_at dksX0_days_2 3 rfl rfl)
theorem dX0_days_49 : decode cX0_days 49 = .ok (.istore_n 2, 1) := dk_61 (dk_at dksX0_days_2 4 rfl rfl)
theorem dX0_days_50 : decode cX0_days 50 = .ok (.iinc 3 1, 3) := dk_132 3 1 (dk_at dksX0_days_2 5 rfl rfl)
theorem dX0_days_53 : decode cX0_days 53 = .ok (.goto (-22), 3) := dk_167 255 234 (dk_at dksX0_days_2 8 rfl rfl)
theorem dX0_days_56 : decode cX0_days 56 = .ok (.iload_n 2, 1) := dk_28 (dk_at dksX0_days_2 11 rfl rfl)
theorem dX0_days_57 : decode cX0_days 57 = .ok (.ireturn, 1) := dk_172 (dk_at dksX0_days_2 12 rfl rfl)
abbrev cX0_of : ByteArray := prog_1_method_56_code
def yX0_of : MethodName := ⟨RX0, "of", "(II)I"⟩
def dkwX0_of_9 : List UInt8 := [180, 0, 152, 27, 182, 1, 224, 172, 19, 1, 208, 172]
abbrev dktX0_of_9 : List UInt8 := dkwX0_of_9 ++ []
def dkwX0_of_8 : List UInt8 := [182, 1, 218, 172, 42, 180, 0, 152, 27, 182, 1, 221, 153, 0, 7, 4, 167, 0, 4, 3, 172, 42]
abbrev dktX0_of_8 : List UInt8 := dkwX0_of_8 ++ dktX0_of_9
def dkwX0_of_7 : List UInt8 := [42, 180, 0, 152, 27, 182, 1, 212, 172, 42, 180, 0, 152, 27, 182, 1, 215, 172, 42, 180, 0, 152, 27]
abbrev dktX0_of_7 : List UInt8 := dkwX0_of_7 ++ dktX0_of_8
def dkwX0_of_6 : List UInt8 := [167, 0, 4, 3, 172, 42, 180, 0, 152, 180, 1, 156, 27, 46, 172, 42, 180, 0, 152, 27, 182, 1, 209, 172]
abbrev dktX0_of_6 : List UInt8 := dkwX0_of_6 ++ dktX0_of_7
def dkwX0_of_5 : List UInt8 := [153, 0, 7, 4, 167, 0, 4, 3, 172, 42, 180, 0, 152, 180, 1, 164, 27, 184, 1, 200, 153, 0, 7, 4]
abbrev dktX0_of_5 : List UInt8 := dkwX0_of_5 ++ dktX0_of_6
def dkwX0_of_4 : List UInt8 := [184, 1, 200, 153, 0, 7, 4, 167, 0, 4, 3, 172, 42, 180, 0, 152, 180, 1, 161, 27, 184, 1, 200]
abbrev dktX0_of_4 : List UInt8 := dkwX0_of_4 ++ dktX0_of_5
def dkwX0_of_3 : List UInt8 := [180, 1, 152, 27, 46, 172, 42, 180, 0, 152, 180, 1, 154, 27, 46, 172, 42, 180, 0, 152, 180, 1, 159, 27]
abbrev dktX0_of_3 : List UInt8 := dkwX0_of_3 ++ dktX0_of_4
def dkwX0_of_2 : List UInt8 := [42, 180, 0, 152, 180, 1, 148, 27, 46, 172, 42, 180, 0, 152, 180, 1, 150, 27, 46, 172, 42, 180, 0, 152]
abbrev dktX0_of_2 : List UInt8 := dkwX0_of_2 ++ dktX0_of_3
def dkwX0_of_1 : List UInt8 := [170, 0, 0, 0, 0, 0, 243, 0, 0, 0, 0, 0, 0, 0, 13, 0, 0, 0, 71, 0, 0, 0, 81, 0, 0, 0, 91, 0, 0, 0, 101, 0, 0, 0, 111, 0, 0, 0, 131, 0, 0, 0, 151, 0, 0, 0, 171, 0, 0, 0, 181, 0, 0, 0, 190, 0, 0, 0, 199, 0, 0, 0, 208, 0, 0, 0, 217, 0, 0, 0, 234]
abbrev dktX0_of_1 : List UInt8 := dkwX0_of_1 ++ dktX0_of_2
def dkwX0_of_0 : List UInt8 := [42, 27, 182, 1, 166, 154, 0, 7, 19, 1, 208, 172, 28]
abbrev dktX0_of_0 : List UInt8 := dkwX0_of_0 ++ dktX0_of_1
theorem dksX0_of_0 : cX0_of.data.toList.drop 0 = dktX0_of_0 := by decide +kernel
theorem dksX0_of_1 : cX0_of.data.toList.drop 13 = dktX0_of_1 := dk_seg dksX0_of_0 13 rfl rfl
theorem dksX0_of_2 : cX0_of.data.toList.drop 84 = dktX0_of_2 := dk_seg dksX0_of_1 71 rfl rfl
theorem dksX0_of_3 : cX0_of.data.toList.drop 108 = dktX0_of_3 := dk_seg dksX0_of_2 24 rfl rfl
theorem dksX0_of_4 : cX0_of.data.toList.drop 132 = dktX0_of_4 := dk_seg dksX0_of_3 24 rfl rfl
theorem dksX0_of_5 : cX0_of.data.toList.drop 155 = dktX0_of_5 := dk_seg dksX0_of_4 23 rfl rfl
theorem dksX0_of_6 : cX0_of.data.toList.drop 179 = dktX0_of_6 := dk_seg dksX0_of_5 24 rfl rfl
theorem dksX0_of_7 : cX0_of.data.toList.drop 203 = dktX0_of_7 := dk_seg dksX0_of_6 24 rfl rfl
theorem dksX0_of_8 : cX0_of.data.toList.drop 226 = dktX0_of_8 := dk_seg dksX0_of_7 23 rfl rfl
theorem dksX0_of_9 : cX0_of.data.toList.drop 248 = dktX0_of_9 := dk_seg dksX0_of_8 22 rfl rfl
theorem dX0_of_0 : decode cX0_of 0 = .ok (.aload_n 0, 1) := dk_42 (dk_at dksX0_of_0 0 rfl rfl)
theorem dX0_of_1 : decode cX0_of 1 = .ok (.iload_n 1, 1) := dk_27 (dk_at dksX0_of_0 1 rfl rfl)
theorem dX0_of_2 : decode cX0_of 2 = .ok (.invokevirtual 422, 3) := dk_182 1 166 (dk_at dksX0_of_0 2 rfl rfl)
theorem dX0_of_5 : decode cX0_of 5 = .ok (.ifCond .ne 7, 3) := dk_154 0 7 (dk_at dksX0_of_0 5 rfl rfl)
theorem dX0_of_8 : decode cX0_of 8 = .ok (.ldc_w 464, 3) := dk_19 1 208 (dk_at dksX0_of_0 8 rfl rfl)
theorem dX0_of_11 : decode cX0_of 11 = .ok (.ireturn, 1) := dk_172 (dk_at dksX0_of_0 11 rfl rfl)
theorem dX0_of_12 : decode cX0_of 12 = .ok (.iload_n 2, 1) := dk_28 (dk_at dksX0_of_0 12 rfl rfl)
theorem dX0_of_13 : decode cX0_of 13 = .ok (.tableswitch 243 0 13 #[71, 81, 91, 101, 111, 131, 151, 171, 181, 190, 199, 208, 217, 234], 71) := by decide +kernel
theorem dX0_of_84 : decode cX0_of 84 = .ok (.aload_n 0, 1) := dk_42 (dk_at dksX0_of_2 0 rfl rfl)
theorem dX0_of_85 : decode cX0_of 85 = .ok (.getfield 152, 3) := dk_180 0 152 (dk_at dksX0_of_2 1 rfl rfl)
theorem dX0_of_88 : decode cX0_of 88 = .ok (.getfield 404, 3) := dk_180 1 148 (dk_at dksX0_of_2 4 rfl rfl)
theorem dX0_of_91 : decode cX0_of 91 = .ok (.iload_n 1, 1) := dk_27 (dk_at dksX0_of_2 7 rfl rfl)
theorem dX0_of_92 : decode cX0_of 92 = .ok (.iaload, 1) := dk_46 (dk_at dksX0_of_2 8 rfl rfl)
theorem dX0_of_93 : decode cX0_of 93 = .ok (.ireturn, 1) := dk_172 (dk_at dksX0_of_2 9 rfl rfl)
theorem dX0_of_94 : decode cX0_of 94 = .ok (.aload_n 0, 1) := dk_42 (dk_at dksX0_of_2 10 rfl rfl)
theorem dX0_of_95 : decode cX0_of 95 = .ok (.getfield 152, 3) := dk_180 0 152 (dk_at dksX0_of_2 11 rfl rfl)
theorem dX0_of_98 : decode cX0_of 98 = .ok (.getfield 406, 3) := dk_180 1 150 (dk_at dksX0_of_2 14 rfl rfl)
theorem dX0_of_101 : decode cX0_of 101 = .ok (.iload_n 1, 1) := dk_27 (dk_at dksX0_of_2 17 rfl rfl)
theorem dX0_of_102 : decode cX0_of 102 = .ok (.iaload, 1) := dk_46 (dk_at dksX0_of_2 18 rfl rfl)
theorem dX0_of_103 : decode cX0_of 103 = .ok (.ireturn, 1) := dk_172 (dk_at dksX0_of_2 19 rfl rfl)
theorem dX0_of_104 : decode cX0_of 104 = .ok (.aload_n 0, 1) := dk_42 (dk_at dksX0_of_2 20 rfl rfl)
theorem dX0_of_105 : decode cX0_of 105 = .ok (.getfield 152, 3) := dk_180 0 152 (dk_at dksX0_of_2 21 rfl rfl)
theorem dX0_of_108 : decode cX0_of 108 = .ok (.getfield 408, 3) := dk_180 1 152 (dk_at dksX0_of_3 0 rfl rfl)
theorem dX0_of_111 : decode cX0_of 111 = .ok (.iload_n 1, 1) := dk_27 (dk_at dksX0_of_3 3 rfl rfl)
theorem dX0_of_112 : decode cX0_of 112 = .ok (.iaload, 1) := dk_46 (dk_at dksX0_of_3 4 rfl rfl)
theorem dX0_of_113 : decode cX0_of 113 = .ok (.ireturn, 1) := dk_172 (dk_at dksX0_of_3 5 rfl rfl)
theorem dX0_of_114 : decode cX0_of 114 = .ok (.aload_n 0, 1) := dk_42 (dk_at dksX0_of_3 6 rfl rfl)
theorem dX0_of_115 : decode cX0_of 115 = .ok (.getfield 152, 3) := dk_180 0 152 (dk_at dksX0_of_3 7 rfl rfl)
theorem dX0_of_118 : decode cX0_of 118 = .ok (.getfield 410, 3) := dk_180 1 154 (dk_at dksX0_of_3 10 rfl rfl)
theorem dX0_of_121 : decode cX0_of 121 = .ok (.iload_n 1, 1) := dk_27 (dk_at dksX0_of_3 13 rfl rfl)
theorem dX0_of_122 : decode cX0_of 122 = .ok (.iaload, 1) := dk_46 (dk_at dksX0_of_3 14 rfl rfl)
theorem dX0_of_123 : decode cX0_of 123 = .ok (.ireturn, 1) := dk_172 (dk_at dksX0_of_3 15 rfl rfl)
theorem dX0_of_124 : decode cX0_of 124 = .ok (.aload_n 0, 1) := dk_42 (dk_at dksX0_of_3 16 rfl rfl)
theorem dX0_of_125 : decode cX0_of 125 = .ok (.getfield 152, 3) := dk_180 0 152 (dk_at dksX0_of_3 17 rfl rfl)
theorem dX0_of_128 : decode cX0_of 128 = .ok (.getfield 415, 3) := dk_180 1 159 (dk_at dksX0_of_3 20 rfl rfl)
theorem dX0_of_131 : decode cX0_of 131 = .ok (.iload_n 1, 1) := dk_27 (dk_at dksX0_of_3 23 rfl rfl)
theorem dX0_of_132 : decode cX0_of 132 = .ok (.invokestatic 456, 3) := dk_184 1 200 (dk_at dksX0_of_4 0 rfl rfl)
theorem dX0_of_135 : decode cX0_of 135 = .ok (.ifCond .eq 7, 3) := dk_153 0 7 (dk_at dksX0_of_4 3 rfl rfl)
theorem dX0_of_138 : decode cX0_of 138 = .ok (.iconst 1, 1) := dk_4 (dk_at dksX0_of_4 6 rfl rfl)
theorem dX0_of_139 : decode cX0_of 139 = .ok (.goto 4, 3) := dk_167 0 4 (dk_at dksX0_of_4 7 rfl rfl)
theorem dX0_of_142 : decode cX0_of 142 = .ok (.iconst 0, 1) := dk_3 (dk_at dksX0_of_4 10 rfl rfl)
theorem dX0_of_143 : decode cX0_of 143 = .ok (.ireturn, 1) := dk_172 (dk_at dksX0_of_4 11 rfl rfl)
theorem dX0_of_144 : decode cX0_of 144 = .ok (.aload_n 0, 1) := dk_42 (dk_at dksX0_of_4 12 rfl rfl)
theorem dX0_of_145 : decode cX0_of 145 = .ok (.getfield 152, 3) := dk_180 0 152 (dk_at dksX0_of_4 13 rfl rfl)
theorem dX0_of_148 : decode cX0_of 148 = .ok (.getfield 417, 3) := dk_180 1 161 (dk_at dksX0_of_4 16 rfl rfl)
theorem dX0_of_151 : decode cX0_of 151 = .ok (.iload_n 1, 1) := dk_27 (dk_at dksX0_of_4 19 rfl rfl)
theorem dX0_of_152 : decode cX0_of 152 = .ok (.invokestatic 456, 3) := dk_184 1 200 (dk_at dksX0_of_4 20 rfl rfl)
theorem dX0_of_155 : decode cX0_of 155 = .ok (.ifCond .eq 7, 3) := dk_153 0 7 (dk_at dksX0_of_5 0 rfl rfl)
theorem dX0_of_158 : decode cX0_of 158 = .ok (.iconst 1, 1) := dk_4 (dk_at dksX0_of_5 3 rfl rfl)
theorem dX0_of_159 : decode cX0_of 159 = .ok (.goto 4, 3) := dk_167 0 4 (dk_at dksX0_of_5 4 rfl rfl)
theorem dX0_of_162 : decode cX0_of 162 = .ok (.iconst 0, 1) := dk_3 (dk_at dksX0_of_5 7 rfl rfl)
theorem dX0_of_163 : decode cX0_of 163 = .ok (.ireturn, 1) := dk_172 (dk_at dksX0_of_5 8 rfl rfl)
theorem dX0_of_164 : decode cX0_of 164 = .ok (.aload_n 0, 1) := dk_42 (dk_at dksX0_of_5 9 rfl rfl)
theorem dX0_of_165 : decode cX0_of 165 = .ok (.getfield 152, 3) := dk_180 0 152 (dk_at dksX0_of_5 10 rfl rfl)
theorem dX0_of_168 : decode cX0_of 168 = .ok (.getfield 420, 3) := dk_180 1 164 (dk_at dksX0_of_5 13 rfl rfl)
theorem dX0_of_171 : decode cX0_of 171 = .ok (.iload_n 1, 1) := dk_27 (dk_at dksX0_of_5 16 rfl rfl)
theorem dX0_of_172 : decode cX0_of 172 = .ok (.invokestatic 456, 3) := dk_184 1 200 (dk_at dksX0_of_5 17 rfl rfl)
theorem dX0_of_175 : decode cX0_of 175 = .ok (.ifCond .eq 7, 3) := dk_153 0 7 (dk_at dksX0_of_5 20 rfl rfl)
theorem dX0_of_178 : decode cX0_of 178 = .ok (.iconst 1, 1) := dk_4 (dk_at dksX0_of_5 23 rfl rfl)
theorem dX0_of_179 : decode cX0_of 179 = .ok (.goto 4, 3) := dk_167 0 4 (dk_at dksX0_of_6 0 rfl rfl)
theorem dX0_of_182 : decode cX0_of 182 = .ok (.iconst 0, 1) := dk_3 (dk_at dksX0_of_6 3 rfl rfl)
theorem dX0_of_183 : decode cX0_of 183 = .ok (.ireturn, 1) := dk_172 (dk_at dksX0_of_6 4 rfl rfl)
theorem dX0_of_184 : decode cX0_of 184 = .ok (.aload_n 0, 1) := dk_42 (dk_at dksX0_of_6 5 rfl rfl)
theorem dX0_of_185 : decode cX0_of 185 = .ok (.getfield 152, 3) := dk_180 0 152 (dk_at dksX0_of_6 6 rfl rfl)
theorem dX0_of_188 : decode cX0_of 188 = .ok (.getfield 412, 3) := dk_180 1 156 (dk_at dksX0_of_6 9 rfl rfl)
theorem dX0_of_191 : decode cX0_of 191 = .ok (.iload_n 1, 1) := dk_27 (dk_at dksX0_of_6 12 rfl rfl)
theorem dX0_of_192 : decode cX0_of 192 = .ok (.iaload, 1) := dk_46 (dk_at dksX0_of_6 13 rfl rfl)
theorem dX0_of_193 : decode cX0_of 193 = .ok (.ireturn, 1) := dk_172 (dk_at dksX0_of_6 14 rfl rfl)
theorem dX0_of_194 : decode cX0_of 194 = .ok (.aload_n 0, 1) := dk_42 (dk_at dksX0_of_6 15 rfl rfl)
theorem dX0_of_195 : decode cX0_of 195 = .ok (.getfield 152, 3) := dk_180 0 152 (dk_at dksX0_of_6 16 rfl rfl)
theorem dX0_of_198 : decode cX0_of 198 = .ok (.iload_n 1, 1) := dk_27 (dk_at dksX0_of_6 19 rfl rfl)
theorem dX0_of_199 : decode cX0_of 199 = .ok (.invokevirtual 465, 3) := dk_182 1 209 (dk_at dksX0_of_6 20 rfl rfl)
theorem dX0_of_202 : decode cX0_of 202 = .ok (.ireturn, 1) := dk_172 (dk_at dksX0_of_6 23 rfl rfl)
theorem dX0_of_203 : decode cX0_of 203 = .ok (.aload_n 0, 1) := dk_42 (dk_at dksX0_of_7 0 rfl rfl)
theorem dX0_of_204 : decode cX0_of 204 = .ok (.getfield 152, 3) := dk_180 0 152 (dk_at dksX0_of_7 1 rfl rfl)
theorem dX0_of_207 : decode cX0_of 207 = .ok (.iload_n 1, 1) := dk_27 (dk_at dksX0_of_7 4 rfl rfl)
theorem dX0_of_208 : decode cX0_of 208 = .ok (.invokevirtual 468, 3) := dk_182 1 212 (dk_at dksX0_of_7 5 rfl rfl)
theorem dX0_of_211 : decode cX0_of 211 = .ok (.ireturn, 1) := dk_172 (dk_at dksX0_of_7 8 rfl rfl)
theorem dX0_of_212 : decode cX0_of 212 = .ok (.aload_n 0, 1) := dk_42 (dk_at dksX0_of_7 9 rfl rfl)
theorem dX0_of_213 : decode cX0_of 213 = .ok (.getfield 152, 3) := dk_180 0 152 (dk_at dksX0_of_7 10 rfl rfl)
theorem dX0_of_216 : decode cX0_of 216 = .ok (.iload_n 1, 1) := dk_27 (dk_at dksX0_of_7 13 rfl rfl)
theorem dX0_of_217 : decode cX0_of 217 = .ok (.invokevirtual 471, 3) := dk_182 1 215 (dk_at dksX0_of_7 14 rfl rfl)
theorem dX0_of_220 : decode cX0_of 220 = .ok (.ireturn, 1) := dk_172 (dk_at dksX0_of_7 17 rfl rfl)
theorem dX0_of_221 : decode cX0_of 221 = .ok (.aload_n 0, 1) := dk_42 (dk_at dksX0_of_7 18 rfl rfl)
theorem dX0_of_222 : decode cX0_of 222 = .ok (.getfield 152, 3) := dk_180 0 152 (dk_at dksX0_of_7 19 rfl rfl)
theorem dX0_of_225 : decode cX0_of 225 = .ok (.iload_n 1, 1) := dk_27 (dk_at dksX0_of_7 22 rfl rfl)
theorem dX0_of_226 : decode cX0_of 226 = .ok (.invokevirtual 474, 3) := dk_182 1 218 (dk_at dksX0_of_8 0 rfl rfl)
theorem dX0_of_229 : decode cX0_of 229 = .ok (.ireturn, 1) := dk_172 (dk_at dksX0_of_8 3 rfl rfl)
theorem dX0_of_230 : decode cX0_of 230 = .ok (.aload_n 0, 1) := dk_42 (dk_at dksX0_of_8 4 rfl rfl)
theorem dX0_of_231 : decode cX0_of 231 = .ok (.getfield 152, 3) := dk_180 0 152 (dk_at dksX0_of_8 5 rfl rfl)
theorem dX0_of_234 : decode cX0_of 234 = .ok (.iload_n 1, 1) := dk_27 (dk_at dksX0_of_8 8 rfl rfl)
theorem dX0_of_235 : decode cX0_of 235 = .ok (.invokevirtual 477, 3) := dk_182 1 221 (dk_at dksX0_of_8 9 rfl rfl)
theorem dX0_of_238 : decode cX0_of 238 = .ok (.ifCond .eq 7, 3) := dk_153 0 7 (dk_at dksX0_of_8 12 rfl rfl)
theorem dX0_of_241 : decode cX0_of 241 = .ok (.iconst 1, 1) := dk_4 (dk_at dksX0_of_8 15 rfl rfl)
theorem dX0_of_242 : decode cX0_of 242 = .ok (.goto 4, 3) := dk_167 0 4 (dk_at dksX0_of_8 16 rfl rfl)
theorem dX0_of_245 : decode cX0_of 245 = .ok (.iconst 0, 1) := dk_3 (dk_at dksX0_of_8 19 rfl rfl)
theorem dX0_of_246 : decode cX0_of 246 = .ok (.ireturn, 1) := dk_172 (dk_at dksX0_of_8 20 rfl rfl)
theorem dX0_of_247 : decode cX0_of 247 = .ok (.aload_n 0, 1) := dk_42 (dk_at dksX0_of_8 21 rfl rfl)
theorem dX0_of_248 : decode cX0_of 248 = .ok (.getfield 152, 3) := dk_180 0 152 (dk_at dksX0_of_9 0 rfl rfl)
theorem dX0_of_251 : decode cX0_of 251 = .ok (.iload_n 1, 1) := dk_27 (dk_at dksX0_of_9 3 rfl rfl)
theorem dX0_of_252 : decode cX0_of 252 = .ok (.invokevirtual 480, 3) := dk_182 1 224 (dk_at dksX0_of_9 4 rfl rfl)
theorem dX0_of_255 : decode cX0_of 255 = .ok (.ireturn, 1) := dk_172 (dk_at dksX0_of_9 7 rfl rfl)
theorem dX0_of_256 : decode cX0_of 256 = .ok (.ldc_w 464, 3) := dk_19 1 208 (dk_at dksX0_of_9 8 rfl rfl)
theorem dX0_of_259 : decode cX0_of 259 = .ok (.ireturn, 1) := dk_172 (dk_at dksX0_of_9 11 rfl rfl)
abbrev cX0_phone : ByteArray := prog_1_method_59_code
def yX0_phone : MethodName := ⟨RX0, "phone", "(II)I"⟩
def dkwX0_phone_2 : List UInt8 := [182, 1, 240, 167, 0, 4, 2, 172]
abbrev dktX0_phone_2 : List UInt8 := dkwX0_phone_2 ++ []
def dkwX0_phone_1 : List UInt8 := [4, 160, 0, 12, 42, 27, 4, 182, 1, 236, 167, 0, 21, 28, 5, 160, 0, 15, 42, 27, 3, 17, 3, 231]
abbrev dktX0_phone_1 : List UInt8 := dkwX0_phone_1 ++ dktX0_phone_2
def dkwX0_phone_0 : List UInt8 := [42, 27, 182, 1, 166, 154, 0, 5, 2, 172, 28, 154, 0, 12, 42, 27, 3, 182, 1, 236, 167, 0, 35, 28]
abbrev dktX0_phone_0 : List UInt8 := dkwX0_phone_0 ++ dktX0_phone_1
theorem dksX0_phone_0 : cX0_phone.data.toList.drop 0 = dktX0_phone_0 := by decide +kernel
theorem dksX0_phone_1 : cX0_phone.data.toList.drop 24 = dktX0_phone_1 := dk_seg dksX0_phone_0 24 rfl rfl
theorem dksX0_phone_2 : cX0_phone.data.toList.drop 48 = dktX0_phone_2 := dk_seg dksX0_phone_1 24 rfl rfl
theorem dX0_phone_0 : decode cX0_phone 0 = .ok (.aload_n 0, 1) := dk_42 (dk_at dksX0_phone_0 0 rfl rfl)
theorem dX0_phone_1 : decode cX0_phone 1 = .ok (.iload_n 1, 1) := dk_27 (dk_at dksX0_phone_0 1 rfl rfl)
theorem dX0_phone_2 : decode cX0_phone 2 = .ok (.invokevirtual 422, 3) := dk_182 1 166 (dk_at dksX0_phone_0 2 rfl rfl)
theorem dX0_phone_5 : decode cX0_phone 5 = .ok (.ifCond .ne 5, 3) := dk_154 0 5 (dk_at dksX0_phone_0 5 rfl rfl)
theorem dX0_phone_8 : decode cX0_phone 8 = .ok (.iconst (-1), 1) := dk_2 (dk_at dksX0_phone_0 8 rfl rfl)
theorem dX0_phone_9 : decode cX0_phone 9 = .ok (.ireturn, 1) := dk_172 (dk_at dksX0_phone_0 9 rfl rfl)
theorem dX0_phone_10 : decode cX0_phone 10 = .ok (.iload_n 2, 1) := dk_28 (dk_at dksX0_phone_0 10 rfl rfl)
theorem dX0_phone_11 : decode cX0_phone 11 = .ok (.ifCond .ne 12, 3) := dk_154 0 12 (dk_at dksX0_phone_0 11 rfl rfl)
theorem dX0_phone_14 : decode cX0_phone 14 = .ok (.aload_n 0, 1) := dk_42 (dk_at dksX0_phone_0 14 rfl rfl)
theorem dX0_phone_15 : decode cX0_phone 15 = .ok (.iload_n 1, 1) := dk_27 (dk_at dksX0_phone_0 15 rfl rfl)
theorem dX0_phone_16 : decode cX0_phone 16 = .ok (.iconst 0, 1) := dk_3 (dk_at dksX0_phone_0 16 rfl rfl)
theorem dX0_phone_17 : decode cX0_phone 17 = .ok (.invokevirtual 492, 3) := dk_182 1 236 (dk_at dksX0_phone_0 17 rfl rfl)
theorem dX0_phone_20 : decode cX0_phone 20 = .ok (.goto 35, 3) := dk_167 0 35 (dk_at dksX0_phone_0 20 rfl rfl)
theorem dX0_phone_23 : decode cX0_phone 23 = .ok (.iload_n 2, 1) := dk_28 (dk_at dksX0_phone_0 23 rfl rfl)
theorem dX0_phone_24 : decode cX0_phone 24 = .ok (.iconst 1, 1) := dk_4 (dk_at dksX0_phone_1 0 rfl rfl)
theorem dX0_phone_25 : decode cX0_phone 25 = .ok (.if_icmp .ne 12, 3) := dk_160 0 12 (dk_at dksX0_phone_1 1 rfl rfl)
theorem dX0_phone_28 : decode cX0_phone 28 = .ok (.aload_n 0, 1) := dk_42 (dk_at dksX0_phone_1 4 rfl rfl)
theorem dX0_phone_29 : decode cX0_phone 29 = .ok (.iload_n 1, 1) := dk_27 (dk_at dksX0_phone_1 5 rfl rfl)
theorem dX0_phone_30 : decode cX0_phone 30 = .ok (.iconst 1, 1) := dk_4 (dk_at dksX0_phone_1 6 rfl rfl)
theorem dX0_phone_31 : decode cX0_phone 31 = .ok (.invokevirtual 492, 3) := dk_182 1 236 (dk_at dksX0_phone_1 7 rfl rfl)
theorem dX0_phone_34 : decode cX0_phone 34 = .ok (.goto 21, 3) := dk_167 0 21 (dk_at dksX0_phone_1 10 rfl rfl)
theorem dX0_phone_37 : decode cX0_phone 37 = .ok (.iload_n 2, 1) := dk_28 (dk_at dksX0_phone_1 13 rfl rfl)
theorem dX0_phone_38 : decode cX0_phone 38 = .ok (.iconst 2, 1) := dk_5 (dk_at dksX0_phone_1 14 rfl rfl)
theorem dX0_phone_39 : decode cX0_phone 39 = .ok (.if_icmp .ne 15, 3) := dk_160 0 15 (dk_at dksX0_phone_1 15 rfl rfl)
theorem dX0_phone_42 : decode cX0_phone 42 = .ok (.aload_n 0, 1) := dk_42 (dk_at dksX0_phone_1 18 rfl rfl)
theorem dX0_phone_43 : decode cX0_phone 43 = .ok (.iload_n 1, 1) := dk_27 (dk_at dksX0_phone_1 19 rfl rfl)
theorem dX0_phone_44 : decode cX0_phone 44 = .ok (.iconst 0, 1) := dk_3 (dk_at dksX0_phone_1 20 rfl rfl)
theorem dX0_phone_45 : decode cX0_phone 45 = .ok (.sipush 999, 3) := dk_17 3 231 (dk_at dksX0_phone_1 21 rfl rfl)
theorem dX0_phone_48 : decode cX0_phone 48 = .ok (.invokevirtual 496, 3) := dk_182 1 240 (dk_at dksX0_phone_2 0 rfl rfl)
theorem dX0_phone_51 : decode cX0_phone 51 = .ok (.goto 4, 3) := dk_167 0 4 (dk_at dksX0_phone_2 3 rfl rfl)
theorem dX0_phone_54 : decode cX0_phone 54 = .ok (.iconst (-1), 1) := dk_2 (dk_at dksX0_phone_2 6 rfl rfl)
theorem dX0_phone_55 : decode cX0_phone 55 = .ok (.ireturn, 1) := dk_172 (dk_at dksX0_phone_2 7 rfl rfl)
abbrev cX0_phoneOf : ByteArray := prog_1_method_57_code
def yX0_phoneOf : MethodName := ⟨RX0, "phoneOf", "(IZ)I"⟩
def dkwX0_phoneOf_3 : List UInt8 := [132, 4, 1, 167, 255, 201, 29, 172]
abbrev dktX0_phoneOf_3 : List UInt8 := dkwX0_phoneOf_3 ++ []
def dkwX0_phoneOf_2 : List UInt8 := [180, 0, 137, 21, 4, 50, 182, 1, 229, 167, 0, 13, 42, 180, 0, 137, 21, 4, 50, 182, 1, 231, 62]
abbrev dktX0_phoneOf_2 : List UInt8 := dkwX0_phoneOf_2 ++ dktX0_phoneOf_3
def dkwX0_phoneOf_1 : List UInt8 := [162, 0, 51, 42, 180, 0, 137, 21, 4, 50, 182, 1, 227, 27, 160, 0, 31, 28, 153, 0, 16, 42]
abbrev dktX0_phoneOf_1 : List UInt8 := dkwX0_phoneOf_1 ++ dktX0_phoneOf_2
def dkwX0_phoneOf_0 : List UInt8 := [28, 153, 0, 9, 17, 0, 240, 167, 0, 4, 3, 62, 3, 54, 4, 21, 4, 42, 180, 0, 137, 190]
abbrev dktX0_phoneOf_0 : List UInt8 := dkwX0_phoneOf_0 ++ dktX0_phoneOf_1
theorem dksX0_phoneOf_0 : cX0_phoneOf.data.toList.drop 0 = dktX0_phoneOf_0 := by decide +kernel
theorem dksX0_phoneOf_1 : cX0_phoneOf.data.toList.drop 22 = dktX0_phoneOf_1 := dk_seg dksX0_phoneOf_0 22 rfl rfl
theorem dksX0_phoneOf_2 : cX0_phoneOf.data.toList.drop 44 = dktX0_phoneOf_2 := dk_seg dksX0_phoneOf_1 22 rfl rfl
theorem dksX0_phoneOf_3 : cX0_phoneOf.data.toList.drop 67 = dktX0_phoneOf_3 := dk_seg dksX0_phoneOf_2 23 rfl rfl
theorem dX0_phoneOf_0 : decode cX0_phoneOf 0 = .ok (.iload_n 2, 1) := dk_28 (dk_at dksX0_phoneOf_0 0 rfl rfl)
theorem dX0_phoneOf_1 : decode cX0_phoneOf 1 = .ok (.ifCond .eq 9, 3) := dk_153 0 9 (dk_at dksX0_phoneOf_0 1 rfl rfl)
theorem dX0_phoneOf_4 : decode cX0_phoneOf 4 = .ok (.sipush 240, 3) := dk_17 0 240 (dk_at dksX0_phoneOf_0 4 rfl rfl)
theorem dX0_phoneOf_7 : decode cX0_phoneOf 7 = .ok (.goto 4, 3) := dk_167 0 4 (dk_at dksX0_phoneOf_0 7 rfl rfl)
theorem dX0_phoneOf_10 : decode cX0_phoneOf 10 = .ok (.iconst 0, 1) := dk_3 (dk_at dksX0_phoneOf_0 10 rfl rfl)
theorem dX0_phoneOf_11 : decode cX0_phoneOf 11 = .ok (.istore_n 3, 1) := dk_62 (dk_at dksX0_phoneOf_0 11 rfl rfl)
theorem dX0_phoneOf_12 : decode cX0_phoneOf 12 = .ok (.iconst 0, 1) := dk_3 (dk_at dksX0_phoneOf_0 12 rfl rfl)
theorem dX0_phoneOf_13 : decode cX0_phoneOf 13 = .ok (.istore 4, 2) := dk_54 4 (dk_at dksX0_phoneOf_0 13 rfl rfl)
theorem dX0_phoneOf_15 : decode cX0_phoneOf 15 = .ok (.iload 4, 2) := dk_21 4 (dk_at dksX0_phoneOf_0 15 rfl rfl)
theorem dX0_phoneOf_17 : decode cX0_phoneOf 17 = .ok (.aload_n 0, 1) := dk_42 (dk_at dksX0_phoneOf_0 17 rfl rfl)
theorem dX0_phoneOf_18 : decode cX0_phoneOf 18 = .ok (.getfield 137, 3) := dk_180 0 137 (dk_at dksX0_phoneOf_0 18 rfl rfl)
theorem dX0_phoneOf_21 : decode cX0_phoneOf 21 = .ok (.arraylength, 1) := dk_190 (dk_at dksX0_phoneOf_0 21 rfl rfl)
theorem dX0_phoneOf_22 : decode cX0_phoneOf 22 = .ok (.if_icmp .ge 51, 3) := dk_162 0 51 (dk_at dksX0_phoneOf_1 0 rfl rfl)
theorem dX0_phoneOf_25 : decode cX0_phoneOf 25 = .ok (.aload_n 0, 1) := dk_42 (dk_at dksX0_phoneOf_1 3 rfl rfl)
theorem dX0_phoneOf_26 : decode cX0_phoneOf 26 = .ok (.getfield 137, 3) := dk_180 0 137 (dk_at dksX0_phoneOf_1 4 rfl rfl)
theorem dX0_phoneOf_29 : decode cX0_phoneOf 29 = .ok (.iload 4, 2) := dk_21 4 (dk_at dksX0_phoneOf_1 7 rfl rfl)
theorem dX0_phoneOf_31 : decode cX0_phoneOf 31 = .ok (.aaload, 1) := dk_50 (dk_at dksX0_phoneOf_1 9 rfl rfl)
theorem dX0_phoneOf_32 : decode cX0_phoneOf 32 = .ok (.invokevirtual 483, 3) := dk_182 1 227 (dk_at dksX0_phoneOf_1 10 rfl rfl)
theorem dX0_phoneOf_35 : decode cX0_phoneOf 35 = .ok (.iload_n 1, 1) := dk_27 (dk_at dksX0_phoneOf_1 13 rfl rfl)
theorem dX0_phoneOf_36 : decode cX0_phoneOf 36 = .ok (.if_icmp .ne 31, 3) := dk_160 0 31 (dk_at dksX0_phoneOf_1 14 rfl rfl)
theorem dX0_phoneOf_39 : decode cX0_phoneOf 39 = .ok (.iload_n 2, 1) := dk_28 (dk_at dksX0_phoneOf_1 17 rfl rfl)
theorem dX0_phoneOf_40 : decode cX0_phoneOf 40 = .ok (.ifCond .eq 16, 3) := dk_153 0 16 (dk_at dksX0_phoneOf_1 18 rfl rfl)
theorem dX0_phoneOf_43 : decode cX0_phoneOf 43 = .ok (.aload_n 0, 1) := dk_42 (dk_at dksX0_phoneOf_1 21 rfl rfl)
theorem dX0_phoneOf_44 : decode cX0_phoneOf 44 = .ok (.getfield 137, 3) := dk_180 0 137 (dk_at dksX0_phoneOf_2 0 rfl rfl)
theorem dX0_phoneOf_47 : decode cX0_phoneOf 47 = .ok (.iload 4, 2) := dk_21 4 (dk_at dksX0_phoneOf_2 3 rfl rfl)
theorem dX0_phoneOf_49 : decode cX0_phoneOf 49 = .ok (.aaload, 1) := dk_50 (dk_at dksX0_phoneOf_2 5 rfl rfl)
theorem dX0_phoneOf_50 : decode cX0_phoneOf 50 = .ok (.invokevirtual 485, 3) := dk_182 1 229 (dk_at dksX0_phoneOf_2 6 rfl rfl)
theorem dX0_phoneOf_53 : decode cX0_phoneOf 53 = .ok (.goto 13, 3) := dk_167 0 13 (dk_at dksX0_phoneOf_2 9 rfl rfl)
theorem dX0_phoneOf_56 : decode cX0_phoneOf 56 = .ok (.aload_n 0, 1) := dk_42 (dk_at dksX0_phoneOf_2 12 rfl rfl)
theorem dX0_phoneOf_57 : decode cX0_phoneOf 57 = .ok (.getfield 137, 3) := dk_180 0 137 (dk_at dksX0_phoneOf_2 13 rfl rfl)
theorem dX0_phoneOf_60 : decode cX0_phoneOf 60 = .ok (.iload 4, 2) := dk_21 4 (dk_at dksX0_phoneOf_2 16 rfl rfl)
theorem dX0_phoneOf_62 : decode cX0_phoneOf 62 = .ok (.aaload, 1) := dk_50 (dk_at dksX0_phoneOf_2 18 rfl rfl)
theorem dX0_phoneOf_63 : decode cX0_phoneOf 63 = .ok (.invokevirtual 487, 3) := dk_182 1 231 (dk_at dksX0_phoneOf_2 19 rfl rfl)
theorem dX0_phoneOf_66 : decode cX0_phoneOf 66 = .ok (.istore_n 3, 1) := dk_62 (dk_at dksX0_phoneOf_2 22 rfl rfl)
theorem dX0_phoneOf_67 : decode cX0_phoneOf 67 = .ok (.iinc 4 1, 3) := dk_132 4 1 (dk_at dksX0_phoneOf_3 0 rfl rfl)
theorem dX0_phoneOf_70 : decode cX0_phoneOf 70 = .ok (.goto (-55), 3) := dk_167 255 201 (dk_at dksX0_phoneOf_3 3 rfl rfl)
theorem dX0_phoneOf_73 : decode cX0_phoneOf 73 = .ok (.iload_n 3, 1) := dk_29 (dk_at dksX0_phoneOf_3 6 rfl rfl)
theorem dX0_phoneOf_74 : decode cX0_phoneOf 74 = .ok (.ireturn, 1) := dk_172 (dk_at dksX0_phoneOf_3 7 rfl rfl)
abbrev cX0_recordsOf : ByteArray := prog_1_method_58_code
def yX0_recordsOf : MethodName := ⟨RX0, "recordsOf", "(III)I"⟩
def dkwX0_recordsOf_2 : List UInt8 := [153, 0, 7, 4, 167, 0, 4, 3, 96, 54, 4, 132, 5, 1, 167, 255, 201, 21, 4, 172]
abbrev dktX0_recordsOf_2 : List UInt8 := dkwX0_recordsOf_2 ++ []
def dkwX0_recordsOf_1 : List UInt8 := [50, 182, 1, 233, 27, 160, 0, 25, 42, 180, 0, 143, 21, 5, 50, 182, 1, 234, 28, 29, 184, 0, 188]
abbrev dktX0_recordsOf_1 : List UInt8 := dkwX0_recordsOf_1 ++ dktX0_recordsOf_2
def dkwX0_recordsOf_0 : List UInt8 := [3, 54, 4, 3, 54, 5, 21, 5, 42, 180, 0, 143, 190, 162, 0, 51, 21, 4, 42, 180, 0, 143, 21, 5]
abbrev dktX0_recordsOf_0 : List UInt8 := dkwX0_recordsOf_0 ++ dktX0_recordsOf_1
theorem dksX0_recordsOf_0 : cX0_recordsOf.data.toList.drop 0 = dktX0_recordsOf_0 := by decide +kernel
theorem dksX0_recordsOf_1 : cX0_recordsOf.data.toList.drop 24 = dktX0_recordsOf_1 := dk_seg dksX0_recordsOf_0 24 rfl rfl
theorem dksX0_recordsOf_2 : cX0_recordsOf.data.toList.drop 47 = dktX0_recordsOf_2 := dk_seg dksX0_recordsOf_1 23 rfl rfl
theorem dX0_recordsOf_0 : decode cX0_recordsOf 0 = .ok (.iconst 0, 1) := dk_3 (dk_at dksX0_recordsOf_0 0 rfl rfl)
theorem dX0_recordsOf_1 : decode cX0_recordsOf 1 = .ok (.istore 4, 2) := dk_54 4 (dk_at dksX0_recordsOf_0 1 rfl rfl)
theorem dX0_recordsOf_3 : decode cX0_recordsOf 3 = .ok (.iconst 0, 1) := dk_3 (dk_at dksX0_recordsOf_0 3 rfl rfl)
theorem dX0_recordsOf_4 : decode cX0_recordsOf 4 = .ok (.istore 5, 2) := dk_54 5 (dk_at dksX0_recordsOf_0 4 rfl rfl)
theorem dX0_recordsOf_6 : decode cX0_recordsOf 6 = .ok (.iload 5, 2) := dk_21 5 (dk_at dksX0_recordsOf_0 6 rfl rfl)
theorem dX0_recordsOf_8 : decode cX0_recordsOf 8 = .ok (.aload_n 0, 1) := dk_42 (dk_at dksX0_recordsOf_0 8 rfl rfl)
theorem dX0_recordsOf_9 : decode cX0_recordsOf 9 = .ok (.getfield 143, 3) := dk_180 0 143 (dk_at dksX0_recordsOf_0 9 rfl rfl)
theorem dX0_recordsOf_12 : decode cX0_recordsOf 12 = .ok (.arraylength, 1) := dk_190 (dk_at dksX0_recordsOf_0 12 rfl rfl)
theorem dX0_recordsOf_13 : decode cX0_recordsOf 13 = .ok (.if_icmp .ge 51, 3) := dk_162 0 51 (dk_at dksX0_recordsOf_0 13 rfl rfl)
theorem dX0_recordsOf_16 : decode cX0_recordsOf 16 = .ok (.iload 4, 2) := dk_21 4 (dk_at dksX0_recordsOf_0 16 rfl rfl)
theorem dX0_recordsOf_18 : decode cX0_recordsOf 18 = .ok (.aload_n 0, 1) := dk_42 (dk_at dksX0_recordsOf_0 18 rfl rfl)
theorem dX0_recordsOf_19 : decode cX0_recordsOf 19 = .ok (.getfield 143, 3) := dk_180 0 143 (dk_at dksX0_recordsOf_0 19 rfl rfl)
theorem dX0_recordsOf_22 : decode cX0_recordsOf 22 = .ok (.iload 5, 2) := dk_21 5 (dk_at dksX0_recordsOf_0 22 rfl rfl)
theorem dX0_recordsOf_24 : decode cX0_recordsOf 24 = .ok (.aaload, 1) := dk_50 (dk_at dksX0_recordsOf_1 0 rfl rfl)
theorem dX0_recordsOf_25 : decode cX0_recordsOf 25 = .ok (.invokevirtual 489, 3) := dk_182 1 233 (dk_at dksX0_recordsOf_1 1 rfl rfl)
theorem dX0_recordsOf_28 : decode cX0_recordsOf 28 = .ok (.iload_n 1, 1) := dk_27 (dk_at dksX0_recordsOf_1 4 rfl rfl)
theorem dX0_recordsOf_29 : decode cX0_recordsOf 29 = .ok (.if_icmp .ne 25, 3) := dk_160 0 25 (dk_at dksX0_recordsOf_1 5 rfl rfl)
theorem dX0_recordsOf_32 : decode cX0_recordsOf 32 = .ok (.aload_n 0, 1) := dk_42 (dk_at dksX0_recordsOf_1 8 rfl rfl)
theorem dX0_recordsOf_33 : decode cX0_recordsOf 33 = .ok (.getfield 143, 3) := dk_180 0 143 (dk_at dksX0_recordsOf_1 9 rfl rfl)
theorem dX0_recordsOf_36 : decode cX0_recordsOf 36 = .ok (.iload 5, 2) := dk_21 5 (dk_at dksX0_recordsOf_1 12 rfl rfl)
theorem dX0_recordsOf_38 : decode cX0_recordsOf 38 = .ok (.aaload, 1) := dk_50 (dk_at dksX0_recordsOf_1 14 rfl rfl)
theorem dX0_recordsOf_39 : decode cX0_recordsOf 39 = .ok (.invokevirtual 490, 3) := dk_182 1 234 (dk_at dksX0_recordsOf_1 15 rfl rfl)
theorem dX0_recordsOf_42 : decode cX0_recordsOf 42 = .ok (.iload_n 2, 1) := dk_28 (dk_at dksX0_recordsOf_1 18 rfl rfl)
theorem dX0_recordsOf_43 : decode cX0_recordsOf 43 = .ok (.iload_n 3, 1) := dk_29 (dk_at dksX0_recordsOf_1 19 rfl rfl)
theorem dX0_recordsOf_44 : decode cX0_recordsOf 44 = .ok (.invokestatic 188, 3) := dk_184 0 188 (dk_at dksX0_recordsOf_1 20 rfl rfl)
theorem dX0_recordsOf_47 : decode cX0_recordsOf 47 = .ok (.ifCond .eq 7, 3) := dk_153 0 7 (dk_at dksX0_recordsOf_2 0 rfl rfl)
theorem dX0_recordsOf_50 : decode cX0_recordsOf 50 = .ok (.iconst 1, 1) := dk_4 (dk_at dksX0_recordsOf_2 3 rfl rfl)
theorem dX0_recordsOf_51 : decode cX0_recordsOf 51 = .ok (.goto 4, 3) := dk_167 0 4 (dk_at dksX0_recordsOf_2 4 rfl rfl)
theorem dX0_recordsOf_54 : decode cX0_recordsOf 54 = .ok (.iconst 0, 1) := dk_3 (dk_at dksX0_recordsOf_2 7 rfl rfl)
theorem dX0_recordsOf_55 : decode cX0_recordsOf 55 = .ok (.iadd, 1) := dk_96 (dk_at dksX0_recordsOf_2 8 rfl rfl)
theorem dX0_recordsOf_56 : decode cX0_recordsOf 56 = .ok (.istore 4, 2) := dk_54 4 (dk_at dksX0_recordsOf_2 9 rfl rfl)
theorem dX0_recordsOf_58 : decode cX0_recordsOf 58 = .ok (.iinc 5 1, 3) := dk_132 5 1 (dk_at dksX0_recordsOf_2 11 rfl rfl)
theorem dX0_recordsOf_61 : decode cX0_recordsOf 61 = .ok (.goto (-55), 3) := dk_167 255 201 (dk_at dksX0_recordsOf_2 14 rfl rfl)
theorem dX0_recordsOf_64 : decode cX0_recordsOf 64 = .ok (.iload 4, 2) := dk_21 4 (dk_at dksX0_recordsOf_2 17 rfl rfl)
theorem dX0_recordsOf_66 : decode cX0_recordsOf 66 = .ok (.ireturn, 1) := dk_172 (dk_at dksX0_recordsOf_2 19 rfl rfl)
abbrev cX0_book : ByteArray := prog_1_method_60_code
def yX0_book : MethodName := ⟨RX0, "book", "(II)I"⟩
def dkwX0_book_1 : List UInt8 := [153, 0, 16, 42, 180, 0, 162, 7, 27, 104, 28, 96, 46, 167, 0, 4, 2, 172]
abbrev dktX0_book_1 : List UInt8 := dkwX0_book_1 ++ []
def dkwX0_book_0 : List UInt8 := [27, 3, 42, 180, 0, 152, 180, 1, 136, 4, 100, 184, 0, 188, 153, 0, 25, 28, 3, 6, 184, 0, 188]
abbrev dktX0_book_0 : List UInt8 := dkwX0_book_0 ++ dktX0_book_1
theorem dksX0_book_0 : cX0_book.data.toList.drop 0 = dktX0_book_0 := by decide +kernel
theorem dksX0_book_1 : cX0_book.data.toList.drop 23 = dktX0_book_1 := dk_seg dksX0_book_0 23 rfl rfl
theorem dX0_book_0 : decode cX0_book 0 = .ok (.iload_n 1, 1) := dk_27 (dk_at dksX0_book_0 0 rfl rfl)
theorem dX0_book_1 : decode cX0_book 1 = .ok (.iconst 0, 1) := dk_3 (dk_at dksX0_book_0 1 rfl rfl)
theorem dX0_book_2 : decode cX0_book 2 = .ok (.aload_n 0, 1) := dk_42 (dk_at dksX0_book_0 2 rfl rfl)
theorem dX0_book_3 : decode cX0_book 3 = .ok (.getfield 152, 3) := dk_180 0 152 (dk_at dksX0_book_0 3 rfl rfl)
theorem dX0_book_6 : decode cX0_book 6 = .ok (.getfield 392, 3) := dk_180 1 136 (dk_at dksX0_book_0 6 rfl rfl)
theorem dX0_book_9 : decode cX0_book 9 = .ok (.iconst 1, 1) := dk_4 (dk_at dksX0_book_0 9 rfl rfl)
theorem dX0_book_10 : decode cX0_book 10 = .ok (.isub, 1) := dk_100 (dk_at dksX0_book_0 10 rfl rfl)
theorem dX0_book_11 : decode cX0_book 11 = .ok (.invokestatic 188, 3) := dk_184 0 188 (dk_at dksX0_book_0 11 rfl rfl)
theorem dX0_book_14 : decode cX0_book 14 = .ok (.ifCond .eq 25, 3) := dk_153 0 25 (dk_at dksX0_book_0 14 rfl rfl)
theorem dX0_book_17 : decode cX0_book 17 = .ok (.iload_n 2, 1) := dk_28 (dk_at dksX0_book_0 17 rfl rfl)
theorem dX0_book_18 : decode cX0_book 18 = .ok (.iconst 0, 1) := dk_3 (dk_at dksX0_book_0 18 rfl rfl)
theorem dX0_book_19 : decode cX0_book 19 = .ok (.iconst 3, 1) := dk_6 (dk_at dksX0_book_0 19 rfl rfl)
theorem dX0_book_20 : decode cX0_book 20 = .ok (.invokestatic 188, 3) := dk_184 0 188 (dk_at dksX0_book_0 20 rfl rfl)
theorem dX0_book_23 : decode cX0_book 23 = .ok (.ifCond .eq 16, 3) := dk_153 0 16 (dk_at dksX0_book_1 0 rfl rfl)
theorem dX0_book_26 : decode cX0_book 26 = .ok (.aload_n 0, 1) := dk_42 (dk_at dksX0_book_1 3 rfl rfl)
theorem dX0_book_27 : decode cX0_book 27 = .ok (.getfield 162, 3) := dk_180 0 162 (dk_at dksX0_book_1 4 rfl rfl)
theorem dX0_book_30 : decode cX0_book 30 = .ok (.iconst 4, 1) := dk_7 (dk_at dksX0_book_1 7 rfl rfl)
theorem dX0_book_31 : decode cX0_book 31 = .ok (.iload_n 1, 1) := dk_27 (dk_at dksX0_book_1 8 rfl rfl)
theorem dX0_book_32 : decode cX0_book 32 = .ok (.imul, 1) := dk_104 (dk_at dksX0_book_1 9 rfl rfl)
theorem dX0_book_33 : decode cX0_book 33 = .ok (.iload_n 2, 1) := dk_28 (dk_at dksX0_book_1 10 rfl rfl)
theorem dX0_book_34 : decode cX0_book 34 = .ok (.iadd, 1) := dk_96 (dk_at dksX0_book_1 11 rfl rfl)
theorem dX0_book_35 : decode cX0_book 35 = .ok (.iaload, 1) := dk_46 (dk_at dksX0_book_1 12 rfl rfl)
theorem dX0_book_36 : decode cX0_book 36 = .ok (.goto 4, 3) := dk_167 0 4 (dk_at dksX0_book_1 13 rfl rfl)
theorem dX0_book_39 : decode cX0_book 39 = .ok (.iconst (-1), 1) := dk_2 (dk_at dksX0_book_1 16 rfl rfl)
theorem dX0_book_40 : decode cX0_book 40 = .ok (.ireturn, 1) := dk_172 (dk_at dksX0_book_1 17 rfl rfl)
abbrev cX0_goes : ByteArray := prog_1_method_61_code
def yX0_goes : MethodName := ⟨RX0, "goes", "(II)I"⟩
def dkwX0_goes_5 : List UInt8 := [21, 4, 4, 42, 180, 1, 90, 120, 4, 100, 160, 0, 8, 21, 5, 167, 0, 4, 2, 172]
abbrev dktX0_goes_5 : List UInt8 := dkwX0_goes_5 ++ []
def dkwX0_goes_4 : List UInt8 := [162, 0, 23, 21, 5, 45, 180, 1, 156, 21, 6, 46, 184, 0, 7, 54, 5, 132, 6, 1, 167, 255, 230]
abbrev dktX0_goes_4 : List UInt8 := dkwX0_goes_4 ++ dktX0_goes_5
def dkwX0_goes_3 : List UInt8 := [184, 1, 250, 167, 0, 7, 45, 180, 1, 255, 172, 2, 54, 5, 3, 54, 6, 21, 6, 42, 180, 1, 90]
abbrev dktX0_goes_3 : List UInt8 := dkwX0_goes_3 ++ dktX0_goes_4
def dkwX0_goes_2 : List UInt8 := [87, 132, 4, 1, 167, 255, 242, 45, 182, 1, 247, 54, 4, 28, 4, 159, 0, 20, 28, 154, 0, 11, 21, 4]
abbrev dktX0_goes_2 : List UInt8 := dkwX0_goes_2 ++ dktX0_goes_3
def dkwX0_goes_1 : List UInt8 := [180, 0, 156, 42, 180, 0, 152, 182, 1, 243, 78, 3, 54, 4, 21, 4, 27, 162, 0, 14, 45, 182, 1, 205]
abbrev dktX0_goes_1 : List UInt8 := dkwX0_goes_1 ++ dktX0_goes_2
def dkwX0_goes_0 : List UInt8 := [27, 4, 16, 99, 184, 0, 188, 153, 0, 12, 28, 3, 5, 184, 0, 188, 154, 0, 6, 16, 254, 172, 42]
abbrev dktX0_goes_0 : List UInt8 := dkwX0_goes_0 ++ dktX0_goes_1
theorem dksX0_goes_0 : cX0_goes.data.toList.drop 0 = dktX0_goes_0 := by decide +kernel
theorem dksX0_goes_1 : cX0_goes.data.toList.drop 23 = dktX0_goes_1 := dk_seg dksX0_goes_0 23 rfl rfl
theorem dksX0_goes_2 : cX0_goes.data.toList.drop 47 = dktX0_goes_2 := dk_seg dksX0_goes_1 24 rfl rfl
theorem dksX0_goes_3 : cX0_goes.data.toList.drop 71 = dktX0_goes_3 := dk_seg dksX0_goes_2 24 rfl rfl
theorem dksX0_goes_4 : cX0_goes.data.toList.drop 94 = dktX0_goes_4 := dk_seg dksX0_goes_3 23 rfl rfl
theorem dksX0_goes_5 : cX0_goes.data.toList.drop 117 = dktX0_goes_5 := dk_seg dksX0_goes_4 23 rfl rfl
theorem dX0_goes_0 : decode cX0_goes 0 = .ok (.iload_n 1, 1) := dk_27 (dk_at dksX0_goes_0 0 rfl rfl)
theorem dX0_goes_1 : decode cX0_goes 1 = .ok (.iconst 1, 1) := dk_4 (dk_at dksX0_goes_0 1 rfl rfl)
theorem dX0_goes_2 : decode cX0_goes 2 = .ok (.bipush 99, 2) := dk_16 99 (dk_at dksX0_goes_0 2 rfl rfl)
theorem dX0_goes_4 : decode cX0_goes 4 = .ok (.invokestatic 188, 3) := dk_184 0 188 (dk_at dksX0_goes_0 4 rfl rfl)
theorem dX0_goes_7 : decode cX0_goes 7 = .ok (.ifCond .eq 12, 3) := dk_153 0 12 (dk_at dksX0_goes_0 7 rfl rfl)
theorem dX0_goes_10 : decode cX0_goes 10 = .ok (.iload_n 2, 1) := dk_28 (dk_at dksX0_goes_0 10 rfl rfl)
theorem dX0_goes_11 : decode cX0_goes 11 = .ok (.iconst 0, 1) := dk_3 (dk_at dksX0_goes_0 11 rfl rfl)
theorem dX0_goes_12 : decode cX0_goes 12 = .ok (.iconst 2, 1) := dk_5 (dk_at dksX0_goes_0 12 rfl rfl)
theorem dX0_goes_13 : decode cX0_goes 13 = .ok (.invokestatic 188, 3) := dk_184 0 188 (dk_at dksX0_goes_0 13 rfl rfl)
theorem dX0_goes_16 : decode cX0_goes 16 = .ok (.ifCond .ne 6, 3) := dk_154 0 6 (dk_at dksX0_goes_0 16 rfl rfl)
theorem dX0_goes_19 : decode cX0_goes 19 = .ok (.bipush (-2), 2) := dk_16 254 (dk_at dksX0_goes_0 19 rfl rfl)
theorem dX0_goes_21 : decode cX0_goes 21 = .ok (.ireturn, 1) := dk_172 (dk_at dksX0_goes_0 21 rfl rfl)
theorem dX0_goes_22 : decode cX0_goes 22 = .ok (.aload_n 0, 1) := dk_42 (dk_at dksX0_goes_0 22 rfl rfl)
theorem dX0_goes_23 : decode cX0_goes 23 = .ok (.getfield 156, 3) := dk_180 0 156 (dk_at dksX0_goes_1 0 rfl rfl)
theorem dX0_goes_26 : decode cX0_goes 26 = .ok (.aload_n 0, 1) := dk_42 (dk_at dksX0_goes_1 3 rfl rfl)
theorem dX0_goes_27 : decode cX0_goes 27 = .ok (.getfield 152, 3) := dk_180 0 152 (dk_at dksX0_goes_1 4 rfl rfl)
theorem dX0_goes_30 : decode cX0_goes 30 = .ok (.invokevirtual 499, 3) := dk_182 1 243 (dk_at dksX0_goes_1 7 rfl rfl)
theorem dX0_goes_33 : decode cX0_goes 33 = .ok (.astore_n 3, 1) := dk_78 (dk_at dksX0_goes_1 10 rfl rfl)
theorem dX0_goes_34 : decode cX0_goes 34 = .ok (.iconst 0, 1) := dk_3 (dk_at dksX0_goes_1 11 rfl rfl)
theorem dX0_goes_35 : decode cX0_goes 35 = .ok (.istore 4, 2) := dk_54 4 (dk_at dksX0_goes_1 12 rfl rfl)
theorem dX0_goes_37 : decode cX0_goes 37 = .ok (.iload 4, 2) := dk_21 4 (dk_at dksX0_goes_1 14 rfl rfl)
theorem dX0_goes_39 : decode cX0_goes 39 = .ok (.iload_n 1, 1) := dk_27 (dk_at dksX0_goes_1 16 rfl rfl)
theorem dX0_goes_40 : decode cX0_goes 40 = .ok (.if_icmp .ge 14, 3) := dk_162 0 14 (dk_at dksX0_goes_1 17 rfl rfl)
theorem dX0_goes_43 : decode cX0_goes 43 = .ok (.aload_n 3, 1) := dk_45 (dk_at dksX0_goes_1 20 rfl rfl)
theorem dX0_goes_44 : decode cX0_goes 44 = .ok (.invokevirtual 461, 3) := dk_182 1 205 (dk_at dksX0_goes_1 21 rfl rfl)
theorem dX0_goes_47 : decode cX0_goes 47 = .ok (.pop, 1) := dk_87 (dk_at dksX0_goes_2 0 rfl rfl)
theorem dX0_goes_48 : decode cX0_goes 48 = .ok (.iinc 4 1, 3) := dk_132 4 1 (dk_at dksX0_goes_2 1 rfl rfl)
theorem dX0_goes_51 : decode cX0_goes 51 = .ok (.goto (-14), 3) := dk_167 255 242 (dk_at dksX0_goes_2 4 rfl rfl)
theorem dX0_goes_54 : decode cX0_goes 54 = .ok (.aload_n 3, 1) := dk_45 (dk_at dksX0_goes_2 7 rfl rfl)
theorem dX0_goes_55 : decode cX0_goes 55 = .ok (.invokevirtual 503, 3) := dk_182 1 247 (dk_at dksX0_goes_2 8 rfl rfl)
theorem dX0_goes_58 : decode cX0_goes 58 = .ok (.istore 4, 2) := dk_54 4 (dk_at dksX0_goes_2 11 rfl rfl)
theorem dX0_goes_60 : decode cX0_goes 60 = .ok (.iload_n 2, 1) := dk_28 (dk_at dksX0_goes_2 13 rfl rfl)
theorem dX0_goes_61 : decode cX0_goes 61 = .ok (.iconst 1, 1) := dk_4 (dk_at dksX0_goes_2 14 rfl rfl)
theorem dX0_goes_62 : decode cX0_goes 62 = .ok (.if_icmp .eq 20, 3) := dk_159 0 20 (dk_at dksX0_goes_2 15 rfl rfl)
theorem dX0_goes_65 : decode cX0_goes 65 = .ok (.iload_n 2, 1) := dk_28 (dk_at dksX0_goes_2 18 rfl rfl)
theorem dX0_goes_66 : decode cX0_goes 66 = .ok (.ifCond .ne 11, 3) := dk_154 0 11 (dk_at dksX0_goes_2 19 rfl rfl)
theorem dX0_goes_69 : decode cX0_goes 69 = .ok (.iload 4, 2) := dk_21 4 (dk_at dksX0_goes_2 22 rfl rfl)
theorem dX0_goes_71 : decode cX0_goes 71 = .ok (.invokestatic 506, 3) := dk_184 1 250 (dk_at dksX0_goes_3 0 rfl rfl)
theorem dX0_goes_74 : decode cX0_goes 74 = .ok (.goto 7, 3) := dk_167 0 7 (dk_at dksX0_goes_3 3 rfl rfl)
theorem dX0_goes_77 : decode cX0_goes 77 = .ok (.aload_n 3, 1) := dk_45 (dk_at dksX0_goes_3 6 rfl rfl)
theorem dX0_goes_78 : decode cX0_goes 78 = .ok (.getfield 511, 3) := dk_180 1 255 (dk_at dksX0_goes_3 7 rfl rfl)
theorem dX0_goes_81 : decode cX0_goes 81 = .ok (.ireturn, 1) := dk_172 (dk_at dksX0_goes_3 10 rfl rfl)
theorem dX0_goes_82 : decode cX0_goes 82 = .ok (.iconst (-1), 1) := dk_2 (dk_at dksX0_goes_3 11 rfl rfl)
theorem dX0_goes_83 : decode cX0_goes 83 = .ok (.istore 5, 2) := dk_54 5 (dk_at dksX0_goes_3 12 rfl rfl)
theorem dX0_goes_85 : decode cX0_goes 85 = .ok (.iconst 0, 1) := dk_3 (dk_at dksX0_goes_3 14 rfl rfl)
theorem dX0_goes_86 : decode cX0_goes 86 = .ok (.istore 6, 2) := dk_54 6 (dk_at dksX0_goes_3 15 rfl rfl)
theorem dX0_goes_88 : decode cX0_goes 88 = .ok (.iload 6, 2) := dk_21 6 (dk_at dksX0_goes_3 17 rfl rfl)
theorem dX0_goes_90 : decode cX0_goes 90 = .ok (.aload_n 0, 1) := dk_42 (dk_at dksX0_goes_3 19 rfl rfl)
theorem dX0_goes_91 : decode cX0_goes 91 = .ok (.getfield 346, 3) := dk_180 1 90 (dk_at dksX0_goes_3 20 rfl rfl)
theorem dX0_goes_94 : decode cX0_goes 94 = .ok (.if_icmp .ge 23, 3) := dk_162 0 23 (dk_at dksX0_goes_4 0 rfl rfl)
theorem dX0_goes_97 : decode cX0_goes 97 = .ok (.iload 5, 2) := dk_21 5 (dk_at dksX0_goes_4 3 rfl rfl)
theorem dX0_goes_99 : decode cX0_goes 99 = .ok (.aload_n 3, 1) := dk_45 (dk_at dksX0_goes_4 5 rfl rfl)
theorem dX0_goes_100 : decode cX0_goes 100 = .ok (.getfield 412, 3) := dk_180 1 156 (dk_at dksX0_goes_4 6 rfl rfl)
theorem dX0_goes_103 : decode cX0_goes 103 = .ok (.iload 6, 2) := dk_21 6 (dk_at dksX0_goes_4 9 rfl rfl)
theorem dX0_goes_105 : decode cX0_goes 105 = .ok (.iaload, 1) := dk_46 (dk_at dksX0_goes_4 11 rfl rfl)
theorem dX0_goes_106 : decode cX0_goes 106 = .ok (.invokestatic 7, 3) := dk_184 0 7 (dk_at dksX0_goes_4 12 rfl rfl)
theorem dX0_goes_109 : decode cX0_goes 109 = .ok (.istore 5, 2) := dk_54 5 (dk_at dksX0_goes_4 15 rfl rfl)
theorem dX0_goes_111 : decode cX0_goes 111 = .ok (.iinc 6 1, 3) := dk_132 6 1 (dk_at dksX0_goes_4 17 rfl rfl)
theorem dX0_goes_114 : decode cX0_goes 114 = .ok (.goto (-26), 3) := dk_167 255 230 (dk_at dksX0_goes_4 20 rfl rfl)
theorem dX0_goes_117 : decode cX0_goes 117 = .ok (.iload 4, 2) := dk_21 4 (dk_at dksX0_goes_5 0 rfl rfl)
theorem dX0_goes_119 : decode cX0_goes 119 = .ok (.iconst 1, 1) := dk_4 (dk_at dksX0_goes_5 2 rfl rfl)
theorem dX0_goes_120 : decode cX0_goes 120 = .ok (.aload_n 0, 1) := dk_42 (dk_at dksX0_goes_5 3 rfl rfl)
theorem dX0_goes_121 : decode cX0_goes 121 = .ok (.getfield 346, 3) := dk_180 1 90 (dk_at dksX0_goes_5 4 rfl rfl)
theorem dX0_goes_124 : decode cX0_goes 124 = .ok (.ishl, 1) := dk_120 (dk_at dksX0_goes_5 7 rfl rfl)
theorem dX0_goes_125 : decode cX0_goes 125 = .ok (.iconst 1, 1) := dk_4 (dk_at dksX0_goes_5 8 rfl rfl)
theorem dX0_goes_126 : decode cX0_goes 126 = .ok (.isub, 1) := dk_100 (dk_at dksX0_goes_5 9 rfl rfl)
theorem dX0_goes_127 : decode cX0_goes 127 = .ok (.if_icmp .ne 8, 3) := dk_160 0 8 (dk_at dksX0_goes_5 10 rfl rfl)
theorem dX0_goes_130 : decode cX0_goes 130 = .ok (.iload 5, 2) := dk_21 5 (dk_at dksX0_goes_5 13 rfl rfl)
theorem dX0_goes_132 : decode cX0_goes 132 = .ok (.goto 4, 3) := dk_167 0 4 (dk_at dksX0_goes_5 15 rfl rfl)
theorem dX0_goes_135 : decode cX0_goes 135 = .ok (.iconst (-1), 1) := dk_2 (dk_at dksX0_goes_5 18 rfl rfl)
theorem dX0_goes_136 : decode cX0_goes 136 = .ok (.ireturn, 1) := dk_172 (dk_at dksX0_goes_5 19 rfl rfl)
abbrev cX0_odds : ByteArray := prog_1_method_65_code
def yX0_odds : MethodName := ⟨RX0, "odds", "(I)I"⟩
def dkwX0_odds_1 : List UInt8 := [167, 0, 4, 2, 172]
abbrev dktX0_odds_1 : List UInt8 := dkwX0_odds_1 ++ []
def dkwX0_odds_0 : List UInt8 := [27, 4, 16, 60, 184, 0, 188, 153, 0, 18, 42, 3, 42, 180, 1, 90, 4, 100, 27, 182, 2, 12]
abbrev dktX0_odds_0 : List UInt8 := dkwX0_odds_0 ++ dktX0_odds_1
theorem dksX0_odds_0 : cX0_odds.data.toList.drop 0 = dktX0_odds_0 := by decide +kernel
theorem dksX0_odds_1 : cX0_odds.data.toList.drop 22 = dktX0_odds_1 := dk_seg dksX0_odds_0 22 rfl rfl
theorem dX0_odds_0 : decode cX0_odds 0 = .ok (.iload_n 1, 1) := dk_27 (dk_at dksX0_odds_0 0 rfl rfl)
theorem dX0_odds_1 : decode cX0_odds 1 = .ok (.iconst 1, 1) := dk_4 (dk_at dksX0_odds_0 1 rfl rfl)
theorem dX0_odds_2 : decode cX0_odds 2 = .ok (.bipush 60, 2) := dk_16 60 (dk_at dksX0_odds_0 2 rfl rfl)
theorem dX0_odds_4 : decode cX0_odds 4 = .ok (.invokestatic 188, 3) := dk_184 0 188 (dk_at dksX0_odds_0 4 rfl rfl)
theorem dX0_odds_7 : decode cX0_odds 7 = .ok (.ifCond .eq 18, 3) := dk_153 0 18 (dk_at dksX0_odds_0 7 rfl rfl)
theorem dX0_odds_10 : decode cX0_odds 10 = .ok (.aload_n 0, 1) := dk_42 (dk_at dksX0_odds_0 10 rfl rfl)
theorem dX0_odds_11 : decode cX0_odds 11 = .ok (.iconst 0, 1) := dk_3 (dk_at dksX0_odds_0 11 rfl rfl)
theorem dX0_odds_12 : decode cX0_odds 12 = .ok (.aload_n 0, 1) := dk_42 (dk_at dksX0_odds_0 12 rfl rfl)
theorem dX0_odds_13 : decode cX0_odds 13 = .ok (.getfield 346, 3) := dk_180 1 90 (dk_at dksX0_odds_0 13 rfl rfl)
theorem dX0_odds_16 : decode cX0_odds 16 = .ok (.iconst 1, 1) := dk_4 (dk_at dksX0_odds_0 16 rfl rfl)
theorem dX0_odds_17 : decode cX0_odds 17 = .ok (.isub, 1) := dk_100 (dk_at dksX0_odds_0 17 rfl rfl)
theorem dX0_odds_18 : decode cX0_odds 18 = .ok (.iload_n 1, 1) := dk_27 (dk_at dksX0_odds_0 18 rfl rfl)
theorem dX0_odds_19 : decode cX0_odds 19 = .ok (.invokevirtual 524, 3) := dk_182 2 12 (dk_at dksX0_odds_0 19 rfl rfl)
theorem dX0_odds_22 : decode cX0_odds 22 = .ok (.goto 4, 3) := dk_167 0 4 (dk_at dksX0_odds_1 0 rfl rfl)
theorem dX0_odds_25 : decode cX0_odds 25 = .ok (.iconst (-1), 1) := dk_2 (dk_at dksX0_odds_1 3 rfl rfl)
theorem dX0_odds_26 : decode cX0_odds 26 = .ok (.ireturn, 1) := dk_172 (dk_at dksX0_odds_1 4 rfl rfl)
abbrev cX0_oddsFrom : ByteArray := prog_1_method_64_code
def yX0_oddsFrom : MethodName := ⟨RX0, "oddsFrom", "(III)I"⟩
def dkwX0_oddsFrom_1 : List UInt8 := [19, 2, 2, 184, 2, 3, 54, 4, 132, 5, 1, 167, 255, 230, 21, 4, 172]
abbrev dktX0_oddsFrom_1 : List UInt8 := dkwX0_oddsFrom_1 ++ []
def dkwX0_oddsFrom_0 : List UInt8 := [19, 2, 2, 54, 4, 27, 54, 5, 21, 5, 28, 163, 0, 26, 21, 4, 42, 21, 5, 29, 182, 2, 9]
abbrev dktX0_oddsFrom_0 : List UInt8 := dkwX0_oddsFrom_0 ++ dktX0_oddsFrom_1
theorem dksX0_oddsFrom_0 : cX0_oddsFrom.data.toList.drop 0 = dktX0_oddsFrom_0 := by decide +kernel
theorem dksX0_oddsFrom_1 : cX0_oddsFrom.data.toList.drop 23 = dktX0_oddsFrom_1 := dk_seg dksX0_oddsFrom_0 23 rfl rfl
theorem dX0_oddsFrom_0 : decode cX0_oddsFrom 0 = .ok (.ldc_w 514, 3) := dk_19 2 2 (dk_at dksX0_oddsFrom_0 0 rfl rfl)
theorem dX0_oddsFrom_3 : decode cX0_oddsFrom 3 = .ok (.istore 4, 2) := dk_54 4 (dk_at dksX0_oddsFrom_0 3 rfl rfl)
theorem dX0_oddsFrom_5 : decode cX0_oddsFrom 5 = .ok (.iload_n 1, 1) := dk_27 (dk_at dksX0_oddsFrom_0 5 rfl rfl)
theorem dX0_oddsFrom_6 : decode cX0_oddsFrom 6 = .ok (.istore 5, 2) := dk_54 5 (dk_at dksX0_oddsFrom_0 6 rfl rfl)
theorem dX0_oddsFrom_8 : decode cX0_oddsFrom 8 = .ok (.iload 5, 2) := dk_21 5 (dk_at dksX0_oddsFrom_0 8 rfl rfl)
theorem dX0_oddsFrom_10 : decode cX0_oddsFrom 10 = .ok (.iload_n 2, 1) := dk_28 (dk_at dksX0_oddsFrom_0 10 rfl rfl)
theorem dX0_oddsFrom_11 : decode cX0_oddsFrom 11 = .ok (.if_icmp .gt 26, 3) := dk_163 0 26 (dk_at dksX0_oddsFrom_0 11 rfl rfl)
theorem dX0_oddsFrom_14 : decode cX0_oddsFrom 14 = .ok (.iload 4, 2) := dk_21 4 (dk_at dksX0_oddsFrom_0 14 rfl rfl)
theorem dX0_oddsFrom_16 : decode cX0_oddsFrom 16 = .ok (.aload_n 0, 1) := dk_42 (dk_at dksX0_oddsFrom_0 16 rfl rfl)
theorem dX0_oddsFrom_17 : decode cX0_oddsFrom 17 = .ok (.iload 5, 2) := dk_21 5 (dk_at dksX0_oddsFrom_0 17 rfl rfl)
theorem dX0_oddsFrom_19 : decode cX0_oddsFrom 19 = .ok (.iload_n 3, 1) := dk_29 (dk_at dksX0_oddsFrom_0 19 rfl rfl)
theorem dX0_oddsFrom_20 : decode cX0_oddsFrom 20 = .ok (.invokevirtual 521, 3) := dk_182 2 9 (dk_at dksX0_oddsFrom_0 20 rfl rfl)
theorem dX0_oddsFrom_23 : decode cX0_oddsFrom 23 = .ok (.ldc_w 514, 3) := dk_19 2 2 (dk_at dksX0_oddsFrom_1 0 rfl rfl)
theorem dX0_oddsFrom_26 : decode cX0_oddsFrom 26 = .ok (.invokestatic 515, 3) := dk_184 2 3 (dk_at dksX0_oddsFrom_1 3 rfl rfl)
theorem dX0_oddsFrom_29 : decode cX0_oddsFrom 29 = .ok (.istore 4, 2) := dk_54 4 (dk_at dksX0_oddsFrom_1 6 rfl rfl)
theorem dX0_oddsFrom_31 : decode cX0_oddsFrom 31 = .ok (.iinc 5 1, 3) := dk_132 5 1 (dk_at dksX0_oddsFrom_1 8 rfl rfl)
theorem dX0_oddsFrom_34 : decode cX0_oddsFrom 34 = .ok (.goto (-26), 3) := dk_167 255 230 (dk_at dksX0_oddsFrom_1 11 rfl rfl)
theorem dX0_oddsFrom_37 : decode cX0_oddsFrom 37 = .ok (.iload 4, 2) := dk_21 4 (dk_at dksX0_oddsFrom_1 14 rfl rfl)
theorem dX0_oddsFrom_39 : decode cX0_oddsFrom 39 = .ok (.ireturn, 1) := dk_172 (dk_at dksX0_oddsFrom_1 16 rfl rfl)
abbrev cX0_oddsOf : ByteArray := prog_1_method_63_code
def yX0_oddsOf : MethodName := ⟨RX0, "oddsOf", "(II)I"⟩
def dkwX0_oddsOf_2 : List UInt8 := [28, 184, 2, 6, 172]
abbrev dktX0_oddsOf_2 : List UInt8 := dkwX0_oddsOf_2 ++ []
def dkwX0_oddsOf_1 : List UInt8 := [180, 1, 159, 27, 184, 1, 200, 153, 0, 9, 19, 2, 2, 167, 0, 15, 42, 180, 0, 152, 27, 182, 1, 209]
abbrev dktX0_oddsOf_1 : List UInt8 := dkwX0_oddsOf_1 ++ dktX0_oddsOf_2
def dkwX0_oddsOf_0 : List UInt8 := [42, 180, 0, 152, 180, 1, 161, 27, 184, 1, 200, 153, 0, 7, 3, 167, 0, 35, 42, 180, 0, 152]
abbrev dktX0_oddsOf_0 : List UInt8 := dkwX0_oddsOf_0 ++ dktX0_oddsOf_1
theorem dksX0_oddsOf_0 : cX0_oddsOf.data.toList.drop 0 = dktX0_oddsOf_0 := by decide +kernel
theorem dksX0_oddsOf_1 : cX0_oddsOf.data.toList.drop 22 = dktX0_oddsOf_1 := dk_seg dksX0_oddsOf_0 22 rfl rfl
theorem dksX0_oddsOf_2 : cX0_oddsOf.data.toList.drop 46 = dktX0_oddsOf_2 := dk_seg dksX0_oddsOf_1 24 rfl rfl
theorem dX0_oddsOf_0 : decode cX0_oddsOf 0 = .ok (.aload_n 0, 1) := dk_42 (dk_at dksX0_oddsOf_0 0 rfl rfl)
theorem dX0_oddsOf_1 : decode cX0_oddsOf 1 = .ok (.getfield 152, 3) := dk_180 0 152 (dk_at dksX0_oddsOf_0 1 rfl rfl)
theorem dX0_oddsOf_4 : decode cX0_oddsOf 4 = .ok (.getfield 417, 3) := dk_180 1 161 (dk_at dksX0_oddsOf_0 4 rfl rfl)
theorem dX0_oddsOf_7 : decode cX0_oddsOf 7 = .ok (.iload_n 1, 1) := dk_27 (dk_at dksX0_oddsOf_0 7 rfl rfl)
theorem dX0_oddsOf_8 : decode cX0_oddsOf 8 = .ok (.invokestatic 456, 3) := dk_184 1 200 (dk_at dksX0_oddsOf_0 8 rfl rfl)
theorem dX0_oddsOf_11 : decode cX0_oddsOf 11 = .ok (.ifCond .eq 7, 3) := dk_153 0 7 (dk_at dksX0_oddsOf_0 11 rfl rfl)
theorem dX0_oddsOf_14 : decode cX0_oddsOf 14 = .ok (.iconst 0, 1) := dk_3 (dk_at dksX0_oddsOf_0 14 rfl rfl)
theorem dX0_oddsOf_15 : decode cX0_oddsOf 15 = .ok (.goto 35, 3) := dk_167 0 35 (dk_at dksX0_oddsOf_0 15 rfl rfl)
theorem dX0_oddsOf_18 : decode cX0_oddsOf 18 = .ok (.aload_n 0, 1) := dk_42 (dk_at dksX0_oddsOf_0 18 rfl rfl)
theorem dX0_oddsOf_19 : decode cX0_oddsOf 19 = .ok (.getfield 152, 3) := dk_180 0 152 (dk_at dksX0_oddsOf_0 19 rfl rfl)
theorem dX0_oddsOf_22 : decode cX0_oddsOf 22 = .ok (.getfield 415, 3) := dk_180 1 159 (dk_at dksX0_oddsOf_1 0 rfl rfl)
theorem dX0_oddsOf_25 : decode cX0_oddsOf 25 = .ok (.iload_n 1, 1) := dk_27 (dk_at dksX0_oddsOf_1 3 rfl rfl)
theorem dX0_oddsOf_26 : decode cX0_oddsOf 26 = .ok (.invokestatic 456, 3) := dk_184 1 200 (dk_at dksX0_oddsOf_1 4 rfl rfl)
theorem dX0_oddsOf_29 : decode cX0_oddsOf 29 = .ok (.ifCond .eq 9, 3) := dk_153 0 9 (dk_at dksX0_oddsOf_1 7 rfl rfl)
theorem dX0_oddsOf_32 : decode cX0_oddsOf 32 = .ok (.ldc_w 514, 3) := dk_19 2 2 (dk_at dksX0_oddsOf_1 10 rfl rfl)
theorem dX0_oddsOf_35 : decode cX0_oddsOf 35 = .ok (.goto 15, 3) := dk_167 0 15 (dk_at dksX0_oddsOf_1 13 rfl rfl)
theorem dX0_oddsOf_38 : decode cX0_oddsOf 38 = .ok (.aload_n 0, 1) := dk_42 (dk_at dksX0_oddsOf_1 16 rfl rfl)
theorem dX0_oddsOf_39 : decode cX0_oddsOf 39 = .ok (.getfield 152, 3) := dk_180 0 152 (dk_at dksX0_oddsOf_1 17 rfl rfl)
theorem dX0_oddsOf_42 : decode cX0_oddsOf 42 = .ok (.iload_n 1, 1) := dk_27 (dk_at dksX0_oddsOf_1 20 rfl rfl)
theorem dX0_oddsOf_43 : decode cX0_oddsOf 43 = .ok (.invokevirtual 465, 3) := dk_182 1 209 (dk_at dksX0_oddsOf_1 21 rfl rfl)
theorem dX0_oddsOf_46 : decode cX0_oddsOf 46 = .ok (.iload_n 2, 1) := dk_28 (dk_at dksX0_oddsOf_2 0 rfl rfl)
theorem dX0_oddsOf_47 : decode cX0_oddsOf 47 = .ok (.invokestatic 518, 3) := dk_184 2 6 (dk_at dksX0_oddsOf_2 1 rfl rfl)
theorem dX0_oddsOf_50 : decode cX0_oddsOf 50 = .ok (.ireturn, 1) := dk_172 (dk_at dksX0_oddsOf_2 4 rfl rfl)
abbrev cX0_readyBy : ByteArray := prog_1_method_62_code
def yX0_readyBy : MethodName := ⟨RX0, "readyBy", "(II)I"⟩
def dkwX0_readyBy_1 : List UInt8 := [132, 3, 1, 167, 255, 235, 19, 2, 2, 28, 100, 172]
abbrev dktX0_readyBy_1 : List UInt8 := dkwX0_readyBy_1 ++ []
def dkwX0_readyBy_0 : List UInt8 := [19, 2, 2, 61, 3, 62, 29, 27, 162, 0, 22, 28, 17, 3, 232, 26, 100, 17, 3, 232, 184, 2, 3, 61]
abbrev dktX0_readyBy_0 : List UInt8 := dkwX0_readyBy_0 ++ dktX0_readyBy_1
theorem dksX0_readyBy_0 : cX0_readyBy.data.toList.drop 0 = dktX0_readyBy_0 := by decide +kernel
theorem dksX0_readyBy_1 : cX0_readyBy.data.toList.drop 24 = dktX0_readyBy_1 := dk_seg dksX0_readyBy_0 24 rfl rfl
theorem dX0_readyBy_0 : decode cX0_readyBy 0 = .ok (.ldc_w 514, 3) := dk_19 2 2 (dk_at dksX0_readyBy_0 0 rfl rfl)
theorem dX0_readyBy_3 : decode cX0_readyBy 3 = .ok (.istore_n 2, 1) := dk_61 (dk_at dksX0_readyBy_0 3 rfl rfl)
theorem dX0_readyBy_4 : decode cX0_readyBy 4 = .ok (.iconst 0, 1) := dk_3 (dk_at dksX0_readyBy_0 4 rfl rfl)
theorem dX0_readyBy_5 : decode cX0_readyBy 5 = .ok (.istore_n 3, 1) := dk_62 (dk_at dksX0_readyBy_0 5 rfl rfl)
theorem dX0_readyBy_6 : decode cX0_readyBy 6 = .ok (.iload_n 3, 1) := dk_29 (dk_at dksX0_readyBy_0 6 rfl rfl)
theorem dX0_readyBy_7 : decode cX0_readyBy 7 = .ok (.iload_n 1, 1) := dk_27 (dk_at dksX0_readyBy_0 7 rfl rfl)
theorem dX0_readyBy_8 : decode cX0_readyBy 8 = .ok (.if_icmp .ge 22, 3) := dk_162 0 22 (dk_at dksX0_readyBy_0 8 rfl rfl)
theorem dX0_readyBy_11 : decode cX0_readyBy 11 = .ok (.iload_n 2, 1) := dk_28 (dk_at dksX0_readyBy_0 11 rfl rfl)
theorem dX0_readyBy_12 : decode cX0_readyBy 12 = .ok (.sipush 1000, 3) := dk_17 3 232 (dk_at dksX0_readyBy_0 12 rfl rfl)
theorem dX0_readyBy_15 : decode cX0_readyBy 15 = .ok (.iload_n 0, 1) := dk_26 (dk_at dksX0_readyBy_0 15 rfl rfl)
theorem dX0_readyBy_16 : decode cX0_readyBy 16 = .ok (.isub, 1) := dk_100 (dk_at dksX0_readyBy_0 16 rfl rfl)
theorem dX0_readyBy_17 : decode cX0_readyBy 17 = .ok (.sipush 1000, 3) := dk_17 3 232 (dk_at dksX0_readyBy_0 17 rfl rfl)
theorem dX0_readyBy_20 : decode cX0_readyBy 20 = .ok (.invokestatic 515, 3) := dk_184 2 3 (dk_at dksX0_readyBy_0 20 rfl rfl)
theorem dX0_readyBy_23 : decode cX0_readyBy 23 = .ok (.istore_n 2, 1) := dk_61 (dk_at dksX0_readyBy_0 23 rfl rfl)
theorem dX0_readyBy_24 : decode cX0_readyBy 24 = .ok (.iinc 3 1, 3) := dk_132 3 1 (dk_at dksX0_readyBy_1 0 rfl rfl)
theorem dX0_readyBy_27 : decode cX0_readyBy 27 = .ok (.goto (-21), 3) := dk_167 255 235 (dk_at dksX0_readyBy_1 3 rfl rfl)
theorem dX0_readyBy_30 : decode cX0_readyBy 30 = .ok (.ldc_w 514, 3) := dk_19 2 2 (dk_at dksX0_readyBy_1 6 rfl rfl)
theorem dX0_readyBy_33 : decode cX0_readyBy 33 = .ok (.iload_n 2, 1) := dk_28 (dk_at dksX0_readyBy_1 9 rfl rfl)
theorem dX0_readyBy_34 : decode cX0_readyBy 34 = .ok (.isub, 1) := dk_100 (dk_at dksX0_readyBy_1 10 rfl rfl)
theorem dX0_readyBy_35 : decode cX0_readyBy 35 = .ok (.ireturn, 1) := dk_172 (dk_at dksX0_readyBy_1 11 rfl rfl)
abbrev cX0_partOf : ByteArray := prog_1_method_7_code
def yX0_partOf : MethodName := ⟨RX0, "partOf", "(III)I"⟩
def dkwX0_partOf_0 : List UInt8 := [26, 133, 27, 133, 105, 28, 133, 109, 136, 172]
abbrev dktX0_partOf_0 : List UInt8 := dkwX0_partOf_0 ++ []
theorem dksX0_partOf_0 : cX0_partOf.data.toList.drop 0 = dktX0_partOf_0 := by decide +kernel
theorem dX0_partOf_0 : decode cX0_partOf 0 = .ok (.iload_n 0, 1) := dk_26 (dk_at dksX0_partOf_0 0 rfl rfl)
theorem dX0_partOf_1 : decode cX0_partOf 1 = .ok (.i2l, 1) := dk_133 (dk_at dksX0_partOf_0 1 rfl rfl)
theorem dX0_partOf_2 : decode cX0_partOf 2 = .ok (.iload_n 1, 1) := dk_27 (dk_at dksX0_partOf_0 2 rfl rfl)
theorem dX0_partOf_3 : decode cX0_partOf 3 = .ok (.i2l, 1) := dk_133 (dk_at dksX0_partOf_0 3 rfl rfl)
theorem dX0_partOf_4 : decode cX0_partOf 4 = .ok (.lmul, 1) := dk_105 (dk_at dksX0_partOf_0 4 rfl rfl)
theorem dX0_partOf_5 : decode cX0_partOf 5 = .ok (.iload_n 2, 1) := dk_28 (dk_at dksX0_partOf_0 5 rfl rfl)
theorem dX0_partOf_6 : decode cX0_partOf 6 = .ok (.i2l, 1) := dk_133 (dk_at dksX0_partOf_0 6 rfl rfl)
theorem dX0_partOf_7 : decode cX0_partOf 7 = .ok (.ldiv, 1) := dk_109 (dk_at dksX0_partOf_0 7 rfl rfl)
theorem dX0_partOf_8 : decode cX0_partOf 8 = .ok (.l2i, 1) := dk_136 (dk_at dksX0_partOf_0 8 rfl rfl)
theorem dX0_partOf_9 : decode cX0_partOf 9 = .ok (.ireturn, 1) := dk_172 (dk_at dksX0_partOf_0 9 rfl rfl)
abbrev cX0_holds : ByteArray := prog_1_method_66_code
def yX0_holds : MethodName := ⟨RX0, "holds", "(II)I"⟩
def dkwX0_holds_4 : List UInt8 := [27, 182, 2, 9, 172]
abbrev dktX0_holds_4 : List UInt8 := dkwX0_holds_4 ++ []
def dkwX0_holds_3 : List UInt8 := [21, 4, 62, 132, 4, 1, 167, 255, 205, 29, 2, 159, 0, 7, 28, 154, 0, 7, 29, 167, 0, 9, 42, 29]
abbrev dktX0_holds_3 : List UInt8 := dkwX0_holds_3 ++ dktX0_holds_4
def dkwX0_holds_2 : List UInt8 := [154, 0, 27, 29, 2, 159, 0, 19, 42, 21, 4, 27, 182, 2, 9, 42, 29, 27, 182, 2, 9, 162, 0, 6]
abbrev dktX0_holds_2 : List UInt8 := dkwX0_holds_2 ++ dktX0_holds_3
def dkwX0_holds_1 : List UInt8 := [54, 4, 21, 4, 42, 180, 1, 90, 162, 0, 48, 42, 180, 0, 152, 180, 1, 159, 21, 4, 184, 1, 200]
abbrev dktX0_holds_1 : List UInt8 := dkwX0_holds_1 ++ dktX0_holds_2
def dkwX0_holds_0 : List UInt8 := [27, 4, 16, 60, 184, 0, 188, 153, 0, 12, 28, 3, 4, 184, 0, 188, 154, 0, 5, 2, 172, 2, 62, 3]
abbrev dktX0_holds_0 : List UInt8 := dkwX0_holds_0 ++ dktX0_holds_1
theorem dksX0_holds_0 : cX0_holds.data.toList.drop 0 = dktX0_holds_0 := by decide +kernel
theorem dksX0_holds_1 : cX0_holds.data.toList.drop 24 = dktX0_holds_1 := dk_seg dksX0_holds_0 24 rfl rfl
theorem dksX0_holds_2 : cX0_holds.data.toList.drop 47 = dktX0_holds_2 := dk_seg dksX0_holds_1 23 rfl rfl
theorem dksX0_holds_3 : cX0_holds.data.toList.drop 71 = dktX0_holds_3 := dk_seg dksX0_holds_2 24 rfl rfl
theorem dksX0_holds_4 : cX0_holds.data.toList.drop 95 = dktX0_holds_4 := dk_seg dksX0_holds_3 24 rfl rfl
theorem dX0_holds_0 : decode cX0_holds 0 = .ok (.iload_n 1, 1) := dk_27 (dk_at dksX0_holds_0 0 rfl rfl)
theorem dX0_holds_1 : decode cX0_holds 1 = .ok (.iconst 1, 1) := dk_4 (dk_at dksX0_holds_0 1 rfl rfl)
theorem dX0_holds_2 : decode cX0_holds 2 = .ok (.bipush 60, 2) := dk_16 60 (dk_at dksX0_holds_0 2 rfl rfl)
theorem dX0_holds_4 : decode cX0_holds 4 = .ok (.invokestatic 188, 3) := dk_184 0 188 (dk_at dksX0_holds_0 4 rfl rfl)
theorem dX0_holds_7 : decode cX0_holds 7 = .ok (.ifCond .eq 12, 3) := dk_153 0 12 (dk_at dksX0_holds_0 7 rfl rfl)
theorem dX0_holds_10 : decode cX0_holds 10 = .ok (.iload_n 2, 1) := dk_28 (dk_at dksX0_holds_0 10 rfl rfl)
theorem dX0_holds_11 : decode cX0_holds 11 = .ok (.iconst 0, 1) := dk_3 (dk_at dksX0_holds_0 11 rfl rfl)
theorem dX0_holds_12 : decode cX0_holds 12 = .ok (.iconst 1, 1) := dk_4 (dk_at dksX0_holds_0 12 rfl rfl)
theorem dX0_holds_13 : decode cX0_holds 13 = .ok (.invokestatic 188, 3) := dk_184 0 188 (dk_at dksX0_holds_0 13 rfl rfl)
theorem dX0_holds_16 : decode cX0_holds 16 = .ok (.ifCond .ne 5, 3) := dk_154 0 5 (dk_at dksX0_holds_0 16 rfl rfl)
theorem dX0_holds_19 : decode cX0_holds 19 = .ok (.iconst (-1), 1) := dk_2 (dk_at dksX0_holds_0 19 rfl rfl)
theorem dX0_holds_20 : decode cX0_holds 20 = .ok (.ireturn, 1) := dk_172 (dk_at dksX0_holds_0 20 rfl rfl)
theorem dX0_holds_21 : decode cX0_holds 21 = .ok (.iconst (-1), 1) := dk_2 (dk_at dksX0_holds_0 21 rfl rfl)
theorem dX0_holds_22 : decode cX0_holds 22 = .ok (.istore_n 3, 1) := dk_62 (dk_at dksX0_holds_0 22 rfl rfl)
theorem dX0_holds_23 : decode cX0_holds 23 = .ok (.iconst 0, 1) := dk_3 (dk_at dksX0_holds_0 23 rfl rfl)
theorem dX0_holds_24 : decode cX0_holds 24 = .ok (.istore 4, 2) := dk_54 4 (dk_at dksX0_holds_1 0 rfl rfl)
theorem dX0_holds_26 : decode cX0_holds 26 = .ok (.iload 4, 2) := dk_21 4 (dk_at dksX0_holds_1 2 rfl rfl)
theorem dX0_holds_28 : decode cX0_holds 28 = .ok (.aload_n 0, 1) := dk_42 (dk_at dksX0_holds_1 4 rfl rfl)
theorem dX0_holds_29 : decode cX0_holds 29 = .ok (.getfield 346, 3) := dk_180 1 90 (dk_at dksX0_holds_1 5 rfl rfl)
theorem dX0_holds_32 : decode cX0_holds 32 = .ok (.if_icmp .ge 48, 3) := dk_162 0 48 (dk_at dksX0_holds_1 8 rfl rfl)
theorem dX0_holds_35 : decode cX0_holds 35 = .ok (.aload_n 0, 1) := dk_42 (dk_at dksX0_holds_1 11 rfl rfl)
theorem dX0_holds_36 : decode cX0_holds 36 = .ok (.getfield 152, 3) := dk_180 0 152 (dk_at dksX0_holds_1 12 rfl rfl)
theorem dX0_holds_39 : decode cX0_holds 39 = .ok (.getfield 415, 3) := dk_180 1 159 (dk_at dksX0_holds_1 15 rfl rfl)
theorem dX0_holds_42 : decode cX0_holds 42 = .ok (.iload 4, 2) := dk_21 4 (dk_at dksX0_holds_1 18 rfl rfl)
theorem dX0_holds_44 : decode cX0_holds 44 = .ok (.invokestatic 456, 3) := dk_184 1 200 (dk_at dksX0_holds_1 20 rfl rfl)
theorem dX0_holds_47 : decode cX0_holds 47 = .ok (.ifCond .ne 27, 3) := dk_154 0 27 (dk_at dksX0_holds_2 0 rfl rfl)
theorem dX0_holds_50 : decode cX0_holds 50 = .ok (.iload_n 3, 1) := dk_29 (dk_at dksX0_holds_2 3 rfl rfl)
theorem dX0_holds_51 : decode cX0_holds 51 = .ok (.iconst (-1), 1) := dk_2 (dk_at dksX0_holds_2 4 rfl rfl)
theorem dX0_holds_52 : decode cX0_holds 52 = .ok (.if_icmp .eq 19, 3) := dk_159 0 19 (dk_at dksX0_holds_2 5 rfl rfl)
theorem dX0_holds_55 : decode cX0_holds 55 = .ok (.aload_n 0, 1) := dk_42 (dk_at dksX0_holds_2 8 rfl rfl)
theorem dX0_holds_56 : decode cX0_holds 56 = .ok (.iload 4, 2) := dk_21 4 (dk_at dksX0_holds_2 9 rfl rfl)
theorem dX0_holds_58 : decode cX0_holds 58 = .ok (.iload_n 1, 1) := dk_27 (dk_at dksX0_holds_2 11 rfl rfl)
theorem dX0_holds_59 : decode cX0_holds 59 = .ok (.invokevirtual 521, 3) := dk_182 2 9 (dk_at dksX0_holds_2 12 rfl rfl)
theorem dX0_holds_62 : decode cX0_holds 62 = .ok (.aload_n 0, 1) := dk_42 (dk_at dksX0_holds_2 15 rfl rfl)
theorem dX0_holds_63 : decode cX0_holds 63 = .ok (.iload_n 3, 1) := dk_29 (dk_at dksX0_holds_2 16 rfl rfl)
theorem dX0_holds_64 : decode cX0_holds 64 = .ok (.iload_n 1, 1) := dk_27 (dk_at dksX0_holds_2 17 rfl rfl)
theorem dX0_holds_65 : decode cX0_holds 65 = .ok (.invokevirtual 521, 3) := dk_182 2 9 (dk_at dksX0_holds_2 18 rfl rfl)
theorem dX0_holds_68 : decode cX0_holds 68 = .ok (.if_icmp .ge 6, 3) := dk_162 0 6 (dk_at dksX0_holds_2 21 rfl rfl)
theorem dX0_holds_71 : decode cX0_holds 71 = .ok (.iload 4, 2) := dk_21 4 (dk_at dksX0_holds_3 0 rfl rfl)
theorem dX0_holds_73 : decode cX0_holds 73 = .ok (.istore_n 3, 1) := dk_62 (dk_at dksX0_holds_3 2 rfl rfl)
theorem dX0_holds_74 : decode cX0_holds 74 = .ok (.iinc 4 1, 3) := dk_132 4 1 (dk_at dksX0_holds_3 3 rfl rfl)
theorem dX0_holds_77 : decode cX0_holds 77 = .ok (.goto (-51), 3) := dk_167 255 205 (dk_at dksX0_holds_3 6 rfl rfl)
theorem dX0_holds_80 : decode cX0_holds 80 = .ok (.iload_n 3, 1) := dk_29 (dk_at dksX0_holds_3 9 rfl rfl)
theorem dX0_holds_81 : decode cX0_holds 81 = .ok (.iconst (-1), 1) := dk_2 (dk_at dksX0_holds_3 10 rfl rfl)
theorem dX0_holds_82 : decode cX0_holds 82 = .ok (.if_icmp .eq 7, 3) := dk_159 0 7 (dk_at dksX0_holds_3 11 rfl rfl)
theorem dX0_holds_85 : decode cX0_holds 85 = .ok (.iload_n 2, 1) := dk_28 (dk_at dksX0_holds_3 14 rfl rfl)
theorem dX0_holds_86 : decode cX0_holds 86 = .ok (.ifCond .ne 7, 3) := dk_154 0 7 (dk_at dksX0_holds_3 15 rfl rfl)
theorem dX0_holds_89 : decode cX0_holds 89 = .ok (.iload_n 3, 1) := dk_29 (dk_at dksX0_holds_3 18 rfl rfl)
theorem dX0_holds_90 : decode cX0_holds 90 = .ok (.goto 9, 3) := dk_167 0 9 (dk_at dksX0_holds_3 19 rfl rfl)
theorem dX0_holds_93 : decode cX0_holds 93 = .ok (.aload_n 0, 1) := dk_42 (dk_at dksX0_holds_3 22 rfl rfl)
theorem dX0_holds_94 : decode cX0_holds 94 = .ok (.iload_n 3, 1) := dk_29 (dk_at dksX0_holds_3 23 rfl rfl)
theorem dX0_holds_95 : decode cX0_holds 95 = .ok (.iload_n 1, 1) := dk_27 (dk_at dksX0_holds_4 0 rfl rfl)
theorem dX0_holds_96 : decode cX0_holds 96 = .ok (.invokevirtual 521, 3) := dk_182 2 9 (dk_at dksX0_holds_4 1 rfl rfl)
theorem dX0_holds_99 : decode cX0_holds 99 = .ok (.ireturn, 1) := dk_172 (dk_at dksX0_holds_4 4 rfl rfl)
abbrev cX0_many : ByteArray := prog_1_method_67_code
def yX0_many : MethodName := ⟨RX0, "many", "(II)I"⟩
def dkwX0_many_3 : List UInt8 := [167, 255, 222, 21, 5, 172]
abbrev dktX0_many_3 : List UInt8 := dkwX0_many_3 ++ []
def dkwX0_many_2 : List UInt8 := [19, 2, 2, 184, 2, 3, 54, 4, 5, 21, 4, 104, 19, 2, 2, 162, 0, 6, 21, 5, 172, 132, 5, 1]
abbrev dktX0_many_2 : List UInt8 := dkwX0_many_2 ++ dktX0_many_3
def dkwX0_many_1 : List UInt8 := [28, 184, 2, 6, 62, 19, 2, 2, 54, 4, 3, 54, 5, 21, 5, 16, 60, 162, 0, 33, 21, 4, 29]
abbrev dktX0_many_1 : List UInt8 := dkwX0_many_1 ++ dktX0_many_2
def dkwX0_many_0 : List UInt8 := [27, 3, 17, 3, 232, 184, 0, 188, 153, 0, 13, 28, 4, 16, 60, 184, 0, 188, 154, 0, 5, 2, 172, 27]
abbrev dktX0_many_0 : List UInt8 := dkwX0_many_0 ++ dktX0_many_1
theorem dksX0_many_0 : cX0_many.data.toList.drop 0 = dktX0_many_0 := by decide +kernel
theorem dksX0_many_1 : cX0_many.data.toList.drop 24 = dktX0_many_1 := dk_seg dksX0_many_0 24 rfl rfl
theorem dksX0_many_2 : cX0_many.data.toList.drop 47 = dktX0_many_2 := dk_seg dksX0_many_1 23 rfl rfl
theorem dksX0_many_3 : cX0_many.data.toList.drop 71 = dktX0_many_3 := dk_seg dksX0_many_2 24 rfl rfl
theorem dX0_many_0 : decode cX0_many 0 = .ok (.iload_n 1, 1) := dk_27 (dk_at dksX0_many_0 0 rfl rfl)
theorem dX0_many_1 : decode cX0_many 1 = .ok (.iconst 0, 1) := dk_3 (dk_at dksX0_many_0 1 rfl rfl)
theorem dX0_many_2 : decode cX0_many 2 = .ok (.sipush 1000, 3) := dk_17 3 232 (dk_at dksX0_many_0 2 rfl rfl)
theorem dX0_many_5 : decode cX0_many 5 = .ok (.invokestatic 188, 3) := dk_184 0 188 (dk_at dksX0_many_0 5 rfl rfl)
theorem dX0_many_8 : decode cX0_many 8 = .ok (.ifCond .eq 13, 3) := dk_153 0 13 (dk_at dksX0_many_0 8 rfl rfl)
theorem dX0_many_11 : decode cX0_many 11 = .ok (.iload_n 2, 1) := dk_28 (dk_at dksX0_many_0 11 rfl rfl)
theorem dX0_many_12 : decode cX0_many 12 = .ok (.iconst 1, 1) := dk_4 (dk_at dksX0_many_0 12 rfl rfl)
theorem dX0_many_13 : decode cX0_many 13 = .ok (.bipush 60, 2) := dk_16 60 (dk_at dksX0_many_0 13 rfl rfl)
theorem dX0_many_15 : decode cX0_many 15 = .ok (.invokestatic 188, 3) := dk_184 0 188 (dk_at dksX0_many_0 15 rfl rfl)
theorem dX0_many_18 : decode cX0_many 18 = .ok (.ifCond .ne 5, 3) := dk_154 0 5 (dk_at dksX0_many_0 18 rfl rfl)
theorem dX0_many_21 : decode cX0_many 21 = .ok (.iconst (-1), 1) := dk_2 (dk_at dksX0_many_0 21 rfl rfl)
theorem dX0_many_22 : decode cX0_many 22 = .ok (.ireturn, 1) := dk_172 (dk_at dksX0_many_0 22 rfl rfl)
theorem dX0_many_23 : decode cX0_many 23 = .ok (.iload_n 1, 1) := dk_27 (dk_at dksX0_many_0 23 rfl rfl)
theorem dX0_many_24 : decode cX0_many 24 = .ok (.iload_n 2, 1) := dk_28 (dk_at dksX0_many_1 0 rfl rfl)
theorem dX0_many_25 : decode cX0_many 25 = .ok (.invokestatic 518, 3) := dk_184 2 6 (dk_at dksX0_many_1 1 rfl rfl)
theorem dX0_many_28 : decode cX0_many 28 = .ok (.istore_n 3, 1) := dk_62 (dk_at dksX0_many_1 4 rfl rfl)
theorem dX0_many_29 : decode cX0_many 29 = .ok (.ldc_w 514, 3) := dk_19 2 2 (dk_at dksX0_many_1 5 rfl rfl)
theorem dX0_many_32 : decode cX0_many 32 = .ok (.istore 4, 2) := dk_54 4 (dk_at dksX0_many_1 8 rfl rfl)
theorem dX0_many_34 : decode cX0_many 34 = .ok (.iconst 0, 1) := dk_3 (dk_at dksX0_many_1 10 rfl rfl)
theorem dX0_many_35 : decode cX0_many 35 = .ok (.istore 5, 2) := dk_54 5 (dk_at dksX0_many_1 11 rfl rfl)
theorem dX0_many_37 : decode cX0_many 37 = .ok (.iload 5, 2) := dk_21 5 (dk_at dksX0_many_1 13 rfl rfl)
theorem dX0_many_39 : decode cX0_many 39 = .ok (.bipush 60, 2) := dk_16 60 (dk_at dksX0_many_1 15 rfl rfl)
theorem dX0_many_41 : decode cX0_many 41 = .ok (.if_icmp .ge 33, 3) := dk_162 0 33 (dk_at dksX0_many_1 17 rfl rfl)
theorem dX0_many_44 : decode cX0_many 44 = .ok (.iload 4, 2) := dk_21 4 (dk_at dksX0_many_1 20 rfl rfl)
theorem dX0_many_46 : decode cX0_many 46 = .ok (.iload_n 3, 1) := dk_29 (dk_at dksX0_many_1 22 rfl rfl)
theorem dX0_many_47 : decode cX0_many 47 = .ok (.ldc_w 514, 3) := dk_19 2 2 (dk_at dksX0_many_2 0 rfl rfl)
theorem dX0_many_50 : decode cX0_many 50 = .ok (.invokestatic 515, 3) := dk_184 2 3 (dk_at dksX0_many_2 3 rfl rfl)
theorem dX0_many_53 : decode cX0_many 53 = .ok (.istore 4, 2) := dk_54 4 (dk_at dksX0_many_2 6 rfl rfl)
theorem dX0_many_55 : decode cX0_many 55 = .ok (.iconst 2, 1) := dk_5 (dk_at dksX0_many_2 8 rfl rfl)
theorem dX0_many_56 : decode cX0_many 56 = .ok (.iload 4, 2) := dk_21 4 (dk_at dksX0_many_2 9 rfl rfl)
theorem dX0_many_58 : decode cX0_many 58 = .ok (.imul, 1) := dk_104 (dk_at dksX0_many_2 11 rfl rfl)
theorem dX0_many_59 : decode cX0_many 59 = .ok (.ldc_w 514, 3) := dk_19 2 2 (dk_at dksX0_many_2 12 rfl rfl)
theorem dX0_many_62 : decode cX0_many 62 = .ok (.if_icmp .ge 6, 3) := dk_162 0 6 (dk_at dksX0_many_2 15 rfl rfl)
theorem dX0_many_65 : decode cX0_many 65 = .ok (.iload 5, 2) := dk_21 5 (dk_at dksX0_many_2 18 rfl rfl)
theorem dX0_many_67 : decode cX0_many 67 = .ok (.ireturn, 1) := dk_172 (dk_at dksX0_many_2 20 rfl rfl)
theorem dX0_many_68 : decode cX0_many 68 = .ok (.iinc 5 1, 3) := dk_132 5 1 (dk_at dksX0_many_2 21 rfl rfl)
theorem dX0_many_71 : decode cX0_many 71 = .ok (.goto (-34), 3) := dk_167 255 222 (dk_at dksX0_many_3 0 rfl rfl)
theorem dX0_many_74 : decode cX0_many 74 = .ok (.iload 5, 2) := dk_21 5 (dk_at dksX0_many_3 3 rfl rfl)
theorem dX0_many_76 : decode cX0_many 76 = .ok (.ireturn, 1) := dk_172 (dk_at dksX0_many_3 5 rfl rfl)
abbrev cX0_bridges : ByteArray := prog_1_method_70_code
def yX0_bridges : MethodName := ⟨RX0, "bridges", "(III)I"⟩
def dkwX0_bridges_7 : List UInt8 := [21, 5, 167, 0, 5, 21, 6, 172]
abbrev dktX0_bridges_7 : List UInt8 := dkwX0_bridges_7 ++ []
def dkwX0_bridges_6 : List UInt8 := [54, 5, 21, 8, 54, 6, 132, 7, 1, 167, 255, 163, 21, 5, 2, 159, 0, 8, 29, 4, 160, 0, 8]
abbrev dktX0_bridges_6 : List UInt8 := dkwX0_bridges_6 ++ dktX0_bridges_7
def dkwX0_bridges_5 : List UInt8 := [42, 180, 0, 152, 180, 1, 164, 21, 7, 128, 27, 28, 182, 2, 31, 154, 0, 6, 167, 0, 11, 21, 7]
abbrev dktX0_bridges_5 : List UInt8 := dkwX0_bridges_5 ++ dktX0_bridges_6
def dkwX0_bridges_4 : List UInt8 := [163, 0, 53, 21, 8, 21, 6, 160, 0, 16, 21, 7, 184, 1, 250, 21, 5, 184, 1, 250, 162, 0, 33, 42]
abbrev dktX0_bridges_4 : List UInt8 := dkwX0_bridges_4 ++ dktX0_bridges_5
def dkwX0_bridges_3 : List UInt8 := [21, 4, 2, 130, 126, 153, 0, 6, 167, 0, 69, 42, 21, 7, 27, 182, 2, 29, 54, 8, 21, 8, 21, 6]
abbrev dktX0_bridges_3 : List UInt8 := dkwX0_bridges_3 ++ dktX0_bridges_4
def dkwX0_bridges_2 : List UInt8 := [54, 5, 19, 2, 28, 54, 6, 3, 54, 7, 21, 7, 4, 42, 180, 1, 90, 120, 162, 0, 88, 21, 7]
abbrev dktX0_bridges_2 : List UInt8 := dkwX0_bridges_2 ++ dktX0_bridges_3
def dkwX0_bridges_1 : List UInt8 := [184, 0, 188, 154, 0, 5, 2, 172, 42, 180, 1, 90, 42, 186, 2, 21, 0, 0, 184, 2, 24, 54, 4, 2]
abbrev dktX0_bridges_1 : List UInt8 := dkwX0_bridges_1 ++ dktX0_bridges_2
def dkwX0_bridges_0 : List UInt8 := [27, 4, 16, 60, 184, 0, 188, 153, 0, 23, 28, 3, 19, 2, 2, 184, 0, 188, 153, 0, 12, 29, 3, 4]
abbrev dktX0_bridges_0 : List UInt8 := dkwX0_bridges_0 ++ dktX0_bridges_1
theorem dksX0_bridges_0 : cX0_bridges.data.toList.drop 0 = dktX0_bridges_0 := by decide +kernel
theorem dksX0_bridges_1 : cX0_bridges.data.toList.drop 24 = dktX0_bridges_1 := dk_seg dksX0_bridges_0 24 rfl rfl
theorem dksX0_bridges_2 : cX0_bridges.data.toList.drop 48 = dktX0_bridges_2 := dk_seg dksX0_bridges_1 24 rfl rfl
theorem dksX0_bridges_3 : cX0_bridges.data.toList.drop 71 = dktX0_bridges_3 := dk_seg dksX0_bridges_2 23 rfl rfl
theorem dksX0_bridges_4 : cX0_bridges.data.toList.drop 95 = dktX0_bridges_4 := dk_seg dksX0_bridges_3 24 rfl rfl
theorem dksX0_bridges_5 : cX0_bridges.data.toList.drop 119 = dktX0_bridges_5 := dk_seg dksX0_bridges_4 24 rfl rfl
theorem dksX0_bridges_6 : cX0_bridges.data.toList.drop 142 = dktX0_bridges_6 := dk_seg dksX0_bridges_5 23 rfl rfl
theorem dksX0_bridges_7 : cX0_bridges.data.toList.drop 165 = dktX0_bridges_7 := dk_seg dksX0_bridges_6 23 rfl rfl
theorem dX0_bridges_0 : decode cX0_bridges 0 = .ok (.iload_n 1, 1) := dk_27 (dk_at dksX0_bridges_0 0 rfl rfl)
theorem dX0_bridges_1 : decode cX0_bridges 1 = .ok (.iconst 1, 1) := dk_4 (dk_at dksX0_bridges_0 1 rfl rfl)
theorem dX0_bridges_2 : decode cX0_bridges 2 = .ok (.bipush 60, 2) := dk_16 60 (dk_at dksX0_bridges_0 2 rfl rfl)
theorem dX0_bridges_4 : decode cX0_bridges 4 = .ok (.invokestatic 188, 3) := dk_184 0 188 (dk_at dksX0_bridges_0 4 rfl rfl)
theorem dX0_bridges_7 : decode cX0_bridges 7 = .ok (.ifCond .eq 23, 3) := dk_153 0 23 (dk_at dksX0_bridges_0 7 rfl rfl)
theorem dX0_bridges_10 : decode cX0_bridges 10 = .ok (.iload_n 2, 1) := dk_28 (dk_at dksX0_bridges_0 10 rfl rfl)
theorem dX0_bridges_11 : decode cX0_bridges 11 = .ok (.iconst 0, 1) := dk_3 (dk_at dksX0_bridges_0 11 rfl rfl)
theorem dX0_bridges_12 : decode cX0_bridges 12 = .ok (.ldc_w 514, 3) := dk_19 2 2 (dk_at dksX0_bridges_0 12 rfl rfl)
theorem dX0_bridges_15 : decode cX0_bridges 15 = .ok (.invokestatic 188, 3) := dk_184 0 188 (dk_at dksX0_bridges_0 15 rfl rfl)
theorem dX0_bridges_18 : decode cX0_bridges 18 = .ok (.ifCond .eq 12, 3) := dk_153 0 12 (dk_at dksX0_bridges_0 18 rfl rfl)
theorem dX0_bridges_21 : decode cX0_bridges 21 = .ok (.iload_n 3, 1) := dk_29 (dk_at dksX0_bridges_0 21 rfl rfl)
theorem dX0_bridges_22 : decode cX0_bridges 22 = .ok (.iconst 0, 1) := dk_3 (dk_at dksX0_bridges_0 22 rfl rfl)
theorem dX0_bridges_23 : decode cX0_bridges 23 = .ok (.iconst 1, 1) := dk_4 (dk_at dksX0_bridges_0 23 rfl rfl)
theorem dX0_bridges_24 : decode cX0_bridges 24 = .ok (.invokestatic 188, 3) := dk_184 0 188 (dk_at dksX0_bridges_1 0 rfl rfl)
theorem dX0_bridges_27 : decode cX0_bridges 27 = .ok (.ifCond .ne 5, 3) := dk_154 0 5 (dk_at dksX0_bridges_1 3 rfl rfl)
theorem dX0_bridges_30 : decode cX0_bridges 30 = .ok (.iconst (-1), 1) := dk_2 (dk_at dksX0_bridges_1 6 rfl rfl)
theorem dX0_bridges_31 : decode cX0_bridges 31 = .ok (.ireturn, 1) := dk_172 (dk_at dksX0_bridges_1 7 rfl rfl)
theorem dX0_bridges_32 : decode cX0_bridges 32 = .ok (.aload_n 0, 1) := dk_42 (dk_at dksX0_bridges_1 8 rfl rfl)
theorem dX0_bridges_33 : decode cX0_bridges 33 = .ok (.getfield 346, 3) := dk_180 1 90 (dk_at dksX0_bridges_1 9 rfl rfl)
theorem dX0_bridges_36 : decode cX0_bridges 36 = .ok (.aload_n 0, 1) := dk_42 (dk_at dksX0_bridges_1 12 rfl rfl)
theorem dX0_bridges_37 : decode cX0_bridges 37 = .ok (.invokedynamic 533, 5) := by decide +kernel
theorem dX0_bridges_42 : decode cX0_bridges 42 = .ok (.invokestatic 536, 3) := dk_184 2 24 (dk_at dksX0_bridges_1 18 rfl rfl)
theorem dX0_bridges_45 : decode cX0_bridges 45 = .ok (.istore 4, 2) := dk_54 4 (dk_at dksX0_bridges_1 21 rfl rfl)
theorem dX0_bridges_47 : decode cX0_bridges 47 = .ok (.iconst (-1), 1) := dk_2 (dk_at dksX0_bridges_1 23 rfl rfl)
theorem dX0_bridges_48 : decode cX0_bridges 48 = .ok (.istore 5, 2) := dk_54 5 (dk_at dksX0_bridges_2 0 rfl rfl)
theorem dX0_bridges_50 : decode cX0_bridges 50 = .ok (.ldc_w 540, 3) := dk_19 2 28 (dk_at dksX0_bridges_2 2 rfl rfl)
theorem dX0_bridges_53 : decode cX0_bridges 53 = .ok (.istore 6, 2) := dk_54 6 (dk_at dksX0_bridges_2 5 rfl rfl)
theorem dX0_bridges_55 : decode cX0_bridges 55 = .ok (.iconst 0, 1) := dk_3 (dk_at dksX0_bridges_2 7 rfl rfl)
theorem dX0_bridges_56 : decode cX0_bridges 56 = .ok (.istore 7, 2) := dk_54 7 (dk_at dksX0_bridges_2 8 rfl rfl)
theorem dX0_bridges_58 : decode cX0_bridges 58 = .ok (.iload 7, 2) := dk_21 7 (dk_at dksX0_bridges_2 10 rfl rfl)
theorem dX0_bridges_60 : decode cX0_bridges 60 = .ok (.iconst 1, 1) := dk_4 (dk_at dksX0_bridges_2 12 rfl rfl)
theorem dX0_bridges_61 : decode cX0_bridges 61 = .ok (.aload_n 0, 1) := dk_42 (dk_at dksX0_bridges_2 13 rfl rfl)
theorem dX0_bridges_62 : decode cX0_bridges 62 = .ok (.getfield 346, 3) := dk_180 1 90 (dk_at dksX0_bridges_2 14 rfl rfl)
theorem dX0_bridges_65 : decode cX0_bridges 65 = .ok (.ishl, 1) := dk_120 (dk_at dksX0_bridges_2 17 rfl rfl)
theorem dX0_bridges_66 : decode cX0_bridges 66 = .ok (.if_icmp .ge 88, 3) := dk_162 0 88 (dk_at dksX0_bridges_2 18 rfl rfl)
theorem dX0_bridges_69 : decode cX0_bridges 69 = .ok (.iload 7, 2) := dk_21 7 (dk_at dksX0_bridges_2 21 rfl rfl)
theorem dX0_bridges_71 : decode cX0_bridges 71 = .ok (.iload 4, 2) := dk_21 4 (dk_at dksX0_bridges_3 0 rfl rfl)
theorem dX0_bridges_73 : decode cX0_bridges 73 = .ok (.iconst (-1), 1) := dk_2 (dk_at dksX0_bridges_3 2 rfl rfl)
theorem dX0_bridges_74 : decode cX0_bridges 74 = .ok (.ixor, 1) := dk_130 (dk_at dksX0_bridges_3 3 rfl rfl)
theorem dX0_bridges_75 : decode cX0_bridges 75 = .ok (.iand, 1) := dk_126 (dk_at dksX0_bridges_3 4 rfl rfl)
theorem dX0_bridges_76 : decode cX0_bridges 76 = .ok (.ifCond .eq 6, 3) := dk_153 0 6 (dk_at dksX0_bridges_3 5 rfl rfl)
theorem dX0_bridges_79 : decode cX0_bridges 79 = .ok (.goto 69, 3) := dk_167 0 69 (dk_at dksX0_bridges_3 8 rfl rfl)
theorem dX0_bridges_82 : decode cX0_bridges 82 = .ok (.aload_n 0, 1) := dk_42 (dk_at dksX0_bridges_3 11 rfl rfl)
theorem dX0_bridges_83 : decode cX0_bridges 83 = .ok (.iload 7, 2) := dk_21 7 (dk_at dksX0_bridges_3 12 rfl rfl)
theorem dX0_bridges_85 : decode cX0_bridges 85 = .ok (.iload_n 1, 1) := dk_27 (dk_at dksX0_bridges_3 14 rfl rfl)
theorem dX0_bridges_86 : decode cX0_bridges 86 = .ok (.invokevirtual 541, 3) := dk_182 2 29 (dk_at dksX0_bridges_3 15 rfl rfl)
theorem dX0_bridges_89 : decode cX0_bridges 89 = .ok (.istore 8, 2) := dk_54 8 (dk_at dksX0_bridges_3 18 rfl rfl)
theorem dX0_bridges_91 : decode cX0_bridges 91 = .ok (.iload 8, 2) := dk_21 8 (dk_at dksX0_bridges_3 20 rfl rfl)
theorem dX0_bridges_93 : decode cX0_bridges 93 = .ok (.iload 6, 2) := dk_21 6 (dk_at dksX0_bridges_3 22 rfl rfl)
theorem dX0_bridges_95 : decode cX0_bridges 95 = .ok (.if_icmp .gt 53, 3) := dk_163 0 53 (dk_at dksX0_bridges_4 0 rfl rfl)
theorem dX0_bridges_98 : decode cX0_bridges 98 = .ok (.iload 8, 2) := dk_21 8 (dk_at dksX0_bridges_4 3 rfl rfl)
theorem dX0_bridges_100 : decode cX0_bridges 100 = .ok (.iload 6, 2) := dk_21 6 (dk_at dksX0_bridges_4 5 rfl rfl)
theorem dX0_bridges_102 : decode cX0_bridges 102 = .ok (.if_icmp .ne 16, 3) := dk_160 0 16 (dk_at dksX0_bridges_4 7 rfl rfl)
theorem dX0_bridges_105 : decode cX0_bridges 105 = .ok (.iload 7, 2) := dk_21 7 (dk_at dksX0_bridges_4 10 rfl rfl)
theorem dX0_bridges_107 : decode cX0_bridges 107 = .ok (.invokestatic 506, 3) := dk_184 1 250 (dk_at dksX0_bridges_4 12 rfl rfl)
theorem dX0_bridges_110 : decode cX0_bridges 110 = .ok (.iload 5, 2) := dk_21 5 (dk_at dksX0_bridges_4 15 rfl rfl)
theorem dX0_bridges_112 : decode cX0_bridges 112 = .ok (.invokestatic 506, 3) := dk_184 1 250 (dk_at dksX0_bridges_4 17 rfl rfl)
theorem dX0_bridges_115 : decode cX0_bridges 115 = .ok (.if_icmp .ge 33, 3) := dk_162 0 33 (dk_at dksX0_bridges_4 20 rfl rfl)
theorem dX0_bridges_118 : decode cX0_bridges 118 = .ok (.aload_n 0, 1) := dk_42 (dk_at dksX0_bridges_4 23 rfl rfl)
theorem dX0_bridges_119 : decode cX0_bridges 119 = .ok (.aload_n 0, 1) := dk_42 (dk_at dksX0_bridges_5 0 rfl rfl)
theorem dX0_bridges_120 : decode cX0_bridges 120 = .ok (.getfield 152, 3) := dk_180 0 152 (dk_at dksX0_bridges_5 1 rfl rfl)
theorem dX0_bridges_123 : decode cX0_bridges 123 = .ok (.getfield 420, 3) := dk_180 1 164 (dk_at dksX0_bridges_5 4 rfl rfl)
theorem dX0_bridges_126 : decode cX0_bridges 126 = .ok (.iload 7, 2) := dk_21 7 (dk_at dksX0_bridges_5 7 rfl rfl)
theorem dX0_bridges_128 : decode cX0_bridges 128 = .ok (.ior, 1) := dk_128 (dk_at dksX0_bridges_5 9 rfl rfl)
theorem dX0_bridges_129 : decode cX0_bridges 129 = .ok (.iload_n 1, 1) := dk_27 (dk_at dksX0_bridges_5 10 rfl rfl)
theorem dX0_bridges_130 : decode cX0_bridges 130 = .ok (.iload_n 2, 1) := dk_28 (dk_at dksX0_bridges_5 11 rfl rfl)
theorem dX0_bridges_131 : decode cX0_bridges 131 = .ok (.invokevirtual 543, 3) := dk_182 2 31 (dk_at dksX0_bridges_5 12 rfl rfl)
theorem dX0_bridges_134 : decode cX0_bridges 134 = .ok (.ifCond .ne 6, 3) := dk_154 0 6 (dk_at dksX0_bridges_5 15 rfl rfl)
theorem dX0_bridges_137 : decode cX0_bridges 137 = .ok (.goto 11, 3) := dk_167 0 11 (dk_at dksX0_bridges_5 18 rfl rfl)
theorem dX0_bridges_140 : decode cX0_bridges 140 = .ok (.iload 7, 2) := dk_21 7 (dk_at dksX0_bridges_5 21 rfl rfl)
theorem dX0_bridges_142 : decode cX0_bridges 142 = .ok (.istore 5, 2) := dk_54 5 (dk_at dksX0_bridges_6 0 rfl rfl)
theorem dX0_bridges_144 : decode cX0_bridges 144 = .ok (.iload 8, 2) := dk_21 8 (dk_at dksX0_bridges_6 2 rfl rfl)
theorem dX0_bridges_146 : decode cX0_bridges 146 = .ok (.istore 6, 2) := dk_54 6 (dk_at dksX0_bridges_6 4 rfl rfl)
theorem dX0_bridges_148 : decode cX0_bridges 148 = .ok (.iinc 7 1, 3) := dk_132 7 1 (dk_at dksX0_bridges_6 6 rfl rfl)
theorem dX0_bridges_151 : decode cX0_bridges 151 = .ok (.goto (-93), 3) := dk_167 255 163 (dk_at dksX0_bridges_6 9 rfl rfl)
theorem dX0_bridges_154 : decode cX0_bridges 154 = .ok (.iload 5, 2) := dk_21 5 (dk_at dksX0_bridges_6 12 rfl rfl)
theorem dX0_bridges_156 : decode cX0_bridges 156 = .ok (.iconst (-1), 1) := dk_2 (dk_at dksX0_bridges_6 14 rfl rfl)
theorem dX0_bridges_157 : decode cX0_bridges 157 = .ok (.if_icmp .eq 8, 3) := dk_159 0 8 (dk_at dksX0_bridges_6 15 rfl rfl)
theorem dX0_bridges_160 : decode cX0_bridges 160 = .ok (.iload_n 3, 1) := dk_29 (dk_at dksX0_bridges_6 18 rfl rfl)
theorem dX0_bridges_161 : decode cX0_bridges 161 = .ok (.iconst 1, 1) := dk_4 (dk_at dksX0_bridges_6 19 rfl rfl)
theorem dX0_bridges_162 : decode cX0_bridges 162 = .ok (.if_icmp .ne 8, 3) := dk_160 0 8 (dk_at dksX0_bridges_6 20 rfl rfl)
theorem dX0_bridges_165 : decode cX0_bridges 165 = .ok (.iload 5, 2) := dk_21 5 (dk_at dksX0_bridges_7 0 rfl rfl)
theorem dX0_bridges_167 : decode cX0_bridges 167 = .ok (.goto 5, 3) := dk_167 0 5 (dk_at dksX0_bridges_7 2 rfl rfl)
theorem dX0_bridges_170 : decode cX0_bridges 170 = .ok (.iload 6, 2) := dk_21 6 (dk_at dksX0_bridges_7 5 rfl rfl)
theorem dX0_bridges_172 : decode cX0_bridges 172 = .ok (.ireturn, 1) := dk_172 (dk_at dksX0_bridges_7 7 rfl rfl)
abbrev cX0_lambda_bridges_0 : ByteArray := prog_1_method_107_code
def yX0_lambda_bridges_0 : MethodName := ⟨RX0, "lambda$bridges$0", "(I)Z"⟩
def dkwX0_lambda_bridges_0_0 : List UInt8 := [42, 180, 0, 152, 27, 182, 1, 182, 172]
abbrev dktX0_lambda_bridges_0_0 : List UInt8 := dkwX0_lambda_bridges_0_0 ++ []
theorem dksX0_lambda_bridges_0_0 : cX0_lambda_bridges_0.data.toList.drop 0 = dktX0_lambda_bridges_0_0 := by decide +kernel
theorem dX0_lambda_bridges_0_0 : decode cX0_lambda_bridges_0 0 = .ok (.aload_n 0, 1) := dk_42 (dk_at dksX0_lambda_bridges_0_0 0 rfl rfl)
theorem dX0_lambda_bridges_0_1 : decode cX0_lambda_bridges_0 1 = .ok (.getfield 152, 3) := dk_180 0 152 (dk_at dksX0_lambda_bridges_0_0 1 rfl rfl)
theorem dX0_lambda_bridges_0_4 : decode cX0_lambda_bridges_0 4 = .ok (.iload_n 1, 1) := dk_27 (dk_at dksX0_lambda_bridges_0_0 4 rfl rfl)
theorem dX0_lambda_bridges_0_5 : decode cX0_lambda_bridges_0 5 = .ok (.invokevirtual 438, 3) := dk_182 1 182 (dk_at dksX0_lambda_bridges_0_0 5 rfl rfl)
theorem dX0_lambda_bridges_0_8 : decode cX0_lambda_bridges_0 8 = .ok (.ireturn, 1) := dk_172 (dk_at dksX0_lambda_bridges_0_0 8 rfl rfl)
abbrev cX0_setOf : ByteArray := prog_1_method_5_code
def yX0_setOf : MethodName := ⟨RX0, "setOf", "(ILTwelveChain$Condition;)I"⟩
def dkwX0_setOf_1 : List UInt8 := [167, 0, 4, 3, 128, 61, 132, 3, 1, 167, 255, 228, 28, 172]
abbrev dktX0_setOf_1 : List UInt8 := dkwX0_setOf_1 ++ []
def dkwX0_setOf_0 : List UInt8 := [3, 61, 3, 62, 29, 26, 162, 0, 29, 28, 43, 29, 185, 0, 16, 2, 0, 153, 0, 9, 4, 29, 120]
abbrev dktX0_setOf_0 : List UInt8 := dkwX0_setOf_0 ++ dktX0_setOf_1
theorem dksX0_setOf_0 : cX0_setOf.data.toList.drop 0 = dktX0_setOf_0 := by decide +kernel
theorem dksX0_setOf_1 : cX0_setOf.data.toList.drop 23 = dktX0_setOf_1 := dk_seg dksX0_setOf_0 23 rfl rfl
theorem dX0_setOf_0 : decode cX0_setOf 0 = .ok (.iconst 0, 1) := dk_3 (dk_at dksX0_setOf_0 0 rfl rfl)
theorem dX0_setOf_1 : decode cX0_setOf 1 = .ok (.istore_n 2, 1) := dk_61 (dk_at dksX0_setOf_0 1 rfl rfl)
theorem dX0_setOf_2 : decode cX0_setOf 2 = .ok (.iconst 0, 1) := dk_3 (dk_at dksX0_setOf_0 2 rfl rfl)
theorem dX0_setOf_3 : decode cX0_setOf 3 = .ok (.istore_n 3, 1) := dk_62 (dk_at dksX0_setOf_0 3 rfl rfl)
theorem dX0_setOf_4 : decode cX0_setOf 4 = .ok (.iload_n 3, 1) := dk_29 (dk_at dksX0_setOf_0 4 rfl rfl)
theorem dX0_setOf_5 : decode cX0_setOf 5 = .ok (.iload_n 0, 1) := dk_26 (dk_at dksX0_setOf_0 5 rfl rfl)
theorem dX0_setOf_6 : decode cX0_setOf 6 = .ok (.if_icmp .ge 29, 3) := dk_162 0 29 (dk_at dksX0_setOf_0 6 rfl rfl)
theorem dX0_setOf_9 : decode cX0_setOf 9 = .ok (.iload_n 2, 1) := dk_28 (dk_at dksX0_setOf_0 9 rfl rfl)
theorem dX0_setOf_10 : decode cX0_setOf 10 = .ok (.aload_n 1, 1) := dk_43 (dk_at dksX0_setOf_0 10 rfl rfl)
theorem dX0_setOf_11 : decode cX0_setOf 11 = .ok (.iload_n 3, 1) := dk_29 (dk_at dksX0_setOf_0 11 rfl rfl)
theorem dX0_setOf_12 : decode cX0_setOf 12 = .ok (.invokeinterface 16 2, 5) := by decide +kernel
theorem dX0_setOf_17 : decode cX0_setOf 17 = .ok (.ifCond .eq 9, 3) := dk_153 0 9 (dk_at dksX0_setOf_0 17 rfl rfl)
theorem dX0_setOf_20 : decode cX0_setOf 20 = .ok (.iconst 1, 1) := dk_4 (dk_at dksX0_setOf_0 20 rfl rfl)
theorem dX0_setOf_21 : decode cX0_setOf 21 = .ok (.iload_n 3, 1) := dk_29 (dk_at dksX0_setOf_0 21 rfl rfl)
theorem dX0_setOf_22 : decode cX0_setOf 22 = .ok (.ishl, 1) := dk_120 (dk_at dksX0_setOf_0 22 rfl rfl)
theorem dX0_setOf_23 : decode cX0_setOf 23 = .ok (.goto 4, 3) := dk_167 0 4 (dk_at dksX0_setOf_1 0 rfl rfl)
theorem dX0_setOf_26 : decode cX0_setOf 26 = .ok (.iconst 0, 1) := dk_3 (dk_at dksX0_setOf_1 3 rfl rfl)
theorem dX0_setOf_27 : decode cX0_setOf 27 = .ok (.ior, 1) := dk_128 (dk_at dksX0_setOf_1 4 rfl rfl)
theorem dX0_setOf_28 : decode cX0_setOf 28 = .ok (.istore_n 2, 1) := dk_61 (dk_at dksX0_setOf_1 5 rfl rfl)
theorem dX0_setOf_29 : decode cX0_setOf 29 = .ok (.iinc 3 1, 3) := dk_132 3 1 (dk_at dksX0_setOf_1 6 rfl rfl)
theorem dX0_setOf_32 : decode cX0_setOf 32 = .ok (.goto (-28), 3) := dk_167 255 228 (dk_at dksX0_setOf_1 9 rfl rfl)
theorem dX0_setOf_35 : decode cX0_setOf 35 = .ok (.iload_n 2, 1) := dk_28 (dk_at dksX0_setOf_1 12 rfl rfl)
theorem dX0_setOf_36 : decode cX0_setOf 36 = .ok (.ireturn, 1) := dk_172 (dk_at dksX0_setOf_1 13 rfl rfl)
abbrev cX0_costOf : ByteArray := prog_1_method_69_code
def yX0_costOf : MethodName := ⟨RX0, "costOf", "(II)I"⟩
def dkwX0_costOf_2 : List UInt8 := [172]
abbrev dktX0_costOf_2 : List UInt8 := dkwX0_costOf_2 ++ []
def dkwX0_costOf_1 : List UInt8 := [28, 42, 180, 0, 152, 21, 4, 182, 1, 218, 104, 167, 0, 4, 3, 96, 62, 132, 4, 1, 167, 255, 217, 29]
abbrev dktX0_costOf_1 : List UInt8 := dkwX0_costOf_1 ++ dktX0_costOf_2
def dkwX0_costOf_0 : List UInt8 := [3, 62, 3, 54, 4, 21, 4, 42, 180, 1, 90, 162, 0, 36, 29, 27, 21, 4, 184, 1, 200, 153, 0, 17]
abbrev dktX0_costOf_0 : List UInt8 := dkwX0_costOf_0 ++ dktX0_costOf_1
theorem dksX0_costOf_0 : cX0_costOf.data.toList.drop 0 = dktX0_costOf_0 := by decide +kernel
theorem dksX0_costOf_1 : cX0_costOf.data.toList.drop 24 = dktX0_costOf_1 := dk_seg dksX0_costOf_0 24 rfl rfl
theorem dksX0_costOf_2 : cX0_costOf.data.toList.drop 48 = dktX0_costOf_2 := dk_seg dksX0_costOf_1 24 rfl rfl
theorem dX0_costOf_0 : decode cX0_costOf 0 = .ok (.iconst 0, 1) := dk_3 (dk_at dksX0_costOf_0 0 rfl rfl)
theorem dX0_costOf_1 : decode cX0_costOf 1 = .ok (.istore_n 3, 1) := dk_62 (dk_at dksX0_costOf_0 1 rfl rfl)
theorem dX0_costOf_2 : decode cX0_costOf 2 = .ok (.iconst 0, 1) := dk_3 (dk_at dksX0_costOf_0 2 rfl rfl)
theorem dX0_costOf_3 : decode cX0_costOf 3 = .ok (.istore 4, 2) := dk_54 4 (dk_at dksX0_costOf_0 3 rfl rfl)
theorem dX0_costOf_5 : decode cX0_costOf 5 = .ok (.iload 4, 2) := dk_21 4 (dk_at dksX0_costOf_0 5 rfl rfl)
theorem dX0_costOf_7 : decode cX0_costOf 7 = .ok (.aload_n 0, 1) := dk_42 (dk_at dksX0_costOf_0 7 rfl rfl)
theorem dX0_costOf_8 : decode cX0_costOf 8 = .ok (.getfield 346, 3) := dk_180 1 90 (dk_at dksX0_costOf_0 8 rfl rfl)
theorem dX0_costOf_11 : decode cX0_costOf 11 = .ok (.if_icmp .ge 36, 3) := dk_162 0 36 (dk_at dksX0_costOf_0 11 rfl rfl)
theorem dX0_costOf_14 : decode cX0_costOf 14 = .ok (.iload_n 3, 1) := dk_29 (dk_at dksX0_costOf_0 14 rfl rfl)
theorem dX0_costOf_15 : decode cX0_costOf 15 = .ok (.iload_n 1, 1) := dk_27 (dk_at dksX0_costOf_0 15 rfl rfl)
theorem dX0_costOf_16 : decode cX0_costOf 16 = .ok (.iload 4, 2) := dk_21 4 (dk_at dksX0_costOf_0 16 rfl rfl)
theorem dX0_costOf_18 : decode cX0_costOf 18 = .ok (.invokestatic 456, 3) := dk_184 1 200 (dk_at dksX0_costOf_0 18 rfl rfl)
theorem dX0_costOf_21 : decode cX0_costOf 21 = .ok (.ifCond .eq 17, 3) := dk_153 0 17 (dk_at dksX0_costOf_0 21 rfl rfl)
theorem dX0_costOf_24 : decode cX0_costOf 24 = .ok (.iload_n 2, 1) := dk_28 (dk_at dksX0_costOf_1 0 rfl rfl)
theorem dX0_costOf_25 : decode cX0_costOf 25 = .ok (.aload_n 0, 1) := dk_42 (dk_at dksX0_costOf_1 1 rfl rfl)
theorem dX0_costOf_26 : decode cX0_costOf 26 = .ok (.getfield 152, 3) := dk_180 0 152 (dk_at dksX0_costOf_1 2 rfl rfl)
theorem dX0_costOf_29 : decode cX0_costOf 29 = .ok (.iload 4, 2) := dk_21 4 (dk_at dksX0_costOf_1 5 rfl rfl)
theorem dX0_costOf_31 : decode cX0_costOf 31 = .ok (.invokevirtual 474, 3) := dk_182 1 218 (dk_at dksX0_costOf_1 7 rfl rfl)
theorem dX0_costOf_34 : decode cX0_costOf 34 = .ok (.imul, 1) := dk_104 (dk_at dksX0_costOf_1 10 rfl rfl)
theorem dX0_costOf_35 : decode cX0_costOf 35 = .ok (.goto 4, 3) := dk_167 0 4 (dk_at dksX0_costOf_1 11 rfl rfl)
theorem dX0_costOf_38 : decode cX0_costOf 38 = .ok (.iconst 0, 1) := dk_3 (dk_at dksX0_costOf_1 14 rfl rfl)
theorem dX0_costOf_39 : decode cX0_costOf 39 = .ok (.iadd, 1) := dk_96 (dk_at dksX0_costOf_1 15 rfl rfl)
theorem dX0_costOf_40 : decode cX0_costOf 40 = .ok (.istore_n 3, 1) := dk_62 (dk_at dksX0_costOf_1 16 rfl rfl)
theorem dX0_costOf_41 : decode cX0_costOf 41 = .ok (.iinc 4 1, 3) := dk_132 4 1 (dk_at dksX0_costOf_1 17 rfl rfl)
theorem dX0_costOf_44 : decode cX0_costOf 44 = .ok (.goto (-39), 3) := dk_167 255 217 (dk_at dksX0_costOf_1 20 rfl rfl)
theorem dX0_costOf_47 : decode cX0_costOf 47 = .ok (.iload_n 3, 1) := dk_29 (dk_at dksX0_costOf_1 23 rfl rfl)
theorem dX0_costOf_48 : decode cX0_costOf 48 = .ok (.ireturn, 1) := dk_172 (dk_at dksX0_costOf_2 0 rfl rfl)
abbrev cX0_areLikely : ByteArray := prog_1_method_68_code
def yX0_areLikely : MethodName := ⟨RX0, "areLikely", "(III)Z"⟩
def dkwX0_areLikely_2 : List UInt8 := [3, 172, 132, 4, 1, 167, 255, 208, 4, 172]
abbrev dktX0_areLikely_2 : List UInt8 := dkwX0_areLikely_2 ++ []
def dkwX0_areLikely_1 : List UInt8 := [153, 0, 26, 42, 21, 4, 42, 180, 0, 152, 21, 4, 27, 182, 2, 18, 28, 182, 2, 12, 29, 162, 0, 5]
abbrev dktX0_areLikely_1 : List UInt8 := dkwX0_areLikely_1 ++ dktX0_areLikely_2
def dkwX0_areLikely_0 : List UInt8 := [3, 54, 4, 21, 4, 42, 180, 1, 90, 162, 0, 45, 42, 180, 0, 152, 21, 4, 27, 182, 2, 15]
abbrev dktX0_areLikely_0 : List UInt8 := dkwX0_areLikely_0 ++ dktX0_areLikely_1
theorem dksX0_areLikely_0 : cX0_areLikely.data.toList.drop 0 = dktX0_areLikely_0 := by decide +kernel
theorem dksX0_areLikely_1 : cX0_areLikely.data.toList.drop 22 = dktX0_areLikely_1 := dk_seg dksX0_areLikely_0 22 rfl rfl
theorem dksX0_areLikely_2 : cX0_areLikely.data.toList.drop 46 = dktX0_areLikely_2 := dk_seg dksX0_areLikely_1 24 rfl rfl
theorem dX0_areLikely_0 : decode cX0_areLikely 0 = .ok (.iconst 0, 1) := dk_3 (dk_at dksX0_areLikely_0 0 rfl rfl)
theorem dX0_areLikely_1 : decode cX0_areLikely 1 = .ok (.istore 4, 2) := dk_54 4 (dk_at dksX0_areLikely_0 1 rfl rfl)
theorem dX0_areLikely_3 : decode cX0_areLikely 3 = .ok (.iload 4, 2) := dk_21 4 (dk_at dksX0_areLikely_0 3 rfl rfl)
theorem dX0_areLikely_5 : decode cX0_areLikely 5 = .ok (.aload_n 0, 1) := dk_42 (dk_at dksX0_areLikely_0 5 rfl rfl)
theorem dX0_areLikely_6 : decode cX0_areLikely 6 = .ok (.getfield 346, 3) := dk_180 1 90 (dk_at dksX0_areLikely_0 6 rfl rfl)
theorem dX0_areLikely_9 : decode cX0_areLikely 9 = .ok (.if_icmp .ge 45, 3) := dk_162 0 45 (dk_at dksX0_areLikely_0 9 rfl rfl)
theorem dX0_areLikely_12 : decode cX0_areLikely 12 = .ok (.aload_n 0, 1) := dk_42 (dk_at dksX0_areLikely_0 12 rfl rfl)
theorem dX0_areLikely_13 : decode cX0_areLikely 13 = .ok (.getfield 152, 3) := dk_180 0 152 (dk_at dksX0_areLikely_0 13 rfl rfl)
theorem dX0_areLikely_16 : decode cX0_areLikely 16 = .ok (.iload 4, 2) := dk_21 4 (dk_at dksX0_areLikely_0 16 rfl rfl)
theorem dX0_areLikely_18 : decode cX0_areLikely 18 = .ok (.iload_n 1, 1) := dk_27 (dk_at dksX0_areLikely_0 18 rfl rfl)
theorem dX0_areLikely_19 : decode cX0_areLikely 19 = .ok (.invokevirtual 527, 3) := dk_182 2 15 (dk_at dksX0_areLikely_0 19 rfl rfl)
theorem dX0_areLikely_22 : decode cX0_areLikely 22 = .ok (.ifCond .eq 26, 3) := dk_153 0 26 (dk_at dksX0_areLikely_1 0 rfl rfl)
theorem dX0_areLikely_25 : decode cX0_areLikely 25 = .ok (.aload_n 0, 1) := dk_42 (dk_at dksX0_areLikely_1 3 rfl rfl)
theorem dX0_areLikely_26 : decode cX0_areLikely 26 = .ok (.iload 4, 2) := dk_21 4 (dk_at dksX0_areLikely_1 4 rfl rfl)
theorem dX0_areLikely_28 : decode cX0_areLikely 28 = .ok (.aload_n 0, 1) := dk_42 (dk_at dksX0_areLikely_1 6 rfl rfl)
theorem dX0_areLikely_29 : decode cX0_areLikely 29 = .ok (.getfield 152, 3) := dk_180 0 152 (dk_at dksX0_areLikely_1 7 rfl rfl)
theorem dX0_areLikely_32 : decode cX0_areLikely 32 = .ok (.iload 4, 2) := dk_21 4 (dk_at dksX0_areLikely_1 10 rfl rfl)
theorem dX0_areLikely_34 : decode cX0_areLikely 34 = .ok (.iload_n 1, 1) := dk_27 (dk_at dksX0_areLikely_1 12 rfl rfl)
theorem dX0_areLikely_35 : decode cX0_areLikely 35 = .ok (.invokevirtual 530, 3) := dk_182 2 18 (dk_at dksX0_areLikely_1 13 rfl rfl)
theorem dX0_areLikely_38 : decode cX0_areLikely 38 = .ok (.iload_n 2, 1) := dk_28 (dk_at dksX0_areLikely_1 16 rfl rfl)
theorem dX0_areLikely_39 : decode cX0_areLikely 39 = .ok (.invokevirtual 524, 3) := dk_182 2 12 (dk_at dksX0_areLikely_1 17 rfl rfl)
theorem dX0_areLikely_42 : decode cX0_areLikely 42 = .ok (.iload_n 3, 1) := dk_29 (dk_at dksX0_areLikely_1 20 rfl rfl)
theorem dX0_areLikely_43 : decode cX0_areLikely 43 = .ok (.if_icmp .ge 5, 3) := dk_162 0 5 (dk_at dksX0_areLikely_1 21 rfl rfl)
theorem dX0_areLikely_46 : decode cX0_areLikely 46 = .ok (.iconst 0, 1) := dk_3 (dk_at dksX0_areLikely_2 0 rfl rfl)
theorem dX0_areLikely_47 : decode cX0_areLikely 47 = .ok (.ireturn, 1) := dk_172 (dk_at dksX0_areLikely_2 1 rfl rfl)
theorem dX0_areLikely_48 : decode cX0_areLikely 48 = .ok (.iinc 4 1, 3) := dk_132 4 1 (dk_at dksX0_areLikely_2 2 rfl rfl)
theorem dX0_areLikely_51 : decode cX0_areLikely 51 = .ok (.goto (-48), 3) := dk_167 255 208 (dk_at dksX0_areLikely_2 5 rfl rfl)
theorem dX0_areLikely_54 : decode cX0_areLikely 54 = .ok (.iconst 1, 1) := dk_4 (dk_at dksX0_areLikely_2 8 rfl rfl)
theorem dX0_areLikely_55 : decode cX0_areLikely 55 = .ok (.ireturn, 1) := dk_172 (dk_at dksX0_areLikely_2 9 rfl rfl)
abbrev cX0_soon : ByteArray := prog_1_method_71_code
def yX0_soon : MethodName := ⟨RX0, "soon", "(I)I"⟩
def dkwX0_soon_1 : List UInt8 := [180, 1, 90, 4, 100, 28, 182, 2, 12, 27, 161, 0, 5, 28, 172, 132, 2, 1, 167, 255, 229, 2, 172]
abbrev dktX0_soon_1 : List UInt8 := dkwX0_soon_1 ++ []
def dkwX0_soon_0 : List UInt8 := [27, 3, 19, 2, 2, 184, 0, 188, 154, 0, 5, 2, 172, 4, 61, 28, 16, 60, 163, 0, 27, 42, 3, 42]
abbrev dktX0_soon_0 : List UInt8 := dkwX0_soon_0 ++ dktX0_soon_1
theorem dksX0_soon_0 : cX0_soon.data.toList.drop 0 = dktX0_soon_0 := by decide +kernel
theorem dksX0_soon_1 : cX0_soon.data.toList.drop 24 = dktX0_soon_1 := dk_seg dksX0_soon_0 24 rfl rfl
theorem dX0_soon_0 : decode cX0_soon 0 = .ok (.iload_n 1, 1) := dk_27 (dk_at dksX0_soon_0 0 rfl rfl)
theorem dX0_soon_1 : decode cX0_soon 1 = .ok (.iconst 0, 1) := dk_3 (dk_at dksX0_soon_0 1 rfl rfl)
theorem dX0_soon_2 : decode cX0_soon 2 = .ok (.ldc_w 514, 3) := dk_19 2 2 (dk_at dksX0_soon_0 2 rfl rfl)
theorem dX0_soon_5 : decode cX0_soon 5 = .ok (.invokestatic 188, 3) := dk_184 0 188 (dk_at dksX0_soon_0 5 rfl rfl)
theorem dX0_soon_8 : decode cX0_soon 8 = .ok (.ifCond .ne 5, 3) := dk_154 0 5 (dk_at dksX0_soon_0 8 rfl rfl)
theorem dX0_soon_11 : decode cX0_soon 11 = .ok (.iconst (-1), 1) := dk_2 (dk_at dksX0_soon_0 11 rfl rfl)
theorem dX0_soon_12 : decode cX0_soon 12 = .ok (.ireturn, 1) := dk_172 (dk_at dksX0_soon_0 12 rfl rfl)
theorem dX0_soon_13 : decode cX0_soon 13 = .ok (.iconst 1, 1) := dk_4 (dk_at dksX0_soon_0 13 rfl rfl)
theorem dX0_soon_14 : decode cX0_soon 14 = .ok (.istore_n 2, 1) := dk_61 (dk_at dksX0_soon_0 14 rfl rfl)
theorem dX0_soon_15 : decode cX0_soon 15 = .ok (.iload_n 2, 1) := dk_28 (dk_at dksX0_soon_0 15 rfl rfl)
theorem dX0_soon_16 : decode cX0_soon 16 = .ok (.bipush 60, 2) := dk_16 60 (dk_at dksX0_soon_0 16 rfl rfl)
theorem dX0_soon_18 : decode cX0_soon 18 = .ok (.if_icmp .gt 27, 3) := dk_163 0 27 (dk_at dksX0_soon_0 18 rfl rfl)
theorem dX0_soon_21 : decode cX0_soon 21 = .ok (.aload_n 0, 1) := dk_42 (dk_at dksX0_soon_0 21 rfl rfl)
theorem dX0_soon_22 : decode cX0_soon 22 = .ok (.iconst 0, 1) := dk_3 (dk_at dksX0_soon_0 22 rfl rfl)
theorem dX0_soon_23 : decode cX0_soon 23 = .ok (.aload_n 0, 1) := dk_42 (dk_at dksX0_soon_0 23 rfl rfl)
theorem dX0_soon_24 : decode cX0_soon 24 = .ok (.getfield 346, 3) := dk_180 1 90 (dk_at dksX0_soon_1 0 rfl rfl)
theorem dX0_soon_27 : decode cX0_soon 27 = .ok (.iconst 1, 1) := dk_4 (dk_at dksX0_soon_1 3 rfl rfl)
theorem dX0_soon_28 : decode cX0_soon 28 = .ok (.isub, 1) := dk_100 (dk_at dksX0_soon_1 4 rfl rfl)
theorem dX0_soon_29 : decode cX0_soon 29 = .ok (.iload_n 2, 1) := dk_28 (dk_at dksX0_soon_1 5 rfl rfl)
theorem dX0_soon_30 : decode cX0_soon 30 = .ok (.invokevirtual 524, 3) := dk_182 2 12 (dk_at dksX0_soon_1 6 rfl rfl)
theorem dX0_soon_33 : decode cX0_soon 33 = .ok (.iload_n 1, 1) := dk_27 (dk_at dksX0_soon_1 9 rfl rfl)
theorem dX0_soon_34 : decode cX0_soon 34 = .ok (.if_icmp .lt 5, 3) := dk_161 0 5 (dk_at dksX0_soon_1 10 rfl rfl)
theorem dX0_soon_37 : decode cX0_soon 37 = .ok (.iload_n 2, 1) := dk_28 (dk_at dksX0_soon_1 13 rfl rfl)
theorem dX0_soon_38 : decode cX0_soon 38 = .ok (.ireturn, 1) := dk_172 (dk_at dksX0_soon_1 14 rfl rfl)
theorem dX0_soon_39 : decode cX0_soon 39 = .ok (.iinc 2 1, 3) := dk_132 2 1 (dk_at dksX0_soon_1 15 rfl rfl)
theorem dX0_soon_42 : decode cX0_soon 42 = .ok (.goto (-27), 3) := dk_167 255 229 (dk_at dksX0_soon_1 18 rfl rfl)
theorem dX0_soon_45 : decode cX0_soon 45 = .ok (.iconst (-1), 1) := dk_2 (dk_at dksX0_soon_1 21 rfl rfl)
theorem dX0_soon_46 : decode cX0_soon 46 = .ok (.ireturn, 1) := dk_172 (dk_at dksX0_soon_1 22 rfl rfl)
abbrev cX0_hurry : ByteArray := prog_1_method_73_code
def yX0_hurry : MethodName := ⟨RX0, "hurry", "(II)I"⟩
def dkwX0_hurry_2 : List UInt8 := [29, 167, 0, 9, 42, 29, 27, 182, 2, 41, 172]
abbrev dktX0_hurry_2 : List UInt8 := dkwX0_hurry_2 ++ []
def dkwX0_hurry_1 : List UInt8 := [154, 0, 5, 2, 172, 42, 180, 1, 90, 42, 27, 186, 2, 34, 0, 0, 184, 2, 37, 62, 28, 154, 0, 7]
abbrev dktX0_hurry_1 : List UInt8 := dkwX0_hurry_1 ++ dktX0_hurry_2
def dkwX0_hurry_0 : List UInt8 := [27, 4, 16, 60, 184, 0, 188, 153, 0, 19, 28, 3, 4, 184, 0, 188, 153, 0, 10, 42, 180, 1, 90]
abbrev dktX0_hurry_0 : List UInt8 := dkwX0_hurry_0 ++ dktX0_hurry_1
theorem dksX0_hurry_0 : cX0_hurry.data.toList.drop 0 = dktX0_hurry_0 := by decide +kernel
theorem dksX0_hurry_1 : cX0_hurry.data.toList.drop 23 = dktX0_hurry_1 := dk_seg dksX0_hurry_0 23 rfl rfl
theorem dksX0_hurry_2 : cX0_hurry.data.toList.drop 47 = dktX0_hurry_2 := dk_seg dksX0_hurry_1 24 rfl rfl
theorem dX0_hurry_0 : decode cX0_hurry 0 = .ok (.iload_n 1, 1) := dk_27 (dk_at dksX0_hurry_0 0 rfl rfl)
theorem dX0_hurry_1 : decode cX0_hurry 1 = .ok (.iconst 1, 1) := dk_4 (dk_at dksX0_hurry_0 1 rfl rfl)
theorem dX0_hurry_2 : decode cX0_hurry 2 = .ok (.bipush 60, 2) := dk_16 60 (dk_at dksX0_hurry_0 2 rfl rfl)
theorem dX0_hurry_4 : decode cX0_hurry 4 = .ok (.invokestatic 188, 3) := dk_184 0 188 (dk_at dksX0_hurry_0 4 rfl rfl)
theorem dX0_hurry_7 : decode cX0_hurry 7 = .ok (.ifCond .eq 19, 3) := dk_153 0 19 (dk_at dksX0_hurry_0 7 rfl rfl)
theorem dX0_hurry_10 : decode cX0_hurry 10 = .ok (.iload_n 2, 1) := dk_28 (dk_at dksX0_hurry_0 10 rfl rfl)
theorem dX0_hurry_11 : decode cX0_hurry 11 = .ok (.iconst 0, 1) := dk_3 (dk_at dksX0_hurry_0 11 rfl rfl)
theorem dX0_hurry_12 : decode cX0_hurry 12 = .ok (.iconst 1, 1) := dk_4 (dk_at dksX0_hurry_0 12 rfl rfl)
theorem dX0_hurry_13 : decode cX0_hurry 13 = .ok (.invokestatic 188, 3) := dk_184 0 188 (dk_at dksX0_hurry_0 13 rfl rfl)
theorem dX0_hurry_16 : decode cX0_hurry 16 = .ok (.ifCond .eq 10, 3) := dk_153 0 10 (dk_at dksX0_hurry_0 16 rfl rfl)
theorem dX0_hurry_19 : decode cX0_hurry 19 = .ok (.aload_n 0, 1) := dk_42 (dk_at dksX0_hurry_0 19 rfl rfl)
theorem dX0_hurry_20 : decode cX0_hurry 20 = .ok (.getfield 346, 3) := dk_180 1 90 (dk_at dksX0_hurry_0 20 rfl rfl)
theorem dX0_hurry_23 : decode cX0_hurry 23 = .ok (.ifCond .ne 5, 3) := dk_154 0 5 (dk_at dksX0_hurry_1 0 rfl rfl)
theorem dX0_hurry_26 : decode cX0_hurry 26 = .ok (.iconst (-1), 1) := dk_2 (dk_at dksX0_hurry_1 3 rfl rfl)
theorem dX0_hurry_27 : decode cX0_hurry 27 = .ok (.ireturn, 1) := dk_172 (dk_at dksX0_hurry_1 4 rfl rfl)
theorem dX0_hurry_28 : decode cX0_hurry 28 = .ok (.aload_n 0, 1) := dk_42 (dk_at dksX0_hurry_1 5 rfl rfl)
theorem dX0_hurry_29 : decode cX0_hurry 29 = .ok (.getfield 346, 3) := dk_180 1 90 (dk_at dksX0_hurry_1 6 rfl rfl)
theorem dX0_hurry_32 : decode cX0_hurry 32 = .ok (.aload_n 0, 1) := dk_42 (dk_at dksX0_hurry_1 9 rfl rfl)
theorem dX0_hurry_33 : decode cX0_hurry 33 = .ok (.iload_n 1, 1) := dk_27 (dk_at dksX0_hurry_1 10 rfl rfl)
theorem dX0_hurry_34 : decode cX0_hurry 34 = .ok (.invokedynamic 546, 5) := by decide +kernel
theorem dX0_hurry_39 : decode cX0_hurry 39 = .ok (.invokestatic 549, 3) := dk_184 2 37 (dk_at dksX0_hurry_1 16 rfl rfl)
theorem dX0_hurry_42 : decode cX0_hurry 42 = .ok (.istore_n 3, 1) := dk_62 (dk_at dksX0_hurry_1 19 rfl rfl)
theorem dX0_hurry_43 : decode cX0_hurry 43 = .ok (.iload_n 2, 1) := dk_28 (dk_at dksX0_hurry_1 20 rfl rfl)
theorem dX0_hurry_44 : decode cX0_hurry 44 = .ok (.ifCond .ne 7, 3) := dk_154 0 7 (dk_at dksX0_hurry_1 21 rfl rfl)
theorem dX0_hurry_47 : decode cX0_hurry 47 = .ok (.iload_n 3, 1) := dk_29 (dk_at dksX0_hurry_2 0 rfl rfl)
theorem dX0_hurry_48 : decode cX0_hurry 48 = .ok (.goto 9, 3) := dk_167 0 9 (dk_at dksX0_hurry_2 1 rfl rfl)
theorem dX0_hurry_51 : decode cX0_hurry 51 = .ok (.aload_n 0, 1) := dk_42 (dk_at dksX0_hurry_2 4 rfl rfl)
theorem dX0_hurry_52 : decode cX0_hurry 52 = .ok (.iload_n 3, 1) := dk_29 (dk_at dksX0_hurry_2 5 rfl rfl)
theorem dX0_hurry_53 : decode cX0_hurry 53 = .ok (.iload_n 1, 1) := dk_27 (dk_at dksX0_hurry_2 6 rfl rfl)
theorem dX0_hurry_54 : decode cX0_hurry 54 = .ok (.invokevirtual 553, 3) := dk_182 2 41 (dk_at dksX0_hurry_2 7 rfl rfl)
theorem dX0_hurry_57 : decode cX0_hurry 57 = .ok (.ireturn, 1) := dk_172 (dk_at dksX0_hurry_2 10 rfl rfl)
abbrev cX0_lambda_hurry_1 : ByteArray := prog_1_method_106_code
def yX0_lambda_hurry_1 : MethodName := ⟨RX0, "lambda$hurry$1", "(II)I"⟩
def dkwX0_lambda_hurry_1_0 : List UInt8 := [42, 28, 27, 182, 2, 41, 116, 172]
abbrev dktX0_lambda_hurry_1_0 : List UInt8 := dkwX0_lambda_hurry_1_0 ++ []
theorem dksX0_lambda_hurry_1_0 : cX0_lambda_hurry_1.data.toList.drop 0 = dktX0_lambda_hurry_1_0 := by decide +kernel
theorem dX0_lambda_hurry_1_0 : decode cX0_lambda_hurry_1 0 = .ok (.aload_n 0, 1) := dk_42 (dk_at dksX0_lambda_hurry_1_0 0 rfl rfl)
theorem dX0_lambda_hurry_1_1 : decode cX0_lambda_hurry_1 1 = .ok (.iload_n 2, 1) := dk_28 (dk_at dksX0_lambda_hurry_1_0 1 rfl rfl)
theorem dX0_lambda_hurry_1_2 : decode cX0_lambda_hurry_1 2 = .ok (.iload_n 1, 1) := dk_27 (dk_at dksX0_lambda_hurry_1_0 2 rfl rfl)
theorem dX0_lambda_hurry_1_3 : decode cX0_lambda_hurry_1 3 = .ok (.invokevirtual 553, 3) := dk_182 2 41 (dk_at dksX0_lambda_hurry_1_0 3 rfl rfl)
theorem dX0_lambda_hurry_1_6 : decode cX0_lambda_hurry_1 6 = .ok (.ineg, 1) := dk_116 (dk_at dksX0_lambda_hurry_1_0 6 rfl rfl)
theorem dX0_lambda_hurry_1_7 : decode cX0_lambda_hurry_1 7 = .ok (.ireturn, 1) := dk_172 (dk_at dksX0_lambda_hurry_1_0 7 rfl rfl)
abbrev cX0_oddsHurried : ByteArray := prog_1_method_72_code
def yX0_oddsHurried : MethodName := ⟨RX0, "oddsHurried", "(II)I"⟩
def dkwX0_oddsHurried_1 : List UInt8 := [180, 1, 90, 4, 100, 28, 182, 2, 12, 54, 4, 42, 180, 0, 152, 180, 1, 154, 27, 29, 79, 21, 4, 172]
abbrev dktX0_oddsHurried_1 : List UInt8 := dkwX0_oddsHurried_1 ++ []
def dkwX0_oddsHurried_0 : List UInt8 := [42, 180, 0, 152, 180, 1, 154, 27, 46, 62, 42, 180, 0, 152, 180, 1, 154, 27, 3, 79, 42, 3, 42]
abbrev dktX0_oddsHurried_0 : List UInt8 := dkwX0_oddsHurried_0 ++ dktX0_oddsHurried_1
theorem dksX0_oddsHurried_0 : cX0_oddsHurried.data.toList.drop 0 = dktX0_oddsHurried_0 := by decide +kernel
theorem dksX0_oddsHurried_1 : cX0_oddsHurried.data.toList.drop 23 = dktX0_oddsHurried_1 := dk_seg dksX0_oddsHurried_0 23 rfl rfl
theorem dX0_oddsHurried_0 : decode cX0_oddsHurried 0 = .ok (.aload_n 0, 1) := dk_42 (dk_at dksX0_oddsHurried_0 0 rfl rfl)
theorem dX0_oddsHurried_1 : decode cX0_oddsHurried 1 = .ok (.getfield 152, 3) := dk_180 0 152 (dk_at dksX0_oddsHurried_0 1 rfl rfl)
theorem dX0_oddsHurried_4 : decode cX0_oddsHurried 4 = .ok (.getfield 410, 3) := dk_180 1 154 (dk_at dksX0_oddsHurried_0 4 rfl rfl)
theorem dX0_oddsHurried_7 : decode cX0_oddsHurried 7 = .ok (.iload_n 1, 1) := dk_27 (dk_at dksX0_oddsHurried_0 7 rfl rfl)
theorem dX0_oddsHurried_8 : decode cX0_oddsHurried 8 = .ok (.iaload, 1) := dk_46 (dk_at dksX0_oddsHurried_0 8 rfl rfl)
theorem dX0_oddsHurried_9 : decode cX0_oddsHurried 9 = .ok (.istore_n 3, 1) := dk_62 (dk_at dksX0_oddsHurried_0 9 rfl rfl)
theorem dX0_oddsHurried_10 : decode cX0_oddsHurried 10 = .ok (.aload_n 0, 1) := dk_42 (dk_at dksX0_oddsHurried_0 10 rfl rfl)
theorem dX0_oddsHurried_11 : decode cX0_oddsHurried 11 = .ok (.getfield 152, 3) := dk_180 0 152 (dk_at dksX0_oddsHurried_0 11 rfl rfl)
theorem dX0_oddsHurried_14 : decode cX0_oddsHurried 14 = .ok (.getfield 410, 3) := dk_180 1 154 (dk_at dksX0_oddsHurried_0 14 rfl rfl)
theorem dX0_oddsHurried_17 : decode cX0_oddsHurried 17 = .ok (.iload_n 1, 1) := dk_27 (dk_at dksX0_oddsHurried_0 17 rfl rfl)
theorem dX0_oddsHurried_18 : decode cX0_oddsHurried 18 = .ok (.iconst 0, 1) := dk_3 (dk_at dksX0_oddsHurried_0 18 rfl rfl)
theorem dX0_oddsHurried_19 : decode cX0_oddsHurried 19 = .ok (.iastore, 1) := dk_79 (dk_at dksX0_oddsHurried_0 19 rfl rfl)
theorem dX0_oddsHurried_20 : decode cX0_oddsHurried 20 = .ok (.aload_n 0, 1) := dk_42 (dk_at dksX0_oddsHurried_0 20 rfl rfl)
theorem dX0_oddsHurried_21 : decode cX0_oddsHurried 21 = .ok (.iconst 0, 1) := dk_3 (dk_at dksX0_oddsHurried_0 21 rfl rfl)
theorem dX0_oddsHurried_22 : decode cX0_oddsHurried 22 = .ok (.aload_n 0, 1) := dk_42 (dk_at dksX0_oddsHurried_0 22 rfl rfl)
theorem dX0_oddsHurried_23 : decode cX0_oddsHurried 23 = .ok (.getfield 346, 3) := dk_180 1 90 (dk_at dksX0_oddsHurried_1 0 rfl rfl)
theorem dX0_oddsHurried_26 : decode cX0_oddsHurried 26 = .ok (.iconst 1, 1) := dk_4 (dk_at dksX0_oddsHurried_1 3 rfl rfl)
theorem dX0_oddsHurried_27 : decode cX0_oddsHurried 27 = .ok (.isub, 1) := dk_100 (dk_at dksX0_oddsHurried_1 4 rfl rfl)
theorem dX0_oddsHurried_28 : decode cX0_oddsHurried 28 = .ok (.iload_n 2, 1) := dk_28 (dk_at dksX0_oddsHurried_1 5 rfl rfl)
theorem dX0_oddsHurried_29 : decode cX0_oddsHurried 29 = .ok (.invokevirtual 524, 3) := dk_182 2 12 (dk_at dksX0_oddsHurried_1 6 rfl rfl)
theorem dX0_oddsHurried_32 : decode cX0_oddsHurried 32 = .ok (.istore 4, 2) := dk_54 4 (dk_at dksX0_oddsHurried_1 9 rfl rfl)
theorem dX0_oddsHurried_34 : decode cX0_oddsHurried 34 = .ok (.aload_n 0, 1) := dk_42 (dk_at dksX0_oddsHurried_1 11 rfl rfl)
theorem dX0_oddsHurried_35 : decode cX0_oddsHurried 35 = .ok (.getfield 152, 3) := dk_180 0 152 (dk_at dksX0_oddsHurried_1 12 rfl rfl)
theorem dX0_oddsHurried_38 : decode cX0_oddsHurried 38 = .ok (.getfield 410, 3) := dk_180 1 154 (dk_at dksX0_oddsHurried_1 15 rfl rfl)
theorem dX0_oddsHurried_41 : decode cX0_oddsHurried 41 = .ok (.iload_n 1, 1) := dk_27 (dk_at dksX0_oddsHurried_1 18 rfl rfl)
theorem dX0_oddsHurried_42 : decode cX0_oddsHurried 42 = .ok (.iload_n 3, 1) := dk_29 (dk_at dksX0_oddsHurried_1 19 rfl rfl)
theorem dX0_oddsHurried_43 : decode cX0_oddsHurried 43 = .ok (.iastore, 1) := dk_79 (dk_at dksX0_oddsHurried_1 20 rfl rfl)
theorem dX0_oddsHurried_44 : decode cX0_oddsHurried 44 = .ok (.iload 4, 2) := dk_21 4 (dk_at dksX0_oddsHurried_1 21 rfl rfl)
theorem dX0_oddsHurried_46 : decode cX0_oddsHurried 46 = .ok (.ireturn, 1) := dk_172 (dk_at dksX0_oddsHurried_1 23 rfl rfl)
abbrev cX0_leastBy : ByteArray := prog_1_method_6_code
def yX0_leastBy : MethodName := ⟨RX0, "leastBy", "(ILTwelveChain$Measure;)I"⟩
def dkwX0_leastBy_1 : List UInt8 := [43, 28, 185, 0, 24, 2, 0, 162, 0, 7, 29, 167, 0, 4, 28, 61, 132, 3, 1, 167, 255, 225, 28, 172]
abbrev dktX0_leastBy_1 : List UInt8 := dkwX0_leastBy_1 ++ []
def dkwX0_leastBy_0 : List UInt8 := [26, 158, 0, 7, 3, 167, 0, 4, 2, 61, 4, 62, 29, 26, 162, 0, 32, 43, 29, 185, 0, 24, 2, 0]
abbrev dktX0_leastBy_0 : List UInt8 := dkwX0_leastBy_0 ++ dktX0_leastBy_1
theorem dksX0_leastBy_0 : cX0_leastBy.data.toList.drop 0 = dktX0_leastBy_0 := by decide +kernel
theorem dksX0_leastBy_1 : cX0_leastBy.data.toList.drop 24 = dktX0_leastBy_1 := dk_seg dksX0_leastBy_0 24 rfl rfl
theorem dX0_leastBy_0 : decode cX0_leastBy 0 = .ok (.iload_n 0, 1) := dk_26 (dk_at dksX0_leastBy_0 0 rfl rfl)
theorem dX0_leastBy_1 : decode cX0_leastBy 1 = .ok (.ifCond .le 7, 3) := dk_158 0 7 (dk_at dksX0_leastBy_0 1 rfl rfl)
theorem dX0_leastBy_4 : decode cX0_leastBy 4 = .ok (.iconst 0, 1) := dk_3 (dk_at dksX0_leastBy_0 4 rfl rfl)
theorem dX0_leastBy_5 : decode cX0_leastBy 5 = .ok (.goto 4, 3) := dk_167 0 4 (dk_at dksX0_leastBy_0 5 rfl rfl)
theorem dX0_leastBy_8 : decode cX0_leastBy 8 = .ok (.iconst (-1), 1) := dk_2 (dk_at dksX0_leastBy_0 8 rfl rfl)
theorem dX0_leastBy_9 : decode cX0_leastBy 9 = .ok (.istore_n 2, 1) := dk_61 (dk_at dksX0_leastBy_0 9 rfl rfl)
theorem dX0_leastBy_10 : decode cX0_leastBy 10 = .ok (.iconst 1, 1) := dk_4 (dk_at dksX0_leastBy_0 10 rfl rfl)
theorem dX0_leastBy_11 : decode cX0_leastBy 11 = .ok (.istore_n 3, 1) := dk_62 (dk_at dksX0_leastBy_0 11 rfl rfl)
theorem dX0_leastBy_12 : decode cX0_leastBy 12 = .ok (.iload_n 3, 1) := dk_29 (dk_at dksX0_leastBy_0 12 rfl rfl)
theorem dX0_leastBy_13 : decode cX0_leastBy 13 = .ok (.iload_n 0, 1) := dk_26 (dk_at dksX0_leastBy_0 13 rfl rfl)
theorem dX0_leastBy_14 : decode cX0_leastBy 14 = .ok (.if_icmp .ge 32, 3) := dk_162 0 32 (dk_at dksX0_leastBy_0 14 rfl rfl)
theorem dX0_leastBy_17 : decode cX0_leastBy 17 = .ok (.aload_n 1, 1) := dk_43 (dk_at dksX0_leastBy_0 17 rfl rfl)
theorem dX0_leastBy_18 : decode cX0_leastBy 18 = .ok (.iload_n 3, 1) := dk_29 (dk_at dksX0_leastBy_0 18 rfl rfl)
theorem dX0_leastBy_19 : decode cX0_leastBy 19 = .ok (.invokeinterface 24 2, 5) := by decide +kernel
theorem dX0_leastBy_24 : decode cX0_leastBy 24 = .ok (.aload_n 1, 1) := dk_43 (dk_at dksX0_leastBy_1 0 rfl rfl)
theorem dX0_leastBy_25 : decode cX0_leastBy 25 = .ok (.iload_n 2, 1) := dk_28 (dk_at dksX0_leastBy_1 1 rfl rfl)
theorem dX0_leastBy_26 : decode cX0_leastBy 26 = .ok (.invokeinterface 24 2, 5) := by decide +kernel
theorem dX0_leastBy_31 : decode cX0_leastBy 31 = .ok (.if_icmp .ge 7, 3) := dk_162 0 7 (dk_at dksX0_leastBy_1 7 rfl rfl)
theorem dX0_leastBy_34 : decode cX0_leastBy 34 = .ok (.iload_n 3, 1) := dk_29 (dk_at dksX0_leastBy_1 10 rfl rfl)
theorem dX0_leastBy_35 : decode cX0_leastBy 35 = .ok (.goto 4, 3) := dk_167 0 4 (dk_at dksX0_leastBy_1 11 rfl rfl)
theorem dX0_leastBy_38 : decode cX0_leastBy 38 = .ok (.iload_n 2, 1) := dk_28 (dk_at dksX0_leastBy_1 14 rfl rfl)
theorem dX0_leastBy_39 : decode cX0_leastBy 39 = .ok (.istore_n 2, 1) := dk_61 (dk_at dksX0_leastBy_1 15 rfl rfl)
theorem dX0_leastBy_40 : decode cX0_leastBy 40 = .ok (.iinc 3 1, 3) := dk_132 3 1 (dk_at dksX0_leastBy_1 16 rfl rfl)
theorem dX0_leastBy_43 : decode cX0_leastBy 43 = .ok (.goto (-31), 3) := dk_167 255 225 (dk_at dksX0_leastBy_1 19 rfl rfl)
theorem dX0_leastBy_46 : decode cX0_leastBy 46 = .ok (.iload_n 2, 1) := dk_28 (dk_at dksX0_leastBy_1 22 rfl rfl)
theorem dX0_leastBy_47 : decode cX0_leastBy 47 = .ok (.ireturn, 1) := dk_172 (dk_at dksX0_leastBy_1 23 rfl rfl)
abbrev cX0_split : ByteArray := prog_1_method_75_code
def yX0_split : MethodName := ⟨RX0, "split", "(II)I"⟩
def dkwX0_split_4 : List UInt8 := [54, 4, 132, 5, 1, 167, 255, 187, 28, 154, 0, 7, 29, 167, 0, 5, 21, 4, 172]
abbrev dktX0_split_4 : List UInt8 := dkwX0_split_4 ++ []
def dkwX0_split_3 : List UInt8 := [54, 6, 21, 6, 21, 4, 164, 0, 8, 21, 5, 167, 0, 4, 29, 62, 21, 4, 21, 6, 184, 0, 7]
abbrev dktX0_split_3 : List UInt8 := dkwX0_split_3 ++ dktX0_split_4
def dkwX0_split_2 : List UInt8 := [154, 0, 6, 167, 0, 45, 42, 42, 180, 0, 152, 180, 1, 164, 4, 21, 5, 120, 128, 27, 182, 2, 44]
abbrev dktX0_split_2 : List UInt8 := dkwX0_split_2 ++ dktX0_split_3
def dkwX0_split_1 : List UInt8 := [54, 4, 3, 54, 5, 21, 5, 42, 180, 1, 90, 162, 0, 66, 42, 180, 0, 152, 21, 5, 182, 1, 182]
abbrev dktX0_split_1 : List UInt8 := dkwX0_split_1 ++ dktX0_split_2
def dkwX0_split_0 : List UInt8 := [27, 4, 16, 60, 184, 0, 188, 153, 0, 12, 28, 3, 4, 184, 0, 188, 154, 0, 5, 2, 172, 2, 62, 2]
abbrev dktX0_split_0 : List UInt8 := dkwX0_split_0 ++ dktX0_split_1
theorem dksX0_split_0 : cX0_split.data.toList.drop 0 = dktX0_split_0 := by decide +kernel
theorem dksX0_split_1 : cX0_split.data.toList.drop 24 = dktX0_split_1 := dk_seg dksX0_split_0 24 rfl rfl
theorem dksX0_split_2 : cX0_split.data.toList.drop 47 = dktX0_split_2 := dk_seg dksX0_split_1 23 rfl rfl
theorem dksX0_split_3 : cX0_split.data.toList.drop 70 = dktX0_split_3 := dk_seg dksX0_split_2 23 rfl rfl
theorem dksX0_split_4 : cX0_split.data.toList.drop 93 = dktX0_split_4 := dk_seg dksX0_split_3 23 rfl rfl
theorem dX0_split_0 : decode cX0_split 0 = .ok (.iload_n 1, 1) := dk_27 (dk_at dksX0_split_0 0 rfl rfl)
theorem dX0_split_1 : decode cX0_split 1 = .ok (.iconst 1, 1) := dk_4 (dk_at dksX0_split_0 1 rfl rfl)
theorem dX0_split_2 : decode cX0_split 2 = .ok (.bipush 60, 2) := dk_16 60 (dk_at dksX0_split_0 2 rfl rfl)
theorem dX0_split_4 : decode cX0_split 4 = .ok (.invokestatic 188, 3) := dk_184 0 188 (dk_at dksX0_split_0 4 rfl rfl)
theorem dX0_split_7 : decode cX0_split 7 = .ok (.ifCond .eq 12, 3) := dk_153 0 12 (dk_at dksX0_split_0 7 rfl rfl)
theorem dX0_split_10 : decode cX0_split 10 = .ok (.iload_n 2, 1) := dk_28 (dk_at dksX0_split_0 10 rfl rfl)
theorem dX0_split_11 : decode cX0_split 11 = .ok (.iconst 0, 1) := dk_3 (dk_at dksX0_split_0 11 rfl rfl)
theorem dX0_split_12 : decode cX0_split 12 = .ok (.iconst 1, 1) := dk_4 (dk_at dksX0_split_0 12 rfl rfl)
theorem dX0_split_13 : decode cX0_split 13 = .ok (.invokestatic 188, 3) := dk_184 0 188 (dk_at dksX0_split_0 13 rfl rfl)
theorem dX0_split_16 : decode cX0_split 16 = .ok (.ifCond .ne 5, 3) := dk_154 0 5 (dk_at dksX0_split_0 16 rfl rfl)
theorem dX0_split_19 : decode cX0_split 19 = .ok (.iconst (-1), 1) := dk_2 (dk_at dksX0_split_0 19 rfl rfl)
theorem dX0_split_20 : decode cX0_split 20 = .ok (.ireturn, 1) := dk_172 (dk_at dksX0_split_0 20 rfl rfl)
theorem dX0_split_21 : decode cX0_split 21 = .ok (.iconst (-1), 1) := dk_2 (dk_at dksX0_split_0 21 rfl rfl)
theorem dX0_split_22 : decode cX0_split 22 = .ok (.istore_n 3, 1) := dk_62 (dk_at dksX0_split_0 22 rfl rfl)
theorem dX0_split_23 : decode cX0_split 23 = .ok (.iconst (-1), 1) := dk_2 (dk_at dksX0_split_0 23 rfl rfl)
theorem dX0_split_24 : decode cX0_split 24 = .ok (.istore 4, 2) := dk_54 4 (dk_at dksX0_split_1 0 rfl rfl)
theorem dX0_split_26 : decode cX0_split 26 = .ok (.iconst 0, 1) := dk_3 (dk_at dksX0_split_1 2 rfl rfl)
theorem dX0_split_27 : decode cX0_split 27 = .ok (.istore 5, 2) := dk_54 5 (dk_at dksX0_split_1 3 rfl rfl)
theorem dX0_split_29 : decode cX0_split 29 = .ok (.iload 5, 2) := dk_21 5 (dk_at dksX0_split_1 5 rfl rfl)
theorem dX0_split_31 : decode cX0_split 31 = .ok (.aload_n 0, 1) := dk_42 (dk_at dksX0_split_1 7 rfl rfl)
theorem dX0_split_32 : decode cX0_split 32 = .ok (.getfield 346, 3) := dk_180 1 90 (dk_at dksX0_split_1 8 rfl rfl)
theorem dX0_split_35 : decode cX0_split 35 = .ok (.if_icmp .ge 66, 3) := dk_162 0 66 (dk_at dksX0_split_1 11 rfl rfl)
theorem dX0_split_38 : decode cX0_split 38 = .ok (.aload_n 0, 1) := dk_42 (dk_at dksX0_split_1 14 rfl rfl)
theorem dX0_split_39 : decode cX0_split 39 = .ok (.getfield 152, 3) := dk_180 0 152 (dk_at dksX0_split_1 15 rfl rfl)
theorem dX0_split_42 : decode cX0_split 42 = .ok (.iload 5, 2) := dk_21 5 (dk_at dksX0_split_1 18 rfl rfl)
theorem dX0_split_44 : decode cX0_split 44 = .ok (.invokevirtual 438, 3) := dk_182 1 182 (dk_at dksX0_split_1 20 rfl rfl)
theorem dX0_split_47 : decode cX0_split 47 = .ok (.ifCond .ne 6, 3) := dk_154 0 6 (dk_at dksX0_split_2 0 rfl rfl)
theorem dX0_split_50 : decode cX0_split 50 = .ok (.goto 45, 3) := dk_167 0 45 (dk_at dksX0_split_2 3 rfl rfl)
theorem dX0_split_53 : decode cX0_split 53 = .ok (.aload_n 0, 1) := dk_42 (dk_at dksX0_split_2 6 rfl rfl)
theorem dX0_split_54 : decode cX0_split 54 = .ok (.aload_n 0, 1) := dk_42 (dk_at dksX0_split_2 7 rfl rfl)
theorem dX0_split_55 : decode cX0_split 55 = .ok (.getfield 152, 3) := dk_180 0 152 (dk_at dksX0_split_2 8 rfl rfl)
theorem dX0_split_58 : decode cX0_split 58 = .ok (.getfield 420, 3) := dk_180 1 164 (dk_at dksX0_split_2 11 rfl rfl)
theorem dX0_split_61 : decode cX0_split 61 = .ok (.iconst 1, 1) := dk_4 (dk_at dksX0_split_2 14 rfl rfl)
theorem dX0_split_62 : decode cX0_split 62 = .ok (.iload 5, 2) := dk_21 5 (dk_at dksX0_split_2 15 rfl rfl)
theorem dX0_split_64 : decode cX0_split 64 = .ok (.ishl, 1) := dk_120 (dk_at dksX0_split_2 17 rfl rfl)
theorem dX0_split_65 : decode cX0_split 65 = .ok (.ior, 1) := dk_128 (dk_at dksX0_split_2 18 rfl rfl)
theorem dX0_split_66 : decode cX0_split 66 = .ok (.iload_n 1, 1) := dk_27 (dk_at dksX0_split_2 19 rfl rfl)
theorem dX0_split_67 : decode cX0_split 67 = .ok (.invokevirtual 556, 3) := dk_182 2 44 (dk_at dksX0_split_2 20 rfl rfl)
theorem dX0_split_70 : decode cX0_split 70 = .ok (.istore 6, 2) := dk_54 6 (dk_at dksX0_split_3 0 rfl rfl)
theorem dX0_split_72 : decode cX0_split 72 = .ok (.iload 6, 2) := dk_21 6 (dk_at dksX0_split_3 2 rfl rfl)
theorem dX0_split_74 : decode cX0_split 74 = .ok (.iload 4, 2) := dk_21 4 (dk_at dksX0_split_3 4 rfl rfl)
theorem dX0_split_76 : decode cX0_split 76 = .ok (.if_icmp .le 8, 3) := dk_164 0 8 (dk_at dksX0_split_3 6 rfl rfl)
theorem dX0_split_79 : decode cX0_split 79 = .ok (.iload 5, 2) := dk_21 5 (dk_at dksX0_split_3 9 rfl rfl)
theorem dX0_split_81 : decode cX0_split 81 = .ok (.goto 4, 3) := dk_167 0 4 (dk_at dksX0_split_3 11 rfl rfl)
theorem dX0_split_84 : decode cX0_split 84 = .ok (.iload_n 3, 1) := dk_29 (dk_at dksX0_split_3 14 rfl rfl)
theorem dX0_split_85 : decode cX0_split 85 = .ok (.istore_n 3, 1) := dk_62 (dk_at dksX0_split_3 15 rfl rfl)
theorem dX0_split_86 : decode cX0_split 86 = .ok (.iload 4, 2) := dk_21 4 (dk_at dksX0_split_3 16 rfl rfl)
theorem dX0_split_88 : decode cX0_split 88 = .ok (.iload 6, 2) := dk_21 6 (dk_at dksX0_split_3 18 rfl rfl)
theorem dX0_split_90 : decode cX0_split 90 = .ok (.invokestatic 7, 3) := dk_184 0 7 (dk_at dksX0_split_3 20 rfl rfl)
theorem dX0_split_93 : decode cX0_split 93 = .ok (.istore 4, 2) := dk_54 4 (dk_at dksX0_split_4 0 rfl rfl)
theorem dX0_split_95 : decode cX0_split 95 = .ok (.iinc 5 1, 3) := dk_132 5 1 (dk_at dksX0_split_4 2 rfl rfl)
theorem dX0_split_98 : decode cX0_split 98 = .ok (.goto (-69), 3) := dk_167 255 187 (dk_at dksX0_split_4 5 rfl rfl)
theorem dX0_split_101 : decode cX0_split 101 = .ok (.iload_n 2, 1) := dk_28 (dk_at dksX0_split_4 8 rfl rfl)
theorem dX0_split_102 : decode cX0_split 102 = .ok (.ifCond .ne 7, 3) := dk_154 0 7 (dk_at dksX0_split_4 9 rfl rfl)
theorem dX0_split_105 : decode cX0_split 105 = .ok (.iload_n 3, 1) := dk_29 (dk_at dksX0_split_4 12 rfl rfl)
theorem dX0_split_106 : decode cX0_split 106 = .ok (.goto 5, 3) := dk_167 0 5 (dk_at dksX0_split_4 13 rfl rfl)
theorem dX0_split_109 : decode cX0_split 109 = .ok (.iload 4, 2) := dk_21 4 (dk_at dksX0_split_4 16 rfl rfl)
theorem dX0_split_111 : decode cX0_split 111 = .ok (.ireturn, 1) := dk_172 (dk_at dksX0_split_4 18 rfl rfl)
abbrev cX0_worstPart : ByteArray := prog_1_method_74_code
def yX0_worstPart : MethodName := ⟨RX0, "worstPart", "(II)I"⟩
def dkwX0_worstPart_2 : List UInt8 := [184, 0, 1, 62, 132, 4, 1, 167, 255, 209, 29, 172]
abbrev dktX0_worstPart_2 : List UInt8 := dkwX0_worstPart_2 ++ []
def dkwX0_worstPart_1 : List UInt8 := [182, 2, 15, 153, 0, 25, 29, 42, 21, 4, 42, 180, 0, 152, 21, 4, 27, 182, 2, 18, 28, 182, 2, 12]
abbrev dktX0_worstPart_1 : List UInt8 := dkwX0_worstPart_1 ++ dktX0_worstPart_2
def dkwX0_worstPart_0 : List UInt8 := [19, 2, 2, 62, 3, 54, 4, 21, 4, 42, 180, 1, 90, 162, 0, 44, 42, 180, 0, 152, 21, 4, 27]
abbrev dktX0_worstPart_0 : List UInt8 := dkwX0_worstPart_0 ++ dktX0_worstPart_1
theorem dksX0_worstPart_0 : cX0_worstPart.data.toList.drop 0 = dktX0_worstPart_0 := by decide +kernel
theorem dksX0_worstPart_1 : cX0_worstPart.data.toList.drop 23 = dktX0_worstPart_1 := dk_seg dksX0_worstPart_0 23 rfl rfl
theorem dksX0_worstPart_2 : cX0_worstPart.data.toList.drop 47 = dktX0_worstPart_2 := dk_seg dksX0_worstPart_1 24 rfl rfl
theorem dX0_worstPart_0 : decode cX0_worstPart 0 = .ok (.ldc_w 514, 3) := dk_19 2 2 (dk_at dksX0_worstPart_0 0 rfl rfl)
theorem dX0_worstPart_3 : decode cX0_worstPart 3 = .ok (.istore_n 3, 1) := dk_62 (dk_at dksX0_worstPart_0 3 rfl rfl)
theorem dX0_worstPart_4 : decode cX0_worstPart 4 = .ok (.iconst 0, 1) := dk_3 (dk_at dksX0_worstPart_0 4 rfl rfl)
theorem dX0_worstPart_5 : decode cX0_worstPart 5 = .ok (.istore 4, 2) := dk_54 4 (dk_at dksX0_worstPart_0 5 rfl rfl)
theorem dX0_worstPart_7 : decode cX0_worstPart 7 = .ok (.iload 4, 2) := dk_21 4 (dk_at dksX0_worstPart_0 7 rfl rfl)
theorem dX0_worstPart_9 : decode cX0_worstPart 9 = .ok (.aload_n 0, 1) := dk_42 (dk_at dksX0_worstPart_0 9 rfl rfl)
theorem dX0_worstPart_10 : decode cX0_worstPart 10 = .ok (.getfield 346, 3) := dk_180 1 90 (dk_at dksX0_worstPart_0 10 rfl rfl)
theorem dX0_worstPart_13 : decode cX0_worstPart 13 = .ok (.if_icmp .ge 44, 3) := dk_162 0 44 (dk_at dksX0_worstPart_0 13 rfl rfl)
theorem dX0_worstPart_16 : decode cX0_worstPart 16 = .ok (.aload_n 0, 1) := dk_42 (dk_at dksX0_worstPart_0 16 rfl rfl)
theorem dX0_worstPart_17 : decode cX0_worstPart 17 = .ok (.getfield 152, 3) := dk_180 0 152 (dk_at dksX0_worstPart_0 17 rfl rfl)
theorem dX0_worstPart_20 : decode cX0_worstPart 20 = .ok (.iload 4, 2) := dk_21 4 (dk_at dksX0_worstPart_0 20 rfl rfl)
theorem dX0_worstPart_22 : decode cX0_worstPart 22 = .ok (.iload_n 1, 1) := dk_27 (dk_at dksX0_worstPart_0 22 rfl rfl)
theorem dX0_worstPart_23 : decode cX0_worstPart 23 = .ok (.invokevirtual 527, 3) := dk_182 2 15 (dk_at dksX0_worstPart_1 0 rfl rfl)
theorem dX0_worstPart_26 : decode cX0_worstPart 26 = .ok (.ifCond .eq 25, 3) := dk_153 0 25 (dk_at dksX0_worstPart_1 3 rfl rfl)
theorem dX0_worstPart_29 : decode cX0_worstPart 29 = .ok (.iload_n 3, 1) := dk_29 (dk_at dksX0_worstPart_1 6 rfl rfl)
theorem dX0_worstPart_30 : decode cX0_worstPart 30 = .ok (.aload_n 0, 1) := dk_42 (dk_at dksX0_worstPart_1 7 rfl rfl)
theorem dX0_worstPart_31 : decode cX0_worstPart 31 = .ok (.iload 4, 2) := dk_21 4 (dk_at dksX0_worstPart_1 8 rfl rfl)
theorem dX0_worstPart_33 : decode cX0_worstPart 33 = .ok (.aload_n 0, 1) := dk_42 (dk_at dksX0_worstPart_1 10 rfl rfl)
theorem dX0_worstPart_34 : decode cX0_worstPart 34 = .ok (.getfield 152, 3) := dk_180 0 152 (dk_at dksX0_worstPart_1 11 rfl rfl)
theorem dX0_worstPart_37 : decode cX0_worstPart 37 = .ok (.iload 4, 2) := dk_21 4 (dk_at dksX0_worstPart_1 14 rfl rfl)
theorem dX0_worstPart_39 : decode cX0_worstPart 39 = .ok (.iload_n 1, 1) := dk_27 (dk_at dksX0_worstPart_1 16 rfl rfl)
theorem dX0_worstPart_40 : decode cX0_worstPart 40 = .ok (.invokevirtual 530, 3) := dk_182 2 18 (dk_at dksX0_worstPart_1 17 rfl rfl)
theorem dX0_worstPart_43 : decode cX0_worstPart 43 = .ok (.iload_n 2, 1) := dk_28 (dk_at dksX0_worstPart_1 20 rfl rfl)
theorem dX0_worstPart_44 : decode cX0_worstPart 44 = .ok (.invokevirtual 524, 3) := dk_182 2 12 (dk_at dksX0_worstPart_1 21 rfl rfl)
theorem dX0_worstPart_47 : decode cX0_worstPart 47 = .ok (.invokestatic 1, 3) := dk_184 0 1 (dk_at dksX0_worstPart_2 0 rfl rfl)
theorem dX0_worstPart_50 : decode cX0_worstPart 50 = .ok (.istore_n 3, 1) := dk_62 (dk_at dksX0_worstPart_2 3 rfl rfl)
theorem dX0_worstPart_51 : decode cX0_worstPart 51 = .ok (.iinc 4 1, 3) := dk_132 4 1 (dk_at dksX0_worstPart_2 4 rfl rfl)
theorem dX0_worstPart_54 : decode cX0_worstPart 54 = .ok (.goto (-47), 3) := dk_167 255 209 (dk_at dksX0_worstPart_2 7 rfl rfl)
theorem dX0_worstPart_57 : decode cX0_worstPart 57 = .ok (.iload_n 3, 1) := dk_29 (dk_at dksX0_worstPart_2 10 rfl rfl)
theorem dX0_worstPart_58 : decode cX0_worstPart 58 = .ok (.ireturn, 1) := dk_172 (dk_at dksX0_worstPart_2 11 rfl rfl)
abbrev cX0_gap : ByteArray := prog_1_method_77_code
def yX0_gap : MethodName := ⟨RX0, "gap", "(I)I"⟩
def dkwX0_gap_0 : List UInt8 := [42, 27, 182, 1, 166, 153, 0, 11, 42, 27, 182, 2, 47, 167, 0, 4, 2, 172]
abbrev dktX0_gap_0 : List UInt8 := dkwX0_gap_0 ++ []
theorem dksX0_gap_0 : cX0_gap.data.toList.drop 0 = dktX0_gap_0 := by decide +kernel
theorem dX0_gap_0 : decode cX0_gap 0 = .ok (.aload_n 0, 1) := dk_42 (dk_at dksX0_gap_0 0 rfl rfl)
theorem dX0_gap_1 : decode cX0_gap 1 = .ok (.iload_n 1, 1) := dk_27 (dk_at dksX0_gap_0 1 rfl rfl)
theorem dX0_gap_2 : decode cX0_gap 2 = .ok (.invokevirtual 422, 3) := dk_182 1 166 (dk_at dksX0_gap_0 2 rfl rfl)
theorem dX0_gap_5 : decode cX0_gap 5 = .ok (.ifCond .eq 11, 3) := dk_153 0 11 (dk_at dksX0_gap_0 5 rfl rfl)
theorem dX0_gap_8 : decode cX0_gap 8 = .ok (.aload_n 0, 1) := dk_42 (dk_at dksX0_gap_0 8 rfl rfl)
theorem dX0_gap_9 : decode cX0_gap 9 = .ok (.iload_n 1, 1) := dk_27 (dk_at dksX0_gap_0 9 rfl rfl)
theorem dX0_gap_10 : decode cX0_gap 10 = .ok (.invokevirtual 559, 3) := dk_182 2 47 (dk_at dksX0_gap_0 10 rfl rfl)
theorem dX0_gap_13 : decode cX0_gap 13 = .ok (.goto 4, 3) := dk_167 0 4 (dk_at dksX0_gap_0 13 rfl rfl)
theorem dX0_gap_16 : decode cX0_gap 16 = .ok (.iconst (-1), 1) := dk_2 (dk_at dksX0_gap_0 16 rfl rfl)
theorem dX0_gap_17 : decode cX0_gap 17 = .ok (.ireturn, 1) := dk_172 (dk_at dksX0_gap_0 17 rfl rfl)
abbrev cX0_gapOf : ByteArray := prog_1_method_76_code
def yX0_gapOf : MethodName := ⟨RX0, "gapOf", "(I)I"⟩
def dkwX0_gapOf_2 : List UInt8 := [46, 167, 0, 4, 3, 100, 172]
abbrev dktX0_gapOf_2 : List UInt8 := dkwX0_gapOf_2 ++ []
def dkwX0_gapOf_1 : List UInt8 := [96, 46, 42, 180, 0, 152, 180, 1, 150, 27, 46, 100, 27, 158, 0, 15, 42, 180, 0, 152, 180, 1, 148, 27]
abbrev dktX0_gapOf_1 : List UInt8 := dkwX0_gapOf_1 ++ dktX0_gapOf_2
def dkwX0_gapOf_0 : List UInt8 := [42, 180, 0, 152, 27, 182, 1, 221, 153, 0, 7, 3, 167, 0, 42, 42, 180, 0, 152, 180, 1, 148, 27, 4]
abbrev dktX0_gapOf_0 : List UInt8 := dkwX0_gapOf_0 ++ dktX0_gapOf_1
theorem dksX0_gapOf_0 : cX0_gapOf.data.toList.drop 0 = dktX0_gapOf_0 := by decide +kernel
theorem dksX0_gapOf_1 : cX0_gapOf.data.toList.drop 24 = dktX0_gapOf_1 := dk_seg dksX0_gapOf_0 24 rfl rfl
theorem dksX0_gapOf_2 : cX0_gapOf.data.toList.drop 48 = dktX0_gapOf_2 := dk_seg dksX0_gapOf_1 24 rfl rfl
theorem dX0_gapOf_0 : decode cX0_gapOf 0 = .ok (.aload_n 0, 1) := dk_42 (dk_at dksX0_gapOf_0 0 rfl rfl)
theorem dX0_gapOf_1 : decode cX0_gapOf 1 = .ok (.getfield 152, 3) := dk_180 0 152 (dk_at dksX0_gapOf_0 1 rfl rfl)
theorem dX0_gapOf_4 : decode cX0_gapOf 4 = .ok (.iload_n 1, 1) := dk_27 (dk_at dksX0_gapOf_0 4 rfl rfl)
theorem dX0_gapOf_5 : decode cX0_gapOf 5 = .ok (.invokevirtual 477, 3) := dk_182 1 221 (dk_at dksX0_gapOf_0 5 rfl rfl)
theorem dX0_gapOf_8 : decode cX0_gapOf 8 = .ok (.ifCond .eq 7, 3) := dk_153 0 7 (dk_at dksX0_gapOf_0 8 rfl rfl)
theorem dX0_gapOf_11 : decode cX0_gapOf 11 = .ok (.iconst 0, 1) := dk_3 (dk_at dksX0_gapOf_0 11 rfl rfl)
theorem dX0_gapOf_12 : decode cX0_gapOf 12 = .ok (.goto 42, 3) := dk_167 0 42 (dk_at dksX0_gapOf_0 12 rfl rfl)
theorem dX0_gapOf_15 : decode cX0_gapOf 15 = .ok (.aload_n 0, 1) := dk_42 (dk_at dksX0_gapOf_0 15 rfl rfl)
theorem dX0_gapOf_16 : decode cX0_gapOf 16 = .ok (.getfield 152, 3) := dk_180 0 152 (dk_at dksX0_gapOf_0 16 rfl rfl)
theorem dX0_gapOf_19 : decode cX0_gapOf 19 = .ok (.getfield 404, 3) := dk_180 1 148 (dk_at dksX0_gapOf_0 19 rfl rfl)
theorem dX0_gapOf_22 : decode cX0_gapOf 22 = .ok (.iload_n 1, 1) := dk_27 (dk_at dksX0_gapOf_0 22 rfl rfl)
theorem dX0_gapOf_23 : decode cX0_gapOf 23 = .ok (.iconst 1, 1) := dk_4 (dk_at dksX0_gapOf_0 23 rfl rfl)
theorem dX0_gapOf_24 : decode cX0_gapOf 24 = .ok (.iadd, 1) := dk_96 (dk_at dksX0_gapOf_1 0 rfl rfl)
theorem dX0_gapOf_25 : decode cX0_gapOf 25 = .ok (.iaload, 1) := dk_46 (dk_at dksX0_gapOf_1 1 rfl rfl)
theorem dX0_gapOf_26 : decode cX0_gapOf 26 = .ok (.aload_n 0, 1) := dk_42 (dk_at dksX0_gapOf_1 2 rfl rfl)
theorem dX0_gapOf_27 : decode cX0_gapOf 27 = .ok (.getfield 152, 3) := dk_180 0 152 (dk_at dksX0_gapOf_1 3 rfl rfl)
theorem dX0_gapOf_30 : decode cX0_gapOf 30 = .ok (.getfield 406, 3) := dk_180 1 150 (dk_at dksX0_gapOf_1 6 rfl rfl)
theorem dX0_gapOf_33 : decode cX0_gapOf 33 = .ok (.iload_n 1, 1) := dk_27 (dk_at dksX0_gapOf_1 9 rfl rfl)
theorem dX0_gapOf_34 : decode cX0_gapOf 34 = .ok (.iaload, 1) := dk_46 (dk_at dksX0_gapOf_1 10 rfl rfl)
theorem dX0_gapOf_35 : decode cX0_gapOf 35 = .ok (.isub, 1) := dk_100 (dk_at dksX0_gapOf_1 11 rfl rfl)
theorem dX0_gapOf_36 : decode cX0_gapOf 36 = .ok (.iload_n 1, 1) := dk_27 (dk_at dksX0_gapOf_1 12 rfl rfl)
theorem dX0_gapOf_37 : decode cX0_gapOf 37 = .ok (.ifCond .le 15, 3) := dk_158 0 15 (dk_at dksX0_gapOf_1 13 rfl rfl)
theorem dX0_gapOf_40 : decode cX0_gapOf 40 = .ok (.aload_n 0, 1) := dk_42 (dk_at dksX0_gapOf_1 16 rfl rfl)
theorem dX0_gapOf_41 : decode cX0_gapOf 41 = .ok (.getfield 152, 3) := dk_180 0 152 (dk_at dksX0_gapOf_1 17 rfl rfl)
theorem dX0_gapOf_44 : decode cX0_gapOf 44 = .ok (.getfield 404, 3) := dk_180 1 148 (dk_at dksX0_gapOf_1 20 rfl rfl)
theorem dX0_gapOf_47 : decode cX0_gapOf 47 = .ok (.iload_n 1, 1) := dk_27 (dk_at dksX0_gapOf_1 23 rfl rfl)
theorem dX0_gapOf_48 : decode cX0_gapOf 48 = .ok (.iaload, 1) := dk_46 (dk_at dksX0_gapOf_2 0 rfl rfl)
theorem dX0_gapOf_49 : decode cX0_gapOf 49 = .ok (.goto 4, 3) := dk_167 0 4 (dk_at dksX0_gapOf_2 1 rfl rfl)
theorem dX0_gapOf_52 : decode cX0_gapOf 52 = .ok (.iconst 0, 1) := dk_3 (dk_at dksX0_gapOf_2 4 rfl rfl)
theorem dX0_gapOf_53 : decode cX0_gapOf 53 = .ok (.isub, 1) := dk_100 (dk_at dksX0_gapOf_2 5 rfl rfl)
theorem dX0_gapOf_54 : decode cX0_gapOf 54 = .ok (.ireturn, 1) := dk_172 (dk_at dksX0_gapOf_2 6 rfl rfl)
abbrev cX0_runs : ByteArray := prog_1_method_79_code
def yX0_runs : MethodName := ⟨RX0, "runs", "(I)I"⟩
def dkwX0_runs_6 : List UInt8 := [160, 0, 7, 29, 167, 0, 5, 21, 4, 172]
abbrev dktX0_runs_6 : List UInt8 := dkwX0_runs_6 ++ []
def dkwX0_runs_5 : List UInt8 := [167, 0, 5, 21, 4, 54, 4, 132, 6, 1, 167, 255, 154, 27, 154, 0, 7, 28, 167, 0, 14, 27, 4]
abbrev dktX0_runs_5 : List UInt8 := dkwX0_runs_5 ++ dktX0_runs_6
def dkwX0_runs_4 : List UInt8 := [180, 0, 152, 180, 1, 150, 21, 6, 46, 42, 180, 0, 152, 180, 1, 150, 21, 4, 46, 162, 0, 8, 21, 6]
abbrev dktX0_runs_4 : List UInt8 := dkwX0_runs_4 ++ dktX0_runs_5
def dkwX0_runs_3 : List UInt8 := [100, 4, 96, 167, 0, 4, 29, 62, 28, 21, 5, 184, 0, 7, 61, 21, 4, 2, 159, 0, 26, 42]
abbrev dktX0_runs_3 : List UInt8 := dkwX0_runs_3 ++ dktX0_runs_4
def dkwX0_runs_2 : List UInt8 := [167, 0, 4, 3, 54, 5, 21, 5, 154, 0, 6, 167, 0, 66, 21, 5, 28, 164, 0, 13, 21, 6, 21, 5]
abbrev dktX0_runs_2 : List UInt8 := dkwX0_runs_2 ++ dktX0_runs_3
def dkwX0_runs_1 : List UInt8 := [21, 6, 42, 180, 1, 90, 162, 0, 99, 42, 21, 6, 182, 2, 53, 153, 0, 10, 21, 5, 4, 96]
abbrev dktX0_runs_1 : List UInt8 := dkwX0_runs_1 ++ dktX0_runs_2
def dkwX0_runs_0 : List UInt8 := [27, 3, 5, 184, 0, 188, 154, 0, 5, 2, 172, 3, 61, 2, 62, 2, 54, 4, 3, 54, 5, 3, 54, 6]
abbrev dktX0_runs_0 : List UInt8 := dkwX0_runs_0 ++ dktX0_runs_1
theorem dksX0_runs_0 : cX0_runs.data.toList.drop 0 = dktX0_runs_0 := by decide +kernel
theorem dksX0_runs_1 : cX0_runs.data.toList.drop 24 = dktX0_runs_1 := dk_seg dksX0_runs_0 24 rfl rfl
theorem dksX0_runs_2 : cX0_runs.data.toList.drop 46 = dktX0_runs_2 := dk_seg dksX0_runs_1 22 rfl rfl
theorem dksX0_runs_3 : cX0_runs.data.toList.drop 70 = dktX0_runs_3 := dk_seg dksX0_runs_2 24 rfl rfl
theorem dksX0_runs_4 : cX0_runs.data.toList.drop 92 = dktX0_runs_4 := dk_seg dksX0_runs_3 22 rfl rfl
theorem dksX0_runs_5 : cX0_runs.data.toList.drop 116 = dktX0_runs_5 := dk_seg dksX0_runs_4 24 rfl rfl
theorem dksX0_runs_6 : cX0_runs.data.toList.drop 139 = dktX0_runs_6 := dk_seg dksX0_runs_5 23 rfl rfl
theorem dX0_runs_0 : decode cX0_runs 0 = .ok (.iload_n 1, 1) := dk_27 (dk_at dksX0_runs_0 0 rfl rfl)
theorem dX0_runs_1 : decode cX0_runs 1 = .ok (.iconst 0, 1) := dk_3 (dk_at dksX0_runs_0 1 rfl rfl)
theorem dX0_runs_2 : decode cX0_runs 2 = .ok (.iconst 2, 1) := dk_5 (dk_at dksX0_runs_0 2 rfl rfl)
theorem dX0_runs_3 : decode cX0_runs 3 = .ok (.invokestatic 188, 3) := dk_184 0 188 (dk_at dksX0_runs_0 3 rfl rfl)
theorem dX0_runs_6 : decode cX0_runs 6 = .ok (.ifCond .ne 5, 3) := dk_154 0 5 (dk_at dksX0_runs_0 6 rfl rfl)
theorem dX0_runs_9 : decode cX0_runs 9 = .ok (.iconst (-1), 1) := dk_2 (dk_at dksX0_runs_0 9 rfl rfl)
theorem dX0_runs_10 : decode cX0_runs 10 = .ok (.ireturn, 1) := dk_172 (dk_at dksX0_runs_0 10 rfl rfl)
theorem dX0_runs_11 : decode cX0_runs 11 = .ok (.iconst 0, 1) := dk_3 (dk_at dksX0_runs_0 11 rfl rfl)
theorem dX0_runs_12 : decode cX0_runs 12 = .ok (.istore_n 2, 1) := dk_61 (dk_at dksX0_runs_0 12 rfl rfl)
theorem dX0_runs_13 : decode cX0_runs 13 = .ok (.iconst (-1), 1) := dk_2 (dk_at dksX0_runs_0 13 rfl rfl)
theorem dX0_runs_14 : decode cX0_runs 14 = .ok (.istore_n 3, 1) := dk_62 (dk_at dksX0_runs_0 14 rfl rfl)
theorem dX0_runs_15 : decode cX0_runs 15 = .ok (.iconst (-1), 1) := dk_2 (dk_at dksX0_runs_0 15 rfl rfl)
theorem dX0_runs_16 : decode cX0_runs 16 = .ok (.istore 4, 2) := dk_54 4 (dk_at dksX0_runs_0 16 rfl rfl)
theorem dX0_runs_18 : decode cX0_runs 18 = .ok (.iconst 0, 1) := dk_3 (dk_at dksX0_runs_0 18 rfl rfl)
theorem dX0_runs_19 : decode cX0_runs 19 = .ok (.istore 5, 2) := dk_54 5 (dk_at dksX0_runs_0 19 rfl rfl)
theorem dX0_runs_21 : decode cX0_runs 21 = .ok (.iconst 0, 1) := dk_3 (dk_at dksX0_runs_0 21 rfl rfl)
theorem dX0_runs_22 : decode cX0_runs 22 = .ok (.istore 6, 2) := dk_54 6 (dk_at dksX0_runs_0 22 rfl rfl)
theorem dX0_runs_24 : decode cX0_runs 24 = .ok (.iload 6, 2) := dk_21 6 (dk_at dksX0_runs_1 0 rfl rfl)
theorem dX0_runs_26 : decode cX0_runs 26 = .ok (.aload_n 0, 1) := dk_42 (dk_at dksX0_runs_1 2 rfl rfl)
theorem dX0_runs_27 : decode cX0_runs 27 = .ok (.getfield 346, 3) := dk_180 1 90 (dk_at dksX0_runs_1 3 rfl rfl)
theorem dX0_runs_30 : decode cX0_runs 30 = .ok (.if_icmp .ge 99, 3) := dk_162 0 99 (dk_at dksX0_runs_1 6 rfl rfl)
theorem dX0_runs_33 : decode cX0_runs 33 = .ok (.aload_n 0, 1) := dk_42 (dk_at dksX0_runs_1 9 rfl rfl)
theorem dX0_runs_34 : decode cX0_runs 34 = .ok (.iload 6, 2) := dk_21 6 (dk_at dksX0_runs_1 10 rfl rfl)
theorem dX0_runs_36 : decode cX0_runs 36 = .ok (.invokevirtual 565, 3) := dk_182 2 53 (dk_at dksX0_runs_1 12 rfl rfl)
theorem dX0_runs_39 : decode cX0_runs 39 = .ok (.ifCond .eq 10, 3) := dk_153 0 10 (dk_at dksX0_runs_1 15 rfl rfl)
theorem dX0_runs_42 : decode cX0_runs 42 = .ok (.iload 5, 2) := dk_21 5 (dk_at dksX0_runs_1 18 rfl rfl)
theorem dX0_runs_44 : decode cX0_runs 44 = .ok (.iconst 1, 1) := dk_4 (dk_at dksX0_runs_1 20 rfl rfl)
theorem dX0_runs_45 : decode cX0_runs 45 = .ok (.iadd, 1) := dk_96 (dk_at dksX0_runs_1 21 rfl rfl)
theorem dX0_runs_46 : decode cX0_runs 46 = .ok (.goto 4, 3) := dk_167 0 4 (dk_at dksX0_runs_2 0 rfl rfl)
theorem dX0_runs_49 : decode cX0_runs 49 = .ok (.iconst 0, 1) := dk_3 (dk_at dksX0_runs_2 3 rfl rfl)
theorem dX0_runs_50 : decode cX0_runs 50 = .ok (.istore 5, 2) := dk_54 5 (dk_at dksX0_runs_2 4 rfl rfl)
theorem dX0_runs_52 : decode cX0_runs 52 = .ok (.iload 5, 2) := dk_21 5 (dk_at dksX0_runs_2 6 rfl rfl)
theorem dX0_runs_54 : decode cX0_runs 54 = .ok (.ifCond .ne 6, 3) := dk_154 0 6 (dk_at dksX0_runs_2 8 rfl rfl)
theorem dX0_runs_57 : decode cX0_runs 57 = .ok (.goto 66, 3) := dk_167 0 66 (dk_at dksX0_runs_2 11 rfl rfl)
theorem dX0_runs_60 : decode cX0_runs 60 = .ok (.iload 5, 2) := dk_21 5 (dk_at dksX0_runs_2 14 rfl rfl)
theorem dX0_runs_62 : decode cX0_runs 62 = .ok (.iload_n 2, 1) := dk_28 (dk_at dksX0_runs_2 16 rfl rfl)
theorem dX0_runs_63 : decode cX0_runs 63 = .ok (.if_icmp .le 13, 3) := dk_164 0 13 (dk_at dksX0_runs_2 17 rfl rfl)
theorem dX0_runs_66 : decode cX0_runs 66 = .ok (.iload 6, 2) := dk_21 6 (dk_at dksX0_runs_2 20 rfl rfl)
theorem dX0_runs_68 : decode cX0_runs 68 = .ok (.iload 5, 2) := dk_21 5 (dk_at dksX0_runs_2 22 rfl rfl)
theorem dX0_runs_70 : decode cX0_runs 70 = .ok (.isub, 1) := dk_100 (dk_at dksX0_runs_3 0 rfl rfl)
theorem dX0_runs_71 : decode cX0_runs 71 = .ok (.iconst 1, 1) := dk_4 (dk_at dksX0_runs_3 1 rfl rfl)
theorem dX0_runs_72 : decode cX0_runs 72 = .ok (.iadd, 1) := dk_96 (dk_at dksX0_runs_3 2 rfl rfl)
theorem dX0_runs_73 : decode cX0_runs 73 = .ok (.goto 4, 3) := dk_167 0 4 (dk_at dksX0_runs_3 3 rfl rfl)
theorem dX0_runs_76 : decode cX0_runs 76 = .ok (.iload_n 3, 1) := dk_29 (dk_at dksX0_runs_3 6 rfl rfl)
theorem dX0_runs_77 : decode cX0_runs 77 = .ok (.istore_n 3, 1) := dk_62 (dk_at dksX0_runs_3 7 rfl rfl)
theorem dX0_runs_78 : decode cX0_runs 78 = .ok (.iload_n 2, 1) := dk_28 (dk_at dksX0_runs_3 8 rfl rfl)
theorem dX0_runs_79 : decode cX0_runs 79 = .ok (.iload 5, 2) := dk_21 5 (dk_at dksX0_runs_3 9 rfl rfl)
theorem dX0_runs_81 : decode cX0_runs 81 = .ok (.invokestatic 7, 3) := dk_184 0 7 (dk_at dksX0_runs_3 11 rfl rfl)
theorem dX0_runs_84 : decode cX0_runs 84 = .ok (.istore_n 2, 1) := dk_61 (dk_at dksX0_runs_3 14 rfl rfl)
theorem dX0_runs_85 : decode cX0_runs 85 = .ok (.iload 4, 2) := dk_21 4 (dk_at dksX0_runs_3 15 rfl rfl)
theorem dX0_runs_87 : decode cX0_runs 87 = .ok (.iconst (-1), 1) := dk_2 (dk_at dksX0_runs_3 17 rfl rfl)
theorem dX0_runs_88 : decode cX0_runs 88 = .ok (.if_icmp .eq 26, 3) := dk_159 0 26 (dk_at dksX0_runs_3 18 rfl rfl)
theorem dX0_runs_91 : decode cX0_runs 91 = .ok (.aload_n 0, 1) := dk_42 (dk_at dksX0_runs_3 21 rfl rfl)
theorem dX0_runs_92 : decode cX0_runs 92 = .ok (.getfield 152, 3) := dk_180 0 152 (dk_at dksX0_runs_4 0 rfl rfl)
theorem dX0_runs_95 : decode cX0_runs 95 = .ok (.getfield 406, 3) := dk_180 1 150 (dk_at dksX0_runs_4 3 rfl rfl)
theorem dX0_runs_98 : decode cX0_runs 98 = .ok (.iload 6, 2) := dk_21 6 (dk_at dksX0_runs_4 6 rfl rfl)
theorem dX0_runs_100 : decode cX0_runs 100 = .ok (.iaload, 1) := dk_46 (dk_at dksX0_runs_4 8 rfl rfl)
theorem dX0_runs_101 : decode cX0_runs 101 = .ok (.aload_n 0, 1) := dk_42 (dk_at dksX0_runs_4 9 rfl rfl)
theorem dX0_runs_102 : decode cX0_runs 102 = .ok (.getfield 152, 3) := dk_180 0 152 (dk_at dksX0_runs_4 10 rfl rfl)
theorem dX0_runs_105 : decode cX0_runs 105 = .ok (.getfield 406, 3) := dk_180 1 150 (dk_at dksX0_runs_4 13 rfl rfl)
theorem dX0_runs_108 : decode cX0_runs 108 = .ok (.iload 4, 2) := dk_21 4 (dk_at dksX0_runs_4 16 rfl rfl)
theorem dX0_runs_110 : decode cX0_runs 110 = .ok (.iaload, 1) := dk_46 (dk_at dksX0_runs_4 18 rfl rfl)
theorem dX0_runs_111 : decode cX0_runs 111 = .ok (.if_icmp .ge 8, 3) := dk_162 0 8 (dk_at dksX0_runs_4 19 rfl rfl)
theorem dX0_runs_114 : decode cX0_runs 114 = .ok (.iload 6, 2) := dk_21 6 (dk_at dksX0_runs_4 22 rfl rfl)
theorem dX0_runs_116 : decode cX0_runs 116 = .ok (.goto 5, 3) := dk_167 0 5 (dk_at dksX0_runs_5 0 rfl rfl)
theorem dX0_runs_119 : decode cX0_runs 119 = .ok (.iload 4, 2) := dk_21 4 (dk_at dksX0_runs_5 3 rfl rfl)
theorem dX0_runs_121 : decode cX0_runs 121 = .ok (.istore 4, 2) := dk_54 4 (dk_at dksX0_runs_5 5 rfl rfl)
theorem dX0_runs_123 : decode cX0_runs 123 = .ok (.iinc 6 1, 3) := dk_132 6 1 (dk_at dksX0_runs_5 7 rfl rfl)
theorem dX0_runs_126 : decode cX0_runs 126 = .ok (.goto (-102), 3) := dk_167 255 154 (dk_at dksX0_runs_5 10 rfl rfl)
theorem dX0_runs_129 : decode cX0_runs 129 = .ok (.iload_n 1, 1) := dk_27 (dk_at dksX0_runs_5 13 rfl rfl)
theorem dX0_runs_130 : decode cX0_runs 130 = .ok (.ifCond .ne 7, 3) := dk_154 0 7 (dk_at dksX0_runs_5 14 rfl rfl)
theorem dX0_runs_133 : decode cX0_runs 133 = .ok (.iload_n 2, 1) := dk_28 (dk_at dksX0_runs_5 17 rfl rfl)
theorem dX0_runs_134 : decode cX0_runs 134 = .ok (.goto 14, 3) := dk_167 0 14 (dk_at dksX0_runs_5 18 rfl rfl)
theorem dX0_runs_137 : decode cX0_runs 137 = .ok (.iload_n 1, 1) := dk_27 (dk_at dksX0_runs_5 21 rfl rfl)
theorem dX0_runs_138 : decode cX0_runs 138 = .ok (.iconst 1, 1) := dk_4 (dk_at dksX0_runs_5 22 rfl rfl)
theorem dX0_runs_139 : decode cX0_runs 139 = .ok (.if_icmp .ne 7, 3) := dk_160 0 7 (dk_at dksX0_runs_6 0 rfl rfl)
theorem dX0_runs_142 : decode cX0_runs 142 = .ok (.iload_n 3, 1) := dk_29 (dk_at dksX0_runs_6 3 rfl rfl)
theorem dX0_runs_143 : decode cX0_runs 143 = .ok (.goto 5, 3) := dk_167 0 5 (dk_at dksX0_runs_6 4 rfl rfl)
theorem dX0_runs_146 : decode cX0_runs 146 = .ok (.iload 4, 2) := dk_21 4 (dk_at dksX0_runs_6 7 rfl rfl)
theorem dX0_runs_148 : decode cX0_runs 148 = .ok (.ireturn, 1) := dk_172 (dk_at dksX0_runs_6 9 rfl rfl)
abbrev cX0_isSound : ByteArray := prog_1_method_78_code
def yX0_isSound : MethodName := ⟨RX0, "isSound", "(I)Z"⟩
def dkwX0_isSound_1 : List UInt8 := [167, 0, 4, 3, 172]
abbrev dktX0_isSound_1 : List UInt8 := dkwX0_isSound_1 ++ []
def dkwX0_isSound_0 : List UInt8 := [42, 180, 0, 152, 27, 182, 2, 50, 153, 0, 18, 42, 180, 0, 152, 27, 182, 1, 221, 153, 0, 7, 4]
abbrev dktX0_isSound_0 : List UInt8 := dkwX0_isSound_0 ++ dktX0_isSound_1
theorem dksX0_isSound_0 : cX0_isSound.data.toList.drop 0 = dktX0_isSound_0 := by decide +kernel
theorem dksX0_isSound_1 : cX0_isSound.data.toList.drop 23 = dktX0_isSound_1 := dk_seg dksX0_isSound_0 23 rfl rfl
theorem dX0_isSound_0 : decode cX0_isSound 0 = .ok (.aload_n 0, 1) := dk_42 (dk_at dksX0_isSound_0 0 rfl rfl)
theorem dX0_isSound_1 : decode cX0_isSound 1 = .ok (.getfield 152, 3) := dk_180 0 152 (dk_at dksX0_isSound_0 1 rfl rfl)
theorem dX0_isSound_4 : decode cX0_isSound 4 = .ok (.iload_n 1, 1) := dk_27 (dk_at dksX0_isSound_0 4 rfl rfl)
theorem dX0_isSound_5 : decode cX0_isSound 5 = .ok (.invokevirtual 562, 3) := dk_182 2 50 (dk_at dksX0_isSound_0 5 rfl rfl)
theorem dX0_isSound_8 : decode cX0_isSound 8 = .ok (.ifCond .eq 18, 3) := dk_153 0 18 (dk_at dksX0_isSound_0 8 rfl rfl)
theorem dX0_isSound_11 : decode cX0_isSound 11 = .ok (.aload_n 0, 1) := dk_42 (dk_at dksX0_isSound_0 11 rfl rfl)
theorem dX0_isSound_12 : decode cX0_isSound 12 = .ok (.getfield 152, 3) := dk_180 0 152 (dk_at dksX0_isSound_0 12 rfl rfl)
theorem dX0_isSound_15 : decode cX0_isSound 15 = .ok (.iload_n 1, 1) := dk_27 (dk_at dksX0_isSound_0 15 rfl rfl)
theorem dX0_isSound_16 : decode cX0_isSound 16 = .ok (.invokevirtual 477, 3) := dk_182 1 221 (dk_at dksX0_isSound_0 16 rfl rfl)
theorem dX0_isSound_19 : decode cX0_isSound 19 = .ok (.ifCond .eq 7, 3) := dk_153 0 7 (dk_at dksX0_isSound_0 19 rfl rfl)
theorem dX0_isSound_22 : decode cX0_isSound 22 = .ok (.iconst 1, 1) := dk_4 (dk_at dksX0_isSound_0 22 rfl rfl)
theorem dX0_isSound_23 : decode cX0_isSound 23 = .ok (.goto 4, 3) := dk_167 0 4 (dk_at dksX0_isSound_1 0 rfl rfl)
theorem dX0_isSound_26 : decode cX0_isSound 26 = .ok (.iconst 0, 1) := dk_3 (dk_at dksX0_isSound_1 3 rfl rfl)
theorem dX0_isSound_27 : decode cX0_isSound 27 = .ok (.ireturn, 1) := dk_172 (dk_at dksX0_isSound_1 4 rfl rfl)
abbrev cX0_share : ByteArray := prog_1_method_82_code
def yX0_share : MethodName := ⟨RX0, "share", "(II)I"⟩
def dkwX0_share_5 : List UInt8 := [29, 164, 0, 12, 21, 4, 158, 0, 7, 4, 167, 0, 4, 3, 96, 172]
abbrev dktX0_share_5 : List UInt8 := dkwX0_share_5 ++ []
def dkwX0_share_4 : List UInt8 := [3, 100, 54, 4, 132, 5, 1, 167, 255, 227, 29, 42, 28, 182, 2, 56, 184, 0, 1, 42, 28, 182, 2, 56]
abbrev dktX0_share_4 : List UInt8 := dkwX0_share_4 ++ dktX0_share_5
def dkwX0_share_3 : List UInt8 := [54, 5, 21, 5, 28, 162, 0, 29, 21, 4, 42, 21, 5, 182, 2, 56, 29, 164, 0, 7, 4, 167, 0, 4]
abbrev dktX0_share_3 : List UInt8 := dkwX0_share_3 ++ dktX0_share_4
def dkwX0_share_2 : List UInt8 := [182, 2, 59, 27, 163, 0, 9, 132, 3, 1, 167, 255, 235, 27, 42, 29, 182, 2, 59, 100, 54, 4, 3]
abbrev dktX0_share_2 : List UInt8 := dkwX0_share_2 ++ dktX0_share_3
def dkwX0_share_1 : List UInt8 := [182, 2, 59, 27, 162, 0, 5, 2, 172, 3, 62, 29, 17, 3, 231, 162, 0, 20, 42, 29, 4, 96]
abbrev dktX0_share_1 : List UInt8 := dkwX0_share_1 ++ dktX0_share_2
def dkwX0_share_0 : List UInt8 := [27, 3, 17, 39, 15, 184, 0, 188, 153, 0, 22, 42, 28, 182, 1, 166, 153, 0, 14, 42, 17, 3, 231]
abbrev dktX0_share_0 : List UInt8 := dkwX0_share_0 ++ dktX0_share_1
theorem dksX0_share_0 : cX0_share.data.toList.drop 0 = dktX0_share_0 := by decide +kernel
theorem dksX0_share_1 : cX0_share.data.toList.drop 23 = dktX0_share_1 := dk_seg dksX0_share_0 23 rfl rfl
theorem dksX0_share_2 : cX0_share.data.toList.drop 45 = dktX0_share_2 := dk_seg dksX0_share_1 22 rfl rfl
theorem dksX0_share_3 : cX0_share.data.toList.drop 68 = dktX0_share_3 := dk_seg dksX0_share_2 23 rfl rfl
theorem dksX0_share_4 : cX0_share.data.toList.drop 92 = dktX0_share_4 := dk_seg dksX0_share_3 24 rfl rfl
theorem dksX0_share_5 : cX0_share.data.toList.drop 116 = dktX0_share_5 := dk_seg dksX0_share_4 24 rfl rfl
theorem dX0_share_0 : decode cX0_share 0 = .ok (.iload_n 1, 1) := dk_27 (dk_at dksX0_share_0 0 rfl rfl)
theorem dX0_share_1 : decode cX0_share 1 = .ok (.iconst 0, 1) := dk_3 (dk_at dksX0_share_0 1 rfl rfl)
theorem dX0_share_2 : decode cX0_share 2 = .ok (.sipush 9999, 3) := dk_17 39 15 (dk_at dksX0_share_0 2 rfl rfl)
theorem dX0_share_5 : decode cX0_share 5 = .ok (.invokestatic 188, 3) := dk_184 0 188 (dk_at dksX0_share_0 5 rfl rfl)
theorem dX0_share_8 : decode cX0_share 8 = .ok (.ifCond .eq 22, 3) := dk_153 0 22 (dk_at dksX0_share_0 8 rfl rfl)
theorem dX0_share_11 : decode cX0_share 11 = .ok (.aload_n 0, 1) := dk_42 (dk_at dksX0_share_0 11 rfl rfl)
theorem dX0_share_12 : decode cX0_share 12 = .ok (.iload_n 2, 1) := dk_28 (dk_at dksX0_share_0 12 rfl rfl)
theorem dX0_share_13 : decode cX0_share 13 = .ok (.invokevirtual 422, 3) := dk_182 1 166 (dk_at dksX0_share_0 13 rfl rfl)
theorem dX0_share_16 : decode cX0_share 16 = .ok (.ifCond .eq 14, 3) := dk_153 0 14 (dk_at dksX0_share_0 16 rfl rfl)
theorem dX0_share_19 : decode cX0_share 19 = .ok (.aload_n 0, 1) := dk_42 (dk_at dksX0_share_0 19 rfl rfl)
theorem dX0_share_20 : decode cX0_share 20 = .ok (.sipush 999, 3) := dk_17 3 231 (dk_at dksX0_share_0 20 rfl rfl)
theorem dX0_share_23 : decode cX0_share 23 = .ok (.invokevirtual 571, 3) := dk_182 2 59 (dk_at dksX0_share_1 0 rfl rfl)
theorem dX0_share_26 : decode cX0_share 26 = .ok (.iload_n 1, 1) := dk_27 (dk_at dksX0_share_1 3 rfl rfl)
theorem dX0_share_27 : decode cX0_share 27 = .ok (.if_icmp .ge 5, 3) := dk_162 0 5 (dk_at dksX0_share_1 4 rfl rfl)
theorem dX0_share_30 : decode cX0_share 30 = .ok (.iconst (-1), 1) := dk_2 (dk_at dksX0_share_1 7 rfl rfl)
theorem dX0_share_31 : decode cX0_share 31 = .ok (.ireturn, 1) := dk_172 (dk_at dksX0_share_1 8 rfl rfl)
theorem dX0_share_32 : decode cX0_share 32 = .ok (.iconst 0, 1) := dk_3 (dk_at dksX0_share_1 9 rfl rfl)
theorem dX0_share_33 : decode cX0_share 33 = .ok (.istore_n 3, 1) := dk_62 (dk_at dksX0_share_1 10 rfl rfl)
theorem dX0_share_34 : decode cX0_share 34 = .ok (.iload_n 3, 1) := dk_29 (dk_at dksX0_share_1 11 rfl rfl)
theorem dX0_share_35 : decode cX0_share 35 = .ok (.sipush 999, 3) := dk_17 3 231 (dk_at dksX0_share_1 12 rfl rfl)
theorem dX0_share_38 : decode cX0_share 38 = .ok (.if_icmp .ge 20, 3) := dk_162 0 20 (dk_at dksX0_share_1 15 rfl rfl)
theorem dX0_share_41 : decode cX0_share 41 = .ok (.aload_n 0, 1) := dk_42 (dk_at dksX0_share_1 18 rfl rfl)
theorem dX0_share_42 : decode cX0_share 42 = .ok (.iload_n 3, 1) := dk_29 (dk_at dksX0_share_1 19 rfl rfl)
theorem dX0_share_43 : decode cX0_share 43 = .ok (.iconst 1, 1) := dk_4 (dk_at dksX0_share_1 20 rfl rfl)
theorem dX0_share_44 : decode cX0_share 44 = .ok (.iadd, 1) := dk_96 (dk_at dksX0_share_1 21 rfl rfl)
theorem dX0_share_45 : decode cX0_share 45 = .ok (.invokevirtual 571, 3) := dk_182 2 59 (dk_at dksX0_share_2 0 rfl rfl)
theorem dX0_share_48 : decode cX0_share 48 = .ok (.iload_n 1, 1) := dk_27 (dk_at dksX0_share_2 3 rfl rfl)
theorem dX0_share_49 : decode cX0_share 49 = .ok (.if_icmp .gt 9, 3) := dk_163 0 9 (dk_at dksX0_share_2 4 rfl rfl)
theorem dX0_share_52 : decode cX0_share 52 = .ok (.iinc 3 1, 3) := dk_132 3 1 (dk_at dksX0_share_2 7 rfl rfl)
theorem dX0_share_55 : decode cX0_share 55 = .ok (.goto (-21), 3) := dk_167 255 235 (dk_at dksX0_share_2 10 rfl rfl)
theorem dX0_share_58 : decode cX0_share 58 = .ok (.iload_n 1, 1) := dk_27 (dk_at dksX0_share_2 13 rfl rfl)
theorem dX0_share_59 : decode cX0_share 59 = .ok (.aload_n 0, 1) := dk_42 (dk_at dksX0_share_2 14 rfl rfl)
theorem dX0_share_60 : decode cX0_share 60 = .ok (.iload_n 3, 1) := dk_29 (dk_at dksX0_share_2 15 rfl rfl)
theorem dX0_share_61 : decode cX0_share 61 = .ok (.invokevirtual 571, 3) := dk_182 2 59 (dk_at dksX0_share_2 16 rfl rfl)
theorem dX0_share_64 : decode cX0_share 64 = .ok (.isub, 1) := dk_100 (dk_at dksX0_share_2 19 rfl rfl)
theorem dX0_share_65 : decode cX0_share 65 = .ok (.istore 4, 2) := dk_54 4 (dk_at dksX0_share_2 20 rfl rfl)
theorem dX0_share_67 : decode cX0_share 67 = .ok (.iconst 0, 1) := dk_3 (dk_at dksX0_share_2 22 rfl rfl)
theorem dX0_share_68 : decode cX0_share 68 = .ok (.istore 5, 2) := dk_54 5 (dk_at dksX0_share_3 0 rfl rfl)
theorem dX0_share_70 : decode cX0_share 70 = .ok (.iload 5, 2) := dk_21 5 (dk_at dksX0_share_3 2 rfl rfl)
theorem dX0_share_72 : decode cX0_share 72 = .ok (.iload_n 2, 1) := dk_28 (dk_at dksX0_share_3 4 rfl rfl)
theorem dX0_share_73 : decode cX0_share 73 = .ok (.if_icmp .ge 29, 3) := dk_162 0 29 (dk_at dksX0_share_3 5 rfl rfl)
theorem dX0_share_76 : decode cX0_share 76 = .ok (.iload 4, 2) := dk_21 4 (dk_at dksX0_share_3 8 rfl rfl)
theorem dX0_share_78 : decode cX0_share 78 = .ok (.aload_n 0, 1) := dk_42 (dk_at dksX0_share_3 10 rfl rfl)
theorem dX0_share_79 : decode cX0_share 79 = .ok (.iload 5, 2) := dk_21 5 (dk_at dksX0_share_3 11 rfl rfl)
theorem dX0_share_81 : decode cX0_share 81 = .ok (.invokevirtual 568, 3) := dk_182 2 56 (dk_at dksX0_share_3 13 rfl rfl)
theorem dX0_share_84 : decode cX0_share 84 = .ok (.iload_n 3, 1) := dk_29 (dk_at dksX0_share_3 16 rfl rfl)
theorem dX0_share_85 : decode cX0_share 85 = .ok (.if_icmp .le 7, 3) := dk_164 0 7 (dk_at dksX0_share_3 17 rfl rfl)
theorem dX0_share_88 : decode cX0_share 88 = .ok (.iconst 1, 1) := dk_4 (dk_at dksX0_share_3 20 rfl rfl)
theorem dX0_share_89 : decode cX0_share 89 = .ok (.goto 4, 3) := dk_167 0 4 (dk_at dksX0_share_3 21 rfl rfl)
theorem dX0_share_92 : decode cX0_share 92 = .ok (.iconst 0, 1) := dk_3 (dk_at dksX0_share_4 0 rfl rfl)
theorem dX0_share_93 : decode cX0_share 93 = .ok (.isub, 1) := dk_100 (dk_at dksX0_share_4 1 rfl rfl)
theorem dX0_share_94 : decode cX0_share 94 = .ok (.istore 4, 2) := dk_54 4 (dk_at dksX0_share_4 2 rfl rfl)
theorem dX0_share_96 : decode cX0_share 96 = .ok (.iinc 5 1, 3) := dk_132 5 1 (dk_at dksX0_share_4 4 rfl rfl)
theorem dX0_share_99 : decode cX0_share 99 = .ok (.goto (-29), 3) := dk_167 255 227 (dk_at dksX0_share_4 7 rfl rfl)
theorem dX0_share_102 : decode cX0_share 102 = .ok (.iload_n 3, 1) := dk_29 (dk_at dksX0_share_4 10 rfl rfl)
theorem dX0_share_103 : decode cX0_share 103 = .ok (.aload_n 0, 1) := dk_42 (dk_at dksX0_share_4 11 rfl rfl)
theorem dX0_share_104 : decode cX0_share 104 = .ok (.iload_n 2, 1) := dk_28 (dk_at dksX0_share_4 12 rfl rfl)
theorem dX0_share_105 : decode cX0_share 105 = .ok (.invokevirtual 568, 3) := dk_182 2 56 (dk_at dksX0_share_4 13 rfl rfl)
theorem dX0_share_108 : decode cX0_share 108 = .ok (.invokestatic 1, 3) := dk_184 0 1 (dk_at dksX0_share_4 16 rfl rfl)
theorem dX0_share_111 : decode cX0_share 111 = .ok (.aload_n 0, 1) := dk_42 (dk_at dksX0_share_4 19 rfl rfl)
theorem dX0_share_112 : decode cX0_share 112 = .ok (.iload_n 2, 1) := dk_28 (dk_at dksX0_share_4 20 rfl rfl)
theorem dX0_share_113 : decode cX0_share 113 = .ok (.invokevirtual 568, 3) := dk_182 2 56 (dk_at dksX0_share_4 21 rfl rfl)
theorem dX0_share_116 : decode cX0_share 116 = .ok (.iload_n 3, 1) := dk_29 (dk_at dksX0_share_5 0 rfl rfl)
theorem dX0_share_117 : decode cX0_share 117 = .ok (.if_icmp .le 12, 3) := dk_164 0 12 (dk_at dksX0_share_5 1 rfl rfl)
theorem dX0_share_120 : decode cX0_share 120 = .ok (.iload 4, 2) := dk_21 4 (dk_at dksX0_share_5 4 rfl rfl)
theorem dX0_share_122 : decode cX0_share 122 = .ok (.ifCond .le 7, 3) := dk_158 0 7 (dk_at dksX0_share_5 6 rfl rfl)
theorem dX0_share_125 : decode cX0_share 125 = .ok (.iconst 1, 1) := dk_4 (dk_at dksX0_share_5 9 rfl rfl)
theorem dX0_share_126 : decode cX0_share 126 = .ok (.goto 4, 3) := dk_167 0 4 (dk_at dksX0_share_5 10 rfl rfl)
theorem dX0_share_129 : decode cX0_share 129 = .ok (.iconst 0, 1) := dk_3 (dk_at dksX0_share_5 13 rfl rfl)
theorem dX0_share_130 : decode cX0_share 130 = .ok (.iadd, 1) := dk_96 (dk_at dksX0_share_5 14 rfl rfl)
theorem dX0_share_131 : decode cX0_share 131 = .ok (.ireturn, 1) := dk_172 (dk_at dksX0_share_5 15 rfl rfl)
abbrev cX0_givenAt : ByteArray := prog_1_method_81_code
def yX0_givenAt : MethodName := ⟨RX0, "givenAt", "(I)I"⟩
def dkwX0_givenAt_1 : List UInt8 := [132, 3, 1, 167, 255, 233, 28, 172]
abbrev dktX0_givenAt_1 : List UInt8 := dkwX0_givenAt_1 ++ []
def dkwX0_givenAt_0 : List UInt8 := [3, 61, 3, 62, 29, 42, 180, 1, 90, 162, 0, 21, 28, 27, 42, 29, 182, 2, 56, 184, 0, 1, 96, 61]
abbrev dktX0_givenAt_0 : List UInt8 := dkwX0_givenAt_0 ++ dktX0_givenAt_1
theorem dksX0_givenAt_0 : cX0_givenAt.data.toList.drop 0 = dktX0_givenAt_0 := by decide +kernel
theorem dksX0_givenAt_1 : cX0_givenAt.data.toList.drop 24 = dktX0_givenAt_1 := dk_seg dksX0_givenAt_0 24 rfl rfl
theorem dX0_givenAt_0 : decode cX0_givenAt 0 = .ok (.iconst 0, 1) := dk_3 (dk_at dksX0_givenAt_0 0 rfl rfl)
theorem dX0_givenAt_1 : decode cX0_givenAt 1 = .ok (.istore_n 2, 1) := dk_61 (dk_at dksX0_givenAt_0 1 rfl rfl)
theorem dX0_givenAt_2 : decode cX0_givenAt 2 = .ok (.iconst 0, 1) := dk_3 (dk_at dksX0_givenAt_0 2 rfl rfl)
theorem dX0_givenAt_3 : decode cX0_givenAt 3 = .ok (.istore_n 3, 1) := dk_62 (dk_at dksX0_givenAt_0 3 rfl rfl)
theorem dX0_givenAt_4 : decode cX0_givenAt 4 = .ok (.iload_n 3, 1) := dk_29 (dk_at dksX0_givenAt_0 4 rfl rfl)
theorem dX0_givenAt_5 : decode cX0_givenAt 5 = .ok (.aload_n 0, 1) := dk_42 (dk_at dksX0_givenAt_0 5 rfl rfl)
theorem dX0_givenAt_6 : decode cX0_givenAt 6 = .ok (.getfield 346, 3) := dk_180 1 90 (dk_at dksX0_givenAt_0 6 rfl rfl)
theorem dX0_givenAt_9 : decode cX0_givenAt 9 = .ok (.if_icmp .ge 21, 3) := dk_162 0 21 (dk_at dksX0_givenAt_0 9 rfl rfl)
theorem dX0_givenAt_12 : decode cX0_givenAt 12 = .ok (.iload_n 2, 1) := dk_28 (dk_at dksX0_givenAt_0 12 rfl rfl)
theorem dX0_givenAt_13 : decode cX0_givenAt 13 = .ok (.iload_n 1, 1) := dk_27 (dk_at dksX0_givenAt_0 13 rfl rfl)
theorem dX0_givenAt_14 : decode cX0_givenAt 14 = .ok (.aload_n 0, 1) := dk_42 (dk_at dksX0_givenAt_0 14 rfl rfl)
theorem dX0_givenAt_15 : decode cX0_givenAt 15 = .ok (.iload_n 3, 1) := dk_29 (dk_at dksX0_givenAt_0 15 rfl rfl)
theorem dX0_givenAt_16 : decode cX0_givenAt 16 = .ok (.invokevirtual 568, 3) := dk_182 2 56 (dk_at dksX0_givenAt_0 16 rfl rfl)
theorem dX0_givenAt_19 : decode cX0_givenAt 19 = .ok (.invokestatic 1, 3) := dk_184 0 1 (dk_at dksX0_givenAt_0 19 rfl rfl)
theorem dX0_givenAt_22 : decode cX0_givenAt 22 = .ok (.iadd, 1) := dk_96 (dk_at dksX0_givenAt_0 22 rfl rfl)
theorem dX0_givenAt_23 : decode cX0_givenAt 23 = .ok (.istore_n 2, 1) := dk_61 (dk_at dksX0_givenAt_0 23 rfl rfl)
theorem dX0_givenAt_24 : decode cX0_givenAt 24 = .ok (.iinc 3 1, 3) := dk_132 3 1 (dk_at dksX0_givenAt_1 0 rfl rfl)
theorem dX0_givenAt_27 : decode cX0_givenAt 27 = .ok (.goto (-23), 3) := dk_167 255 233 (dk_at dksX0_givenAt_1 3 rfl rfl)
theorem dX0_givenAt_30 : decode cX0_givenAt 30 = .ok (.iload_n 2, 1) := dk_28 (dk_at dksX0_givenAt_1 6 rfl rfl)
theorem dX0_givenAt_31 : decode cX0_givenAt 31 = .ok (.ireturn, 1) := dk_172 (dk_at dksX0_givenAt_1 7 rfl rfl)
abbrev cX0_canGive : ByteArray := prog_1_method_80_code
def yX0_canGive : MethodName := ⟨RX0, "canGive", "(I)I"⟩
def dkwX0_canGive_1 : List UInt8 := [167, 0, 4, 3, 172]
abbrev dktX0_canGive_1 : List UInt8 := dkwX0_canGive_1 ++ []
def dkwX0_canGive_0 : List UInt8 := [42, 180, 0, 152, 27, 182, 2, 50, 153, 0, 19, 3, 42, 180, 0, 152, 180, 1, 152, 27, 46, 184, 0, 7]
abbrev dktX0_canGive_0 : List UInt8 := dkwX0_canGive_0 ++ dktX0_canGive_1
theorem dksX0_canGive_0 : cX0_canGive.data.toList.drop 0 = dktX0_canGive_0 := by decide +kernel
theorem dksX0_canGive_1 : cX0_canGive.data.toList.drop 24 = dktX0_canGive_1 := dk_seg dksX0_canGive_0 24 rfl rfl
theorem dX0_canGive_0 : decode cX0_canGive 0 = .ok (.aload_n 0, 1) := dk_42 (dk_at dksX0_canGive_0 0 rfl rfl)
theorem dX0_canGive_1 : decode cX0_canGive 1 = .ok (.getfield 152, 3) := dk_180 0 152 (dk_at dksX0_canGive_0 1 rfl rfl)
theorem dX0_canGive_4 : decode cX0_canGive 4 = .ok (.iload_n 1, 1) := dk_27 (dk_at dksX0_canGive_0 4 rfl rfl)
theorem dX0_canGive_5 : decode cX0_canGive 5 = .ok (.invokevirtual 562, 3) := dk_182 2 50 (dk_at dksX0_canGive_0 5 rfl rfl)
theorem dX0_canGive_8 : decode cX0_canGive 8 = .ok (.ifCond .eq 19, 3) := dk_153 0 19 (dk_at dksX0_canGive_0 8 rfl rfl)
theorem dX0_canGive_11 : decode cX0_canGive 11 = .ok (.iconst 0, 1) := dk_3 (dk_at dksX0_canGive_0 11 rfl rfl)
theorem dX0_canGive_12 : decode cX0_canGive 12 = .ok (.aload_n 0, 1) := dk_42 (dk_at dksX0_canGive_0 12 rfl rfl)
theorem dX0_canGive_13 : decode cX0_canGive 13 = .ok (.getfield 152, 3) := dk_180 0 152 (dk_at dksX0_canGive_0 13 rfl rfl)
theorem dX0_canGive_16 : decode cX0_canGive 16 = .ok (.getfield 408, 3) := dk_180 1 152 (dk_at dksX0_canGive_0 16 rfl rfl)
theorem dX0_canGive_19 : decode cX0_canGive 19 = .ok (.iload_n 1, 1) := dk_27 (dk_at dksX0_canGive_0 19 rfl rfl)
theorem dX0_canGive_20 : decode cX0_canGive 20 = .ok (.iaload, 1) := dk_46 (dk_at dksX0_canGive_0 20 rfl rfl)
theorem dX0_canGive_21 : decode cX0_canGive 21 = .ok (.invokestatic 7, 3) := dk_184 0 7 (dk_at dksX0_canGive_0 21 rfl rfl)
theorem dX0_canGive_24 : decode cX0_canGive 24 = .ok (.goto 4, 3) := dk_167 0 4 (dk_at dksX0_canGive_1 0 rfl rfl)
theorem dX0_canGive_27 : decode cX0_canGive 27 = .ok (.iconst 0, 1) := dk_3 (dk_at dksX0_canGive_1 3 rfl rfl)
theorem dX0_canGive_28 : decode cX0_canGive 28 = .ok (.ireturn, 1) := dk_172 (dk_at dksX0_canGive_1 4 rfl rfl)
abbrev cX0_along : ByteArray := prog_1_method_83_code
def yX0_along : MethodName := ⟨RX0, "along", "(III)I"⟩
def dkwX0_along_5 : List UInt8 := [167, 0, 5, 21, 5, 172]
abbrev dktX0_along_5 : List UInt8 := dkwX0_along_5 ++ []
def dkwX0_along_4 : List UInt8 := [158, 0, 7, 4, 167, 0, 4, 3, 96, 54, 5, 132, 6, 1, 167, 255, 190, 29, 154, 0, 8, 21, 4]
abbrev dktX0_along_4 : List UInt8 := dkwX0_along_4 ++ dktX0_along_5
def dkwX0_along_3 : List UInt8 := [182, 1, 215, 184, 0, 1, 167, 0, 4, 3, 54, 7, 21, 4, 21, 7, 100, 54, 4, 21, 5, 21, 7]
abbrev dktX0_along_3 : List UInt8 := dkwX0_along_3 ++ dktX0_along_4
def dkwX0_along_2 : List UInt8 := [162, 0, 63, 42, 180, 0, 152, 21, 6, 182, 2, 50, 153, 0, 20, 21, 4, 42, 180, 0, 152, 21, 6]
abbrev dktX0_along_2 : List UInt8 := dkwX0_along_2 ++ dktX0_along_3
def dkwX0_along_1 : List UInt8 := [184, 0, 188, 154, 0, 5, 2, 172, 28, 54, 4, 3, 54, 5, 27, 54, 6, 21, 6, 42, 180, 1, 90]
abbrev dktX0_along_1 : List UInt8 := dkwX0_along_1 ++ dktX0_along_2
def dkwX0_along_0 : List UInt8 := [42, 27, 182, 1, 166, 153, 0, 23, 28, 3, 17, 3, 231, 184, 0, 188, 153, 0, 12, 29, 3, 4]
abbrev dktX0_along_0 : List UInt8 := dkwX0_along_0 ++ dktX0_along_1
theorem dksX0_along_0 : cX0_along.data.toList.drop 0 = dktX0_along_0 := by decide +kernel
theorem dksX0_along_1 : cX0_along.data.toList.drop 22 = dktX0_along_1 := dk_seg dksX0_along_0 22 rfl rfl
theorem dksX0_along_2 : cX0_along.data.toList.drop 45 = dktX0_along_2 := dk_seg dksX0_along_1 23 rfl rfl
theorem dksX0_along_3 : cX0_along.data.toList.drop 68 = dktX0_along_3 := dk_seg dksX0_along_2 23 rfl rfl
theorem dksX0_along_4 : cX0_along.data.toList.drop 91 = dktX0_along_4 := dk_seg dksX0_along_3 23 rfl rfl
theorem dksX0_along_5 : cX0_along.data.toList.drop 114 = dktX0_along_5 := dk_seg dksX0_along_4 23 rfl rfl
theorem dX0_along_0 : decode cX0_along 0 = .ok (.aload_n 0, 1) := dk_42 (dk_at dksX0_along_0 0 rfl rfl)
theorem dX0_along_1 : decode cX0_along 1 = .ok (.iload_n 1, 1) := dk_27 (dk_at dksX0_along_0 1 rfl rfl)
theorem dX0_along_2 : decode cX0_along 2 = .ok (.invokevirtual 422, 3) := dk_182 1 166 (dk_at dksX0_along_0 2 rfl rfl)
theorem dX0_along_5 : decode cX0_along 5 = .ok (.ifCond .eq 23, 3) := dk_153 0 23 (dk_at dksX0_along_0 5 rfl rfl)
theorem dX0_along_8 : decode cX0_along 8 = .ok (.iload_n 2, 1) := dk_28 (dk_at dksX0_along_0 8 rfl rfl)
theorem dX0_along_9 : decode cX0_along 9 = .ok (.iconst 0, 1) := dk_3 (dk_at dksX0_along_0 9 rfl rfl)
theorem dX0_along_10 : decode cX0_along 10 = .ok (.sipush 999, 3) := dk_17 3 231 (dk_at dksX0_along_0 10 rfl rfl)
theorem dX0_along_13 : decode cX0_along 13 = .ok (.invokestatic 188, 3) := dk_184 0 188 (dk_at dksX0_along_0 13 rfl rfl)
theorem dX0_along_16 : decode cX0_along 16 = .ok (.ifCond .eq 12, 3) := dk_153 0 12 (dk_at dksX0_along_0 16 rfl rfl)
theorem dX0_along_19 : decode cX0_along 19 = .ok (.iload_n 3, 1) := dk_29 (dk_at dksX0_along_0 19 rfl rfl)
theorem dX0_along_20 : decode cX0_along 20 = .ok (.iconst 0, 1) := dk_3 (dk_at dksX0_along_0 20 rfl rfl)
theorem dX0_along_21 : decode cX0_along 21 = .ok (.iconst 1, 1) := dk_4 (dk_at dksX0_along_0 21 rfl rfl)
theorem dX0_along_22 : decode cX0_along 22 = .ok (.invokestatic 188, 3) := dk_184 0 188 (dk_at dksX0_along_1 0 rfl rfl)
theorem dX0_along_25 : decode cX0_along 25 = .ok (.ifCond .ne 5, 3) := dk_154 0 5 (dk_at dksX0_along_1 3 rfl rfl)
theorem dX0_along_28 : decode cX0_along 28 = .ok (.iconst (-1), 1) := dk_2 (dk_at dksX0_along_1 6 rfl rfl)
theorem dX0_along_29 : decode cX0_along 29 = .ok (.ireturn, 1) := dk_172 (dk_at dksX0_along_1 7 rfl rfl)
theorem dX0_along_30 : decode cX0_along 30 = .ok (.iload_n 2, 1) := dk_28 (dk_at dksX0_along_1 8 rfl rfl)
theorem dX0_along_31 : decode cX0_along 31 = .ok (.istore 4, 2) := dk_54 4 (dk_at dksX0_along_1 9 rfl rfl)
theorem dX0_along_33 : decode cX0_along 33 = .ok (.iconst 0, 1) := dk_3 (dk_at dksX0_along_1 11 rfl rfl)
theorem dX0_along_34 : decode cX0_along 34 = .ok (.istore 5, 2) := dk_54 5 (dk_at dksX0_along_1 12 rfl rfl)
theorem dX0_along_36 : decode cX0_along 36 = .ok (.iload_n 1, 1) := dk_27 (dk_at dksX0_along_1 14 rfl rfl)
theorem dX0_along_37 : decode cX0_along 37 = .ok (.istore 6, 2) := dk_54 6 (dk_at dksX0_along_1 15 rfl rfl)
theorem dX0_along_39 : decode cX0_along 39 = .ok (.iload 6, 2) := dk_21 6 (dk_at dksX0_along_1 17 rfl rfl)
theorem dX0_along_41 : decode cX0_along 41 = .ok (.aload_n 0, 1) := dk_42 (dk_at dksX0_along_1 19 rfl rfl)
theorem dX0_along_42 : decode cX0_along 42 = .ok (.getfield 346, 3) := dk_180 1 90 (dk_at dksX0_along_1 20 rfl rfl)
theorem dX0_along_45 : decode cX0_along 45 = .ok (.if_icmp .ge 63, 3) := dk_162 0 63 (dk_at dksX0_along_2 0 rfl rfl)
theorem dX0_along_48 : decode cX0_along 48 = .ok (.aload_n 0, 1) := dk_42 (dk_at dksX0_along_2 3 rfl rfl)
theorem dX0_along_49 : decode cX0_along 49 = .ok (.getfield 152, 3) := dk_180 0 152 (dk_at dksX0_along_2 4 rfl rfl)
theorem dX0_along_52 : decode cX0_along 52 = .ok (.iload 6, 2) := dk_21 6 (dk_at dksX0_along_2 7 rfl rfl)
theorem dX0_along_54 : decode cX0_along 54 = .ok (.invokevirtual 562, 3) := dk_182 2 50 (dk_at dksX0_along_2 9 rfl rfl)
theorem dX0_along_57 : decode cX0_along 57 = .ok (.ifCond .eq 20, 3) := dk_153 0 20 (dk_at dksX0_along_2 12 rfl rfl)
theorem dX0_along_60 : decode cX0_along 60 = .ok (.iload 4, 2) := dk_21 4 (dk_at dksX0_along_2 15 rfl rfl)
theorem dX0_along_62 : decode cX0_along 62 = .ok (.aload_n 0, 1) := dk_42 (dk_at dksX0_along_2 17 rfl rfl)
theorem dX0_along_63 : decode cX0_along 63 = .ok (.getfield 152, 3) := dk_180 0 152 (dk_at dksX0_along_2 18 rfl rfl)
theorem dX0_along_66 : decode cX0_along 66 = .ok (.iload 6, 2) := dk_21 6 (dk_at dksX0_along_2 21 rfl rfl)
theorem dX0_along_68 : decode cX0_along 68 = .ok (.invokevirtual 471, 3) := dk_182 1 215 (dk_at dksX0_along_3 0 rfl rfl)
theorem dX0_along_71 : decode cX0_along 71 = .ok (.invokestatic 1, 3) := dk_184 0 1 (dk_at dksX0_along_3 3 rfl rfl)
theorem dX0_along_74 : decode cX0_along 74 = .ok (.goto 4, 3) := dk_167 0 4 (dk_at dksX0_along_3 6 rfl rfl)
theorem dX0_along_77 : decode cX0_along 77 = .ok (.iconst 0, 1) := dk_3 (dk_at dksX0_along_3 9 rfl rfl)
theorem dX0_along_78 : decode cX0_along 78 = .ok (.istore 7, 2) := dk_54 7 (dk_at dksX0_along_3 10 rfl rfl)
theorem dX0_along_80 : decode cX0_along 80 = .ok (.iload 4, 2) := dk_21 4 (dk_at dksX0_along_3 12 rfl rfl)
theorem dX0_along_82 : decode cX0_along 82 = .ok (.iload 7, 2) := dk_21 7 (dk_at dksX0_along_3 14 rfl rfl)
theorem dX0_along_84 : decode cX0_along 84 = .ok (.isub, 1) := dk_100 (dk_at dksX0_along_3 16 rfl rfl)
theorem dX0_along_85 : decode cX0_along 85 = .ok (.istore 4, 2) := dk_54 4 (dk_at dksX0_along_3 17 rfl rfl)
theorem dX0_along_87 : decode cX0_along 87 = .ok (.iload 5, 2) := dk_21 5 (dk_at dksX0_along_3 19 rfl rfl)
theorem dX0_along_89 : decode cX0_along 89 = .ok (.iload 7, 2) := dk_21 7 (dk_at dksX0_along_3 21 rfl rfl)
theorem dX0_along_91 : decode cX0_along 91 = .ok (.ifCond .le 7, 3) := dk_158 0 7 (dk_at dksX0_along_4 0 rfl rfl)
theorem dX0_along_94 : decode cX0_along 94 = .ok (.iconst 1, 1) := dk_4 (dk_at dksX0_along_4 3 rfl rfl)
theorem dX0_along_95 : decode cX0_along 95 = .ok (.goto 4, 3) := dk_167 0 4 (dk_at dksX0_along_4 4 rfl rfl)
theorem dX0_along_98 : decode cX0_along 98 = .ok (.iconst 0, 1) := dk_3 (dk_at dksX0_along_4 7 rfl rfl)
theorem dX0_along_99 : decode cX0_along 99 = .ok (.iadd, 1) := dk_96 (dk_at dksX0_along_4 8 rfl rfl)
theorem dX0_along_100 : decode cX0_along 100 = .ok (.istore 5, 2) := dk_54 5 (dk_at dksX0_along_4 9 rfl rfl)
theorem dX0_along_102 : decode cX0_along 102 = .ok (.iinc 6 1, 3) := dk_132 6 1 (dk_at dksX0_along_4 11 rfl rfl)
theorem dX0_along_105 : decode cX0_along 105 = .ok (.goto (-66), 3) := dk_167 255 190 (dk_at dksX0_along_4 14 rfl rfl)
theorem dX0_along_108 : decode cX0_along 108 = .ok (.iload_n 3, 1) := dk_29 (dk_at dksX0_along_4 17 rfl rfl)
theorem dX0_along_109 : decode cX0_along 109 = .ok (.ifCond .ne 8, 3) := dk_154 0 8 (dk_at dksX0_along_4 18 rfl rfl)
theorem dX0_along_112 : decode cX0_along 112 = .ok (.iload 4, 2) := dk_21 4 (dk_at dksX0_along_4 21 rfl rfl)
theorem dX0_along_114 : decode cX0_along 114 = .ok (.goto 5, 3) := dk_167 0 5 (dk_at dksX0_along_5 0 rfl rfl)
theorem dX0_along_117 : decode cX0_along 117 = .ok (.iload 5, 2) := dk_21 5 (dk_at dksX0_along_5 3 rfl rfl)
theorem dX0_along_119 : decode cX0_along 119 = .ok (.ireturn, 1) := dk_172 (dk_at dksX0_along_5 5 rfl rfl)
abbrev cX0_choice : ByteArray := prog_1_method_84_code
def yX0_choice : MethodName := ⟨RX0, "choice", "(IIII)I"⟩
def dkwX0_choice_5 : List UInt8 := [21, 8, 21, 6, 160, 0, 7, 3, 167, 0, 15, 21, 8, 21, 7, 160, 0, 7, 4, 167, 0, 4, 5, 172]
abbrev dktX0_choice_5 : List UInt8 := dkwX0_choice_5 ++ []
def dkwX0_choice_4 : List UInt8 := [21, 6, 21, 7, 3, 184, 0, 7, 184, 0, 7, 54, 8, 21, 4, 4, 160, 0, 8, 21, 8, 167, 0, 26]
abbrev dktX0_choice_4 : List UInt8 := dkwX0_choice_4 ++ dktX0_choice_5
def dkwX0_choice_3 : List UInt8 := [3, 184, 0, 7, 104, 96, 17, 3, 232, 184, 2, 62, 42, 180, 0, 152, 27, 182, 1, 218, 100, 54, 7]
abbrev dktX0_choice_3 : List UInt8 := dkwX0_choice_3 ++ dktX0_choice_4
def dkwX0_choice_2 : List UInt8 := [180, 1, 152, 27, 46, 54, 5, 21, 5, 28, 100, 54, 6, 29, 21, 5, 104, 17, 3, 232, 29, 100, 21, 6]
abbrev dktX0_choice_2 : List UInt8 := dkwX0_choice_2 ++ dktX0_choice_3
def dkwX0_choice_1 : List UInt8 := [184, 0, 188, 153, 0, 13, 21, 4, 3, 4, 184, 0, 188, 154, 0, 7, 19, 1, 208, 172, 42, 180, 0, 152]
abbrev dktX0_choice_1 : List UInt8 := dkwX0_choice_1 ++ dktX0_choice_2
def dkwX0_choice_0 : List UInt8 := [42, 27, 182, 1, 166, 153, 0, 35, 28, 3, 17, 3, 231, 184, 0, 188, 153, 0, 24, 29, 3, 17, 3, 232]
abbrev dktX0_choice_0 : List UInt8 := dkwX0_choice_0 ++ dktX0_choice_1
theorem dksX0_choice_0 : cX0_choice.data.toList.drop 0 = dktX0_choice_0 := by decide +kernel
theorem dksX0_choice_1 : cX0_choice.data.toList.drop 24 = dktX0_choice_1 := dk_seg dksX0_choice_0 24 rfl rfl
theorem dksX0_choice_2 : cX0_choice.data.toList.drop 48 = dktX0_choice_2 := dk_seg dksX0_choice_1 24 rfl rfl
theorem dksX0_choice_3 : cX0_choice.data.toList.drop 72 = dktX0_choice_3 := dk_seg dksX0_choice_2 24 rfl rfl
theorem dksX0_choice_4 : cX0_choice.data.toList.drop 95 = dktX0_choice_4 := dk_seg dksX0_choice_3 23 rfl rfl
theorem dksX0_choice_5 : cX0_choice.data.toList.drop 119 = dktX0_choice_5 := dk_seg dksX0_choice_4 24 rfl rfl
theorem dX0_choice_0 : decode cX0_choice 0 = .ok (.aload_n 0, 1) := dk_42 (dk_at dksX0_choice_0 0 rfl rfl)
theorem dX0_choice_1 : decode cX0_choice 1 = .ok (.iload_n 1, 1) := dk_27 (dk_at dksX0_choice_0 1 rfl rfl)
theorem dX0_choice_2 : decode cX0_choice 2 = .ok (.invokevirtual 422, 3) := dk_182 1 166 (dk_at dksX0_choice_0 2 rfl rfl)
theorem dX0_choice_5 : decode cX0_choice 5 = .ok (.ifCond .eq 35, 3) := dk_153 0 35 (dk_at dksX0_choice_0 5 rfl rfl)
theorem dX0_choice_8 : decode cX0_choice 8 = .ok (.iload_n 2, 1) := dk_28 (dk_at dksX0_choice_0 8 rfl rfl)
theorem dX0_choice_9 : decode cX0_choice 9 = .ok (.iconst 0, 1) := dk_3 (dk_at dksX0_choice_0 9 rfl rfl)
theorem dX0_choice_10 : decode cX0_choice 10 = .ok (.sipush 999, 3) := dk_17 3 231 (dk_at dksX0_choice_0 10 rfl rfl)
theorem dX0_choice_13 : decode cX0_choice 13 = .ok (.invokestatic 188, 3) := dk_184 0 188 (dk_at dksX0_choice_0 13 rfl rfl)
theorem dX0_choice_16 : decode cX0_choice 16 = .ok (.ifCond .eq 24, 3) := dk_153 0 24 (dk_at dksX0_choice_0 16 rfl rfl)
theorem dX0_choice_19 : decode cX0_choice 19 = .ok (.iload_n 3, 1) := dk_29 (dk_at dksX0_choice_0 19 rfl rfl)
theorem dX0_choice_20 : decode cX0_choice 20 = .ok (.iconst 0, 1) := dk_3 (dk_at dksX0_choice_0 20 rfl rfl)
theorem dX0_choice_21 : decode cX0_choice 21 = .ok (.sipush 1000, 3) := dk_17 3 232 (dk_at dksX0_choice_0 21 rfl rfl)
theorem dX0_choice_24 : decode cX0_choice 24 = .ok (.invokestatic 188, 3) := dk_184 0 188 (dk_at dksX0_choice_1 0 rfl rfl)
theorem dX0_choice_27 : decode cX0_choice 27 = .ok (.ifCond .eq 13, 3) := dk_153 0 13 (dk_at dksX0_choice_1 3 rfl rfl)
theorem dX0_choice_30 : decode cX0_choice 30 = .ok (.iload 4, 2) := dk_21 4 (dk_at dksX0_choice_1 6 rfl rfl)
theorem dX0_choice_32 : decode cX0_choice 32 = .ok (.iconst 0, 1) := dk_3 (dk_at dksX0_choice_1 8 rfl rfl)
theorem dX0_choice_33 : decode cX0_choice 33 = .ok (.iconst 1, 1) := dk_4 (dk_at dksX0_choice_1 9 rfl rfl)
theorem dX0_choice_34 : decode cX0_choice 34 = .ok (.invokestatic 188, 3) := dk_184 0 188 (dk_at dksX0_choice_1 10 rfl rfl)
theorem dX0_choice_37 : decode cX0_choice 37 = .ok (.ifCond .ne 7, 3) := dk_154 0 7 (dk_at dksX0_choice_1 13 rfl rfl)
theorem dX0_choice_40 : decode cX0_choice 40 = .ok (.ldc_w 464, 3) := dk_19 1 208 (dk_at dksX0_choice_1 16 rfl rfl)
theorem dX0_choice_43 : decode cX0_choice 43 = .ok (.ireturn, 1) := dk_172 (dk_at dksX0_choice_1 19 rfl rfl)
theorem dX0_choice_44 : decode cX0_choice 44 = .ok (.aload_n 0, 1) := dk_42 (dk_at dksX0_choice_1 20 rfl rfl)
theorem dX0_choice_45 : decode cX0_choice 45 = .ok (.getfield 152, 3) := dk_180 0 152 (dk_at dksX0_choice_1 21 rfl rfl)
theorem dX0_choice_48 : decode cX0_choice 48 = .ok (.getfield 408, 3) := dk_180 1 152 (dk_at dksX0_choice_2 0 rfl rfl)
theorem dX0_choice_51 : decode cX0_choice 51 = .ok (.iload_n 1, 1) := dk_27 (dk_at dksX0_choice_2 3 rfl rfl)
theorem dX0_choice_52 : decode cX0_choice 52 = .ok (.iaload, 1) := dk_46 (dk_at dksX0_choice_2 4 rfl rfl)
theorem dX0_choice_53 : decode cX0_choice 53 = .ok (.istore 5, 2) := dk_54 5 (dk_at dksX0_choice_2 5 rfl rfl)
theorem dX0_choice_55 : decode cX0_choice 55 = .ok (.iload 5, 2) := dk_21 5 (dk_at dksX0_choice_2 7 rfl rfl)
theorem dX0_choice_57 : decode cX0_choice 57 = .ok (.iload_n 2, 1) := dk_28 (dk_at dksX0_choice_2 9 rfl rfl)
theorem dX0_choice_58 : decode cX0_choice 58 = .ok (.isub, 1) := dk_100 (dk_at dksX0_choice_2 10 rfl rfl)
theorem dX0_choice_59 : decode cX0_choice 59 = .ok (.istore 6, 2) := dk_54 6 (dk_at dksX0_choice_2 11 rfl rfl)
theorem dX0_choice_61 : decode cX0_choice 61 = .ok (.iload_n 3, 1) := dk_29 (dk_at dksX0_choice_2 13 rfl rfl)
theorem dX0_choice_62 : decode cX0_choice 62 = .ok (.iload 5, 2) := dk_21 5 (dk_at dksX0_choice_2 14 rfl rfl)
theorem dX0_choice_64 : decode cX0_choice 64 = .ok (.imul, 1) := dk_104 (dk_at dksX0_choice_2 16 rfl rfl)
theorem dX0_choice_65 : decode cX0_choice 65 = .ok (.sipush 1000, 3) := dk_17 3 232 (dk_at dksX0_choice_2 17 rfl rfl)
theorem dX0_choice_68 : decode cX0_choice 68 = .ok (.iload_n 3, 1) := dk_29 (dk_at dksX0_choice_2 20 rfl rfl)
theorem dX0_choice_69 : decode cX0_choice 69 = .ok (.isub, 1) := dk_100 (dk_at dksX0_choice_2 21 rfl rfl)
theorem dX0_choice_70 : decode cX0_choice 70 = .ok (.iload 6, 2) := dk_21 6 (dk_at dksX0_choice_2 22 rfl rfl)
theorem dX0_choice_72 : decode cX0_choice 72 = .ok (.iconst 0, 1) := dk_3 (dk_at dksX0_choice_3 0 rfl rfl)
theorem dX0_choice_73 : decode cX0_choice 73 = .ok (.invokestatic 7, 3) := dk_184 0 7 (dk_at dksX0_choice_3 1 rfl rfl)
theorem dX0_choice_76 : decode cX0_choice 76 = .ok (.imul, 1) := dk_104 (dk_at dksX0_choice_3 4 rfl rfl)
theorem dX0_choice_77 : decode cX0_choice 77 = .ok (.iadd, 1) := dk_96 (dk_at dksX0_choice_3 5 rfl rfl)
theorem dX0_choice_78 : decode cX0_choice 78 = .ok (.sipush 1000, 3) := dk_17 3 232 (dk_at dksX0_choice_3 6 rfl rfl)
theorem dX0_choice_81 : decode cX0_choice 81 = .ok (.invokestatic 574, 3) := dk_184 2 62 (dk_at dksX0_choice_3 9 rfl rfl)
theorem dX0_choice_84 : decode cX0_choice 84 = .ok (.aload_n 0, 1) := dk_42 (dk_at dksX0_choice_3 12 rfl rfl)
theorem dX0_choice_85 : decode cX0_choice 85 = .ok (.getfield 152, 3) := dk_180 0 152 (dk_at dksX0_choice_3 13 rfl rfl)
theorem dX0_choice_88 : decode cX0_choice 88 = .ok (.iload_n 1, 1) := dk_27 (dk_at dksX0_choice_3 16 rfl rfl)
theorem dX0_choice_89 : decode cX0_choice 89 = .ok (.invokevirtual 474, 3) := dk_182 1 218 (dk_at dksX0_choice_3 17 rfl rfl)
theorem dX0_choice_92 : decode cX0_choice 92 = .ok (.isub, 1) := dk_100 (dk_at dksX0_choice_3 20 rfl rfl)
theorem dX0_choice_93 : decode cX0_choice 93 = .ok (.istore 7, 2) := dk_54 7 (dk_at dksX0_choice_3 21 rfl rfl)
theorem dX0_choice_95 : decode cX0_choice 95 = .ok (.iload 6, 2) := dk_21 6 (dk_at dksX0_choice_4 0 rfl rfl)
theorem dX0_choice_97 : decode cX0_choice 97 = .ok (.iload 7, 2) := dk_21 7 (dk_at dksX0_choice_4 2 rfl rfl)
theorem dX0_choice_99 : decode cX0_choice 99 = .ok (.iconst 0, 1) := dk_3 (dk_at dksX0_choice_4 4 rfl rfl)
theorem dX0_choice_100 : decode cX0_choice 100 = .ok (.invokestatic 7, 3) := dk_184 0 7 (dk_at dksX0_choice_4 5 rfl rfl)
theorem dX0_choice_103 : decode cX0_choice 103 = .ok (.invokestatic 7, 3) := dk_184 0 7 (dk_at dksX0_choice_4 8 rfl rfl)
theorem dX0_choice_106 : decode cX0_choice 106 = .ok (.istore 8, 2) := dk_54 8 (dk_at dksX0_choice_4 11 rfl rfl)
theorem dX0_choice_108 : decode cX0_choice 108 = .ok (.iload 4, 2) := dk_21 4 (dk_at dksX0_choice_4 13 rfl rfl)
theorem dX0_choice_110 : decode cX0_choice 110 = .ok (.iconst 1, 1) := dk_4 (dk_at dksX0_choice_4 15 rfl rfl)
theorem dX0_choice_111 : decode cX0_choice 111 = .ok (.if_icmp .ne 8, 3) := dk_160 0 8 (dk_at dksX0_choice_4 16 rfl rfl)
theorem dX0_choice_114 : decode cX0_choice 114 = .ok (.iload 8, 2) := dk_21 8 (dk_at dksX0_choice_4 19 rfl rfl)
theorem dX0_choice_116 : decode cX0_choice 116 = .ok (.goto 26, 3) := dk_167 0 26 (dk_at dksX0_choice_4 21 rfl rfl)
theorem dX0_choice_119 : decode cX0_choice 119 = .ok (.iload 8, 2) := dk_21 8 (dk_at dksX0_choice_5 0 rfl rfl)
theorem dX0_choice_121 : decode cX0_choice 121 = .ok (.iload 6, 2) := dk_21 6 (dk_at dksX0_choice_5 2 rfl rfl)
theorem dX0_choice_123 : decode cX0_choice 123 = .ok (.if_icmp .ne 7, 3) := dk_160 0 7 (dk_at dksX0_choice_5 4 rfl rfl)
theorem dX0_choice_126 : decode cX0_choice 126 = .ok (.iconst 0, 1) := dk_3 (dk_at dksX0_choice_5 7 rfl rfl)
theorem dX0_choice_127 : decode cX0_choice 127 = .ok (.goto 15, 3) := dk_167 0 15 (dk_at dksX0_choice_5 8 rfl rfl)
theorem dX0_choice_130 : decode cX0_choice 130 = .ok (.iload 8, 2) := dk_21 8 (dk_at dksX0_choice_5 11 rfl rfl)
theorem dX0_choice_132 : decode cX0_choice 132 = .ok (.iload 7, 2) := dk_21 7 (dk_at dksX0_choice_5 13 rfl rfl)
theorem dX0_choice_134 : decode cX0_choice 134 = .ok (.if_icmp .ne 7, 3) := dk_160 0 7 (dk_at dksX0_choice_5 15 rfl rfl)
theorem dX0_choice_137 : decode cX0_choice 137 = .ok (.iconst 1, 1) := dk_4 (dk_at dksX0_choice_5 18 rfl rfl)
theorem dX0_choice_138 : decode cX0_choice 138 = .ok (.goto 4, 3) := dk_167 0 4 (dk_at dksX0_choice_5 19 rfl rfl)
theorem dX0_choice_141 : decode cX0_choice 141 = .ok (.iconst 2, 1) := dk_5 (dk_at dksX0_choice_5 22 rfl rfl)
theorem dX0_choice_142 : decode cX0_choice 142 = .ok (.ireturn, 1) := dk_172 (dk_at dksX0_choice_5 23 rfl rfl)
abbrev cX0_bluff : ByteArray := prog_1_method_85_code
def yX0_bluff : MethodName := ⟨RX0, "bluff", "(III)I"⟩
def dkwX0_bluff_2 : List UInt8 := [104, 96, 54, 5, 21, 5, 154, 0, 7, 2, 167, 0, 13, 19, 2, 2, 21, 4, 21, 5, 184, 2, 3, 172]
abbrev dktX0_bluff_2 : List UInt8 := dkwX0_bluff_2 ++ []
def dkwX0_bluff_1 : List UInt8 := [17, 3, 232, 184, 0, 188, 154, 0, 5, 2, 172, 27, 28, 104, 54, 4, 21, 4, 17, 3, 232, 27, 100, 29]
abbrev dktX0_bluff_1 : List UInt8 := dkwX0_bluff_1 ++ dktX0_bluff_2
def dkwX0_bluff_0 : List UInt8 := [27, 3, 17, 3, 232, 184, 0, 188, 153, 0, 25, 28, 3, 17, 3, 232, 184, 0, 188, 153, 0, 14, 29, 3]
abbrev dktX0_bluff_0 : List UInt8 := dkwX0_bluff_0 ++ dktX0_bluff_1
theorem dksX0_bluff_0 : cX0_bluff.data.toList.drop 0 = dktX0_bluff_0 := by decide +kernel
theorem dksX0_bluff_1 : cX0_bluff.data.toList.drop 24 = dktX0_bluff_1 := dk_seg dksX0_bluff_0 24 rfl rfl
theorem dksX0_bluff_2 : cX0_bluff.data.toList.drop 48 = dktX0_bluff_2 := dk_seg dksX0_bluff_1 24 rfl rfl
theorem dX0_bluff_0 : decode cX0_bluff 0 = .ok (.iload_n 1, 1) := dk_27 (dk_at dksX0_bluff_0 0 rfl rfl)
theorem dX0_bluff_1 : decode cX0_bluff 1 = .ok (.iconst 0, 1) := dk_3 (dk_at dksX0_bluff_0 1 rfl rfl)
theorem dX0_bluff_2 : decode cX0_bluff 2 = .ok (.sipush 1000, 3) := dk_17 3 232 (dk_at dksX0_bluff_0 2 rfl rfl)
theorem dX0_bluff_5 : decode cX0_bluff 5 = .ok (.invokestatic 188, 3) := dk_184 0 188 (dk_at dksX0_bluff_0 5 rfl rfl)
theorem dX0_bluff_8 : decode cX0_bluff 8 = .ok (.ifCond .eq 25, 3) := dk_153 0 25 (dk_at dksX0_bluff_0 8 rfl rfl)
theorem dX0_bluff_11 : decode cX0_bluff 11 = .ok (.iload_n 2, 1) := dk_28 (dk_at dksX0_bluff_0 11 rfl rfl)
theorem dX0_bluff_12 : decode cX0_bluff 12 = .ok (.iconst 0, 1) := dk_3 (dk_at dksX0_bluff_0 12 rfl rfl)
theorem dX0_bluff_13 : decode cX0_bluff 13 = .ok (.sipush 1000, 3) := dk_17 3 232 (dk_at dksX0_bluff_0 13 rfl rfl)
theorem dX0_bluff_16 : decode cX0_bluff 16 = .ok (.invokestatic 188, 3) := dk_184 0 188 (dk_at dksX0_bluff_0 16 rfl rfl)
theorem dX0_bluff_19 : decode cX0_bluff 19 = .ok (.ifCond .eq 14, 3) := dk_153 0 14 (dk_at dksX0_bluff_0 19 rfl rfl)
theorem dX0_bluff_22 : decode cX0_bluff 22 = .ok (.iload_n 3, 1) := dk_29 (dk_at dksX0_bluff_0 22 rfl rfl)
theorem dX0_bluff_23 : decode cX0_bluff 23 = .ok (.iconst 0, 1) := dk_3 (dk_at dksX0_bluff_0 23 rfl rfl)
theorem dX0_bluff_24 : decode cX0_bluff 24 = .ok (.sipush 1000, 3) := dk_17 3 232 (dk_at dksX0_bluff_1 0 rfl rfl)
theorem dX0_bluff_27 : decode cX0_bluff 27 = .ok (.invokestatic 188, 3) := dk_184 0 188 (dk_at dksX0_bluff_1 3 rfl rfl)
theorem dX0_bluff_30 : decode cX0_bluff 30 = .ok (.ifCond .ne 5, 3) := dk_154 0 5 (dk_at dksX0_bluff_1 6 rfl rfl)
theorem dX0_bluff_33 : decode cX0_bluff 33 = .ok (.iconst (-1), 1) := dk_2 (dk_at dksX0_bluff_1 9 rfl rfl)
theorem dX0_bluff_34 : decode cX0_bluff 34 = .ok (.ireturn, 1) := dk_172 (dk_at dksX0_bluff_1 10 rfl rfl)
theorem dX0_bluff_35 : decode cX0_bluff 35 = .ok (.iload_n 1, 1) := dk_27 (dk_at dksX0_bluff_1 11 rfl rfl)
theorem dX0_bluff_36 : decode cX0_bluff 36 = .ok (.iload_n 2, 1) := dk_28 (dk_at dksX0_bluff_1 12 rfl rfl)
theorem dX0_bluff_37 : decode cX0_bluff 37 = .ok (.imul, 1) := dk_104 (dk_at dksX0_bluff_1 13 rfl rfl)
theorem dX0_bluff_38 : decode cX0_bluff 38 = .ok (.istore 4, 2) := dk_54 4 (dk_at dksX0_bluff_1 14 rfl rfl)
theorem dX0_bluff_40 : decode cX0_bluff 40 = .ok (.iload 4, 2) := dk_21 4 (dk_at dksX0_bluff_1 16 rfl rfl)
theorem dX0_bluff_42 : decode cX0_bluff 42 = .ok (.sipush 1000, 3) := dk_17 3 232 (dk_at dksX0_bluff_1 18 rfl rfl)
theorem dX0_bluff_45 : decode cX0_bluff 45 = .ok (.iload_n 1, 1) := dk_27 (dk_at dksX0_bluff_1 21 rfl rfl)
theorem dX0_bluff_46 : decode cX0_bluff 46 = .ok (.isub, 1) := dk_100 (dk_at dksX0_bluff_1 22 rfl rfl)
theorem dX0_bluff_47 : decode cX0_bluff 47 = .ok (.iload_n 3, 1) := dk_29 (dk_at dksX0_bluff_1 23 rfl rfl)
theorem dX0_bluff_48 : decode cX0_bluff 48 = .ok (.imul, 1) := dk_104 (dk_at dksX0_bluff_2 0 rfl rfl)
theorem dX0_bluff_49 : decode cX0_bluff 49 = .ok (.iadd, 1) := dk_96 (dk_at dksX0_bluff_2 1 rfl rfl)
theorem dX0_bluff_50 : decode cX0_bluff 50 = .ok (.istore 5, 2) := dk_54 5 (dk_at dksX0_bluff_2 2 rfl rfl)
theorem dX0_bluff_52 : decode cX0_bluff 52 = .ok (.iload 5, 2) := dk_21 5 (dk_at dksX0_bluff_2 4 rfl rfl)
theorem dX0_bluff_54 : decode cX0_bluff 54 = .ok (.ifCond .ne 7, 3) := dk_154 0 7 (dk_at dksX0_bluff_2 6 rfl rfl)
theorem dX0_bluff_57 : decode cX0_bluff 57 = .ok (.iconst (-1), 1) := dk_2 (dk_at dksX0_bluff_2 9 rfl rfl)
theorem dX0_bluff_58 : decode cX0_bluff 58 = .ok (.goto 13, 3) := dk_167 0 13 (dk_at dksX0_bluff_2 10 rfl rfl)
theorem dX0_bluff_61 : decode cX0_bluff 61 = .ok (.ldc_w 514, 3) := dk_19 2 2 (dk_at dksX0_bluff_2 13 rfl rfl)
theorem dX0_bluff_64 : decode cX0_bluff 64 = .ok (.iload 4, 2) := dk_21 4 (dk_at dksX0_bluff_2 16 rfl rfl)
theorem dX0_bluff_66 : decode cX0_bluff 66 = .ok (.iload 5, 2) := dk_21 5 (dk_at dksX0_bluff_2 18 rfl rfl)
theorem dX0_bluff_68 : decode cX0_bluff 68 = .ok (.invokestatic 515, 3) := dk_184 2 3 (dk_at dksX0_bluff_2 20 rfl rfl)
theorem dX0_bluff_71 : decode cX0_bluff 71 = .ok (.ireturn, 1) := dk_172 (dk_at dksX0_bluff_2 23 rfl rfl)
abbrev cX0_signs : ByteArray := prog_1_method_91_code
def yX0_signs : MethodName := ⟨RX0, "signs", "(I)I"⟩
def dkwX0_signs_5 : List UInt8 := [27, 16, 10, 100, 28, 182, 2, 78, 172]
abbrev dktX0_signs_5 : List UInt8 := dkwX0_signs_5 ++ []
def dkwX0_signs_4 : List UInt8 := [4, 100, 46, 61, 28, 19, 2, 65, 161, 0, 7, 2, 167, 0, 20, 27, 154, 0, 7, 28, 167, 0, 12, 42]
abbrev dktX0_signs_4 : List UInt8 := dkwX0_signs_4 ++ dktX0_signs_5
def dkwX0_signs_3 : List UInt8 := [3, 182, 2, 72, 27, 4, 160, 0, 8, 42, 182, 2, 75, 172, 42, 180, 0, 169, 4, 42, 180, 1, 90, 120]
abbrev dktX0_signs_3 : List UInt8 := dkwX0_signs_3 ++ dktX0_signs_4
def dkwX0_signs_2 : List UInt8 := [182, 1, 236, 79, 42, 180, 0, 175, 28, 42, 28, 4, 182, 1, 236, 79, 132, 2, 1, 167, 255, 221, 42, 3]
abbrev dktX0_signs_2 : List UInt8 := dkwX0_signs_2 ++ dktX0_signs_3
def dkwX0_signs_1 : List UInt8 := [154, 0, 5, 2, 172, 3, 61, 28, 42, 180, 1, 90, 162, 0, 33, 42, 180, 0, 172, 28, 42, 28, 3]
abbrev dktX0_signs_1 : List UInt8 := dkwX0_signs_1 ++ dktX0_signs_2
def dkwX0_signs_0 : List UInt8 := [27, 3, 4, 184, 0, 188, 154, 0, 21, 27, 16, 10, 16, 9, 42, 180, 1, 90, 96, 184, 0, 188]
abbrev dktX0_signs_0 : List UInt8 := dkwX0_signs_0 ++ dktX0_signs_1
theorem dksX0_signs_0 : cX0_signs.data.toList.drop 0 = dktX0_signs_0 := by decide +kernel
theorem dksX0_signs_1 : cX0_signs.data.toList.drop 22 = dktX0_signs_1 := dk_seg dksX0_signs_0 22 rfl rfl
theorem dksX0_signs_2 : cX0_signs.data.toList.drop 45 = dktX0_signs_2 := dk_seg dksX0_signs_1 23 rfl rfl
theorem dksX0_signs_3 : cX0_signs.data.toList.drop 69 = dktX0_signs_3 := dk_seg dksX0_signs_2 24 rfl rfl
theorem dksX0_signs_4 : cX0_signs.data.toList.drop 93 = dktX0_signs_4 := dk_seg dksX0_signs_3 24 rfl rfl
theorem dksX0_signs_5 : cX0_signs.data.toList.drop 117 = dktX0_signs_5 := dk_seg dksX0_signs_4 24 rfl rfl
theorem dX0_signs_0 : decode cX0_signs 0 = .ok (.iload_n 1, 1) := dk_27 (dk_at dksX0_signs_0 0 rfl rfl)
theorem dX0_signs_1 : decode cX0_signs 1 = .ok (.iconst 0, 1) := dk_3 (dk_at dksX0_signs_0 1 rfl rfl)
theorem dX0_signs_2 : decode cX0_signs 2 = .ok (.iconst 1, 1) := dk_4 (dk_at dksX0_signs_0 2 rfl rfl)
theorem dX0_signs_3 : decode cX0_signs 3 = .ok (.invokestatic 188, 3) := dk_184 0 188 (dk_at dksX0_signs_0 3 rfl rfl)
theorem dX0_signs_6 : decode cX0_signs 6 = .ok (.ifCond .ne 21, 3) := dk_154 0 21 (dk_at dksX0_signs_0 6 rfl rfl)
theorem dX0_signs_9 : decode cX0_signs 9 = .ok (.iload_n 1, 1) := dk_27 (dk_at dksX0_signs_0 9 rfl rfl)
theorem dX0_signs_10 : decode cX0_signs 10 = .ok (.bipush 10, 2) := dk_16 10 (dk_at dksX0_signs_0 10 rfl rfl)
theorem dX0_signs_12 : decode cX0_signs 12 = .ok (.bipush 9, 2) := dk_16 9 (dk_at dksX0_signs_0 12 rfl rfl)
theorem dX0_signs_14 : decode cX0_signs 14 = .ok (.aload_n 0, 1) := dk_42 (dk_at dksX0_signs_0 14 rfl rfl)
theorem dX0_signs_15 : decode cX0_signs 15 = .ok (.getfield 346, 3) := dk_180 1 90 (dk_at dksX0_signs_0 15 rfl rfl)
theorem dX0_signs_18 : decode cX0_signs 18 = .ok (.iadd, 1) := dk_96 (dk_at dksX0_signs_0 18 rfl rfl)
theorem dX0_signs_19 : decode cX0_signs 19 = .ok (.invokestatic 188, 3) := dk_184 0 188 (dk_at dksX0_signs_0 19 rfl rfl)
theorem dX0_signs_22 : decode cX0_signs 22 = .ok (.ifCond .ne 5, 3) := dk_154 0 5 (dk_at dksX0_signs_1 0 rfl rfl)
theorem dX0_signs_25 : decode cX0_signs 25 = .ok (.iconst (-1), 1) := dk_2 (dk_at dksX0_signs_1 3 rfl rfl)
theorem dX0_signs_26 : decode cX0_signs 26 = .ok (.ireturn, 1) := dk_172 (dk_at dksX0_signs_1 4 rfl rfl)
theorem dX0_signs_27 : decode cX0_signs 27 = .ok (.iconst 0, 1) := dk_3 (dk_at dksX0_signs_1 5 rfl rfl)
theorem dX0_signs_28 : decode cX0_signs 28 = .ok (.istore_n 2, 1) := dk_61 (dk_at dksX0_signs_1 6 rfl rfl)
theorem dX0_signs_29 : decode cX0_signs 29 = .ok (.iload_n 2, 1) := dk_28 (dk_at dksX0_signs_1 7 rfl rfl)
theorem dX0_signs_30 : decode cX0_signs 30 = .ok (.aload_n 0, 1) := dk_42 (dk_at dksX0_signs_1 8 rfl rfl)
theorem dX0_signs_31 : decode cX0_signs 31 = .ok (.getfield 346, 3) := dk_180 1 90 (dk_at dksX0_signs_1 9 rfl rfl)
theorem dX0_signs_34 : decode cX0_signs 34 = .ok (.if_icmp .ge 33, 3) := dk_162 0 33 (dk_at dksX0_signs_1 12 rfl rfl)
theorem dX0_signs_37 : decode cX0_signs 37 = .ok (.aload_n 0, 1) := dk_42 (dk_at dksX0_signs_1 15 rfl rfl)
theorem dX0_signs_38 : decode cX0_signs 38 = .ok (.getfield 172, 3) := dk_180 0 172 (dk_at dksX0_signs_1 16 rfl rfl)
theorem dX0_signs_41 : decode cX0_signs 41 = .ok (.iload_n 2, 1) := dk_28 (dk_at dksX0_signs_1 19 rfl rfl)
theorem dX0_signs_42 : decode cX0_signs 42 = .ok (.aload_n 0, 1) := dk_42 (dk_at dksX0_signs_1 20 rfl rfl)
theorem dX0_signs_43 : decode cX0_signs 43 = .ok (.iload_n 2, 1) := dk_28 (dk_at dksX0_signs_1 21 rfl rfl)
theorem dX0_signs_44 : decode cX0_signs 44 = .ok (.iconst 0, 1) := dk_3 (dk_at dksX0_signs_1 22 rfl rfl)
theorem dX0_signs_45 : decode cX0_signs 45 = .ok (.invokevirtual 492, 3) := dk_182 1 236 (dk_at dksX0_signs_2 0 rfl rfl)
theorem dX0_signs_48 : decode cX0_signs 48 = .ok (.iastore, 1) := dk_79 (dk_at dksX0_signs_2 3 rfl rfl)
theorem dX0_signs_49 : decode cX0_signs 49 = .ok (.aload_n 0, 1) := dk_42 (dk_at dksX0_signs_2 4 rfl rfl)
theorem dX0_signs_50 : decode cX0_signs 50 = .ok (.getfield 175, 3) := dk_180 0 175 (dk_at dksX0_signs_2 5 rfl rfl)
theorem dX0_signs_53 : decode cX0_signs 53 = .ok (.iload_n 2, 1) := dk_28 (dk_at dksX0_signs_2 8 rfl rfl)
theorem dX0_signs_54 : decode cX0_signs 54 = .ok (.aload_n 0, 1) := dk_42 (dk_at dksX0_signs_2 9 rfl rfl)
theorem dX0_signs_55 : decode cX0_signs 55 = .ok (.iload_n 2, 1) := dk_28 (dk_at dksX0_signs_2 10 rfl rfl)
theorem dX0_signs_56 : decode cX0_signs 56 = .ok (.iconst 1, 1) := dk_4 (dk_at dksX0_signs_2 11 rfl rfl)
theorem dX0_signs_57 : decode cX0_signs 57 = .ok (.invokevirtual 492, 3) := dk_182 1 236 (dk_at dksX0_signs_2 12 rfl rfl)
theorem dX0_signs_60 : decode cX0_signs 60 = .ok (.iastore, 1) := dk_79 (dk_at dksX0_signs_2 15 rfl rfl)
theorem dX0_signs_61 : decode cX0_signs 61 = .ok (.iinc 2 1, 3) := dk_132 2 1 (dk_at dksX0_signs_2 16 rfl rfl)
theorem dX0_signs_64 : decode cX0_signs 64 = .ok (.goto (-35), 3) := dk_167 255 221 (dk_at dksX0_signs_2 19 rfl rfl)
theorem dX0_signs_67 : decode cX0_signs 67 = .ok (.aload_n 0, 1) := dk_42 (dk_at dksX0_signs_2 22 rfl rfl)
theorem dX0_signs_68 : decode cX0_signs 68 = .ok (.iconst 0, 1) := dk_3 (dk_at dksX0_signs_2 23 rfl rfl)
theorem dX0_signs_69 : decode cX0_signs 69 = .ok (.iconst 0, 1) := dk_3 (dk_at dksX0_signs_3 0 rfl rfl)
theorem dX0_signs_70 : decode cX0_signs 70 = .ok (.invokevirtual 584, 3) := dk_182 2 72 (dk_at dksX0_signs_3 1 rfl rfl)
theorem dX0_signs_73 : decode cX0_signs 73 = .ok (.iload_n 1, 1) := dk_27 (dk_at dksX0_signs_3 4 rfl rfl)
theorem dX0_signs_74 : decode cX0_signs 74 = .ok (.iconst 1, 1) := dk_4 (dk_at dksX0_signs_3 5 rfl rfl)
theorem dX0_signs_75 : decode cX0_signs 75 = .ok (.if_icmp .ne 8, 3) := dk_160 0 8 (dk_at dksX0_signs_3 6 rfl rfl)
theorem dX0_signs_78 : decode cX0_signs 78 = .ok (.aload_n 0, 1) := dk_42 (dk_at dksX0_signs_3 9 rfl rfl)
theorem dX0_signs_79 : decode cX0_signs 79 = .ok (.invokevirtual 587, 3) := dk_182 2 75 (dk_at dksX0_signs_3 10 rfl rfl)
theorem dX0_signs_82 : decode cX0_signs 82 = .ok (.ireturn, 1) := dk_172 (dk_at dksX0_signs_3 13 rfl rfl)
theorem dX0_signs_83 : decode cX0_signs 83 = .ok (.aload_n 0, 1) := dk_42 (dk_at dksX0_signs_3 14 rfl rfl)
theorem dX0_signs_84 : decode cX0_signs 84 = .ok (.getfield 169, 3) := dk_180 0 169 (dk_at dksX0_signs_3 15 rfl rfl)
theorem dX0_signs_87 : decode cX0_signs 87 = .ok (.iconst 1, 1) := dk_4 (dk_at dksX0_signs_3 18 rfl rfl)
theorem dX0_signs_88 : decode cX0_signs 88 = .ok (.aload_n 0, 1) := dk_42 (dk_at dksX0_signs_3 19 rfl rfl)
theorem dX0_signs_89 : decode cX0_signs 89 = .ok (.getfield 346, 3) := dk_180 1 90 (dk_at dksX0_signs_3 20 rfl rfl)
theorem dX0_signs_92 : decode cX0_signs 92 = .ok (.ishl, 1) := dk_120 (dk_at dksX0_signs_3 23 rfl rfl)
theorem dX0_signs_93 : decode cX0_signs 93 = .ok (.iconst 1, 1) := dk_4 (dk_at dksX0_signs_4 0 rfl rfl)
theorem dX0_signs_94 : decode cX0_signs 94 = .ok (.isub, 1) := dk_100 (dk_at dksX0_signs_4 1 rfl rfl)
theorem dX0_signs_95 : decode cX0_signs 95 = .ok (.iaload, 1) := dk_46 (dk_at dksX0_signs_4 2 rfl rfl)
theorem dX0_signs_96 : decode cX0_signs 96 = .ok (.istore_n 2, 1) := dk_61 (dk_at dksX0_signs_4 3 rfl rfl)
theorem dX0_signs_97 : decode cX0_signs 97 = .ok (.iload_n 2, 1) := dk_28 (dk_at dksX0_signs_4 4 rfl rfl)
theorem dX0_signs_98 : decode cX0_signs 98 = .ok (.ldc_w 577, 3) := dk_19 2 65 (dk_at dksX0_signs_4 5 rfl rfl)
theorem dX0_signs_101 : decode cX0_signs 101 = .ok (.if_icmp .lt 7, 3) := dk_161 0 7 (dk_at dksX0_signs_4 8 rfl rfl)
theorem dX0_signs_104 : decode cX0_signs 104 = .ok (.iconst (-1), 1) := dk_2 (dk_at dksX0_signs_4 11 rfl rfl)
theorem dX0_signs_105 : decode cX0_signs 105 = .ok (.goto 20, 3) := dk_167 0 20 (dk_at dksX0_signs_4 12 rfl rfl)
theorem dX0_signs_108 : decode cX0_signs 108 = .ok (.iload_n 1, 1) := dk_27 (dk_at dksX0_signs_4 15 rfl rfl)
theorem dX0_signs_109 : decode cX0_signs 109 = .ok (.ifCond .ne 7, 3) := dk_154 0 7 (dk_at dksX0_signs_4 16 rfl rfl)
theorem dX0_signs_112 : decode cX0_signs 112 = .ok (.iload_n 2, 1) := dk_28 (dk_at dksX0_signs_4 19 rfl rfl)
theorem dX0_signs_113 : decode cX0_signs 113 = .ok (.goto 12, 3) := dk_167 0 12 (dk_at dksX0_signs_4 20 rfl rfl)
theorem dX0_signs_116 : decode cX0_signs 116 = .ok (.aload_n 0, 1) := dk_42 (dk_at dksX0_signs_4 23 rfl rfl)
theorem dX0_signs_117 : decode cX0_signs 117 = .ok (.iload_n 1, 1) := dk_27 (dk_at dksX0_signs_5 0 rfl rfl)
theorem dX0_signs_118 : decode cX0_signs 118 = .ok (.bipush 10, 2) := dk_16 10 (dk_at dksX0_signs_5 1 rfl rfl)
theorem dX0_signs_120 : decode cX0_signs 120 = .ok (.isub, 1) := dk_100 (dk_at dksX0_signs_5 3 rfl rfl)
theorem dX0_signs_121 : decode cX0_signs 121 = .ok (.iload_n 2, 1) := dk_28 (dk_at dksX0_signs_5 4 rfl rfl)
theorem dX0_signs_122 : decode cX0_signs 122 = .ok (.invokevirtual 590, 3) := dk_182 2 78 (dk_at dksX0_signs_5 5 rfl rfl)
theorem dX0_signs_125 : decode cX0_signs 125 = .ok (.ireturn, 1) := dk_172 (dk_at dksX0_signs_5 8 rfl rfl)
abbrev cX0_findsSigned : ByteArray := prog_1_method_88_code
def yX0_findsSigned : MethodName := ⟨RX0, "findsSigned", "(II)V"⟩
def dkwX0_findsSigned_5 : List UInt8 := [182, 2, 69, 184, 0, 1, 79, 132, 4, 1, 167, 255, 166, 132, 3, 1, 167, 255, 129, 177]
abbrev dktX0_findsSigned_5 : List UInt8 := dkwX0_findsSigned_5 ++ []
def dkwX0_findsSigned_4 : List UInt8 := [19, 2, 65, 162, 0, 26, 42, 180, 0, 169, 29, 42, 180, 0, 169, 29, 46, 42, 21, 4, 21, 5]
abbrev dktX0_findsSigned_4 : List UInt8 := dkwX0_findsSigned_4 ++ dktX0_findsSigned_5
def dkwX0_findsSigned_3 : List UInt8 := [180, 0, 169, 29, 4, 21, 4, 120, 2, 130, 126, 46, 167, 0, 6, 19, 2, 65, 54, 5, 21, 5]
abbrev dktX0_findsSigned_3 : List UInt8 := dkwX0_findsSigned_3 ++ dktX0_findsSigned_4
def dkwX0_findsSigned_2 : List UInt8 := [29, 27, 184, 2, 66, 153, 0, 74, 29, 27, 2, 130, 126, 21, 4, 184, 1, 200, 153, 0, 19, 42]
abbrev dktX0_findsSigned_2 : List UInt8 := dkwX0_findsSigned_2 ++ dktX0_findsSigned_3
def dkwX0_findsSigned_1 : List UInt8 := [167, 0, 6, 19, 2, 65, 79, 3, 54, 4, 21, 4, 42, 180, 1, 90, 162, 0, 87, 29, 27, 159, 0, 82]
abbrev dktX0_findsSigned_1 : List UInt8 := dkwX0_findsSigned_1 ++ dktX0_findsSigned_2
def dkwX0_findsSigned_0 : List UInt8 := [3, 62, 29, 4, 42, 180, 1, 90, 120, 162, 0, 123, 42, 180, 0, 169, 29, 29, 27, 160, 0, 7, 28]
abbrev dktX0_findsSigned_0 : List UInt8 := dkwX0_findsSigned_0 ++ dktX0_findsSigned_1
theorem dksX0_findsSigned_0 : cX0_findsSigned.data.toList.drop 0 = dktX0_findsSigned_0 := by decide +kernel
theorem dksX0_findsSigned_1 : cX0_findsSigned.data.toList.drop 23 = dktX0_findsSigned_1 := dk_seg dksX0_findsSigned_0 23 rfl rfl
theorem dksX0_findsSigned_2 : cX0_findsSigned.data.toList.drop 47 = dktX0_findsSigned_2 := dk_seg dksX0_findsSigned_1 24 rfl rfl
theorem dksX0_findsSigned_3 : cX0_findsSigned.data.toList.drop 69 = dktX0_findsSigned_3 := dk_seg dksX0_findsSigned_2 22 rfl rfl
theorem dksX0_findsSigned_4 : cX0_findsSigned.data.toList.drop 91 = dktX0_findsSigned_4 := dk_seg dksX0_findsSigned_3 22 rfl rfl
theorem dksX0_findsSigned_5 : cX0_findsSigned.data.toList.drop 113 = dktX0_findsSigned_5 := dk_seg dksX0_findsSigned_4 22 rfl rfl
theorem dX0_findsSigned_0 : decode cX0_findsSigned 0 = .ok (.iconst 0, 1) := dk_3 (dk_at dksX0_findsSigned_0 0 rfl rfl)
theorem dX0_findsSigned_1 : decode cX0_findsSigned 1 = .ok (.istore_n 3, 1) := dk_62 (dk_at dksX0_findsSigned_0 1 rfl rfl)
theorem dX0_findsSigned_2 : decode cX0_findsSigned 2 = .ok (.iload_n 3, 1) := dk_29 (dk_at dksX0_findsSigned_0 2 rfl rfl)
theorem dX0_findsSigned_3 : decode cX0_findsSigned 3 = .ok (.iconst 1, 1) := dk_4 (dk_at dksX0_findsSigned_0 3 rfl rfl)
theorem dX0_findsSigned_4 : decode cX0_findsSigned 4 = .ok (.aload_n 0, 1) := dk_42 (dk_at dksX0_findsSigned_0 4 rfl rfl)
theorem dX0_findsSigned_5 : decode cX0_findsSigned 5 = .ok (.getfield 346, 3) := dk_180 1 90 (dk_at dksX0_findsSigned_0 5 rfl rfl)
theorem dX0_findsSigned_8 : decode cX0_findsSigned 8 = .ok (.ishl, 1) := dk_120 (dk_at dksX0_findsSigned_0 8 rfl rfl)
theorem dX0_findsSigned_9 : decode cX0_findsSigned 9 = .ok (.if_icmp .ge 123, 3) := dk_162 0 123 (dk_at dksX0_findsSigned_0 9 rfl rfl)
theorem dX0_findsSigned_12 : decode cX0_findsSigned 12 = .ok (.aload_n 0, 1) := dk_42 (dk_at dksX0_findsSigned_0 12 rfl rfl)
theorem dX0_findsSigned_13 : decode cX0_findsSigned 13 = .ok (.getfield 169, 3) := dk_180 0 169 (dk_at dksX0_findsSigned_0 13 rfl rfl)
theorem dX0_findsSigned_16 : decode cX0_findsSigned 16 = .ok (.iload_n 3, 1) := dk_29 (dk_at dksX0_findsSigned_0 16 rfl rfl)
theorem dX0_findsSigned_17 : decode cX0_findsSigned 17 = .ok (.iload_n 3, 1) := dk_29 (dk_at dksX0_findsSigned_0 17 rfl rfl)
theorem dX0_findsSigned_18 : decode cX0_findsSigned 18 = .ok (.iload_n 1, 1) := dk_27 (dk_at dksX0_findsSigned_0 18 rfl rfl)
theorem dX0_findsSigned_19 : decode cX0_findsSigned 19 = .ok (.if_icmp .ne 7, 3) := dk_160 0 7 (dk_at dksX0_findsSigned_0 19 rfl rfl)
theorem dX0_findsSigned_22 : decode cX0_findsSigned 22 = .ok (.iload_n 2, 1) := dk_28 (dk_at dksX0_findsSigned_0 22 rfl rfl)
theorem dX0_findsSigned_23 : decode cX0_findsSigned 23 = .ok (.goto 6, 3) := dk_167 0 6 (dk_at dksX0_findsSigned_1 0 rfl rfl)
theorem dX0_findsSigned_26 : decode cX0_findsSigned 26 = .ok (.ldc_w 577, 3) := dk_19 2 65 (dk_at dksX0_findsSigned_1 3 rfl rfl)
theorem dX0_findsSigned_29 : decode cX0_findsSigned 29 = .ok (.iastore, 1) := dk_79 (dk_at dksX0_findsSigned_1 6 rfl rfl)
theorem dX0_findsSigned_30 : decode cX0_findsSigned 30 = .ok (.iconst 0, 1) := dk_3 (dk_at dksX0_findsSigned_1 7 rfl rfl)
theorem dX0_findsSigned_31 : decode cX0_findsSigned 31 = .ok (.istore 4, 2) := dk_54 4 (dk_at dksX0_findsSigned_1 8 rfl rfl)
theorem dX0_findsSigned_33 : decode cX0_findsSigned 33 = .ok (.iload 4, 2) := dk_21 4 (dk_at dksX0_findsSigned_1 10 rfl rfl)
theorem dX0_findsSigned_35 : decode cX0_findsSigned 35 = .ok (.aload_n 0, 1) := dk_42 (dk_at dksX0_findsSigned_1 12 rfl rfl)
theorem dX0_findsSigned_36 : decode cX0_findsSigned 36 = .ok (.getfield 346, 3) := dk_180 1 90 (dk_at dksX0_findsSigned_1 13 rfl rfl)
theorem dX0_findsSigned_39 : decode cX0_findsSigned 39 = .ok (.if_icmp .ge 87, 3) := dk_162 0 87 (dk_at dksX0_findsSigned_1 16 rfl rfl)
theorem dX0_findsSigned_42 : decode cX0_findsSigned 42 = .ok (.iload_n 3, 1) := dk_29 (dk_at dksX0_findsSigned_1 19 rfl rfl)
theorem dX0_findsSigned_43 : decode cX0_findsSigned 43 = .ok (.iload_n 1, 1) := dk_27 (dk_at dksX0_findsSigned_1 20 rfl rfl)
theorem dX0_findsSigned_44 : decode cX0_findsSigned 44 = .ok (.if_icmp .eq 82, 3) := dk_159 0 82 (dk_at dksX0_findsSigned_1 21 rfl rfl)
theorem dX0_findsSigned_47 : decode cX0_findsSigned 47 = .ok (.iload_n 3, 1) := dk_29 (dk_at dksX0_findsSigned_2 0 rfl rfl)
theorem dX0_findsSigned_48 : decode cX0_findsSigned 48 = .ok (.iload_n 1, 1) := dk_27 (dk_at dksX0_findsSigned_2 1 rfl rfl)
theorem dX0_findsSigned_49 : decode cX0_findsSigned 49 = .ok (.invokestatic 578, 3) := dk_184 2 66 (dk_at dksX0_findsSigned_2 2 rfl rfl)
theorem dX0_findsSigned_52 : decode cX0_findsSigned 52 = .ok (.ifCond .eq 74, 3) := dk_153 0 74 (dk_at dksX0_findsSigned_2 5 rfl rfl)
theorem dX0_findsSigned_55 : decode cX0_findsSigned 55 = .ok (.iload_n 3, 1) := dk_29 (dk_at dksX0_findsSigned_2 8 rfl rfl)
theorem dX0_findsSigned_56 : decode cX0_findsSigned 56 = .ok (.iload_n 1, 1) := dk_27 (dk_at dksX0_findsSigned_2 9 rfl rfl)
theorem dX0_findsSigned_57 : decode cX0_findsSigned 57 = .ok (.iconst (-1), 1) := dk_2 (dk_at dksX0_findsSigned_2 10 rfl rfl)
theorem dX0_findsSigned_58 : decode cX0_findsSigned 58 = .ok (.ixor, 1) := dk_130 (dk_at dksX0_findsSigned_2 11 rfl rfl)
theorem dX0_findsSigned_59 : decode cX0_findsSigned 59 = .ok (.iand, 1) := dk_126 (dk_at dksX0_findsSigned_2 12 rfl rfl)
theorem dX0_findsSigned_60 : decode cX0_findsSigned 60 = .ok (.iload 4, 2) := dk_21 4 (dk_at dksX0_findsSigned_2 13 rfl rfl)
theorem dX0_findsSigned_62 : decode cX0_findsSigned 62 = .ok (.invokestatic 456, 3) := dk_184 1 200 (dk_at dksX0_findsSigned_2 15 rfl rfl)
theorem dX0_findsSigned_65 : decode cX0_findsSigned 65 = .ok (.ifCond .eq 19, 3) := dk_153 0 19 (dk_at dksX0_findsSigned_2 18 rfl rfl)
theorem dX0_findsSigned_68 : decode cX0_findsSigned 68 = .ok (.aload_n 0, 1) := dk_42 (dk_at dksX0_findsSigned_2 21 rfl rfl)
theorem dX0_findsSigned_69 : decode cX0_findsSigned 69 = .ok (.getfield 169, 3) := dk_180 0 169 (dk_at dksX0_findsSigned_3 0 rfl rfl)
theorem dX0_findsSigned_72 : decode cX0_findsSigned 72 = .ok (.iload_n 3, 1) := dk_29 (dk_at dksX0_findsSigned_3 3 rfl rfl)
theorem dX0_findsSigned_73 : decode cX0_findsSigned 73 = .ok (.iconst 1, 1) := dk_4 (dk_at dksX0_findsSigned_3 4 rfl rfl)
theorem dX0_findsSigned_74 : decode cX0_findsSigned 74 = .ok (.iload 4, 2) := dk_21 4 (dk_at dksX0_findsSigned_3 5 rfl rfl)
theorem dX0_findsSigned_76 : decode cX0_findsSigned 76 = .ok (.ishl, 1) := dk_120 (dk_at dksX0_findsSigned_3 7 rfl rfl)
theorem dX0_findsSigned_77 : decode cX0_findsSigned 77 = .ok (.iconst (-1), 1) := dk_2 (dk_at dksX0_findsSigned_3 8 rfl rfl)
theorem dX0_findsSigned_78 : decode cX0_findsSigned 78 = .ok (.ixor, 1) := dk_130 (dk_at dksX0_findsSigned_3 9 rfl rfl)
theorem dX0_findsSigned_79 : decode cX0_findsSigned 79 = .ok (.iand, 1) := dk_126 (dk_at dksX0_findsSigned_3 10 rfl rfl)
theorem dX0_findsSigned_80 : decode cX0_findsSigned 80 = .ok (.iaload, 1) := dk_46 (dk_at dksX0_findsSigned_3 11 rfl rfl)
theorem dX0_findsSigned_81 : decode cX0_findsSigned 81 = .ok (.goto 6, 3) := dk_167 0 6 (dk_at dksX0_findsSigned_3 12 rfl rfl)
theorem dX0_findsSigned_84 : decode cX0_findsSigned 84 = .ok (.ldc_w 577, 3) := dk_19 2 65 (dk_at dksX0_findsSigned_3 15 rfl rfl)
theorem dX0_findsSigned_87 : decode cX0_findsSigned 87 = .ok (.istore 5, 2) := dk_54 5 (dk_at dksX0_findsSigned_3 18 rfl rfl)
theorem dX0_findsSigned_89 : decode cX0_findsSigned 89 = .ok (.iload 5, 2) := dk_21 5 (dk_at dksX0_findsSigned_3 20 rfl rfl)
theorem dX0_findsSigned_91 : decode cX0_findsSigned 91 = .ok (.ldc_w 577, 3) := dk_19 2 65 (dk_at dksX0_findsSigned_4 0 rfl rfl)
theorem dX0_findsSigned_94 : decode cX0_findsSigned 94 = .ok (.if_icmp .ge 26, 3) := dk_162 0 26 (dk_at dksX0_findsSigned_4 3 rfl rfl)
theorem dX0_findsSigned_97 : decode cX0_findsSigned 97 = .ok (.aload_n 0, 1) := dk_42 (dk_at dksX0_findsSigned_4 6 rfl rfl)
theorem dX0_findsSigned_98 : decode cX0_findsSigned 98 = .ok (.getfield 169, 3) := dk_180 0 169 (dk_at dksX0_findsSigned_4 7 rfl rfl)
theorem dX0_findsSigned_101 : decode cX0_findsSigned 101 = .ok (.iload_n 3, 1) := dk_29 (dk_at dksX0_findsSigned_4 10 rfl rfl)
theorem dX0_findsSigned_102 : decode cX0_findsSigned 102 = .ok (.aload_n 0, 1) := dk_42 (dk_at dksX0_findsSigned_4 11 rfl rfl)
theorem dX0_findsSigned_103 : decode cX0_findsSigned 103 = .ok (.getfield 169, 3) := dk_180 0 169 (dk_at dksX0_findsSigned_4 12 rfl rfl)
theorem dX0_findsSigned_106 : decode cX0_findsSigned 106 = .ok (.iload_n 3, 1) := dk_29 (dk_at dksX0_findsSigned_4 15 rfl rfl)
theorem dX0_findsSigned_107 : decode cX0_findsSigned 107 = .ok (.iaload, 1) := dk_46 (dk_at dksX0_findsSigned_4 16 rfl rfl)
theorem dX0_findsSigned_108 : decode cX0_findsSigned 108 = .ok (.aload_n 0, 1) := dk_42 (dk_at dksX0_findsSigned_4 17 rfl rfl)
theorem dX0_findsSigned_109 : decode cX0_findsSigned 109 = .ok (.iload 4, 2) := dk_21 4 (dk_at dksX0_findsSigned_4 18 rfl rfl)
theorem dX0_findsSigned_111 : decode cX0_findsSigned 111 = .ok (.iload 5, 2) := dk_21 5 (dk_at dksX0_findsSigned_4 20 rfl rfl)
theorem dX0_findsSigned_113 : decode cX0_findsSigned 113 = .ok (.invokevirtual 581, 3) := dk_182 2 69 (dk_at dksX0_findsSigned_5 0 rfl rfl)
theorem dX0_findsSigned_116 : decode cX0_findsSigned 116 = .ok (.invokestatic 1, 3) := dk_184 0 1 (dk_at dksX0_findsSigned_5 3 rfl rfl)
theorem dX0_findsSigned_119 : decode cX0_findsSigned 119 = .ok (.iastore, 1) := dk_79 (dk_at dksX0_findsSigned_5 6 rfl rfl)
theorem dX0_findsSigned_120 : decode cX0_findsSigned 120 = .ok (.iinc 4 1, 3) := dk_132 4 1 (dk_at dksX0_findsSigned_5 7 rfl rfl)
theorem dX0_findsSigned_123 : decode cX0_findsSigned 123 = .ok (.goto (-90), 3) := dk_167 255 166 (dk_at dksX0_findsSigned_5 10 rfl rfl)
theorem dX0_findsSigned_126 : decode cX0_findsSigned 126 = .ok (.iinc 3 1, 3) := dk_132 3 1 (dk_at dksX0_findsSigned_5 13 rfl rfl)
theorem dX0_findsSigned_129 : decode cX0_findsSigned 129 = .ok (.goto (-127), 3) := dk_167 255 129 (dk_at dksX0_findsSigned_5 16 rfl rfl)
theorem dX0_findsSigned_132 : decode cX0_findsSigned 132 = .ok (.return_, 1) := dk_177 (dk_at dksX0_findsSigned_5 19 rfl rfl)
abbrev cX0_isBeyond : ByteArray := prog_1_method_87_code
def yX0_isBeyond : MethodName := ⟨RX0, "isBeyond", "(II)Z"⟩
def dkwX0_isBeyond_0 : List UInt8 := [27, 26, 2, 130, 126, 154, 0, 7, 4, 167, 0, 4, 3, 172]
abbrev dktX0_isBeyond_0 : List UInt8 := dkwX0_isBeyond_0 ++ []
theorem dksX0_isBeyond_0 : cX0_isBeyond.data.toList.drop 0 = dktX0_isBeyond_0 := by decide +kernel
theorem dX0_isBeyond_0 : decode cX0_isBeyond 0 = .ok (.iload_n 1, 1) := dk_27 (dk_at dksX0_isBeyond_0 0 rfl rfl)
theorem dX0_isBeyond_1 : decode cX0_isBeyond 1 = .ok (.iload_n 0, 1) := dk_26 (dk_at dksX0_isBeyond_0 1 rfl rfl)
theorem dX0_isBeyond_2 : decode cX0_isBeyond 2 = .ok (.iconst (-1), 1) := dk_2 (dk_at dksX0_isBeyond_0 2 rfl rfl)
theorem dX0_isBeyond_3 : decode cX0_isBeyond 3 = .ok (.ixor, 1) := dk_130 (dk_at dksX0_isBeyond_0 3 rfl rfl)
theorem dX0_isBeyond_4 : decode cX0_isBeyond 4 = .ok (.iand, 1) := dk_126 (dk_at dksX0_isBeyond_0 4 rfl rfl)
theorem dX0_isBeyond_5 : decode cX0_isBeyond 5 = .ok (.ifCond .ne 7, 3) := dk_154 0 7 (dk_at dksX0_isBeyond_0 5 rfl rfl)
theorem dX0_isBeyond_8 : decode cX0_isBeyond 8 = .ok (.iconst 1, 1) := dk_4 (dk_at dksX0_isBeyond_0 8 rfl rfl)
theorem dX0_isBeyond_9 : decode cX0_isBeyond 9 = .ok (.goto 4, 3) := dk_167 0 4 (dk_at dksX0_isBeyond_0 9 rfl rfl)
theorem dX0_isBeyond_12 : decode cX0_isBeyond 12 = .ok (.iconst 0, 1) := dk_3 (dk_at dksX0_isBeyond_0 12 rfl rfl)
theorem dX0_isBeyond_13 : decode cX0_isBeyond 13 = .ok (.ireturn, 1) := dk_172 (dk_at dksX0_isBeyond_0 13 rfl rfl)
abbrev cX0_signsBehind : ByteArray := prog_1_method_86_code
def yX0_signsBehind : MethodName := ⟨RX0, "signsBehind", "(II)I"⟩
def dkwX0_signsBehind_1 : List UInt8 := [29, 167, 0, 6, 19, 2, 65, 172]
abbrev dktX0_signsBehind_1 : List UInt8 := dkwX0_signsBehind_1 ++ []
def dkwX0_signsBehind_0 : List UInt8 := [28, 42, 180, 0, 172, 27, 46, 184, 0, 7, 16, 10, 96, 62, 29, 42, 180, 0, 175, 27, 46, 163, 0, 7]
abbrev dktX0_signsBehind_0 : List UInt8 := dkwX0_signsBehind_0 ++ dktX0_signsBehind_1
theorem dksX0_signsBehind_0 : cX0_signsBehind.data.toList.drop 0 = dktX0_signsBehind_0 := by decide +kernel
theorem dksX0_signsBehind_1 : cX0_signsBehind.data.toList.drop 24 = dktX0_signsBehind_1 := dk_seg dksX0_signsBehind_0 24 rfl rfl
theorem dX0_signsBehind_0 : decode cX0_signsBehind 0 = .ok (.iload_n 2, 1) := dk_28 (dk_at dksX0_signsBehind_0 0 rfl rfl)
theorem dX0_signsBehind_1 : decode cX0_signsBehind 1 = .ok (.aload_n 0, 1) := dk_42 (dk_at dksX0_signsBehind_0 1 rfl rfl)
theorem dX0_signsBehind_2 : decode cX0_signsBehind 2 = .ok (.getfield 172, 3) := dk_180 0 172 (dk_at dksX0_signsBehind_0 2 rfl rfl)
theorem dX0_signsBehind_5 : decode cX0_signsBehind 5 = .ok (.iload_n 1, 1) := dk_27 (dk_at dksX0_signsBehind_0 5 rfl rfl)
theorem dX0_signsBehind_6 : decode cX0_signsBehind 6 = .ok (.iaload, 1) := dk_46 (dk_at dksX0_signsBehind_0 6 rfl rfl)
theorem dX0_signsBehind_7 : decode cX0_signsBehind 7 = .ok (.invokestatic 7, 3) := dk_184 0 7 (dk_at dksX0_signsBehind_0 7 rfl rfl)
theorem dX0_signsBehind_10 : decode cX0_signsBehind 10 = .ok (.bipush 10, 2) := dk_16 10 (dk_at dksX0_signsBehind_0 10 rfl rfl)
theorem dX0_signsBehind_12 : decode cX0_signsBehind 12 = .ok (.iadd, 1) := dk_96 (dk_at dksX0_signsBehind_0 12 rfl rfl)
theorem dX0_signsBehind_13 : decode cX0_signsBehind 13 = .ok (.istore_n 3, 1) := dk_62 (dk_at dksX0_signsBehind_0 13 rfl rfl)
theorem dX0_signsBehind_14 : decode cX0_signsBehind 14 = .ok (.iload_n 3, 1) := dk_29 (dk_at dksX0_signsBehind_0 14 rfl rfl)
theorem dX0_signsBehind_15 : decode cX0_signsBehind 15 = .ok (.aload_n 0, 1) := dk_42 (dk_at dksX0_signsBehind_0 15 rfl rfl)
theorem dX0_signsBehind_16 : decode cX0_signsBehind 16 = .ok (.getfield 175, 3) := dk_180 0 175 (dk_at dksX0_signsBehind_0 16 rfl rfl)
theorem dX0_signsBehind_19 : decode cX0_signsBehind 19 = .ok (.iload_n 1, 1) := dk_27 (dk_at dksX0_signsBehind_0 19 rfl rfl)
theorem dX0_signsBehind_20 : decode cX0_signsBehind 20 = .ok (.iaload, 1) := dk_46 (dk_at dksX0_signsBehind_0 20 rfl rfl)
theorem dX0_signsBehind_21 : decode cX0_signsBehind 21 = .ok (.if_icmp .gt 7, 3) := dk_163 0 7 (dk_at dksX0_signsBehind_0 21 rfl rfl)
theorem dX0_signsBehind_24 : decode cX0_signsBehind 24 = .ok (.iload_n 3, 1) := dk_29 (dk_at dksX0_signsBehind_1 0 rfl rfl)
theorem dX0_signsBehind_25 : decode cX0_signsBehind 25 = .ok (.goto 6, 3) := dk_167 0 6 (dk_at dksX0_signsBehind_1 1 rfl rfl)
theorem dX0_signsBehind_28 : decode cX0_signsBehind 28 = .ok (.ldc_w 577, 3) := dk_19 2 65 (dk_at dksX0_signsBehind_1 4 rfl rfl)
theorem dX0_signsBehind_31 : decode cX0_signsBehind 31 = .ok (.ireturn, 1) := dk_172 (dk_at dksX0_signsBehind_1 7 rfl rfl)
abbrev cX0_mostSigned : ByteArray := prog_1_method_89_code
def yX0_mostSigned : MethodName := ⟨RX0, "mostSigned", "()I"⟩
def dkwX0_mostSigned_1 : List UInt8 := [162, 0, 14, 27, 28, 184, 1, 250, 184, 0, 7, 167, 0, 4, 27, 60, 132, 2, 1, 167, 255, 218, 27, 172]
abbrev dktX0_mostSigned_1 : List UInt8 := dkwX0_mostSigned_1 ++ []
def dkwX0_mostSigned_0 : List UInt8 := [3, 60, 3, 61, 28, 4, 42, 180, 1, 90, 120, 162, 0, 34, 42, 180, 0, 169, 28, 46, 19, 2, 65]
abbrev dktX0_mostSigned_0 : List UInt8 := dkwX0_mostSigned_0 ++ dktX0_mostSigned_1
theorem dksX0_mostSigned_0 : cX0_mostSigned.data.toList.drop 0 = dktX0_mostSigned_0 := by decide +kernel
theorem dksX0_mostSigned_1 : cX0_mostSigned.data.toList.drop 23 = dktX0_mostSigned_1 := dk_seg dksX0_mostSigned_0 23 rfl rfl
theorem dX0_mostSigned_0 : decode cX0_mostSigned 0 = .ok (.iconst 0, 1) := dk_3 (dk_at dksX0_mostSigned_0 0 rfl rfl)
theorem dX0_mostSigned_1 : decode cX0_mostSigned 1 = .ok (.istore_n 1, 1) := dk_60 (dk_at dksX0_mostSigned_0 1 rfl rfl)
theorem dX0_mostSigned_2 : decode cX0_mostSigned 2 = .ok (.iconst 0, 1) := dk_3 (dk_at dksX0_mostSigned_0 2 rfl rfl)
theorem dX0_mostSigned_3 : decode cX0_mostSigned 3 = .ok (.istore_n 2, 1) := dk_61 (dk_at dksX0_mostSigned_0 3 rfl rfl)
theorem dX0_mostSigned_4 : decode cX0_mostSigned 4 = .ok (.iload_n 2, 1) := dk_28 (dk_at dksX0_mostSigned_0 4 rfl rfl)
theorem dX0_mostSigned_5 : decode cX0_mostSigned 5 = .ok (.iconst 1, 1) := dk_4 (dk_at dksX0_mostSigned_0 5 rfl rfl)
theorem dX0_mostSigned_6 : decode cX0_mostSigned 6 = .ok (.aload_n 0, 1) := dk_42 (dk_at dksX0_mostSigned_0 6 rfl rfl)
theorem dX0_mostSigned_7 : decode cX0_mostSigned 7 = .ok (.getfield 346, 3) := dk_180 1 90 (dk_at dksX0_mostSigned_0 7 rfl rfl)
theorem dX0_mostSigned_10 : decode cX0_mostSigned 10 = .ok (.ishl, 1) := dk_120 (dk_at dksX0_mostSigned_0 10 rfl rfl)
theorem dX0_mostSigned_11 : decode cX0_mostSigned 11 = .ok (.if_icmp .ge 34, 3) := dk_162 0 34 (dk_at dksX0_mostSigned_0 11 rfl rfl)
theorem dX0_mostSigned_14 : decode cX0_mostSigned 14 = .ok (.aload_n 0, 1) := dk_42 (dk_at dksX0_mostSigned_0 14 rfl rfl)
theorem dX0_mostSigned_15 : decode cX0_mostSigned 15 = .ok (.getfield 169, 3) := dk_180 0 169 (dk_at dksX0_mostSigned_0 15 rfl rfl)
theorem dX0_mostSigned_18 : decode cX0_mostSigned 18 = .ok (.iload_n 2, 1) := dk_28 (dk_at dksX0_mostSigned_0 18 rfl rfl)
theorem dX0_mostSigned_19 : decode cX0_mostSigned 19 = .ok (.iaload, 1) := dk_46 (dk_at dksX0_mostSigned_0 19 rfl rfl)
theorem dX0_mostSigned_20 : decode cX0_mostSigned 20 = .ok (.ldc_w 577, 3) := dk_19 2 65 (dk_at dksX0_mostSigned_0 20 rfl rfl)
theorem dX0_mostSigned_23 : decode cX0_mostSigned 23 = .ok (.if_icmp .ge 14, 3) := dk_162 0 14 (dk_at dksX0_mostSigned_1 0 rfl rfl)
theorem dX0_mostSigned_26 : decode cX0_mostSigned 26 = .ok (.iload_n 1, 1) := dk_27 (dk_at dksX0_mostSigned_1 3 rfl rfl)
theorem dX0_mostSigned_27 : decode cX0_mostSigned 27 = .ok (.iload_n 2, 1) := dk_28 (dk_at dksX0_mostSigned_1 4 rfl rfl)
theorem dX0_mostSigned_28 : decode cX0_mostSigned 28 = .ok (.invokestatic 506, 3) := dk_184 1 250 (dk_at dksX0_mostSigned_1 5 rfl rfl)
theorem dX0_mostSigned_31 : decode cX0_mostSigned 31 = .ok (.invokestatic 7, 3) := dk_184 0 7 (dk_at dksX0_mostSigned_1 8 rfl rfl)
theorem dX0_mostSigned_34 : decode cX0_mostSigned 34 = .ok (.goto 4, 3) := dk_167 0 4 (dk_at dksX0_mostSigned_1 11 rfl rfl)
theorem dX0_mostSigned_37 : decode cX0_mostSigned 37 = .ok (.iload_n 1, 1) := dk_27 (dk_at dksX0_mostSigned_1 14 rfl rfl)
theorem dX0_mostSigned_38 : decode cX0_mostSigned 38 = .ok (.istore_n 1, 1) := dk_60 (dk_at dksX0_mostSigned_1 15 rfl rfl)
theorem dX0_mostSigned_39 : decode cX0_mostSigned 39 = .ok (.iinc 2 1, 3) := dk_132 2 1 (dk_at dksX0_mostSigned_1 16 rfl rfl)
theorem dX0_mostSigned_42 : decode cX0_mostSigned 42 = .ok (.goto (-38), 3) := dk_167 255 218 (dk_at dksX0_mostSigned_1 19 rfl rfl)
theorem dX0_mostSigned_45 : decode cX0_mostSigned 45 = .ok (.iload_n 1, 1) := dk_27 (dk_at dksX0_mostSigned_1 22 rfl rfl)
theorem dX0_mostSigned_46 : decode cX0_mostSigned 46 = .ok (.ireturn, 1) := dk_172 (dk_at dksX0_mostSigned_1 23 rfl rfl)
abbrev cX0_signerAt : ByteArray := prog_1_method_90_code
def yX0_signerAt : MethodName := ⟨RX0, "signerAt", "(II)I"⟩
def dkwX0_signerAt_6 : List UInt8 := [4, 21, 7, 120, 128, 54, 4, 132, 6, 1, 167, 255, 121, 2, 172]
abbrev dktX0_signerAt_6 : List UInt8 := dkwX0_signerAt_6 ++ []
def dkwX0_signerAt_5 : List UInt8 := [167, 255, 170, 21, 6, 27, 160, 0, 6, 21, 7, 172, 42, 21, 7, 21, 5, 182, 2, 69, 54, 5, 21, 4]
abbrev dktX0_signerAt_5 : List UInt8 := dkwX0_signerAt_5 ++ dktX0_signerAt_6
def dkwX0_signerAt_4 : List UInt8 := [182, 2, 72, 42, 180, 0, 169, 29, 46, 28, 160, 0, 8, 21, 8, 167, 0, 4, 2, 54, 7, 132, 8, 1]
abbrev dktX0_signerAt_4 : List UInt8 := dkwX0_signerAt_4 ++ dktX0_signerAt_5
def dkwX0_signerAt_3 : List UInt8 := [54, 9, 21, 9, 19, 2, 65, 161, 0, 6, 167, 0, 34, 42, 21, 4, 4, 21, 8, 120, 128, 21, 9]
abbrev dktX0_signerAt_3 : List UInt8 := dkwX0_signerAt_3 ++ dktX0_signerAt_4
def dkwX0_signerAt_2 : List UInt8 := [21, 4, 21, 8, 184, 1, 200, 153, 0, 9, 19, 2, 65, 167, 0, 11, 42, 21, 8, 21, 5, 182, 2, 69]
abbrev dktX0_signerAt_2 : List UInt8 := dkwX0_signerAt_2 ++ dktX0_signerAt_3
def dkwX0_signerAt_1 : List UInt8 := [162, 0, 132, 2, 54, 7, 3, 54, 8, 21, 8, 42, 180, 1, 90, 162, 0, 83, 21, 7, 2, 160, 0, 77]
abbrev dktX0_signerAt_1 : List UInt8 := dkwX0_signerAt_1 ++ dktX0_signerAt_2
def dkwX0_signerAt_0 : List UInt8 := [4, 42, 180, 1, 90, 120, 4, 100, 62, 3, 54, 4, 3, 54, 5, 3, 54, 6, 21, 6, 42, 180, 1, 90]
abbrev dktX0_signerAt_0 : List UInt8 := dkwX0_signerAt_0 ++ dktX0_signerAt_1
theorem dksX0_signerAt_0 : cX0_signerAt.data.toList.drop 0 = dktX0_signerAt_0 := by decide +kernel
theorem dksX0_signerAt_1 : cX0_signerAt.data.toList.drop 24 = dktX0_signerAt_1 := dk_seg dksX0_signerAt_0 24 rfl rfl
theorem dksX0_signerAt_2 : cX0_signerAt.data.toList.drop 48 = dktX0_signerAt_2 := dk_seg dksX0_signerAt_1 24 rfl rfl
theorem dksX0_signerAt_3 : cX0_signerAt.data.toList.drop 72 = dktX0_signerAt_3 := dk_seg dksX0_signerAt_2 24 rfl rfl
theorem dksX0_signerAt_4 : cX0_signerAt.data.toList.drop 95 = dktX0_signerAt_4 := dk_seg dksX0_signerAt_3 23 rfl rfl
theorem dksX0_signerAt_5 : cX0_signerAt.data.toList.drop 119 = dktX0_signerAt_5 := dk_seg dksX0_signerAt_4 24 rfl rfl
theorem dksX0_signerAt_6 : cX0_signerAt.data.toList.drop 143 = dktX0_signerAt_6 := dk_seg dksX0_signerAt_5 24 rfl rfl
theorem dX0_signerAt_0 : decode cX0_signerAt 0 = .ok (.iconst 1, 1) := dk_4 (dk_at dksX0_signerAt_0 0 rfl rfl)
theorem dX0_signerAt_1 : decode cX0_signerAt 1 = .ok (.aload_n 0, 1) := dk_42 (dk_at dksX0_signerAt_0 1 rfl rfl)
theorem dX0_signerAt_2 : decode cX0_signerAt 2 = .ok (.getfield 346, 3) := dk_180 1 90 (dk_at dksX0_signerAt_0 2 rfl rfl)
theorem dX0_signerAt_5 : decode cX0_signerAt 5 = .ok (.ishl, 1) := dk_120 (dk_at dksX0_signerAt_0 5 rfl rfl)
theorem dX0_signerAt_6 : decode cX0_signerAt 6 = .ok (.iconst 1, 1) := dk_4 (dk_at dksX0_signerAt_0 6 rfl rfl)
theorem dX0_signerAt_7 : decode cX0_signerAt 7 = .ok (.isub, 1) := dk_100 (dk_at dksX0_signerAt_0 7 rfl rfl)
theorem dX0_signerAt_8 : decode cX0_signerAt 8 = .ok (.istore_n 3, 1) := dk_62 (dk_at dksX0_signerAt_0 8 rfl rfl)
theorem dX0_signerAt_9 : decode cX0_signerAt 9 = .ok (.iconst 0, 1) := dk_3 (dk_at dksX0_signerAt_0 9 rfl rfl)
theorem dX0_signerAt_10 : decode cX0_signerAt 10 = .ok (.istore 4, 2) := dk_54 4 (dk_at dksX0_signerAt_0 10 rfl rfl)
theorem dX0_signerAt_12 : decode cX0_signerAt 12 = .ok (.iconst 0, 1) := dk_3 (dk_at dksX0_signerAt_0 12 rfl rfl)
theorem dX0_signerAt_13 : decode cX0_signerAt 13 = .ok (.istore 5, 2) := dk_54 5 (dk_at dksX0_signerAt_0 13 rfl rfl)
theorem dX0_signerAt_15 : decode cX0_signerAt 15 = .ok (.iconst 0, 1) := dk_3 (dk_at dksX0_signerAt_0 15 rfl rfl)
theorem dX0_signerAt_16 : decode cX0_signerAt 16 = .ok (.istore 6, 2) := dk_54 6 (dk_at dksX0_signerAt_0 16 rfl rfl)
theorem dX0_signerAt_18 : decode cX0_signerAt 18 = .ok (.iload 6, 2) := dk_21 6 (dk_at dksX0_signerAt_0 18 rfl rfl)
theorem dX0_signerAt_20 : decode cX0_signerAt 20 = .ok (.aload_n 0, 1) := dk_42 (dk_at dksX0_signerAt_0 20 rfl rfl)
theorem dX0_signerAt_21 : decode cX0_signerAt 21 = .ok (.getfield 346, 3) := dk_180 1 90 (dk_at dksX0_signerAt_0 21 rfl rfl)
theorem dX0_signerAt_24 : decode cX0_signerAt 24 = .ok (.if_icmp .ge 132, 3) := dk_162 0 132 (dk_at dksX0_signerAt_1 0 rfl rfl)
theorem dX0_signerAt_27 : decode cX0_signerAt 27 = .ok (.iconst (-1), 1) := dk_2 (dk_at dksX0_signerAt_1 3 rfl rfl)
theorem dX0_signerAt_28 : decode cX0_signerAt 28 = .ok (.istore 7, 2) := dk_54 7 (dk_at dksX0_signerAt_1 4 rfl rfl)
theorem dX0_signerAt_30 : decode cX0_signerAt 30 = .ok (.iconst 0, 1) := dk_3 (dk_at dksX0_signerAt_1 6 rfl rfl)
theorem dX0_signerAt_31 : decode cX0_signerAt 31 = .ok (.istore 8, 2) := dk_54 8 (dk_at dksX0_signerAt_1 7 rfl rfl)
theorem dX0_signerAt_33 : decode cX0_signerAt 33 = .ok (.iload 8, 2) := dk_21 8 (dk_at dksX0_signerAt_1 9 rfl rfl)
theorem dX0_signerAt_35 : decode cX0_signerAt 35 = .ok (.aload_n 0, 1) := dk_42 (dk_at dksX0_signerAt_1 11 rfl rfl)
theorem dX0_signerAt_36 : decode cX0_signerAt 36 = .ok (.getfield 346, 3) := dk_180 1 90 (dk_at dksX0_signerAt_1 12 rfl rfl)
theorem dX0_signerAt_39 : decode cX0_signerAt 39 = .ok (.if_icmp .ge 83, 3) := dk_162 0 83 (dk_at dksX0_signerAt_1 15 rfl rfl)
theorem dX0_signerAt_42 : decode cX0_signerAt 42 = .ok (.iload 7, 2) := dk_21 7 (dk_at dksX0_signerAt_1 18 rfl rfl)
theorem dX0_signerAt_44 : decode cX0_signerAt 44 = .ok (.iconst (-1), 1) := dk_2 (dk_at dksX0_signerAt_1 20 rfl rfl)
theorem dX0_signerAt_45 : decode cX0_signerAt 45 = .ok (.if_icmp .ne 77, 3) := dk_160 0 77 (dk_at dksX0_signerAt_1 21 rfl rfl)
theorem dX0_signerAt_48 : decode cX0_signerAt 48 = .ok (.iload 4, 2) := dk_21 4 (dk_at dksX0_signerAt_2 0 rfl rfl)
theorem dX0_signerAt_50 : decode cX0_signerAt 50 = .ok (.iload 8, 2) := dk_21 8 (dk_at dksX0_signerAt_2 2 rfl rfl)
theorem dX0_signerAt_52 : decode cX0_signerAt 52 = .ok (.invokestatic 456, 3) := dk_184 1 200 (dk_at dksX0_signerAt_2 4 rfl rfl)
theorem dX0_signerAt_55 : decode cX0_signerAt 55 = .ok (.ifCond .eq 9, 3) := dk_153 0 9 (dk_at dksX0_signerAt_2 7 rfl rfl)
theorem dX0_signerAt_58 : decode cX0_signerAt 58 = .ok (.ldc_w 577, 3) := dk_19 2 65 (dk_at dksX0_signerAt_2 10 rfl rfl)
theorem dX0_signerAt_61 : decode cX0_signerAt 61 = .ok (.goto 11, 3) := dk_167 0 11 (dk_at dksX0_signerAt_2 13 rfl rfl)
theorem dX0_signerAt_64 : decode cX0_signerAt 64 = .ok (.aload_n 0, 1) := dk_42 (dk_at dksX0_signerAt_2 16 rfl rfl)
theorem dX0_signerAt_65 : decode cX0_signerAt 65 = .ok (.iload 8, 2) := dk_21 8 (dk_at dksX0_signerAt_2 17 rfl rfl)
theorem dX0_signerAt_67 : decode cX0_signerAt 67 = .ok (.iload 5, 2) := dk_21 5 (dk_at dksX0_signerAt_2 19 rfl rfl)
theorem dX0_signerAt_69 : decode cX0_signerAt 69 = .ok (.invokevirtual 581, 3) := dk_182 2 69 (dk_at dksX0_signerAt_2 21 rfl rfl)
theorem dX0_signerAt_72 : decode cX0_signerAt 72 = .ok (.istore 9, 2) := dk_54 9 (dk_at dksX0_signerAt_3 0 rfl rfl)
theorem dX0_signerAt_74 : decode cX0_signerAt 74 = .ok (.iload 9, 2) := dk_21 9 (dk_at dksX0_signerAt_3 2 rfl rfl)
theorem dX0_signerAt_76 : decode cX0_signerAt 76 = .ok (.ldc_w 577, 3) := dk_19 2 65 (dk_at dksX0_signerAt_3 4 rfl rfl)
theorem dX0_signerAt_79 : decode cX0_signerAt 79 = .ok (.if_icmp .lt 6, 3) := dk_161 0 6 (dk_at dksX0_signerAt_3 7 rfl rfl)
theorem dX0_signerAt_82 : decode cX0_signerAt 82 = .ok (.goto 34, 3) := dk_167 0 34 (dk_at dksX0_signerAt_3 10 rfl rfl)
theorem dX0_signerAt_85 : decode cX0_signerAt 85 = .ok (.aload_n 0, 1) := dk_42 (dk_at dksX0_signerAt_3 13 rfl rfl)
theorem dX0_signerAt_86 : decode cX0_signerAt 86 = .ok (.iload 4, 2) := dk_21 4 (dk_at dksX0_signerAt_3 14 rfl rfl)
theorem dX0_signerAt_88 : decode cX0_signerAt 88 = .ok (.iconst 1, 1) := dk_4 (dk_at dksX0_signerAt_3 16 rfl rfl)
theorem dX0_signerAt_89 : decode cX0_signerAt 89 = .ok (.iload 8, 2) := dk_21 8 (dk_at dksX0_signerAt_3 17 rfl rfl)
theorem dX0_signerAt_91 : decode cX0_signerAt 91 = .ok (.ishl, 1) := dk_120 (dk_at dksX0_signerAt_3 19 rfl rfl)
theorem dX0_signerAt_92 : decode cX0_signerAt 92 = .ok (.ior, 1) := dk_128 (dk_at dksX0_signerAt_3 20 rfl rfl)
theorem dX0_signerAt_93 : decode cX0_signerAt 93 = .ok (.iload 9, 2) := dk_21 9 (dk_at dksX0_signerAt_3 21 rfl rfl)
theorem dX0_signerAt_95 : decode cX0_signerAt 95 = .ok (.invokevirtual 584, 3) := dk_182 2 72 (dk_at dksX0_signerAt_4 0 rfl rfl)
theorem dX0_signerAt_98 : decode cX0_signerAt 98 = .ok (.aload_n 0, 1) := dk_42 (dk_at dksX0_signerAt_4 3 rfl rfl)
theorem dX0_signerAt_99 : decode cX0_signerAt 99 = .ok (.getfield 169, 3) := dk_180 0 169 (dk_at dksX0_signerAt_4 4 rfl rfl)
theorem dX0_signerAt_102 : decode cX0_signerAt 102 = .ok (.iload_n 3, 1) := dk_29 (dk_at dksX0_signerAt_4 7 rfl rfl)
theorem dX0_signerAt_103 : decode cX0_signerAt 103 = .ok (.iaload, 1) := dk_46 (dk_at dksX0_signerAt_4 8 rfl rfl)
theorem dX0_signerAt_104 : decode cX0_signerAt 104 = .ok (.iload_n 2, 1) := dk_28 (dk_at dksX0_signerAt_4 9 rfl rfl)
theorem dX0_signerAt_105 : decode cX0_signerAt 105 = .ok (.if_icmp .ne 8, 3) := dk_160 0 8 (dk_at dksX0_signerAt_4 10 rfl rfl)
theorem dX0_signerAt_108 : decode cX0_signerAt 108 = .ok (.iload 8, 2) := dk_21 8 (dk_at dksX0_signerAt_4 13 rfl rfl)
theorem dX0_signerAt_110 : decode cX0_signerAt 110 = .ok (.goto 4, 3) := dk_167 0 4 (dk_at dksX0_signerAt_4 15 rfl rfl)
theorem dX0_signerAt_113 : decode cX0_signerAt 113 = .ok (.iconst (-1), 1) := dk_2 (dk_at dksX0_signerAt_4 18 rfl rfl)
theorem dX0_signerAt_114 : decode cX0_signerAt 114 = .ok (.istore 7, 2) := dk_54 7 (dk_at dksX0_signerAt_4 19 rfl rfl)
theorem dX0_signerAt_116 : decode cX0_signerAt 116 = .ok (.iinc 8 1, 3) := dk_132 8 1 (dk_at dksX0_signerAt_4 21 rfl rfl)
theorem dX0_signerAt_119 : decode cX0_signerAt 119 = .ok (.goto (-86), 3) := dk_167 255 170 (dk_at dksX0_signerAt_5 0 rfl rfl)
theorem dX0_signerAt_122 : decode cX0_signerAt 122 = .ok (.iload 6, 2) := dk_21 6 (dk_at dksX0_signerAt_5 3 rfl rfl)
theorem dX0_signerAt_124 : decode cX0_signerAt 124 = .ok (.iload_n 1, 1) := dk_27 (dk_at dksX0_signerAt_5 5 rfl rfl)
theorem dX0_signerAt_125 : decode cX0_signerAt 125 = .ok (.if_icmp .ne 6, 3) := dk_160 0 6 (dk_at dksX0_signerAt_5 6 rfl rfl)
theorem dX0_signerAt_128 : decode cX0_signerAt 128 = .ok (.iload 7, 2) := dk_21 7 (dk_at dksX0_signerAt_5 9 rfl rfl)
theorem dX0_signerAt_130 : decode cX0_signerAt 130 = .ok (.ireturn, 1) := dk_172 (dk_at dksX0_signerAt_5 11 rfl rfl)
theorem dX0_signerAt_131 : decode cX0_signerAt 131 = .ok (.aload_n 0, 1) := dk_42 (dk_at dksX0_signerAt_5 12 rfl rfl)
theorem dX0_signerAt_132 : decode cX0_signerAt 132 = .ok (.iload 7, 2) := dk_21 7 (dk_at dksX0_signerAt_5 13 rfl rfl)
theorem dX0_signerAt_134 : decode cX0_signerAt 134 = .ok (.iload 5, 2) := dk_21 5 (dk_at dksX0_signerAt_5 15 rfl rfl)
theorem dX0_signerAt_136 : decode cX0_signerAt 136 = .ok (.invokevirtual 581, 3) := dk_182 2 69 (dk_at dksX0_signerAt_5 17 rfl rfl)
theorem dX0_signerAt_139 : decode cX0_signerAt 139 = .ok (.istore 5, 2) := dk_54 5 (dk_at dksX0_signerAt_5 20 rfl rfl)
theorem dX0_signerAt_141 : decode cX0_signerAt 141 = .ok (.iload 4, 2) := dk_21 4 (dk_at dksX0_signerAt_5 22 rfl rfl)
theorem dX0_signerAt_143 : decode cX0_signerAt 143 = .ok (.iconst 1, 1) := dk_4 (dk_at dksX0_signerAt_6 0 rfl rfl)
theorem dX0_signerAt_144 : decode cX0_signerAt 144 = .ok (.iload 7, 2) := dk_21 7 (dk_at dksX0_signerAt_6 1 rfl rfl)
theorem dX0_signerAt_146 : decode cX0_signerAt 146 = .ok (.ishl, 1) := dk_120 (dk_at dksX0_signerAt_6 3 rfl rfl)
theorem dX0_signerAt_147 : decode cX0_signerAt 147 = .ok (.ior, 1) := dk_128 (dk_at dksX0_signerAt_6 4 rfl rfl)
theorem dX0_signerAt_148 : decode cX0_signerAt 148 = .ok (.istore 4, 2) := dk_54 4 (dk_at dksX0_signerAt_6 5 rfl rfl)
theorem dX0_signerAt_150 : decode cX0_signerAt 150 = .ok (.iinc 6 1, 3) := dk_132 6 1 (dk_at dksX0_signerAt_6 7 rfl rfl)
theorem dX0_signerAt_153 : decode cX0_signerAt 153 = .ok (.goto (-135), 3) := dk_167 255 121 (dk_at dksX0_signerAt_6 10 rfl rfl)
theorem dX0_signerAt_156 : decode cX0_signerAt 156 = .ok (.iconst (-1), 1) := dk_2 (dk_at dksX0_signerAt_6 13 rfl rfl)
theorem dX0_signerAt_157 : decode cX0_signerAt 157 = .ok (.ireturn, 1) := dk_172 (dk_at dksX0_signerAt_6 14 rfl rfl)
abbrev cX0_money : ByteArray := prog_1_method_92_code
def yX0_money : MethodName := ⟨RX0, "money", "(II)I"⟩
def dkwX0_money_3 : List UInt8 := [132, 5, 1, 167, 255, 214, 21, 4, 172]
abbrev dktX0_money_3 : List UInt8 := dkwX0_money_3 ++ []
def dkwX0_money_2 : List UInt8 := [180, 1, 154, 21, 5, 46, 96, 96, 62, 29, 28, 163, 0, 8, 21, 5, 167, 0, 5, 21, 4, 54, 4]
abbrev dktX0_money_2 : List UInt8 := dkwX0_money_2 ++ dktX0_money_3
def dkwX0_money_1 : List UInt8 := [27, 62, 2, 54, 4, 3, 54, 5, 21, 5, 42, 180, 1, 90, 162, 0, 39, 29, 16, 10, 42, 180, 0, 152]
abbrev dktX0_money_1 : List UInt8 := dkwX0_money_1 ++ dktX0_money_2
def dkwX0_money_0 : List UInt8 := [27, 3, 17, 2, 88, 184, 0, 188, 153, 0, 14, 28, 3, 17, 2, 88, 184, 0, 188, 154, 0, 5, 2, 172]
abbrev dktX0_money_0 : List UInt8 := dkwX0_money_0 ++ dktX0_money_1
theorem dksX0_money_0 : cX0_money.data.toList.drop 0 = dktX0_money_0 := by decide +kernel
theorem dksX0_money_1 : cX0_money.data.toList.drop 24 = dktX0_money_1 := dk_seg dksX0_money_0 24 rfl rfl
theorem dksX0_money_2 : cX0_money.data.toList.drop 48 = dktX0_money_2 := dk_seg dksX0_money_1 24 rfl rfl
theorem dksX0_money_3 : cX0_money.data.toList.drop 71 = dktX0_money_3 := dk_seg dksX0_money_2 23 rfl rfl
theorem dX0_money_0 : decode cX0_money 0 = .ok (.iload_n 1, 1) := dk_27 (dk_at dksX0_money_0 0 rfl rfl)
theorem dX0_money_1 : decode cX0_money 1 = .ok (.iconst 0, 1) := dk_3 (dk_at dksX0_money_0 1 rfl rfl)
theorem dX0_money_2 : decode cX0_money 2 = .ok (.sipush 600, 3) := dk_17 2 88 (dk_at dksX0_money_0 2 rfl rfl)
theorem dX0_money_5 : decode cX0_money 5 = .ok (.invokestatic 188, 3) := dk_184 0 188 (dk_at dksX0_money_0 5 rfl rfl)
theorem dX0_money_8 : decode cX0_money 8 = .ok (.ifCond .eq 14, 3) := dk_153 0 14 (dk_at dksX0_money_0 8 rfl rfl)
theorem dX0_money_11 : decode cX0_money 11 = .ok (.iload_n 2, 1) := dk_28 (dk_at dksX0_money_0 11 rfl rfl)
theorem dX0_money_12 : decode cX0_money 12 = .ok (.iconst 0, 1) := dk_3 (dk_at dksX0_money_0 12 rfl rfl)
theorem dX0_money_13 : decode cX0_money 13 = .ok (.sipush 600, 3) := dk_17 2 88 (dk_at dksX0_money_0 13 rfl rfl)
theorem dX0_money_16 : decode cX0_money 16 = .ok (.invokestatic 188, 3) := dk_184 0 188 (dk_at dksX0_money_0 16 rfl rfl)
theorem dX0_money_19 : decode cX0_money 19 = .ok (.ifCond .ne 5, 3) := dk_154 0 5 (dk_at dksX0_money_0 19 rfl rfl)
theorem dX0_money_22 : decode cX0_money 22 = .ok (.iconst (-1), 1) := dk_2 (dk_at dksX0_money_0 22 rfl rfl)
theorem dX0_money_23 : decode cX0_money 23 = .ok (.ireturn, 1) := dk_172 (dk_at dksX0_money_0 23 rfl rfl)
theorem dX0_money_24 : decode cX0_money 24 = .ok (.iload_n 1, 1) := dk_27 (dk_at dksX0_money_1 0 rfl rfl)
theorem dX0_money_25 : decode cX0_money 25 = .ok (.istore_n 3, 1) := dk_62 (dk_at dksX0_money_1 1 rfl rfl)
theorem dX0_money_26 : decode cX0_money 26 = .ok (.iconst (-1), 1) := dk_2 (dk_at dksX0_money_1 2 rfl rfl)
theorem dX0_money_27 : decode cX0_money 27 = .ok (.istore 4, 2) := dk_54 4 (dk_at dksX0_money_1 3 rfl rfl)
theorem dX0_money_29 : decode cX0_money 29 = .ok (.iconst 0, 1) := dk_3 (dk_at dksX0_money_1 5 rfl rfl)
theorem dX0_money_30 : decode cX0_money 30 = .ok (.istore 5, 2) := dk_54 5 (dk_at dksX0_money_1 6 rfl rfl)
theorem dX0_money_32 : decode cX0_money 32 = .ok (.iload 5, 2) := dk_21 5 (dk_at dksX0_money_1 8 rfl rfl)
theorem dX0_money_34 : decode cX0_money 34 = .ok (.aload_n 0, 1) := dk_42 (dk_at dksX0_money_1 10 rfl rfl)
theorem dX0_money_35 : decode cX0_money 35 = .ok (.getfield 346, 3) := dk_180 1 90 (dk_at dksX0_money_1 11 rfl rfl)
theorem dX0_money_38 : decode cX0_money 38 = .ok (.if_icmp .ge 39, 3) := dk_162 0 39 (dk_at dksX0_money_1 14 rfl rfl)
theorem dX0_money_41 : decode cX0_money 41 = .ok (.iload_n 3, 1) := dk_29 (dk_at dksX0_money_1 17 rfl rfl)
theorem dX0_money_42 : decode cX0_money 42 = .ok (.bipush 10, 2) := dk_16 10 (dk_at dksX0_money_1 18 rfl rfl)
theorem dX0_money_44 : decode cX0_money 44 = .ok (.aload_n 0, 1) := dk_42 (dk_at dksX0_money_1 20 rfl rfl)
theorem dX0_money_45 : decode cX0_money 45 = .ok (.getfield 152, 3) := dk_180 0 152 (dk_at dksX0_money_1 21 rfl rfl)
theorem dX0_money_48 : decode cX0_money 48 = .ok (.getfield 410, 3) := dk_180 1 154 (dk_at dksX0_money_2 0 rfl rfl)
theorem dX0_money_51 : decode cX0_money 51 = .ok (.iload 5, 2) := dk_21 5 (dk_at dksX0_money_2 3 rfl rfl)
theorem dX0_money_53 : decode cX0_money 53 = .ok (.iaload, 1) := dk_46 (dk_at dksX0_money_2 5 rfl rfl)
theorem dX0_money_54 : decode cX0_money 54 = .ok (.iadd, 1) := dk_96 (dk_at dksX0_money_2 6 rfl rfl)
theorem dX0_money_55 : decode cX0_money 55 = .ok (.iadd, 1) := dk_96 (dk_at dksX0_money_2 7 rfl rfl)
theorem dX0_money_56 : decode cX0_money 56 = .ok (.istore_n 3, 1) := dk_62 (dk_at dksX0_money_2 8 rfl rfl)
theorem dX0_money_57 : decode cX0_money 57 = .ok (.iload_n 3, 1) := dk_29 (dk_at dksX0_money_2 9 rfl rfl)
theorem dX0_money_58 : decode cX0_money 58 = .ok (.iload_n 2, 1) := dk_28 (dk_at dksX0_money_2 10 rfl rfl)
theorem dX0_money_59 : decode cX0_money 59 = .ok (.if_icmp .gt 8, 3) := dk_163 0 8 (dk_at dksX0_money_2 11 rfl rfl)
theorem dX0_money_62 : decode cX0_money 62 = .ok (.iload 5, 2) := dk_21 5 (dk_at dksX0_money_2 14 rfl rfl)
theorem dX0_money_64 : decode cX0_money 64 = .ok (.goto 5, 3) := dk_167 0 5 (dk_at dksX0_money_2 16 rfl rfl)
theorem dX0_money_67 : decode cX0_money 67 = .ok (.iload 4, 2) := dk_21 4 (dk_at dksX0_money_2 19 rfl rfl)
theorem dX0_money_69 : decode cX0_money 69 = .ok (.istore 4, 2) := dk_54 4 (dk_at dksX0_money_2 21 rfl rfl)
theorem dX0_money_71 : decode cX0_money 71 = .ok (.iinc 5 1, 3) := dk_132 5 1 (dk_at dksX0_money_3 0 rfl rfl)
theorem dX0_money_74 : decode cX0_money 74 = .ok (.goto (-42), 3) := dk_167 255 214 (dk_at dksX0_money_3 3 rfl rfl)
theorem dX0_money_77 : decode cX0_money 77 = .ok (.iload 4, 2) := dk_21 4 (dk_at dksX0_money_3 6 rfl rfl)
theorem dX0_money_79 : decode cX0_money 79 = .ok (.ireturn, 1) := dk_172 (dk_at dksX0_money_3 8 rfl rfl)
abbrev cX0_ill : ByteArray := prog_1_method_93_code
def yX0_ill : MethodName := ⟨RX0, "ill", "(II)I"⟩
def dkwX0_ill_1 : List UInt8 := [180, 1, 90, 42, 27, 28, 186, 2, 81, 0, 0, 184, 2, 24, 167, 0, 4, 2, 172]
abbrev dktX0_ill_1 : List UInt8 := dkwX0_ill_1 ++ []
def dkwX0_ill_0 : List UInt8 := [27, 3, 17, 3, 231, 184, 0, 188, 153, 0, 31, 28, 4, 16, 30, 184, 0, 188, 153, 0, 21, 42]
abbrev dktX0_ill_0 : List UInt8 := dkwX0_ill_0 ++ dktX0_ill_1
theorem dksX0_ill_0 : cX0_ill.data.toList.drop 0 = dktX0_ill_0 := by decide +kernel
theorem dksX0_ill_1 : cX0_ill.data.toList.drop 22 = dktX0_ill_1 := dk_seg dksX0_ill_0 22 rfl rfl
theorem dX0_ill_0 : decode cX0_ill 0 = .ok (.iload_n 1, 1) := dk_27 (dk_at dksX0_ill_0 0 rfl rfl)
theorem dX0_ill_1 : decode cX0_ill 1 = .ok (.iconst 0, 1) := dk_3 (dk_at dksX0_ill_0 1 rfl rfl)
theorem dX0_ill_2 : decode cX0_ill 2 = .ok (.sipush 999, 3) := dk_17 3 231 (dk_at dksX0_ill_0 2 rfl rfl)
theorem dX0_ill_5 : decode cX0_ill 5 = .ok (.invokestatic 188, 3) := dk_184 0 188 (dk_at dksX0_ill_0 5 rfl rfl)
theorem dX0_ill_8 : decode cX0_ill 8 = .ok (.ifCond .eq 31, 3) := dk_153 0 31 (dk_at dksX0_ill_0 8 rfl rfl)
theorem dX0_ill_11 : decode cX0_ill 11 = .ok (.iload_n 2, 1) := dk_28 (dk_at dksX0_ill_0 11 rfl rfl)
theorem dX0_ill_12 : decode cX0_ill 12 = .ok (.iconst 1, 1) := dk_4 (dk_at dksX0_ill_0 12 rfl rfl)
theorem dX0_ill_13 : decode cX0_ill 13 = .ok (.bipush 30, 2) := dk_16 30 (dk_at dksX0_ill_0 13 rfl rfl)
theorem dX0_ill_15 : decode cX0_ill 15 = .ok (.invokestatic 188, 3) := dk_184 0 188 (dk_at dksX0_ill_0 15 rfl rfl)
theorem dX0_ill_18 : decode cX0_ill 18 = .ok (.ifCond .eq 21, 3) := dk_153 0 21 (dk_at dksX0_ill_0 18 rfl rfl)
theorem dX0_ill_21 : decode cX0_ill 21 = .ok (.aload_n 0, 1) := dk_42 (dk_at dksX0_ill_0 21 rfl rfl)
theorem dX0_ill_22 : decode cX0_ill 22 = .ok (.getfield 346, 3) := dk_180 1 90 (dk_at dksX0_ill_1 0 rfl rfl)
theorem dX0_ill_25 : decode cX0_ill 25 = .ok (.aload_n 0, 1) := dk_42 (dk_at dksX0_ill_1 3 rfl rfl)
theorem dX0_ill_26 : decode cX0_ill 26 = .ok (.iload_n 1, 1) := dk_27 (dk_at dksX0_ill_1 4 rfl rfl)
theorem dX0_ill_27 : decode cX0_ill 27 = .ok (.iload_n 2, 1) := dk_28 (dk_at dksX0_ill_1 5 rfl rfl)
theorem dX0_ill_28 : decode cX0_ill 28 = .ok (.invokedynamic 593, 5) := by decide +kernel
theorem dX0_ill_33 : decode cX0_ill 33 = .ok (.invokestatic 536, 3) := dk_184 2 24 (dk_at dksX0_ill_1 11 rfl rfl)
theorem dX0_ill_36 : decode cX0_ill 36 = .ok (.goto 4, 3) := dk_167 0 4 (dk_at dksX0_ill_1 14 rfl rfl)
theorem dX0_ill_39 : decode cX0_ill 39 = .ok (.iconst (-1), 1) := dk_2 (dk_at dksX0_ill_1 17 rfl rfl)
theorem dX0_ill_40 : decode cX0_ill 40 = .ok (.ireturn, 1) := dk_172 (dk_at dksX0_ill_1 18 rfl rfl)
abbrev cX0_lambda_ill_2 : ByteArray := prog_1_method_105_code
def yX0_lambda_ill_2 : MethodName := ⟨RX0, "lambda$ill$2", "(III)Z"⟩
def dkwX0_lambda_ill_2_0 : List UInt8 := [42, 29, 27, 27, 28, 96, 4, 100, 182, 1, 240, 154, 0, 7, 4, 167, 0, 4, 3, 172]
abbrev dktX0_lambda_ill_2_0 : List UInt8 := dkwX0_lambda_ill_2_0 ++ []
theorem dksX0_lambda_ill_2_0 : cX0_lambda_ill_2.data.toList.drop 0 = dktX0_lambda_ill_2_0 := by decide +kernel
theorem dX0_lambda_ill_2_0 : decode cX0_lambda_ill_2 0 = .ok (.aload_n 0, 1) := dk_42 (dk_at dksX0_lambda_ill_2_0 0 rfl rfl)
theorem dX0_lambda_ill_2_1 : decode cX0_lambda_ill_2 1 = .ok (.iload_n 3, 1) := dk_29 (dk_at dksX0_lambda_ill_2_0 1 rfl rfl)
theorem dX0_lambda_ill_2_2 : decode cX0_lambda_ill_2 2 = .ok (.iload_n 1, 1) := dk_27 (dk_at dksX0_lambda_ill_2_0 2 rfl rfl)
theorem dX0_lambda_ill_2_3 : decode cX0_lambda_ill_2 3 = .ok (.iload_n 1, 1) := dk_27 (dk_at dksX0_lambda_ill_2_0 3 rfl rfl)
theorem dX0_lambda_ill_2_4 : decode cX0_lambda_ill_2 4 = .ok (.iload_n 2, 1) := dk_28 (dk_at dksX0_lambda_ill_2_0 4 rfl rfl)
theorem dX0_lambda_ill_2_5 : decode cX0_lambda_ill_2 5 = .ok (.iadd, 1) := dk_96 (dk_at dksX0_lambda_ill_2_0 5 rfl rfl)
theorem dX0_lambda_ill_2_6 : decode cX0_lambda_ill_2 6 = .ok (.iconst 1, 1) := dk_4 (dk_at dksX0_lambda_ill_2_0 6 rfl rfl)
theorem dX0_lambda_ill_2_7 : decode cX0_lambda_ill_2 7 = .ok (.isub, 1) := dk_100 (dk_at dksX0_lambda_ill_2_0 7 rfl rfl)
theorem dX0_lambda_ill_2_8 : decode cX0_lambda_ill_2 8 = .ok (.invokevirtual 496, 3) := dk_182 1 240 (dk_at dksX0_lambda_ill_2_0 8 rfl rfl)
theorem dX0_lambda_ill_2_11 : decode cX0_lambda_ill_2 11 = .ok (.ifCond .ne 7, 3) := dk_154 0 7 (dk_at dksX0_lambda_ill_2_0 11 rfl rfl)
theorem dX0_lambda_ill_2_14 : decode cX0_lambda_ill_2 14 = .ok (.iconst 1, 1) := dk_4 (dk_at dksX0_lambda_ill_2_0 14 rfl rfl)
theorem dX0_lambda_ill_2_15 : decode cX0_lambda_ill_2 15 = .ok (.goto 4, 3) := dk_167 0 4 (dk_at dksX0_lambda_ill_2_0 15 rfl rfl)
theorem dX0_lambda_ill_2_18 : decode cX0_lambda_ill_2 18 = .ok (.iconst 0, 1) := dk_3 (dk_at dksX0_lambda_ill_2_0 18 rfl rfl)
theorem dX0_lambda_ill_2_19 : decode cX0_lambda_ill_2 19 = .ok (.ireturn, 1) := dk_172 (dk_at dksX0_lambda_ill_2_0 19 rfl rfl)
abbrev cX0_wrote : ByteArray := prog_1_method_95_code
def yX0_wrote : MethodName := ⟨RX0, "wrote", "()I"⟩
def dkwX0_wrote_0 : List UInt8 := [42, 180, 1, 90, 5, 162, 0, 7, 2, 167, 0, 14, 16, 100, 42, 186, 2, 84, 0, 0, 184, 2, 37, 172]
abbrev dktX0_wrote_0 : List UInt8 := dkwX0_wrote_0 ++ []
theorem dksX0_wrote_0 : cX0_wrote.data.toList.drop 0 = dktX0_wrote_0 := by decide +kernel
theorem dX0_wrote_0 : decode cX0_wrote 0 = .ok (.aload_n 0, 1) := dk_42 (dk_at dksX0_wrote_0 0 rfl rfl)
theorem dX0_wrote_1 : decode cX0_wrote 1 = .ok (.getfield 346, 3) := dk_180 1 90 (dk_at dksX0_wrote_0 1 rfl rfl)
theorem dX0_wrote_4 : decode cX0_wrote 4 = .ok (.iconst 2, 1) := dk_5 (dk_at dksX0_wrote_0 4 rfl rfl)
theorem dX0_wrote_5 : decode cX0_wrote 5 = .ok (.if_icmp .ge 7, 3) := dk_162 0 7 (dk_at dksX0_wrote_0 5 rfl rfl)
theorem dX0_wrote_8 : decode cX0_wrote 8 = .ok (.iconst (-1), 1) := dk_2 (dk_at dksX0_wrote_0 8 rfl rfl)
theorem dX0_wrote_9 : decode cX0_wrote 9 = .ok (.goto 14, 3) := dk_167 0 14 (dk_at dksX0_wrote_0 9 rfl rfl)
theorem dX0_wrote_12 : decode cX0_wrote 12 = .ok (.bipush 100, 2) := dk_16 100 (dk_at dksX0_wrote_0 12 rfl rfl)
theorem dX0_wrote_14 : decode cX0_wrote 14 = .ok (.aload_n 0, 1) := dk_42 (dk_at dksX0_wrote_0 14 rfl rfl)
theorem dX0_wrote_15 : decode cX0_wrote 15 = .ok (.invokedynamic 596, 5) := by decide +kernel
theorem dX0_wrote_20 : decode cX0_wrote 20 = .ok (.invokestatic 549, 3) := dk_184 2 37 (dk_at dksX0_wrote_0 20 rfl rfl)
theorem dX0_wrote_23 : decode cX0_wrote 23 = .ok (.ireturn, 1) := dk_172 (dk_at dksX0_wrote_0 23 rfl rfl)
abbrev cX0_lambda_wrote_3 : ByteArray := prog_1_method_104_code
def yX0_lambda_wrote_3 : MethodName := ⟨RX0, "lambda$wrote$3", "(I)I"⟩
def dkwX0_lambda_wrote_3_0 : List UInt8 := [42, 27, 182, 2, 121, 172]
abbrev dktX0_lambda_wrote_3_0 : List UInt8 := dkwX0_lambda_wrote_3_0 ++ []
theorem dksX0_lambda_wrote_3_0 : cX0_lambda_wrote_3.data.toList.drop 0 = dktX0_lambda_wrote_3_0 := by decide +kernel
theorem dX0_lambda_wrote_3_0 : decode cX0_lambda_wrote_3 0 = .ok (.aload_n 0, 1) := dk_42 (dk_at dksX0_lambda_wrote_3_0 0 rfl rfl)
theorem dX0_lambda_wrote_3_1 : decode cX0_lambda_wrote_3 1 = .ok (.iload_n 1, 1) := dk_27 (dk_at dksX0_lambda_wrote_3_0 1 rfl rfl)
theorem dX0_lambda_wrote_3_2 : decode cX0_lambda_wrote_3 2 = .ok (.invokevirtual 633, 3) := dk_182 2 121 (dk_at dksX0_lambda_wrote_3_0 2 rfl rfl)
theorem dX0_lambda_wrote_3_5 : decode cX0_lambda_wrote_3 5 = .ok (.ireturn, 1) := dk_172 (dk_at dksX0_lambda_wrote_3_0 5 rfl rfl)
abbrev cX0_greaterPart : ByteArray := prog_1_method_94_code
def yX0_greaterPart : MethodName := ⟨RX0, "greaterPart", "(I)I"⟩
def dkwX0_greaterPart_1 : List UInt8 := [167, 0, 4, 3, 96, 61, 132, 3, 1, 167, 255, 227, 28, 42, 180, 1, 90, 28, 100, 184, 0, 7, 172]
abbrev dktX0_greaterPart_1 : List UInt8 := dkwX0_greaterPart_1 ++ []
def dkwX0_greaterPart_0 : List UInt8 := [3, 61, 3, 62, 29, 42, 180, 1, 90, 162, 0, 27, 28, 42, 29, 3, 27, 182, 1, 240, 158, 0, 7, 4]
abbrev dktX0_greaterPart_0 : List UInt8 := dkwX0_greaterPart_0 ++ dktX0_greaterPart_1
theorem dksX0_greaterPart_0 : cX0_greaterPart.data.toList.drop 0 = dktX0_greaterPart_0 := by decide +kernel
theorem dksX0_greaterPart_1 : cX0_greaterPart.data.toList.drop 24 = dktX0_greaterPart_1 := dk_seg dksX0_greaterPart_0 24 rfl rfl
theorem dX0_greaterPart_0 : decode cX0_greaterPart 0 = .ok (.iconst 0, 1) := dk_3 (dk_at dksX0_greaterPart_0 0 rfl rfl)
theorem dX0_greaterPart_1 : decode cX0_greaterPart 1 = .ok (.istore_n 2, 1) := dk_61 (dk_at dksX0_greaterPart_0 1 rfl rfl)
theorem dX0_greaterPart_2 : decode cX0_greaterPart 2 = .ok (.iconst 0, 1) := dk_3 (dk_at dksX0_greaterPart_0 2 rfl rfl)
theorem dX0_greaterPart_3 : decode cX0_greaterPart 3 = .ok (.istore_n 3, 1) := dk_62 (dk_at dksX0_greaterPart_0 3 rfl rfl)
theorem dX0_greaterPart_4 : decode cX0_greaterPart 4 = .ok (.iload_n 3, 1) := dk_29 (dk_at dksX0_greaterPart_0 4 rfl rfl)
theorem dX0_greaterPart_5 : decode cX0_greaterPart 5 = .ok (.aload_n 0, 1) := dk_42 (dk_at dksX0_greaterPart_0 5 rfl rfl)
theorem dX0_greaterPart_6 : decode cX0_greaterPart 6 = .ok (.getfield 346, 3) := dk_180 1 90 (dk_at dksX0_greaterPart_0 6 rfl rfl)
theorem dX0_greaterPart_9 : decode cX0_greaterPart 9 = .ok (.if_icmp .ge 27, 3) := dk_162 0 27 (dk_at dksX0_greaterPart_0 9 rfl rfl)
theorem dX0_greaterPart_12 : decode cX0_greaterPart 12 = .ok (.iload_n 2, 1) := dk_28 (dk_at dksX0_greaterPart_0 12 rfl rfl)
theorem dX0_greaterPart_13 : decode cX0_greaterPart 13 = .ok (.aload_n 0, 1) := dk_42 (dk_at dksX0_greaterPart_0 13 rfl rfl)
theorem dX0_greaterPart_14 : decode cX0_greaterPart 14 = .ok (.iload_n 3, 1) := dk_29 (dk_at dksX0_greaterPart_0 14 rfl rfl)
theorem dX0_greaterPart_15 : decode cX0_greaterPart 15 = .ok (.iconst 0, 1) := dk_3 (dk_at dksX0_greaterPart_0 15 rfl rfl)
theorem dX0_greaterPart_16 : decode cX0_greaterPart 16 = .ok (.iload_n 1, 1) := dk_27 (dk_at dksX0_greaterPart_0 16 rfl rfl)
theorem dX0_greaterPart_17 : decode cX0_greaterPart 17 = .ok (.invokevirtual 496, 3) := dk_182 1 240 (dk_at dksX0_greaterPart_0 17 rfl rfl)
theorem dX0_greaterPart_20 : decode cX0_greaterPart 20 = .ok (.ifCond .le 7, 3) := dk_158 0 7 (dk_at dksX0_greaterPart_0 20 rfl rfl)
theorem dX0_greaterPart_23 : decode cX0_greaterPart 23 = .ok (.iconst 1, 1) := dk_4 (dk_at dksX0_greaterPart_0 23 rfl rfl)
theorem dX0_greaterPart_24 : decode cX0_greaterPart 24 = .ok (.goto 4, 3) := dk_167 0 4 (dk_at dksX0_greaterPart_1 0 rfl rfl)
theorem dX0_greaterPart_27 : decode cX0_greaterPart 27 = .ok (.iconst 0, 1) := dk_3 (dk_at dksX0_greaterPart_1 3 rfl rfl)
theorem dX0_greaterPart_28 : decode cX0_greaterPart 28 = .ok (.iadd, 1) := dk_96 (dk_at dksX0_greaterPart_1 4 rfl rfl)
theorem dX0_greaterPart_29 : decode cX0_greaterPart 29 = .ok (.istore_n 2, 1) := dk_61 (dk_at dksX0_greaterPart_1 5 rfl rfl)
theorem dX0_greaterPart_30 : decode cX0_greaterPart 30 = .ok (.iinc 3 1, 3) := dk_132 3 1 (dk_at dksX0_greaterPart_1 6 rfl rfl)
theorem dX0_greaterPart_33 : decode cX0_greaterPart 33 = .ok (.goto (-29), 3) := dk_167 255 227 (dk_at dksX0_greaterPart_1 9 rfl rfl)
theorem dX0_greaterPart_36 : decode cX0_greaterPart 36 = .ok (.iload_n 2, 1) := dk_28 (dk_at dksX0_greaterPart_1 12 rfl rfl)
theorem dX0_greaterPart_37 : decode cX0_greaterPart 37 = .ok (.aload_n 0, 1) := dk_42 (dk_at dksX0_greaterPart_1 13 rfl rfl)
theorem dX0_greaterPart_38 : decode cX0_greaterPart 38 = .ok (.getfield 346, 3) := dk_180 1 90 (dk_at dksX0_greaterPart_1 14 rfl rfl)
theorem dX0_greaterPart_41 : decode cX0_greaterPart 41 = .ok (.iload_n 2, 1) := dk_28 (dk_at dksX0_greaterPart_1 17 rfl rfl)
theorem dX0_greaterPart_42 : decode cX0_greaterPart 42 = .ok (.isub, 1) := dk_100 (dk_at dksX0_greaterPart_1 18 rfl rfl)
theorem dX0_greaterPart_43 : decode cX0_greaterPart 43 = .ok (.invokestatic 7, 3) := dk_184 0 7 (dk_at dksX0_greaterPart_1 19 rfl rfl)
theorem dX0_greaterPart_46 : decode cX0_greaterPart 46 = .ok (.ireturn, 1) := dk_172 (dk_at dksX0_greaterPart_1 22 rfl rfl)
abbrev cX0_slowest : ByteArray := prog_1_method_96_code
def yX0_slowest : MethodName := ⟨RX0, "slowest", "()I"⟩
def dkwX0_slowest_2 : List UInt8 := [60, 132, 2, 1, 167, 255, 208, 27, 172]
abbrev dktX0_slowest_2 : List UInt8 := dkwX0_slowest_2 ++ []
def dkwX0_slowest_1 : List UInt8 := [2, 159, 0, 22, 42, 180, 0, 152, 28, 182, 1, 209, 42, 180, 0, 152, 27, 182, 1, 209, 162, 0, 5, 28]
abbrev dktX0_slowest_1 : List UInt8 := dkwX0_slowest_1 ++ dktX0_slowest_2
def dkwX0_slowest_0 : List UInt8 := [2, 60, 3, 61, 28, 42, 180, 1, 90, 162, 0, 46, 42, 180, 0, 152, 28, 182, 2, 87, 154, 0, 29, 27]
abbrev dktX0_slowest_0 : List UInt8 := dkwX0_slowest_0 ++ dktX0_slowest_1
theorem dksX0_slowest_0 : cX0_slowest.data.toList.drop 0 = dktX0_slowest_0 := by decide +kernel
theorem dksX0_slowest_1 : cX0_slowest.data.toList.drop 24 = dktX0_slowest_1 := dk_seg dksX0_slowest_0 24 rfl rfl
theorem dksX0_slowest_2 : cX0_slowest.data.toList.drop 48 = dktX0_slowest_2 := dk_seg dksX0_slowest_1 24 rfl rfl
theorem dX0_slowest_0 : decode cX0_slowest 0 = .ok (.iconst (-1), 1) := dk_2 (dk_at dksX0_slowest_0 0 rfl rfl)
theorem dX0_slowest_1 : decode cX0_slowest 1 = .ok (.istore_n 1, 1) := dk_60 (dk_at dksX0_slowest_0 1 rfl rfl)
theorem dX0_slowest_2 : decode cX0_slowest 2 = .ok (.iconst 0, 1) := dk_3 (dk_at dksX0_slowest_0 2 rfl rfl)
theorem dX0_slowest_3 : decode cX0_slowest 3 = .ok (.istore_n 2, 1) := dk_61 (dk_at dksX0_slowest_0 3 rfl rfl)
theorem dX0_slowest_4 : decode cX0_slowest 4 = .ok (.iload_n 2, 1) := dk_28 (dk_at dksX0_slowest_0 4 rfl rfl)
theorem dX0_slowest_5 : decode cX0_slowest 5 = .ok (.aload_n 0, 1) := dk_42 (dk_at dksX0_slowest_0 5 rfl rfl)
theorem dX0_slowest_6 : decode cX0_slowest 6 = .ok (.getfield 346, 3) := dk_180 1 90 (dk_at dksX0_slowest_0 6 rfl rfl)
theorem dX0_slowest_9 : decode cX0_slowest 9 = .ok (.if_icmp .ge 46, 3) := dk_162 0 46 (dk_at dksX0_slowest_0 9 rfl rfl)
theorem dX0_slowest_12 : decode cX0_slowest 12 = .ok (.aload_n 0, 1) := dk_42 (dk_at dksX0_slowest_0 12 rfl rfl)
theorem dX0_slowest_13 : decode cX0_slowest 13 = .ok (.getfield 152, 3) := dk_180 0 152 (dk_at dksX0_slowest_0 13 rfl rfl)
theorem dX0_slowest_16 : decode cX0_slowest 16 = .ok (.iload_n 2, 1) := dk_28 (dk_at dksX0_slowest_0 16 rfl rfl)
theorem dX0_slowest_17 : decode cX0_slowest 17 = .ok (.invokevirtual 599, 3) := dk_182 2 87 (dk_at dksX0_slowest_0 17 rfl rfl)
theorem dX0_slowest_20 : decode cX0_slowest 20 = .ok (.ifCond .ne 29, 3) := dk_154 0 29 (dk_at dksX0_slowest_0 20 rfl rfl)
theorem dX0_slowest_23 : decode cX0_slowest 23 = .ok (.iload_n 1, 1) := dk_27 (dk_at dksX0_slowest_0 23 rfl rfl)
theorem dX0_slowest_24 : decode cX0_slowest 24 = .ok (.iconst (-1), 1) := dk_2 (dk_at dksX0_slowest_1 0 rfl rfl)
theorem dX0_slowest_25 : decode cX0_slowest 25 = .ok (.if_icmp .eq 22, 3) := dk_159 0 22 (dk_at dksX0_slowest_1 1 rfl rfl)
theorem dX0_slowest_28 : decode cX0_slowest 28 = .ok (.aload_n 0, 1) := dk_42 (dk_at dksX0_slowest_1 4 rfl rfl)
theorem dX0_slowest_29 : decode cX0_slowest 29 = .ok (.getfield 152, 3) := dk_180 0 152 (dk_at dksX0_slowest_1 5 rfl rfl)
theorem dX0_slowest_32 : decode cX0_slowest 32 = .ok (.iload_n 2, 1) := dk_28 (dk_at dksX0_slowest_1 8 rfl rfl)
theorem dX0_slowest_33 : decode cX0_slowest 33 = .ok (.invokevirtual 465, 3) := dk_182 1 209 (dk_at dksX0_slowest_1 9 rfl rfl)
theorem dX0_slowest_36 : decode cX0_slowest 36 = .ok (.aload_n 0, 1) := dk_42 (dk_at dksX0_slowest_1 12 rfl rfl)
theorem dX0_slowest_37 : decode cX0_slowest 37 = .ok (.getfield 152, 3) := dk_180 0 152 (dk_at dksX0_slowest_1 13 rfl rfl)
theorem dX0_slowest_40 : decode cX0_slowest 40 = .ok (.iload_n 1, 1) := dk_27 (dk_at dksX0_slowest_1 16 rfl rfl)
theorem dX0_slowest_41 : decode cX0_slowest 41 = .ok (.invokevirtual 465, 3) := dk_182 1 209 (dk_at dksX0_slowest_1 17 rfl rfl)
theorem dX0_slowest_44 : decode cX0_slowest 44 = .ok (.if_icmp .ge 5, 3) := dk_162 0 5 (dk_at dksX0_slowest_1 20 rfl rfl)
theorem dX0_slowest_47 : decode cX0_slowest 47 = .ok (.iload_n 2, 1) := dk_28 (dk_at dksX0_slowest_1 23 rfl rfl)
theorem dX0_slowest_48 : decode cX0_slowest 48 = .ok (.istore_n 1, 1) := dk_60 (dk_at dksX0_slowest_2 0 rfl rfl)
theorem dX0_slowest_49 : decode cX0_slowest 49 = .ok (.iinc 2 1, 3) := dk_132 2 1 (dk_at dksX0_slowest_2 1 rfl rfl)
theorem dX0_slowest_52 : decode cX0_slowest 52 = .ok (.goto (-48), 3) := dk_167 255 208 (dk_at dksX0_slowest_2 4 rfl rfl)
theorem dX0_slowest_55 : decode cX0_slowest 55 = .ok (.iload_n 1, 1) := dk_27 (dk_at dksX0_slowest_2 7 rfl rfl)
theorem dX0_slowest_56 : decode cX0_slowest 56 = .ok (.ireturn, 1) := dk_172 (dk_at dksX0_slowest_2 8 rfl rfl)
abbrev cX0_game : ByteArray := prog_1_method_98_code
def yX0_game : MethodName := ⟨RX0, "game", "(I)I"⟩
def dkwX0_game_4 : List UInt8 := [29, 167, 0, 5, 21, 4, 172, 132, 4, 1, 167, 255, 205, 132, 3, 1, 167, 255, 188, 2, 172]
abbrev dktX0_game_4 : List UInt8 := dkwX0_game_4 ++ []
def dkwX0_game_3 : List UInt8 := [182, 2, 90, 7, 112, 130, 42, 29, 182, 2, 90, 21, 4, 100, 7, 112, 130, 154, 0, 14, 27, 154, 0, 7]
abbrev dktX0_game_3 : List UInt8 := dkwX0_game_3 ++ dktX0_game_4
def dkwX0_game_2 : List UInt8 := [162, 0, 66, 4, 54, 4, 21, 4, 6, 42, 29, 182, 2, 90, 184, 0, 1, 163, 0, 43, 28, 42, 29]
abbrev dktX0_game_2 : List UInt8 := dkwX0_game_2 ++ dktX0_game_3
def dkwX0_game_1 : List UInt8 := [42, 29, 182, 2, 90, 7, 112, 130, 61, 132, 3, 1, 167, 255, 235, 3, 62, 29, 42, 180, 1, 90]
abbrev dktX0_game_1 : List UInt8 := dkwX0_game_1 ++ dktX0_game_2
def dkwX0_game_0 : List UInt8 := [27, 3, 4, 184, 0, 188, 154, 0, 5, 2, 172, 3, 61, 3, 62, 29, 42, 180, 1, 90, 162, 0, 19, 28]
abbrev dktX0_game_0 : List UInt8 := dkwX0_game_0 ++ dktX0_game_1
theorem dksX0_game_0 : cX0_game.data.toList.drop 0 = dktX0_game_0 := by decide +kernel
theorem dksX0_game_1 : cX0_game.data.toList.drop 24 = dktX0_game_1 := dk_seg dksX0_game_0 24 rfl rfl
theorem dksX0_game_2 : cX0_game.data.toList.drop 46 = dktX0_game_2 := dk_seg dksX0_game_1 22 rfl rfl
theorem dksX0_game_3 : cX0_game.data.toList.drop 69 = dktX0_game_3 := dk_seg dksX0_game_2 23 rfl rfl
theorem dksX0_game_4 : cX0_game.data.toList.drop 93 = dktX0_game_4 := dk_seg dksX0_game_3 24 rfl rfl
theorem dX0_game_0 : decode cX0_game 0 = .ok (.iload_n 1, 1) := dk_27 (dk_at dksX0_game_0 0 rfl rfl)
theorem dX0_game_1 : decode cX0_game 1 = .ok (.iconst 0, 1) := dk_3 (dk_at dksX0_game_0 1 rfl rfl)
theorem dX0_game_2 : decode cX0_game 2 = .ok (.iconst 1, 1) := dk_4 (dk_at dksX0_game_0 2 rfl rfl)
theorem dX0_game_3 : decode cX0_game 3 = .ok (.invokestatic 188, 3) := dk_184 0 188 (dk_at dksX0_game_0 3 rfl rfl)
theorem dX0_game_6 : decode cX0_game 6 = .ok (.ifCond .ne 5, 3) := dk_154 0 5 (dk_at dksX0_game_0 6 rfl rfl)
theorem dX0_game_9 : decode cX0_game 9 = .ok (.iconst (-1), 1) := dk_2 (dk_at dksX0_game_0 9 rfl rfl)
theorem dX0_game_10 : decode cX0_game 10 = .ok (.ireturn, 1) := dk_172 (dk_at dksX0_game_0 10 rfl rfl)
theorem dX0_game_11 : decode cX0_game 11 = .ok (.iconst 0, 1) := dk_3 (dk_at dksX0_game_0 11 rfl rfl)
theorem dX0_game_12 : decode cX0_game 12 = .ok (.istore_n 2, 1) := dk_61 (dk_at dksX0_game_0 12 rfl rfl)
theorem dX0_game_13 : decode cX0_game 13 = .ok (.iconst 0, 1) := dk_3 (dk_at dksX0_game_0 13 rfl rfl)
theorem dX0_game_14 : decode cX0_game 14 = .ok (.istore_n 3, 1) := dk_62 (dk_at dksX0_game_0 14 rfl rfl)
theorem dX0_game_15 : decode cX0_game 15 = .ok (.iload_n 3, 1) := dk_29 (dk_at dksX0_game_0 15 rfl rfl)
theorem dX0_game_16 : decode cX0_game 16 = .ok (.aload_n 0, 1) := dk_42 (dk_at dksX0_game_0 16 rfl rfl)
theorem dX0_game_17 : decode cX0_game 17 = .ok (.getfield 346, 3) := dk_180 1 90 (dk_at dksX0_game_0 17 rfl rfl)
theorem dX0_game_20 : decode cX0_game 20 = .ok (.if_icmp .ge 19, 3) := dk_162 0 19 (dk_at dksX0_game_0 20 rfl rfl)
theorem dX0_game_23 : decode cX0_game 23 = .ok (.iload_n 2, 1) := dk_28 (dk_at dksX0_game_0 23 rfl rfl)
theorem dX0_game_24 : decode cX0_game 24 = .ok (.aload_n 0, 1) := dk_42 (dk_at dksX0_game_1 0 rfl rfl)
theorem dX0_game_25 : decode cX0_game 25 = .ok (.iload_n 3, 1) := dk_29 (dk_at dksX0_game_1 1 rfl rfl)
theorem dX0_game_26 : decode cX0_game 26 = .ok (.invokevirtual 602, 3) := dk_182 2 90 (dk_at dksX0_game_1 2 rfl rfl)
theorem dX0_game_29 : decode cX0_game 29 = .ok (.iconst 4, 1) := dk_7 (dk_at dksX0_game_1 5 rfl rfl)
theorem dX0_game_30 : decode cX0_game 30 = .ok (.irem, 1) := dk_112 (dk_at dksX0_game_1 6 rfl rfl)
theorem dX0_game_31 : decode cX0_game 31 = .ok (.ixor, 1) := dk_130 (dk_at dksX0_game_1 7 rfl rfl)
theorem dX0_game_32 : decode cX0_game 32 = .ok (.istore_n 2, 1) := dk_61 (dk_at dksX0_game_1 8 rfl rfl)
theorem dX0_game_33 : decode cX0_game 33 = .ok (.iinc 3 1, 3) := dk_132 3 1 (dk_at dksX0_game_1 9 rfl rfl)
theorem dX0_game_36 : decode cX0_game 36 = .ok (.goto (-21), 3) := dk_167 255 235 (dk_at dksX0_game_1 12 rfl rfl)
theorem dX0_game_39 : decode cX0_game 39 = .ok (.iconst 0, 1) := dk_3 (dk_at dksX0_game_1 15 rfl rfl)
theorem dX0_game_40 : decode cX0_game 40 = .ok (.istore_n 3, 1) := dk_62 (dk_at dksX0_game_1 16 rfl rfl)
theorem dX0_game_41 : decode cX0_game 41 = .ok (.iload_n 3, 1) := dk_29 (dk_at dksX0_game_1 17 rfl rfl)
theorem dX0_game_42 : decode cX0_game 42 = .ok (.aload_n 0, 1) := dk_42 (dk_at dksX0_game_1 18 rfl rfl)
theorem dX0_game_43 : decode cX0_game 43 = .ok (.getfield 346, 3) := dk_180 1 90 (dk_at dksX0_game_1 19 rfl rfl)
theorem dX0_game_46 : decode cX0_game 46 = .ok (.if_icmp .ge 66, 3) := dk_162 0 66 (dk_at dksX0_game_2 0 rfl rfl)
theorem dX0_game_49 : decode cX0_game 49 = .ok (.iconst 1, 1) := dk_4 (dk_at dksX0_game_2 3 rfl rfl)
theorem dX0_game_50 : decode cX0_game 50 = .ok (.istore 4, 2) := dk_54 4 (dk_at dksX0_game_2 4 rfl rfl)
theorem dX0_game_52 : decode cX0_game 52 = .ok (.iload 4, 2) := dk_21 4 (dk_at dksX0_game_2 6 rfl rfl)
theorem dX0_game_54 : decode cX0_game 54 = .ok (.iconst 3, 1) := dk_6 (dk_at dksX0_game_2 8 rfl rfl)
theorem dX0_game_55 : decode cX0_game 55 = .ok (.aload_n 0, 1) := dk_42 (dk_at dksX0_game_2 9 rfl rfl)
theorem dX0_game_56 : decode cX0_game 56 = .ok (.iload_n 3, 1) := dk_29 (dk_at dksX0_game_2 10 rfl rfl)
theorem dX0_game_57 : decode cX0_game 57 = .ok (.invokevirtual 602, 3) := dk_182 2 90 (dk_at dksX0_game_2 11 rfl rfl)
theorem dX0_game_60 : decode cX0_game 60 = .ok (.invokestatic 1, 3) := dk_184 0 1 (dk_at dksX0_game_2 14 rfl rfl)
theorem dX0_game_63 : decode cX0_game 63 = .ok (.if_icmp .gt 43, 3) := dk_163 0 43 (dk_at dksX0_game_2 17 rfl rfl)
theorem dX0_game_66 : decode cX0_game 66 = .ok (.iload_n 2, 1) := dk_28 (dk_at dksX0_game_2 20 rfl rfl)
theorem dX0_game_67 : decode cX0_game 67 = .ok (.aload_n 0, 1) := dk_42 (dk_at dksX0_game_2 21 rfl rfl)
theorem dX0_game_68 : decode cX0_game 68 = .ok (.iload_n 3, 1) := dk_29 (dk_at dksX0_game_2 22 rfl rfl)
theorem dX0_game_69 : decode cX0_game 69 = .ok (.invokevirtual 602, 3) := dk_182 2 90 (dk_at dksX0_game_3 0 rfl rfl)
theorem dX0_game_72 : decode cX0_game 72 = .ok (.iconst 4, 1) := dk_7 (dk_at dksX0_game_3 3 rfl rfl)
theorem dX0_game_73 : decode cX0_game 73 = .ok (.irem, 1) := dk_112 (dk_at dksX0_game_3 4 rfl rfl)
theorem dX0_game_74 : decode cX0_game 74 = .ok (.ixor, 1) := dk_130 (dk_at dksX0_game_3 5 rfl rfl)
theorem dX0_game_75 : decode cX0_game 75 = .ok (.aload_n 0, 1) := dk_42 (dk_at dksX0_game_3 6 rfl rfl)
theorem dX0_game_76 : decode cX0_game 76 = .ok (.iload_n 3, 1) := dk_29 (dk_at dksX0_game_3 7 rfl rfl)
theorem dX0_game_77 : decode cX0_game 77 = .ok (.invokevirtual 602, 3) := dk_182 2 90 (dk_at dksX0_game_3 8 rfl rfl)
theorem dX0_game_80 : decode cX0_game 80 = .ok (.iload 4, 2) := dk_21 4 (dk_at dksX0_game_3 11 rfl rfl)
theorem dX0_game_82 : decode cX0_game 82 = .ok (.isub, 1) := dk_100 (dk_at dksX0_game_3 13 rfl rfl)
theorem dX0_game_83 : decode cX0_game 83 = .ok (.iconst 4, 1) := dk_7 (dk_at dksX0_game_3 14 rfl rfl)
theorem dX0_game_84 : decode cX0_game 84 = .ok (.irem, 1) := dk_112 (dk_at dksX0_game_3 15 rfl rfl)
theorem dX0_game_85 : decode cX0_game 85 = .ok (.ixor, 1) := dk_130 (dk_at dksX0_game_3 16 rfl rfl)
theorem dX0_game_86 : decode cX0_game 86 = .ok (.ifCond .ne 14, 3) := dk_154 0 14 (dk_at dksX0_game_3 17 rfl rfl)
theorem dX0_game_89 : decode cX0_game 89 = .ok (.iload_n 1, 1) := dk_27 (dk_at dksX0_game_3 20 rfl rfl)
theorem dX0_game_90 : decode cX0_game 90 = .ok (.ifCond .ne 7, 3) := dk_154 0 7 (dk_at dksX0_game_3 21 rfl rfl)
theorem dX0_game_93 : decode cX0_game 93 = .ok (.iload_n 3, 1) := dk_29 (dk_at dksX0_game_4 0 rfl rfl)
theorem dX0_game_94 : decode cX0_game 94 = .ok (.goto 5, 3) := dk_167 0 5 (dk_at dksX0_game_4 1 rfl rfl)
theorem dX0_game_97 : decode cX0_game 97 = .ok (.iload 4, 2) := dk_21 4 (dk_at dksX0_game_4 4 rfl rfl)
theorem dX0_game_99 : decode cX0_game 99 = .ok (.ireturn, 1) := dk_172 (dk_at dksX0_game_4 6 rfl rfl)
theorem dX0_game_100 : decode cX0_game 100 = .ok (.iinc 4 1, 3) := dk_132 4 1 (dk_at dksX0_game_4 7 rfl rfl)
theorem dX0_game_103 : decode cX0_game 103 = .ok (.goto (-51), 3) := dk_167 255 205 (dk_at dksX0_game_4 10 rfl rfl)
theorem dX0_game_106 : decode cX0_game 106 = .ok (.iinc 3 1, 3) := dk_132 3 1 (dk_at dksX0_game_4 13 rfl rfl)
theorem dX0_game_109 : decode cX0_game 109 = .ok (.goto (-68), 3) := dk_167 255 188 (dk_at dksX0_game_4 16 rfl rfl)
theorem dX0_game_112 : decode cX0_game 112 = .ok (.iconst (-1), 1) := dk_2 (dk_at dksX0_game_4 19 rfl rfl)
theorem dX0_game_113 : decode cX0_game 113 = .ok (.ireturn, 1) := dk_172 (dk_at dksX0_game_4 20 rfl rfl)
abbrev cX0_heapOf : ByteArray := prog_1_method_97_code
def yX0_heapOf : MethodName := ⟨RX0, "heapOf", "(I)I"⟩
def dkwX0_heapOf_1 : List UInt8 := [172]
abbrev dktX0_heapOf_1 : List UInt8 := dkwX0_heapOf_1 ++ []
def dkwX0_heapOf_0 : List UInt8 := [42, 180, 0, 152, 27, 182, 2, 87, 153, 0, 7, 3, 167, 0, 12, 42, 180, 0, 152, 180, 1, 154, 27, 46]
abbrev dktX0_heapOf_0 : List UInt8 := dkwX0_heapOf_0 ++ dktX0_heapOf_1
theorem dksX0_heapOf_0 : cX0_heapOf.data.toList.drop 0 = dktX0_heapOf_0 := by decide +kernel
theorem dksX0_heapOf_1 : cX0_heapOf.data.toList.drop 24 = dktX0_heapOf_1 := dk_seg dksX0_heapOf_0 24 rfl rfl
theorem dX0_heapOf_0 : decode cX0_heapOf 0 = .ok (.aload_n 0, 1) := dk_42 (dk_at dksX0_heapOf_0 0 rfl rfl)
theorem dX0_heapOf_1 : decode cX0_heapOf 1 = .ok (.getfield 152, 3) := dk_180 0 152 (dk_at dksX0_heapOf_0 1 rfl rfl)
theorem dX0_heapOf_4 : decode cX0_heapOf 4 = .ok (.iload_n 1, 1) := dk_27 (dk_at dksX0_heapOf_0 4 rfl rfl)
theorem dX0_heapOf_5 : decode cX0_heapOf 5 = .ok (.invokevirtual 599, 3) := dk_182 2 87 (dk_at dksX0_heapOf_0 5 rfl rfl)
theorem dX0_heapOf_8 : decode cX0_heapOf 8 = .ok (.ifCond .eq 7, 3) := dk_153 0 7 (dk_at dksX0_heapOf_0 8 rfl rfl)
theorem dX0_heapOf_11 : decode cX0_heapOf 11 = .ok (.iconst 0, 1) := dk_3 (dk_at dksX0_heapOf_0 11 rfl rfl)
theorem dX0_heapOf_12 : decode cX0_heapOf 12 = .ok (.goto 12, 3) := dk_167 0 12 (dk_at dksX0_heapOf_0 12 rfl rfl)
theorem dX0_heapOf_15 : decode cX0_heapOf 15 = .ok (.aload_n 0, 1) := dk_42 (dk_at dksX0_heapOf_0 15 rfl rfl)
theorem dX0_heapOf_16 : decode cX0_heapOf 16 = .ok (.getfield 152, 3) := dk_180 0 152 (dk_at dksX0_heapOf_0 16 rfl rfl)
theorem dX0_heapOf_19 : decode cX0_heapOf 19 = .ok (.getfield 410, 3) := dk_180 1 154 (dk_at dksX0_heapOf_0 19 rfl rfl)
theorem dX0_heapOf_22 : decode cX0_heapOf 22 = .ok (.iload_n 1, 1) := dk_27 (dk_at dksX0_heapOf_0 22 rfl rfl)
theorem dX0_heapOf_23 : decode cX0_heapOf 23 = .ok (.iaload, 1) := dk_46 (dk_at dksX0_heapOf_0 23 rfl rfl)
theorem dX0_heapOf_24 : decode cX0_heapOf 24 = .ok (.ireturn, 1) := dk_172 (dk_at dksX0_heapOf_1 0 rfl rfl)
abbrev cX0_image : ByteArray := prog_1_method_101_code
def yX0_image : MethodName := ⟨RX0, "image", "(Z)Z"⟩
def dkwX0_image_1 : List UInt8 := [42, 182, 2, 115, 4, 172]
abbrev dktX0_image_1 : List UInt8 := dkwX0_image_1 ++ []
def dkwX0_image_0 : List UInt8 := [27, 154, 0, 12, 42, 180, 2, 109, 199, 0, 5, 3, 172, 27, 153, 0, 10, 42, 182, 2, 112, 167, 0, 7]
abbrev dktX0_image_0 : List UInt8 := dkwX0_image_0 ++ dktX0_image_1
theorem dksX0_image_0 : cX0_image.data.toList.drop 0 = dktX0_image_0 := by decide +kernel
theorem dksX0_image_1 : cX0_image.data.toList.drop 24 = dktX0_image_1 := dk_seg dksX0_image_0 24 rfl rfl
theorem dX0_image_0 : decode cX0_image 0 = .ok (.iload_n 1, 1) := dk_27 (dk_at dksX0_image_0 0 rfl rfl)
theorem dX0_image_1 : decode cX0_image 1 = .ok (.ifCond .ne 12, 3) := dk_154 0 12 (dk_at dksX0_image_0 1 rfl rfl)
theorem dX0_image_4 : decode cX0_image 4 = .ok (.aload_n 0, 1) := dk_42 (dk_at dksX0_image_0 4 rfl rfl)
theorem dX0_image_5 : decode cX0_image 5 = .ok (.getfield 621, 3) := dk_180 2 109 (dk_at dksX0_image_0 5 rfl rfl)
theorem dX0_image_8 : decode cX0_image 8 = .ok (.ifnonnull 5, 3) := dk_199 0 5 (dk_at dksX0_image_0 8 rfl rfl)
theorem dX0_image_11 : decode cX0_image 11 = .ok (.iconst 0, 1) := dk_3 (dk_at dksX0_image_0 11 rfl rfl)
theorem dX0_image_12 : decode cX0_image 12 = .ok (.ireturn, 1) := dk_172 (dk_at dksX0_image_0 12 rfl rfl)
theorem dX0_image_13 : decode cX0_image 13 = .ok (.iload_n 1, 1) := dk_27 (dk_at dksX0_image_0 13 rfl rfl)
theorem dX0_image_14 : decode cX0_image 14 = .ok (.ifCond .eq 10, 3) := dk_153 0 10 (dk_at dksX0_image_0 14 rfl rfl)
theorem dX0_image_17 : decode cX0_image 17 = .ok (.aload_n 0, 1) := dk_42 (dk_at dksX0_image_0 17 rfl rfl)
theorem dX0_image_18 : decode cX0_image 18 = .ok (.invokevirtual 624, 3) := dk_182 2 112 (dk_at dksX0_image_0 18 rfl rfl)
theorem dX0_image_21 : decode cX0_image 21 = .ok (.goto 7, 3) := dk_167 0 7 (dk_at dksX0_image_0 21 rfl rfl)
theorem dX0_image_24 : decode cX0_image 24 = .ok (.aload_n 0, 1) := dk_42 (dk_at dksX0_image_1 0 rfl rfl)
theorem dX0_image_25 : decode cX0_image 25 = .ok (.invokevirtual 627, 3) := dk_182 2 115 (dk_at dksX0_image_1 1 rfl rfl)
theorem dX0_image_28 : decode cX0_image 28 = .ok (.iconst 1, 1) := dk_4 (dk_at dksX0_image_1 4 rfl rfl)
theorem dX0_image_29 : decode cX0_image 29 = .ok (.ireturn, 1) := dk_172 (dk_at dksX0_image_1 5 rfl rfl)
abbrev cX0_takesAll : ByteArray := prog_1_method_99_code
def yX0_takesAll : MethodName := ⟨RX0, "takesAll", "()V"⟩
def dkwX0_takesAll_2 : List UInt8 := [180, 0, 143, 181, 2, 106, 42, 42, 180, 0, 121, 181, 2, 109, 177]
abbrev dktX0_takesAll_2 : List UInt8 := dkwX0_takesAll_2 ++ []
def dkwX0_takesAll_1 : List UInt8 := [180, 1, 90, 181, 2, 97, 42, 42, 180, 0, 131, 181, 2, 100, 42, 42, 180, 0, 137, 181, 2, 103, 42, 42]
abbrev dktX0_takesAll_1 : List UInt8 := dkwX0_takesAll_1 ++ dktX0_takesAll_2
def dkwX0_takesAll_0 : List UInt8 := [42, 180, 0, 159, 42, 180, 0, 152, 182, 1, 141, 42, 180, 0, 162, 42, 180, 0, 178, 184, 2, 93, 42, 42]
abbrev dktX0_takesAll_0 : List UInt8 := dkwX0_takesAll_0 ++ dktX0_takesAll_1
theorem dksX0_takesAll_0 : cX0_takesAll.data.toList.drop 0 = dktX0_takesAll_0 := by decide +kernel
theorem dksX0_takesAll_1 : cX0_takesAll.data.toList.drop 24 = dktX0_takesAll_1 := dk_seg dksX0_takesAll_0 24 rfl rfl
theorem dksX0_takesAll_2 : cX0_takesAll.data.toList.drop 48 = dktX0_takesAll_2 := dk_seg dksX0_takesAll_1 24 rfl rfl
theorem dX0_takesAll_0 : decode cX0_takesAll 0 = .ok (.aload_n 0, 1) := dk_42 (dk_at dksX0_takesAll_0 0 rfl rfl)
theorem dX0_takesAll_1 : decode cX0_takesAll 1 = .ok (.getfield 159, 3) := dk_180 0 159 (dk_at dksX0_takesAll_0 1 rfl rfl)
theorem dX0_takesAll_4 : decode cX0_takesAll 4 = .ok (.aload_n 0, 1) := dk_42 (dk_at dksX0_takesAll_0 4 rfl rfl)
theorem dX0_takesAll_5 : decode cX0_takesAll 5 = .ok (.getfield 152, 3) := dk_180 0 152 (dk_at dksX0_takesAll_0 5 rfl rfl)
theorem dX0_takesAll_8 : decode cX0_takesAll 8 = .ok (.invokevirtual 397, 3) := dk_182 1 141 (dk_at dksX0_takesAll_0 8 rfl rfl)
theorem dX0_takesAll_11 : decode cX0_takesAll 11 = .ok (.aload_n 0, 1) := dk_42 (dk_at dksX0_takesAll_0 11 rfl rfl)
theorem dX0_takesAll_12 : decode cX0_takesAll 12 = .ok (.getfield 162, 3) := dk_180 0 162 (dk_at dksX0_takesAll_0 12 rfl rfl)
theorem dX0_takesAll_15 : decode cX0_takesAll 15 = .ok (.aload_n 0, 1) := dk_42 (dk_at dksX0_takesAll_0 15 rfl rfl)
theorem dX0_takesAll_16 : decode cX0_takesAll 16 = .ok (.getfield 178, 3) := dk_180 0 178 (dk_at dksX0_takesAll_0 16 rfl rfl)
theorem dX0_takesAll_19 : decode cX0_takesAll 19 = .ok (.invokestatic 605, 3) := dk_184 2 93 (dk_at dksX0_takesAll_0 19 rfl rfl)
theorem dX0_takesAll_22 : decode cX0_takesAll 22 = .ok (.aload_n 0, 1) := dk_42 (dk_at dksX0_takesAll_0 22 rfl rfl)
theorem dX0_takesAll_23 : decode cX0_takesAll 23 = .ok (.aload_n 0, 1) := dk_42 (dk_at dksX0_takesAll_0 23 rfl rfl)
theorem dX0_takesAll_24 : decode cX0_takesAll 24 = .ok (.getfield 346, 3) := dk_180 1 90 (dk_at dksX0_takesAll_1 0 rfl rfl)
theorem dX0_takesAll_27 : decode cX0_takesAll 27 = .ok (.putfield 609, 3) := dk_181 2 97 (dk_at dksX0_takesAll_1 3 rfl rfl)
theorem dX0_takesAll_30 : decode cX0_takesAll 30 = .ok (.aload_n 0, 1) := dk_42 (dk_at dksX0_takesAll_1 6 rfl rfl)
theorem dX0_takesAll_31 : decode cX0_takesAll 31 = .ok (.aload_n 0, 1) := dk_42 (dk_at dksX0_takesAll_1 7 rfl rfl)
theorem dX0_takesAll_32 : decode cX0_takesAll 32 = .ok (.getfield 131, 3) := dk_180 0 131 (dk_at dksX0_takesAll_1 8 rfl rfl)
theorem dX0_takesAll_35 : decode cX0_takesAll 35 = .ok (.putfield 612, 3) := dk_181 2 100 (dk_at dksX0_takesAll_1 11 rfl rfl)
theorem dX0_takesAll_38 : decode cX0_takesAll 38 = .ok (.aload_n 0, 1) := dk_42 (dk_at dksX0_takesAll_1 14 rfl rfl)
theorem dX0_takesAll_39 : decode cX0_takesAll 39 = .ok (.aload_n 0, 1) := dk_42 (dk_at dksX0_takesAll_1 15 rfl rfl)
theorem dX0_takesAll_40 : decode cX0_takesAll 40 = .ok (.getfield 137, 3) := dk_180 0 137 (dk_at dksX0_takesAll_1 16 rfl rfl)
theorem dX0_takesAll_43 : decode cX0_takesAll 43 = .ok (.putfield 615, 3) := dk_181 2 103 (dk_at dksX0_takesAll_1 19 rfl rfl)
theorem dX0_takesAll_46 : decode cX0_takesAll 46 = .ok (.aload_n 0, 1) := dk_42 (dk_at dksX0_takesAll_1 22 rfl rfl)
theorem dX0_takesAll_47 : decode cX0_takesAll 47 = .ok (.aload_n 0, 1) := dk_42 (dk_at dksX0_takesAll_1 23 rfl rfl)
theorem dX0_takesAll_48 : decode cX0_takesAll 48 = .ok (.getfield 143, 3) := dk_180 0 143 (dk_at dksX0_takesAll_2 0 rfl rfl)
theorem dX0_takesAll_51 : decode cX0_takesAll 51 = .ok (.putfield 618, 3) := dk_181 2 106 (dk_at dksX0_takesAll_2 3 rfl rfl)
theorem dX0_takesAll_54 : decode cX0_takesAll 54 = .ok (.aload_n 0, 1) := dk_42 (dk_at dksX0_takesAll_2 6 rfl rfl)
theorem dX0_takesAll_55 : decode cX0_takesAll 55 = .ok (.aload_n 0, 1) := dk_42 (dk_at dksX0_takesAll_2 7 rfl rfl)
theorem dX0_takesAll_56 : decode cX0_takesAll 56 = .ok (.getfield 121, 3) := dk_180 0 121 (dk_at dksX0_takesAll_2 8 rfl rfl)
theorem dX0_takesAll_59 : decode cX0_takesAll 59 = .ok (.putfield 621, 3) := dk_181 2 109 (dk_at dksX0_takesAll_2 11 rfl rfl)
theorem dX0_takesAll_62 : decode cX0_takesAll 62 = .ok (.return_, 1) := dk_177 (dk_at dksX0_takesAll_2 14 rfl rfl)
abbrev cX0_goesBack : ByteArray := prog_1_method_100_code
def yX0_goesBack : MethodName := ⟨RX0, "goesBack", "()V"⟩
def dkwX0_goesBack_2 : List UInt8 := [180, 2, 106, 181, 0, 143, 42, 42, 180, 2, 109, 181, 0, 121, 42, 3, 181, 1, 121, 177]
abbrev dktX0_goesBack_2 : List UInt8 := dkwX0_goesBack_2 ++ []
def dkwX0_goesBack_1 : List UInt8 := [180, 2, 97, 181, 1, 90, 42, 42, 180, 2, 100, 181, 0, 131, 42, 42, 180, 2, 103, 181, 0, 137, 42, 42]
abbrev dktX0_goesBack_1 : List UInt8 := dkwX0_goesBack_1 ++ dktX0_goesBack_2
def dkwX0_goesBack_0 : List UInt8 := [42, 180, 0, 152, 42, 180, 0, 159, 182, 1, 141, 42, 180, 0, 178, 42, 180, 0, 162, 184, 2, 93, 42, 42]
abbrev dktX0_goesBack_0 : List UInt8 := dkwX0_goesBack_0 ++ dktX0_goesBack_1
theorem dksX0_goesBack_0 : cX0_goesBack.data.toList.drop 0 = dktX0_goesBack_0 := by decide +kernel
theorem dksX0_goesBack_1 : cX0_goesBack.data.toList.drop 24 = dktX0_goesBack_1 := dk_seg dksX0_goesBack_0 24 rfl rfl
theorem dksX0_goesBack_2 : cX0_goesBack.data.toList.drop 48 = dktX0_goesBack_2 := dk_seg dksX0_goesBack_1 24 rfl rfl
theorem dX0_goesBack_0 : decode cX0_goesBack 0 = .ok (.aload_n 0, 1) := dk_42 (dk_at dksX0_goesBack_0 0 rfl rfl)
theorem dX0_goesBack_1 : decode cX0_goesBack 1 = .ok (.getfield 152, 3) := dk_180 0 152 (dk_at dksX0_goesBack_0 1 rfl rfl)
theorem dX0_goesBack_4 : decode cX0_goesBack 4 = .ok (.aload_n 0, 1) := dk_42 (dk_at dksX0_goesBack_0 4 rfl rfl)
theorem dX0_goesBack_5 : decode cX0_goesBack 5 = .ok (.getfield 159, 3) := dk_180 0 159 (dk_at dksX0_goesBack_0 5 rfl rfl)
theorem dX0_goesBack_8 : decode cX0_goesBack 8 = .ok (.invokevirtual 397, 3) := dk_182 1 141 (dk_at dksX0_goesBack_0 8 rfl rfl)
theorem dX0_goesBack_11 : decode cX0_goesBack 11 = .ok (.aload_n 0, 1) := dk_42 (dk_at dksX0_goesBack_0 11 rfl rfl)
theorem dX0_goesBack_12 : decode cX0_goesBack 12 = .ok (.getfield 178, 3) := dk_180 0 178 (dk_at dksX0_goesBack_0 12 rfl rfl)
theorem dX0_goesBack_15 : decode cX0_goesBack 15 = .ok (.aload_n 0, 1) := dk_42 (dk_at dksX0_goesBack_0 15 rfl rfl)
theorem dX0_goesBack_16 : decode cX0_goesBack 16 = .ok (.getfield 162, 3) := dk_180 0 162 (dk_at dksX0_goesBack_0 16 rfl rfl)
theorem dX0_goesBack_19 : decode cX0_goesBack 19 = .ok (.invokestatic 605, 3) := dk_184 2 93 (dk_at dksX0_goesBack_0 19 rfl rfl)
theorem dX0_goesBack_22 : decode cX0_goesBack 22 = .ok (.aload_n 0, 1) := dk_42 (dk_at dksX0_goesBack_0 22 rfl rfl)
theorem dX0_goesBack_23 : decode cX0_goesBack 23 = .ok (.aload_n 0, 1) := dk_42 (dk_at dksX0_goesBack_0 23 rfl rfl)
theorem dX0_goesBack_24 : decode cX0_goesBack 24 = .ok (.getfield 609, 3) := dk_180 2 97 (dk_at dksX0_goesBack_1 0 rfl rfl)
theorem dX0_goesBack_27 : decode cX0_goesBack 27 = .ok (.putfield 346, 3) := dk_181 1 90 (dk_at dksX0_goesBack_1 3 rfl rfl)
theorem dX0_goesBack_30 : decode cX0_goesBack 30 = .ok (.aload_n 0, 1) := dk_42 (dk_at dksX0_goesBack_1 6 rfl rfl)
theorem dX0_goesBack_31 : decode cX0_goesBack 31 = .ok (.aload_n 0, 1) := dk_42 (dk_at dksX0_goesBack_1 7 rfl rfl)
theorem dX0_goesBack_32 : decode cX0_goesBack 32 = .ok (.getfield 612, 3) := dk_180 2 100 (dk_at dksX0_goesBack_1 8 rfl rfl)
theorem dX0_goesBack_35 : decode cX0_goesBack 35 = .ok (.putfield 131, 3) := dk_181 0 131 (dk_at dksX0_goesBack_1 11 rfl rfl)
theorem dX0_goesBack_38 : decode cX0_goesBack 38 = .ok (.aload_n 0, 1) := dk_42 (dk_at dksX0_goesBack_1 14 rfl rfl)
theorem dX0_goesBack_39 : decode cX0_goesBack 39 = .ok (.aload_n 0, 1) := dk_42 (dk_at dksX0_goesBack_1 15 rfl rfl)
theorem dX0_goesBack_40 : decode cX0_goesBack 40 = .ok (.getfield 615, 3) := dk_180 2 103 (dk_at dksX0_goesBack_1 16 rfl rfl)
theorem dX0_goesBack_43 : decode cX0_goesBack 43 = .ok (.putfield 137, 3) := dk_181 0 137 (dk_at dksX0_goesBack_1 19 rfl rfl)
theorem dX0_goesBack_46 : decode cX0_goesBack 46 = .ok (.aload_n 0, 1) := dk_42 (dk_at dksX0_goesBack_1 22 rfl rfl)
theorem dX0_goesBack_47 : decode cX0_goesBack 47 = .ok (.aload_n 0, 1) := dk_42 (dk_at dksX0_goesBack_1 23 rfl rfl)
theorem dX0_goesBack_48 : decode cX0_goesBack 48 = .ok (.getfield 618, 3) := dk_180 2 106 (dk_at dksX0_goesBack_2 0 rfl rfl)
theorem dX0_goesBack_51 : decode cX0_goesBack 51 = .ok (.putfield 143, 3) := dk_181 0 143 (dk_at dksX0_goesBack_2 3 rfl rfl)
theorem dX0_goesBack_54 : decode cX0_goesBack 54 = .ok (.aload_n 0, 1) := dk_42 (dk_at dksX0_goesBack_2 6 rfl rfl)
theorem dX0_goesBack_55 : decode cX0_goesBack 55 = .ok (.aload_n 0, 1) := dk_42 (dk_at dksX0_goesBack_2 7 rfl rfl)
theorem dX0_goesBack_56 : decode cX0_goesBack 56 = .ok (.getfield 621, 3) := dk_180 2 109 (dk_at dksX0_goesBack_2 8 rfl rfl)
theorem dX0_goesBack_59 : decode cX0_goesBack 59 = .ok (.putfield 121, 3) := dk_181 0 121 (dk_at dksX0_goesBack_2 11 rfl rfl)
theorem dX0_goesBack_62 : decode cX0_goesBack 62 = .ok (.aload_n 0, 1) := dk_42 (dk_at dksX0_goesBack_2 14 rfl rfl)
theorem dX0_goesBack_63 : decode cX0_goesBack 63 = .ok (.iconst 0, 1) := dk_3 (dk_at dksX0_goesBack_2 15 rfl rfl)
theorem dX0_goesBack_64 : decode cX0_goesBack 64 = .ok (.putfield 377, 3) := dk_181 1 121 (dk_at dksX0_goesBack_2 16 rfl rfl)
theorem dX0_goesBack_67 : decode cX0_goesBack 67 = .ok (.return_, 1) := dk_177 (dk_at dksX0_goesBack_2 19 rfl rfl)
abbrev cX0_look : ByteArray := prog_1_method_103_code
def yX0_look : MethodName := ⟨RX0, "look", "(I)I"⟩
def dkwX0_look_5 : List UInt8 := [190, 172, 42, 180, 0, 137, 190, 172, 42, 180, 0, 143, 190, 172, 42, 180, 1, 121, 172, 2, 172]
abbrev dktX0_look_5 : List UInt8 := dkwX0_look_5 ++ []
def dkwX0_look_4 : List UInt8 := [180, 1, 136, 172, 42, 180, 0, 152, 180, 1, 145, 172, 42, 180, 0, 121, 180, 1, 60, 172, 42, 180, 0, 131]
abbrev dktX0_look_4 : List UInt8 := dkwX0_look_4 ++ dktX0_look_5
def dkwX0_look_3 : List UInt8 := [180, 0, 152, 182, 1, 247, 172, 42, 180, 0, 152, 180, 1, 164, 172, 42, 182, 2, 118, 172, 42, 180, 0, 152]
abbrev dktX0_look_3 : List UInt8 := dkwX0_look_3 ++ dktX0_look_4
def dkwX0_look_2 : List UInt8 := [42, 180, 1, 90, 172, 42, 180, 0, 152, 180, 1, 139, 172, 42, 180, 0, 152, 180, 1, 255, 172, 42]
abbrev dktX0_look_2 : List UInt8 := dkwX0_look_2 ++ dktX0_look_3
def dkwX0_look_1 : List UInt8 := [170, 0, 0, 0, 0, 0, 156, 0, 0, 0, 0, 0, 0, 0, 12, 0, 0, 0, 67, 0, 0, 0, 72, 0, 0, 0, 80, 0, 0, 0, 88, 0, 0, 0, 96, 0, 0, 0, 104, 0, 0, 0, 109, 0, 0, 0, 117, 0, 0, 0, 125, 0, 0, 0, 133, 0, 0, 0, 139, 0, 0, 0, 145, 0, 0, 0, 151]
abbrev dktX0_look_1 : List UInt8 := dkwX0_look_1 ++ dktX0_look_2
def dkwX0_look_0 : List UInt8 := [27]
abbrev dktX0_look_0 : List UInt8 := dkwX0_look_0 ++ dktX0_look_1
theorem dksX0_look_0 : cX0_look.data.toList.drop 0 = dktX0_look_0 := by decide +kernel
theorem dksX0_look_1 : cX0_look.data.toList.drop 1 = dktX0_look_1 := dk_seg dksX0_look_0 1 rfl rfl
theorem dksX0_look_2 : cX0_look.data.toList.drop 68 = dktX0_look_2 := dk_seg dksX0_look_1 67 rfl rfl
theorem dksX0_look_3 : cX0_look.data.toList.drop 90 = dktX0_look_3 := dk_seg dksX0_look_2 22 rfl rfl
theorem dksX0_look_4 : cX0_look.data.toList.drop 114 = dktX0_look_4 := dk_seg dksX0_look_3 24 rfl rfl
theorem dksX0_look_5 : cX0_look.data.toList.drop 138 = dktX0_look_5 := dk_seg dksX0_look_4 24 rfl rfl
theorem dX0_look_0 : decode cX0_look 0 = .ok (.iload_n 1, 1) := dk_27 (dk_at dksX0_look_0 0 rfl rfl)
theorem dX0_look_1 : decode cX0_look 1 = .ok (.tableswitch 156 0 12 #[67, 72, 80, 88, 96, 104, 109, 117, 125, 133, 139, 145, 151], 67) := by decide +kernel
theorem dX0_look_68 : decode cX0_look 68 = .ok (.aload_n 0, 1) := dk_42 (dk_at dksX0_look_2 0 rfl rfl)
theorem dX0_look_69 : decode cX0_look 69 = .ok (.getfield 346, 3) := dk_180 1 90 (dk_at dksX0_look_2 1 rfl rfl)
theorem dX0_look_72 : decode cX0_look 72 = .ok (.ireturn, 1) := dk_172 (dk_at dksX0_look_2 4 rfl rfl)
theorem dX0_look_73 : decode cX0_look 73 = .ok (.aload_n 0, 1) := dk_42 (dk_at dksX0_look_2 5 rfl rfl)
theorem dX0_look_74 : decode cX0_look 74 = .ok (.getfield 152, 3) := dk_180 0 152 (dk_at dksX0_look_2 6 rfl rfl)
theorem dX0_look_77 : decode cX0_look 77 = .ok (.getfield 395, 3) := dk_180 1 139 (dk_at dksX0_look_2 9 rfl rfl)
theorem dX0_look_80 : decode cX0_look 80 = .ok (.ireturn, 1) := dk_172 (dk_at dksX0_look_2 12 rfl rfl)
theorem dX0_look_81 : decode cX0_look 81 = .ok (.aload_n 0, 1) := dk_42 (dk_at dksX0_look_2 13 rfl rfl)
theorem dX0_look_82 : decode cX0_look 82 = .ok (.getfield 152, 3) := dk_180 0 152 (dk_at dksX0_look_2 14 rfl rfl)
theorem dX0_look_85 : decode cX0_look 85 = .ok (.getfield 511, 3) := dk_180 1 255 (dk_at dksX0_look_2 17 rfl rfl)
theorem dX0_look_88 : decode cX0_look 88 = .ok (.ireturn, 1) := dk_172 (dk_at dksX0_look_2 20 rfl rfl)
theorem dX0_look_89 : decode cX0_look 89 = .ok (.aload_n 0, 1) := dk_42 (dk_at dksX0_look_2 21 rfl rfl)
theorem dX0_look_90 : decode cX0_look 90 = .ok (.getfield 152, 3) := dk_180 0 152 (dk_at dksX0_look_3 0 rfl rfl)
theorem dX0_look_93 : decode cX0_look 93 = .ok (.invokevirtual 503, 3) := dk_182 1 247 (dk_at dksX0_look_3 3 rfl rfl)
theorem dX0_look_96 : decode cX0_look 96 = .ok (.ireturn, 1) := dk_172 (dk_at dksX0_look_3 6 rfl rfl)
theorem dX0_look_97 : decode cX0_look 97 = .ok (.aload_n 0, 1) := dk_42 (dk_at dksX0_look_3 7 rfl rfl)
theorem dX0_look_98 : decode cX0_look 98 = .ok (.getfield 152, 3) := dk_180 0 152 (dk_at dksX0_look_3 8 rfl rfl)
theorem dX0_look_101 : decode cX0_look 101 = .ok (.getfield 420, 3) := dk_180 1 164 (dk_at dksX0_look_3 11 rfl rfl)
theorem dX0_look_104 : decode cX0_look 104 = .ok (.ireturn, 1) := dk_172 (dk_at dksX0_look_3 14 rfl rfl)
theorem dX0_look_105 : decode cX0_look 105 = .ok (.aload_n 0, 1) := dk_42 (dk_at dksX0_look_3 15 rfl rfl)
theorem dX0_look_106 : decode cX0_look 106 = .ok (.invokevirtual 630, 3) := dk_182 2 118 (dk_at dksX0_look_3 16 rfl rfl)
theorem dX0_look_109 : decode cX0_look 109 = .ok (.ireturn, 1) := dk_172 (dk_at dksX0_look_3 19 rfl rfl)
theorem dX0_look_110 : decode cX0_look 110 = .ok (.aload_n 0, 1) := dk_42 (dk_at dksX0_look_3 20 rfl rfl)
theorem dX0_look_111 : decode cX0_look 111 = .ok (.getfield 152, 3) := dk_180 0 152 (dk_at dksX0_look_3 21 rfl rfl)
theorem dX0_look_114 : decode cX0_look 114 = .ok (.getfield 392, 3) := dk_180 1 136 (dk_at dksX0_look_4 0 rfl rfl)
theorem dX0_look_117 : decode cX0_look 117 = .ok (.ireturn, 1) := dk_172 (dk_at dksX0_look_4 3 rfl rfl)
theorem dX0_look_118 : decode cX0_look 118 = .ok (.aload_n 0, 1) := dk_42 (dk_at dksX0_look_4 4 rfl rfl)
theorem dX0_look_119 : decode cX0_look 119 = .ok (.getfield 152, 3) := dk_180 0 152 (dk_at dksX0_look_4 5 rfl rfl)
theorem dX0_look_122 : decode cX0_look 122 = .ok (.getfield 401, 3) := dk_180 1 145 (dk_at dksX0_look_4 8 rfl rfl)
theorem dX0_look_125 : decode cX0_look 125 = .ok (.ireturn, 1) := dk_172 (dk_at dksX0_look_4 11 rfl rfl)
theorem dX0_look_126 : decode cX0_look 126 = .ok (.aload_n 0, 1) := dk_42 (dk_at dksX0_look_4 12 rfl rfl)
theorem dX0_look_127 : decode cX0_look 127 = .ok (.getfield 121, 3) := dk_180 0 121 (dk_at dksX0_look_4 13 rfl rfl)
theorem dX0_look_130 : decode cX0_look 130 = .ok (.getfield 316, 3) := dk_180 1 60 (dk_at dksX0_look_4 16 rfl rfl)
theorem dX0_look_133 : decode cX0_look 133 = .ok (.ireturn, 1) := dk_172 (dk_at dksX0_look_4 19 rfl rfl)
theorem dX0_look_134 : decode cX0_look 134 = .ok (.aload_n 0, 1) := dk_42 (dk_at dksX0_look_4 20 rfl rfl)
theorem dX0_look_135 : decode cX0_look 135 = .ok (.getfield 131, 3) := dk_180 0 131 (dk_at dksX0_look_4 21 rfl rfl)
theorem dX0_look_138 : decode cX0_look 138 = .ok (.arraylength, 1) := dk_190 (dk_at dksX0_look_5 0 rfl rfl)
theorem dX0_look_139 : decode cX0_look 139 = .ok (.ireturn, 1) := dk_172 (dk_at dksX0_look_5 1 rfl rfl)
theorem dX0_look_140 : decode cX0_look 140 = .ok (.aload_n 0, 1) := dk_42 (dk_at dksX0_look_5 2 rfl rfl)
theorem dX0_look_141 : decode cX0_look 141 = .ok (.getfield 137, 3) := dk_180 0 137 (dk_at dksX0_look_5 3 rfl rfl)
theorem dX0_look_144 : decode cX0_look 144 = .ok (.arraylength, 1) := dk_190 (dk_at dksX0_look_5 6 rfl rfl)
theorem dX0_look_145 : decode cX0_look 145 = .ok (.ireturn, 1) := dk_172 (dk_at dksX0_look_5 7 rfl rfl)
theorem dX0_look_146 : decode cX0_look 146 = .ok (.aload_n 0, 1) := dk_42 (dk_at dksX0_look_5 8 rfl rfl)
theorem dX0_look_147 : decode cX0_look 147 = .ok (.getfield 143, 3) := dk_180 0 143 (dk_at dksX0_look_5 9 rfl rfl)
theorem dX0_look_150 : decode cX0_look 150 = .ok (.arraylength, 1) := dk_190 (dk_at dksX0_look_5 12 rfl rfl)
theorem dX0_look_151 : decode cX0_look 151 = .ok (.ireturn, 1) := dk_172 (dk_at dksX0_look_5 13 rfl rfl)
theorem dX0_look_152 : decode cX0_look 152 = .ok (.aload_n 0, 1) := dk_42 (dk_at dksX0_look_5 14 rfl rfl)
theorem dX0_look_153 : decode cX0_look 153 = .ok (.getfield 377, 3) := dk_180 1 121 (dk_at dksX0_look_5 15 rfl rfl)
theorem dX0_look_156 : decode cX0_look 156 = .ok (.ireturn, 1) := dk_172 (dk_at dksX0_look_5 18 rfl rfl)
theorem dX0_look_157 : decode cX0_look 157 = .ok (.iconst (-1), 1) := dk_2 (dk_at dksX0_look_5 19 rfl rfl)
theorem dX0_look_158 : decode cX0_look 158 = .ok (.ireturn, 1) := dk_172 (dk_at dksX0_look_5 20 rfl rfl)
abbrev cX0_partMany : ByteArray := prog_1_method_102_code
def yX0_partMany : MethodName := ⟨RX0, "partMany", "()I"⟩
def dkwX0_partMany_1 : List UInt8 := [180, 1, 164, 182, 2, 15, 153, 0, 7, 4, 167, 0, 4, 3, 96, 60, 132, 2, 1, 167, 255, 219, 27, 172]
abbrev dktX0_partMany_1 : List UInt8 := dkwX0_partMany_1 ++ []
def dkwX0_partMany_0 : List UInt8 := [3, 60, 3, 61, 28, 42, 180, 1, 90, 162, 0, 35, 27, 42, 180, 0, 152, 28, 42, 180, 0, 152]
abbrev dktX0_partMany_0 : List UInt8 := dkwX0_partMany_0 ++ dktX0_partMany_1
theorem dksX0_partMany_0 : cX0_partMany.data.toList.drop 0 = dktX0_partMany_0 := by decide +kernel
theorem dksX0_partMany_1 : cX0_partMany.data.toList.drop 22 = dktX0_partMany_1 := dk_seg dksX0_partMany_0 22 rfl rfl
theorem dX0_partMany_0 : decode cX0_partMany 0 = .ok (.iconst 0, 1) := dk_3 (dk_at dksX0_partMany_0 0 rfl rfl)
theorem dX0_partMany_1 : decode cX0_partMany 1 = .ok (.istore_n 1, 1) := dk_60 (dk_at dksX0_partMany_0 1 rfl rfl)
theorem dX0_partMany_2 : decode cX0_partMany 2 = .ok (.iconst 0, 1) := dk_3 (dk_at dksX0_partMany_0 2 rfl rfl)
theorem dX0_partMany_3 : decode cX0_partMany 3 = .ok (.istore_n 2, 1) := dk_61 (dk_at dksX0_partMany_0 3 rfl rfl)
theorem dX0_partMany_4 : decode cX0_partMany 4 = .ok (.iload_n 2, 1) := dk_28 (dk_at dksX0_partMany_0 4 rfl rfl)
theorem dX0_partMany_5 : decode cX0_partMany 5 = .ok (.aload_n 0, 1) := dk_42 (dk_at dksX0_partMany_0 5 rfl rfl)
theorem dX0_partMany_6 : decode cX0_partMany 6 = .ok (.getfield 346, 3) := dk_180 1 90 (dk_at dksX0_partMany_0 6 rfl rfl)
theorem dX0_partMany_9 : decode cX0_partMany 9 = .ok (.if_icmp .ge 35, 3) := dk_162 0 35 (dk_at dksX0_partMany_0 9 rfl rfl)
theorem dX0_partMany_12 : decode cX0_partMany 12 = .ok (.iload_n 1, 1) := dk_27 (dk_at dksX0_partMany_0 12 rfl rfl)
theorem dX0_partMany_13 : decode cX0_partMany 13 = .ok (.aload_n 0, 1) := dk_42 (dk_at dksX0_partMany_0 13 rfl rfl)
theorem dX0_partMany_14 : decode cX0_partMany 14 = .ok (.getfield 152, 3) := dk_180 0 152 (dk_at dksX0_partMany_0 14 rfl rfl)
theorem dX0_partMany_17 : decode cX0_partMany 17 = .ok (.iload_n 2, 1) := dk_28 (dk_at dksX0_partMany_0 17 rfl rfl)
theorem dX0_partMany_18 : decode cX0_partMany 18 = .ok (.aload_n 0, 1) := dk_42 (dk_at dksX0_partMany_0 18 rfl rfl)
theorem dX0_partMany_19 : decode cX0_partMany 19 = .ok (.getfield 152, 3) := dk_180 0 152 (dk_at dksX0_partMany_0 19 rfl rfl)
theorem dX0_partMany_22 : decode cX0_partMany 22 = .ok (.getfield 420, 3) := dk_180 1 164 (dk_at dksX0_partMany_1 0 rfl rfl)
theorem dX0_partMany_25 : decode cX0_partMany 25 = .ok (.invokevirtual 527, 3) := dk_182 2 15 (dk_at dksX0_partMany_1 3 rfl rfl)
theorem dX0_partMany_28 : decode cX0_partMany 28 = .ok (.ifCond .eq 7, 3) := dk_153 0 7 (dk_at dksX0_partMany_1 6 rfl rfl)
theorem dX0_partMany_31 : decode cX0_partMany 31 = .ok (.iconst 1, 1) := dk_4 (dk_at dksX0_partMany_1 9 rfl rfl)
theorem dX0_partMany_32 : decode cX0_partMany 32 = .ok (.goto 4, 3) := dk_167 0 4 (dk_at dksX0_partMany_1 10 rfl rfl)
theorem dX0_partMany_35 : decode cX0_partMany 35 = .ok (.iconst 0, 1) := dk_3 (dk_at dksX0_partMany_1 13 rfl rfl)
theorem dX0_partMany_36 : decode cX0_partMany 36 = .ok (.iadd, 1) := dk_96 (dk_at dksX0_partMany_1 14 rfl rfl)
theorem dX0_partMany_37 : decode cX0_partMany 37 = .ok (.istore_n 1, 1) := dk_60 (dk_at dksX0_partMany_1 15 rfl rfl)
theorem dX0_partMany_38 : decode cX0_partMany 38 = .ok (.iinc 2 1, 3) := dk_132 2 1 (dk_at dksX0_partMany_1 16 rfl rfl)
theorem dX0_partMany_41 : decode cX0_partMany 41 = .ok (.goto (-37), 3) := dk_167 255 219 (dk_at dksX0_partMany_1 19 rfl rfl)
theorem dX0_partMany_44 : decode cX0_partMany 44 = .ok (.iload_n 1, 1) := dk_27 (dk_at dksX0_partMany_1 22 rfl rfl)
theorem dX0_partMany_45 : decode cX0_partMany 45 = .ok (.ireturn, 1) := dk_172 (dk_at dksX0_partMany_1 23 rfl rfl)
theorem q151 : (Jvm.Cond.initialized "TwelveChain") ∈ lw_all := lw_g (lw_at lw_m1 1 rfl) rfl
theorem q178 : (Jvm.Cond.instantiable "TwelveChain" (37 : Nat)) ∈ lw_all := lw_g (lw_at lw_m1 28 rfl) rfl
theorem q180 : (Jvm.Cond.instanceMethod ({ cls := "TwelveChain", name := "<init>", desc := "()V" } : Jvm.MethodName)) ∈ lw_all := lw_g (lw_at lw_m1 30 rfl) rfl
theorem q181 : (Jvm.Cond.code ({ cls := "TwelveChain", name := "<init>", desc := "()V" } : Jvm.MethodName) prog_1_method_8_code (1 : Nat) (Option.none : Option Jvm.ClassFile.FieldType)) ∈ lw_all := lw_g (lw_at lw_m1 31 rfl) rfl
theorem q182 : (Jvm.Cond.methodLink "TwelveChain" (30 : Nat) ({ cls := "java/lang/Object", name := "<init>", desc := "()V" } : Jvm.MethodName)) ∈ lw_all := lw_g (lw_at lw_m1 32 rfl) rfl
theorem q185 : (Jvm.Cond.classLink "TwelveChain" (40 : Nat) "[Ljava/lang/String;") ∈ lw_all := lw_g (lw_at lw_m1 35 rfl) rfl
theorem q188 : (Jvm.Cond.classLink "TwelveChain" (42 : Nat) "java/lang/String") ∈ lw_all := lw_g (lw_at lw_m1 38 rfl) rfl
theorem q189 : (Jvm.Cond.stringRef "TwelveChain" (44 : Nat) "ready") ∈ lw_tbl := lw_at lw_m1 39 rfl
theorem q190 : (Jvm.Cond.stringRef "TwelveChain" (46 : Nat) "leave") ∈ lw_tbl := lw_at lw_m1 40 rfl
theorem q191 : (Jvm.Cond.stringRef "TwelveChain" (48 : Nat) "give") ∈ lw_tbl := lw_at lw_m1 41 rfl
theorem q192 : (Jvm.Cond.stringRef "TwelveChain" (50 : Nat) "cost") ∈ lw_tbl := lw_at lw_m1 42 rfl
theorem q193 : (Jvm.Cond.stringRef "TwelveChain" (52 : Nat) "ask") ∈ lw_tbl := lw_at lw_m1 43 rfl
theorem q194 : (Jvm.Cond.stringRef "TwelveChain" (54 : Nat) "bridge") ∈ lw_tbl := lw_at lw_m1 44 rfl
theorem q195 : (Jvm.Cond.stringRef "TwelveChain" (56 : Nat) "pay") ∈ lw_tbl := lw_at lw_m1 45 rfl
theorem q196 : (Jvm.Cond.stringRef "TwelveChain" (58 : Nat) "paper") ∈ lw_tbl := lw_at lw_m1 46 rfl
theorem q197 : (Jvm.Cond.stringRef "TwelveChain" (60 : Nat) "on") ∈ lw_tbl := lw_at lw_m1 47 rfl
theorem q198 : (Jvm.Cond.stringRef "TwelveChain" (62 : Nat) "link") ∈ lw_tbl := lw_at lw_m1 48 rfl
theorem q199 : (Jvm.Cond.stringRef "TwelveChain" (64 : Nat) "from") ∈ lw_tbl := lw_at lw_m1 49 rfl
theorem q200 : (Jvm.Cond.stringRef "TwelveChain" (66 : Nat) "to") ∈ lw_tbl := lw_at lw_m1 50 rfl
theorem q201 : (Jvm.Cond.stringRef "TwelveChain" (68 : Nat) "day") ∈ lw_tbl := lw_at lw_m1 51 rfl
theorem q202 : (Jvm.Cond.stringRef "TwelveChain" (74 : Nat) "price") ∈ lw_tbl := lw_at lw_m1 52 rfl
theorem q203 : (Jvm.Cond.stringRef "TwelveChain" (76 : Nat) "purse") ∈ lw_tbl := lw_at lw_m1 53 rfl
theorem q204 : (Jvm.Cond.stringRef "TwelveChain" (78 : Nat) "worth") ∈ lw_tbl := lw_at lw_m1 54 rfl
theorem q205 : (Jvm.Cond.stringRef "TwelveChain" (80 : Nat) "slow") ∈ lw_tbl := lw_at lw_m1 55 rfl
theorem q206 : (Jvm.Cond.stringRef "TwelveChain" (82 : Nat) "links") ∈ lw_tbl := lw_at lw_m1 56 rfl
theorem q207 : (Jvm.Cond.stringRef "TwelveChain" (84 : Nat) "bridged") ∈ lw_tbl := lw_at lw_m1 57 rfl
theorem q208 : (Jvm.Cond.stringRef "TwelveChain" (86 : Nat) "lacks") ∈ lw_tbl := lw_at lw_m1 58 rfl
theorem q209 : (Jvm.Cond.stringRef "TwelveChain" (91 : Nat) "when") ∈ lw_tbl := lw_at lw_m1 59 rfl
theorem q210 : (Jvm.Cond.stringRef "TwelveChain" (93 : Nat) "or") ∈ lw_tbl := lw_at lw_m1 60 rfl
theorem q211 : (Jvm.Cond.stringRef "TwelveChain" (95 : Nat) "and") ∈ lw_tbl := lw_at lw_m1 61 rfl
theorem q212 : (Jvm.Cond.stringRef "TwelveChain" (97 : Nat) "not") ∈ lw_tbl := lw_at lw_m1 62 rfl
theorem q213 : (Jvm.Cond.classLink "TwelveChain" (118 : Nat) "TwelveChain$Text") ∈ lw_all := lw_g (lw_at lw_m1 63 rfl) rfl
theorem q215 : (Jvm.Cond.methodLinkNest "TwelveChain" (120 : Nat) ({ cls := "TwelveChain$Text", name := "<init>", desc := "()V" } : Jvm.MethodName) "TwelveChain") ∈ lw_tbl := lw_at lw_m1 65 rfl
theorem q222 : (Jvm.Cond.fieldLink "TwelveChain" (322 : Nat) "TwelveChain$Text" "word" "[I") ∈ lw_all := lw_g (lw_at lw_m1 72 rfl) rfl
theorem q224 : (Jvm.Cond.fieldLink "TwelveChain" (325 : Nat) "TwelveChain$Text" "worth" "[LTwelveChain$Term;") ∈ lw_all := lw_g (lw_at lw_m1 74 rfl) rfl
theorem q226 : (Jvm.Cond.fieldLink "TwelveChain" (328 : Nat) "TwelveChain$Text" "when" "[LTwelveChain$Term;") ∈ lw_all := lw_g (lw_at lw_m1 76 rfl) rfl
theorem q227 : (Jvm.Cond.fieldLink "TwelveChain" (316 : Nat) "TwelveChain$Text" "many" "I") ∈ lw_all := lw_g (lw_at lw_m1 77 rfl) rfl
theorem q239 : (Jvm.Cond.classLink "TwelveChain" (129 : Nat) "TwelveChain$Deed") ∈ lw_all := lw_g (lw_at lw_m1 89 rfl) rfl
theorem q241 : (Jvm.Cond.classLink "TwelveChain" (135 : Nat) "TwelveChain$Phone") ∈ lw_all := lw_g (lw_at lw_m1 91 rfl) rfl
theorem q243 : (Jvm.Cond.classLink "TwelveChain" (141 : Nat) "TwelveChain$Wrote") ∈ lw_all := lw_g (lw_at lw_m1 93 rfl) rfl
theorem q245 : (Jvm.Cond.classLink "TwelveChain" (147 : Nat) "TwelveChain$Chain") ∈ lw_all := lw_g (lw_at lw_m1 95 rfl) rfl
theorem q247 : (Jvm.Cond.methodLinkNest "TwelveChain" (149 : Nat) ({ cls := "TwelveChain$Chain", name := "<init>", desc := "(LTwelveChain;)V" } : Jvm.MethodName) "TwelveChain") ∈ lw_tbl := lw_at lw_m1 97 rfl
theorem q252 : (Jvm.Cond.fieldLink "TwelveChain" (404 : Nat) "TwelveChain$Chain" "price" "[I") ∈ lw_all := lw_g (lw_at lw_m1 102 rfl) rfl
theorem q254 : (Jvm.Cond.fieldLink "TwelveChain" (406 : Nat) "TwelveChain$Chain" "purse" "[I") ∈ lw_all := lw_g (lw_at lw_m1 104 rfl) rfl
theorem q256 : (Jvm.Cond.fieldLink "TwelveChain" (408 : Nat) "TwelveChain$Chain" "worth" "[I") ∈ lw_all := lw_g (lw_at lw_m1 106 rfl) rfl
theorem q258 : (Jvm.Cond.fieldLink "TwelveChain" (410 : Nat) "TwelveChain$Chain" "slow" "[I") ∈ lw_all := lw_g (lw_at lw_m1 108 rfl) rfl
theorem q260 : (Jvm.Cond.fieldLink "TwelveChain" (412 : Nat) "TwelveChain$Chain" "moved" "[I") ∈ lw_all := lw_g (lw_at lw_m1 110 rfl) rfl
theorem q262 : (Jvm.Cond.fieldLink "TwelveChain" (415 : Nat) "TwelveChain$Chain" "ready" "I") ∈ lw_all := lw_g (lw_at lw_m1 112 rfl) rfl
theorem q264 : (Jvm.Cond.fieldLink "TwelveChain" (417 : Nat) "TwelveChain$Chain" "out" "I") ∈ lw_all := lw_g (lw_at lw_m1 114 rfl) rfl
theorem q266 : (Jvm.Cond.fieldLink "TwelveChain" (420 : Nat) "TwelveChain$Chain" "bridged" "I") ∈ lw_all := lw_g (lw_at lw_m1 116 rfl) rfl
theorem q268 : (Jvm.Cond.fieldLink "TwelveChain" (395 : Nat) "TwelveChain$Chain" "day" "I") ∈ lw_all := lw_g (lw_at lw_m1 118 rfl) rfl
theorem q270 : (Jvm.Cond.fieldLink "TwelveChain" (511 : Nat) "TwelveChain$Chain" "falls" "I") ∈ lw_all := lw_g (lw_at lw_m1 120 rfl) rfl
theorem q272 : (Jvm.Cond.fieldLink "TwelveChain" (401 : Nat) "TwelveChain$Chain" "state" "I") ∈ lw_all := lw_g (lw_at lw_m1 122 rfl) rfl
theorem q274 : (Jvm.Cond.fieldLink "TwelveChain" (392 : Nat) "TwelveChain$Chain" "bookMany" "I") ∈ lw_all := lw_g (lw_at lw_m1 124 rfl) rfl
theorem q307 : (Jvm.Cond.fieldLink "TwelveChain" (36 : Nat) "TwelveChain" "tape" "[B") ∈ lw_all := lw_g (lw_at lw_m1 157 rfl) rfl
theorem q308 : (Jvm.Cond.fieldLink "TwelveChain" (181 : Nat) "TwelveChain" "taped" "I") ∈ lw_all := lw_g (lw_at lw_m1 158 rfl) rfl
theorem q309 : (Jvm.Cond.fieldLink "TwelveChain" (70 : Nat) "TwelveChain" "firstWords" "[[Ljava/lang/String;") ∈ lw_all := lw_g (lw_at lw_m1 159 rfl) rfl
theorem q310 : (Jvm.Cond.fieldLink "TwelveChain" (88 : Nat) "TwelveChain" "lawAsked" "[Ljava/lang/String;") ∈ lw_all := lw_g (lw_at lw_m1 160 rfl) rfl
theorem q311 : (Jvm.Cond.fieldLink "TwelveChain" (99 : Nat) "TwelveChain" "others" "[Ljava/lang/String;") ∈ lw_all := lw_g (lw_at lw_m1 161 rfl) rfl
theorem q312 : (Jvm.Cond.fieldLink "TwelveChain" (102 : Nat) "TwelveChain" "nothing" "[Ljava/lang/String;") ∈ lw_all := lw_g (lw_at lw_m1 162 rfl) rfl
theorem q313 : (Jvm.Cond.fieldLink "TwelveChain" (105 : Nat) "TwelveChain" "words" "[Ljava/lang/String;") ∈ lw_all := lw_g (lw_at lw_m1 163 rfl) rfl
theorem q314 : (Jvm.Cond.fieldLink "TwelveChain" (108 : Nat) "TwelveChain" "asked" "[Ljava/lang/String;") ∈ lw_all := lw_g (lw_at lw_m1 164 rfl) rfl
theorem q315 : (Jvm.Cond.fieldLink "TwelveChain" (111 : Nat) "TwelveChain" "joins" "[Ljava/lang/String;") ∈ lw_all := lw_g (lw_at lw_m1 165 rfl) rfl
theorem q316 : (Jvm.Cond.fieldLink "TwelveChain" (208 : Nat) "TwelveChain" "token" "LTwelveChain$Token;") ∈ lw_all := lw_g (lw_at lw_m1 166 rfl) rfl
theorem q317 : (Jvm.Cond.fieldLink "TwelveChain" (196 : Nat) "TwelveChain" "spot" "I") ∈ lw_all := lw_g (lw_at lw_m1 167 rfl) rfl
theorem q318 : (Jvm.Cond.fieldLink "TwelveChain" (199 : Nat) "TwelveChain" "from" "I") ∈ lw_all := lw_g (lw_at lw_m1 168 rfl) rfl
theorem q319 : (Jvm.Cond.fieldLink "TwelveChain" (224 : Nat) "TwelveChain" "value" "I") ∈ lw_all := lw_g (lw_at lw_m1 169 rfl) rfl
theorem q320 : (Jvm.Cond.fieldLink "TwelveChain" (287 : Nat) "TwelveChain" "open" "I") ∈ lw_all := lw_g (lw_at lw_m1 170 rfl) rfl
theorem q321 : (Jvm.Cond.fieldLink "TwelveChain" (380 : Nat) "TwelveChain" "faultKind" "I") ∈ lw_all := lw_g (lw_at lw_m1 171 rfl) rfl
theorem q322 : (Jvm.Cond.fieldLink "TwelveChain" (114 : Nat) "TwelveChain" "faultPlace" "I") ∈ lw_all := lw_g (lw_at lw_m1 172 rfl) rfl
theorem q323 : (Jvm.Cond.fieldLink "TwelveChain" (121 : Nat) "TwelveChain" "law" "LTwelveChain$Text;") ∈ lw_all := lw_g (lw_at lw_m1 173 rfl) rfl
theorem q324 : (Jvm.Cond.fieldLink "TwelveChain" (125 : Nat) "TwelveChain" "lawHas" "[I") ∈ lw_all := lw_g (lw_at lw_m1 174 rfl) rfl
theorem q326 : (Jvm.Cond.fieldLink "TwelveChain" (131 : Nat) "TwelveChain" "plan" "[LTwelveChain$Deed;") ∈ lw_all := lw_g (lw_at lw_m1 176 rfl) rfl
theorem q328 : (Jvm.Cond.fieldLink "TwelveChain" (137 : Nat) "TwelveChain" "phones" "[LTwelveChain$Phone;") ∈ lw_all := lw_g (lw_at lw_m1 178 rfl) rfl
theorem q329 : (Jvm.Cond.fieldLink "TwelveChain" (143 : Nat) "TwelveChain" "records" "[LTwelveChain$Wrote;") ∈ lw_all := lw_g (lw_at lw_m1 179 rfl) rfl
theorem q331 : (Jvm.Cond.fieldLink "TwelveChain" (346 : Nat) "TwelveChain" "many" "I") ∈ lw_all := lw_g (lw_at lw_m1 181 rfl) rfl
theorem q332 : (Jvm.Cond.fieldLink "TwelveChain" (152 : Nat) "TwelveChain" "chain" "LTwelveChain$Chain;") ∈ lw_all := lw_g (lw_at lw_m1 182 rfl) rfl
theorem q333 : (Jvm.Cond.fieldLink "TwelveChain" (156 : Nat) "TwelveChain" "thought" "LTwelveChain$Chain;") ∈ lw_all := lw_g (lw_at lw_m1 183 rfl) rfl
theorem q334 : (Jvm.Cond.fieldLink "TwelveChain" (159 : Nat) "TwelveChain" "kept" "LTwelveChain$Chain;") ∈ lw_all := lw_g (lw_at lw_m1 184 rfl) rfl
theorem q335 : (Jvm.Cond.fieldLink "TwelveChain" (162 : Nat) "TwelveChain" "book" "[I") ∈ lw_all := lw_g (lw_at lw_m1 185 rfl) rfl
theorem q336 : (Jvm.Cond.fieldLink "TwelveChain" (165 : Nat) "TwelveChain" "ahead" "[LTwelveChain$Chain;") ∈ lw_all := lw_g (lw_at lw_m1 186 rfl) rfl
theorem q337 : (Jvm.Cond.fieldLink "TwelveChain" (377 : Nat) "TwelveChain" "undoable" "I") ∈ lw_all := lw_g (lw_at lw_m1 187 rfl) rfl
theorem q338 : (Jvm.Cond.fieldLink "TwelveChain" (169 : Nat) "TwelveChain" "signedAt" "[I") ∈ lw_all := lw_g (lw_at lw_m1 188 rfl) rfl
theorem q339 : (Jvm.Cond.fieldLink "TwelveChain" (172 : Nat) "TwelveChain" "opens" "[I") ∈ lw_all := lw_g (lw_at lw_m1 189 rfl) rfl
theorem q340 : (Jvm.Cond.fieldLink "TwelveChain" (175 : Nat) "TwelveChain" "closes" "[I") ∈ lw_all := lw_g (lw_at lw_m1 190 rfl) rfl
theorem q341 : (Jvm.Cond.fieldLink "TwelveChain" (178 : Nat) "TwelveChain" "keptBook" "[I") ∈ lw_all := lw_g (lw_at lw_m1 191 rfl) rfl
theorem q342 : (Jvm.Cond.fieldLink "TwelveChain" (609 : Nat) "TwelveChain" "keptMany" "I") ∈ lw_all := lw_g (lw_at lw_m1 192 rfl) rfl
theorem q343 : (Jvm.Cond.fieldLink "TwelveChain" (612 : Nat) "TwelveChain" "keptPlan" "[LTwelveChain$Deed;") ∈ lw_all := lw_g (lw_at lw_m1 193 rfl) rfl
theorem q344 : (Jvm.Cond.fieldLink "TwelveChain" (615 : Nat) "TwelveChain" "keptPhones" "[LTwelveChain$Phone;") ∈ lw_all := lw_g (lw_at lw_m1 194 rfl) rfl
theorem q345 : (Jvm.Cond.fieldLink "TwelveChain" (618 : Nat) "TwelveChain" "keptRecords" "[LTwelveChain$Wrote;") ∈ lw_all := lw_g (lw_at lw_m1 195 rfl) rfl
theorem q346 : (Jvm.Cond.fieldLink "TwelveChain" (621 : Nat) "TwelveChain" "keptLaw" "LTwelveChain$Text;") ∈ lw_all := lw_g (lw_at lw_m1 196 rfl) rfl
theorem q347 : (Jvm.Cond.laysFinal "TwelveChain" "TwelveChain" "tape" "[B") ∈ lw_all := lw_g (lw_at lw_m1 197 rfl) rfl
theorem q348 : (Jvm.Cond.soleField "TwelveChain" "tape") ∈ lw_all := lw_g (lw_at lw_m1 198 rfl) rfl
theorem q349 : (Jvm.Cond.lays "TwelveChain" "TwelveChain" "taped" "I") ∈ lw_all := lw_g (lw_at lw_m1 199 rfl) rfl
theorem q350 : (Jvm.Cond.soleField "TwelveChain" "taped") ∈ lw_all := lw_g (lw_at lw_m1 200 rfl) rfl
theorem q351 : (Jvm.Cond.laysFinal "TwelveChain" "TwelveChain" "firstWords" "[[Ljava/lang/String;") ∈ lw_all := lw_g (lw_at lw_m1 201 rfl) rfl
theorem q352 : (Jvm.Cond.soleField "TwelveChain" "firstWords") ∈ lw_all := lw_g (lw_at lw_m1 202 rfl) rfl
theorem q353 : (Jvm.Cond.laysFinal "TwelveChain" "TwelveChain" "lawAsked" "[Ljava/lang/String;") ∈ lw_all := lw_g (lw_at lw_m1 203 rfl) rfl
theorem q354 : (Jvm.Cond.soleField "TwelveChain" "lawAsked") ∈ lw_all := lw_g (lw_at lw_m1 204 rfl) rfl
theorem q355 : (Jvm.Cond.laysFinal "TwelveChain" "TwelveChain" "others" "[Ljava/lang/String;") ∈ lw_all := lw_g (lw_at lw_m1 205 rfl) rfl
theorem q356 : (Jvm.Cond.soleField "TwelveChain" "others") ∈ lw_all := lw_g (lw_at lw_m1 206 rfl) rfl
theorem q357 : (Jvm.Cond.laysFinal "TwelveChain" "TwelveChain" "nothing" "[Ljava/lang/String;") ∈ lw_all := lw_g (lw_at lw_m1 207 rfl) rfl
theorem q358 : (Jvm.Cond.soleField "TwelveChain" "nothing") ∈ lw_all := lw_g (lw_at lw_m1 208 rfl) rfl
theorem q359 : (Jvm.Cond.lays "TwelveChain" "TwelveChain" "words" "[Ljava/lang/String;") ∈ lw_all := lw_g (lw_at lw_m1 209 rfl) rfl
theorem q360 : (Jvm.Cond.soleField "TwelveChain" "words") ∈ lw_all := lw_g (lw_at lw_m1 210 rfl) rfl
theorem q361 : (Jvm.Cond.lays "TwelveChain" "TwelveChain" "asked" "[Ljava/lang/String;") ∈ lw_all := lw_g (lw_at lw_m1 211 rfl) rfl
theorem q362 : (Jvm.Cond.soleField "TwelveChain" "asked") ∈ lw_all := lw_g (lw_at lw_m1 212 rfl) rfl
theorem q363 : (Jvm.Cond.lays "TwelveChain" "TwelveChain" "joins" "[Ljava/lang/String;") ∈ lw_all := lw_g (lw_at lw_m1 213 rfl) rfl
theorem q364 : (Jvm.Cond.soleField "TwelveChain" "joins") ∈ lw_all := lw_g (lw_at lw_m1 214 rfl) rfl
theorem q365 : (Jvm.Cond.lays "TwelveChain" "TwelveChain" "token" "LTwelveChain$Token;") ∈ lw_all := lw_g (lw_at lw_m1 215 rfl) rfl
theorem q366 : (Jvm.Cond.soleField "TwelveChain" "token") ∈ lw_all := lw_g (lw_at lw_m1 216 rfl) rfl
theorem q367 : (Jvm.Cond.lays "TwelveChain" "TwelveChain" "spot" "I") ∈ lw_all := lw_g (lw_at lw_m1 217 rfl) rfl
theorem q368 : (Jvm.Cond.soleField "TwelveChain" "spot") ∈ lw_all := lw_g (lw_at lw_m1 218 rfl) rfl
theorem q369 : (Jvm.Cond.lays "TwelveChain" "TwelveChain" "from" "I") ∈ lw_all := lw_g (lw_at lw_m1 219 rfl) rfl
theorem q370 : (Jvm.Cond.soleField "TwelveChain" "from") ∈ lw_all := lw_g (lw_at lw_m1 220 rfl) rfl
theorem q371 : (Jvm.Cond.lays "TwelveChain" "TwelveChain" "value" "I") ∈ lw_all := lw_g (lw_at lw_m1 221 rfl) rfl
theorem q372 : (Jvm.Cond.soleField "TwelveChain" "value") ∈ lw_all := lw_g (lw_at lw_m1 222 rfl) rfl
theorem q373 : (Jvm.Cond.lays "TwelveChain" "TwelveChain" "open" "I") ∈ lw_all := lw_g (lw_at lw_m1 223 rfl) rfl
theorem q374 : (Jvm.Cond.soleField "TwelveChain" "open") ∈ lw_all := lw_g (lw_at lw_m1 224 rfl) rfl
theorem q375 : (Jvm.Cond.lays "TwelveChain" "TwelveChain" "faultKind" "I") ∈ lw_all := lw_g (lw_at lw_m1 225 rfl) rfl
theorem q376 : (Jvm.Cond.soleField "TwelveChain" "faultKind") ∈ lw_all := lw_g (lw_at lw_m1 226 rfl) rfl
theorem q377 : (Jvm.Cond.lays "TwelveChain" "TwelveChain" "faultPlace" "I") ∈ lw_all := lw_g (lw_at lw_m1 227 rfl) rfl
theorem q378 : (Jvm.Cond.soleField "TwelveChain" "faultPlace") ∈ lw_all := lw_g (lw_at lw_m1 228 rfl) rfl
theorem q379 : (Jvm.Cond.lays "TwelveChain" "TwelveChain" "law" "LTwelveChain$Text;") ∈ lw_all := lw_g (lw_at lw_m1 229 rfl) rfl
theorem q380 : (Jvm.Cond.soleField "TwelveChain" "law") ∈ lw_all := lw_g (lw_at lw_m1 230 rfl) rfl
theorem q381 : (Jvm.Cond.laysFinal "TwelveChain" "TwelveChain" "lawHas" "[I") ∈ lw_all := lw_g (lw_at lw_m1 231 rfl) rfl
theorem q382 : (Jvm.Cond.soleField "TwelveChain" "lawHas") ∈ lw_all := lw_g (lw_at lw_m1 232 rfl) rfl
theorem q383 : (Jvm.Cond.lays "TwelveChain" "TwelveChain" "plan" "[LTwelveChain$Deed;") ∈ lw_all := lw_g (lw_at lw_m1 233 rfl) rfl
theorem q384 : (Jvm.Cond.soleField "TwelveChain" "plan") ∈ lw_all := lw_g (lw_at lw_m1 234 rfl) rfl
theorem q385 : (Jvm.Cond.lays "TwelveChain" "TwelveChain" "phones" "[LTwelveChain$Phone;") ∈ lw_all := lw_g (lw_at lw_m1 235 rfl) rfl
theorem q386 : (Jvm.Cond.soleField "TwelveChain" "phones") ∈ lw_all := lw_g (lw_at lw_m1 236 rfl) rfl
theorem q387 : (Jvm.Cond.lays "TwelveChain" "TwelveChain" "records" "[LTwelveChain$Wrote;") ∈ lw_all := lw_g (lw_at lw_m1 237 rfl) rfl
theorem q388 : (Jvm.Cond.soleField "TwelveChain" "records") ∈ lw_all := lw_g (lw_at lw_m1 238 rfl) rfl
theorem q389 : (Jvm.Cond.lays "TwelveChain" "TwelveChain" "many" "I") ∈ lw_all := lw_g (lw_at lw_m1 239 rfl) rfl
theorem q390 : (Jvm.Cond.soleField "TwelveChain" "many") ∈ lw_all := lw_g (lw_at lw_m2 0 rfl) rfl
theorem q391 : (Jvm.Cond.laysFinal "TwelveChain" "TwelveChain" "chain" "LTwelveChain$Chain;") ∈ lw_all := lw_g (lw_at lw_m2 1 rfl) rfl
theorem q392 : (Jvm.Cond.soleField "TwelveChain" "chain") ∈ lw_all := lw_g (lw_at lw_m2 2 rfl) rfl
theorem q393 : (Jvm.Cond.laysFinal "TwelveChain" "TwelveChain" "thought" "LTwelveChain$Chain;") ∈ lw_all := lw_g (lw_at lw_m2 3 rfl) rfl
theorem q394 : (Jvm.Cond.soleField "TwelveChain" "thought") ∈ lw_all := lw_g (lw_at lw_m2 4 rfl) rfl
theorem q395 : (Jvm.Cond.laysFinal "TwelveChain" "TwelveChain" "kept" "LTwelveChain$Chain;") ∈ lw_all := lw_g (lw_at lw_m2 5 rfl) rfl
theorem q396 : (Jvm.Cond.soleField "TwelveChain" "kept") ∈ lw_all := lw_g (lw_at lw_m2 6 rfl) rfl
theorem q397 : (Jvm.Cond.laysFinal "TwelveChain" "TwelveChain" "book" "[I") ∈ lw_all := lw_g (lw_at lw_m2 7 rfl) rfl
theorem q398 : (Jvm.Cond.soleField "TwelveChain" "book") ∈ lw_all := lw_g (lw_at lw_m2 8 rfl) rfl
theorem q399 : (Jvm.Cond.laysFinal "TwelveChain" "TwelveChain" "ahead" "[LTwelveChain$Chain;") ∈ lw_all := lw_g (lw_at lw_m2 9 rfl) rfl
theorem q400 : (Jvm.Cond.soleField "TwelveChain" "ahead") ∈ lw_all := lw_g (lw_at lw_m2 10 rfl) rfl
theorem q401 : (Jvm.Cond.lays "TwelveChain" "TwelveChain" "undoable" "I") ∈ lw_all := lw_g (lw_at lw_m2 11 rfl) rfl
theorem q402 : (Jvm.Cond.soleField "TwelveChain" "undoable") ∈ lw_all := lw_g (lw_at lw_m2 12 rfl) rfl
theorem q403 : (Jvm.Cond.laysFinal "TwelveChain" "TwelveChain" "signedAt" "[I") ∈ lw_all := lw_g (lw_at lw_m2 13 rfl) rfl
theorem q404 : (Jvm.Cond.soleField "TwelveChain" "signedAt") ∈ lw_all := lw_g (lw_at lw_m2 14 rfl) rfl
theorem q405 : (Jvm.Cond.laysFinal "TwelveChain" "TwelveChain" "opens" "[I") ∈ lw_all := lw_g (lw_at lw_m2 15 rfl) rfl
theorem q406 : (Jvm.Cond.soleField "TwelveChain" "opens") ∈ lw_all := lw_g (lw_at lw_m2 16 rfl) rfl
theorem q407 : (Jvm.Cond.laysFinal "TwelveChain" "TwelveChain" "closes" "[I") ∈ lw_all := lw_g (lw_at lw_m2 17 rfl) rfl
theorem q408 : (Jvm.Cond.soleField "TwelveChain" "closes") ∈ lw_all := lw_g (lw_at lw_m2 18 rfl) rfl
theorem q409 : (Jvm.Cond.laysFinal "TwelveChain" "TwelveChain" "keptBook" "[I") ∈ lw_all := lw_g (lw_at lw_m2 19 rfl) rfl
theorem q410 : (Jvm.Cond.soleField "TwelveChain" "keptBook") ∈ lw_all := lw_g (lw_at lw_m2 20 rfl) rfl
theorem q411 : (Jvm.Cond.lays "TwelveChain" "TwelveChain" "keptMany" "I") ∈ lw_all := lw_g (lw_at lw_m2 21 rfl) rfl
theorem q412 : (Jvm.Cond.soleField "TwelveChain" "keptMany") ∈ lw_all := lw_g (lw_at lw_m2 22 rfl) rfl
theorem q413 : (Jvm.Cond.lays "TwelveChain" "TwelveChain" "keptPlan" "[LTwelveChain$Deed;") ∈ lw_all := lw_g (lw_at lw_m2 23 rfl) rfl
theorem q414 : (Jvm.Cond.soleField "TwelveChain" "keptPlan") ∈ lw_all := lw_g (lw_at lw_m2 24 rfl) rfl
theorem q415 : (Jvm.Cond.lays "TwelveChain" "TwelveChain" "keptPhones" "[LTwelveChain$Phone;") ∈ lw_all := lw_g (lw_at lw_m2 25 rfl) rfl
theorem q416 : (Jvm.Cond.soleField "TwelveChain" "keptPhones") ∈ lw_all := lw_g (lw_at lw_m2 26 rfl) rfl
theorem q417 : (Jvm.Cond.lays "TwelveChain" "TwelveChain" "keptRecords" "[LTwelveChain$Wrote;") ∈ lw_all := lw_g (lw_at lw_m2 27 rfl) rfl
theorem q418 : (Jvm.Cond.soleField "TwelveChain" "keptRecords") ∈ lw_all := lw_g (lw_at lw_m2 28 rfl) rfl
theorem q419 : (Jvm.Cond.lays "TwelveChain" "TwelveChain" "keptLaw" "LTwelveChain$Text;") ∈ lw_all := lw_g (lw_at lw_m2 29 rfl) rfl
theorem q420 : (Jvm.Cond.soleField "TwelveChain" "keptLaw") ∈ lw_all := lw_g (lw_at lw_m2 30 rfl) rfl
theorem q421 : (Jvm.Cond.superclass "TwelveChain" "java/lang/Object") ∈ lw_all := lw_g (lw_at lw_m2 31 rfl) rfl
theorem q423 : (Jvm.Cond.instanceMethod ({ cls := "TwelveChain", name := "feed", desc := "(IIIII)I" } : Jvm.MethodName)) ∈ lw_all := lw_g (lw_at lw_m2 33 rfl) rfl
theorem q424 : (Jvm.Cond.selects "TwelveChain" ({ cls := "TwelveChain", name := "feed", desc := "(IIIII)I" } : Jvm.MethodName) ({ cls := "TwelveChain", name := "feed", desc := "(IIIII)I" } : Jvm.MethodName)) ∈ lw_all := lw_g (lw_at lw_m2 34 rfl) rfl
theorem q425 : (Jvm.Cond.code ({ cls := "TwelveChain", name := "feed", desc := "(IIIII)I" } : Jvm.MethodName) prog_1_method_10_code (6 : Nat) (Option.some Jvm.ClassFile.FieldType.int)) ∈ lw_all := lw_g (lw_at lw_m2 35 rfl) rfl
theorem q426 : (Jvm.Cond.methodLink "TwelveChain" (184 : Nat) ({ cls := "TwelveChain", name := "puts", desc := "(I)V" } : Jvm.MethodName)) ∈ lw_all := lw_g (lw_at lw_m2 36 rfl) rfl
theorem q427 : (Jvm.Cond.privateMethod ({ cls := "TwelveChain", name := "puts", desc := "(I)V" } : Jvm.MethodName)) ∈ lw_tbl := lw_at lw_m2 37 rfl
theorem q428 : (Jvm.Cond.instanceMethod ({ cls := "TwelveChain", name := "puts", desc := "(I)V" } : Jvm.MethodName)) ∈ lw_all := lw_g (lw_at lw_m2 38 rfl) rfl
theorem q429 : (Jvm.Cond.code ({ cls := "TwelveChain", name := "puts", desc := "(I)V" } : Jvm.MethodName) prog_1_method_9_code (3 : Nat) (Option.none : Option Jvm.ClassFile.FieldType)) ∈ lw_all := lw_g (lw_at lw_m2 39 rfl) rfl
theorem q431 : (Jvm.Cond.instanceMethod ({ cls := "TwelveChain", name := "end", desc := "(I)Z" } : Jvm.MethodName)) ∈ lw_all := lw_g (lw_at lw_m2 41 rfl) rfl
theorem q432 : (Jvm.Cond.selects "TwelveChain" ({ cls := "TwelveChain", name := "end", desc := "(I)Z" } : Jvm.MethodName) ({ cls := "TwelveChain", name := "end", desc := "(I)Z" } : Jvm.MethodName)) ∈ lw_all := lw_g (lw_at lw_m2 42 rfl) rfl
theorem q433 : (Jvm.Cond.code ({ cls := "TwelveChain", name := "end", desc := "(I)Z" } : Jvm.MethodName) prog_1_method_11_code (2 : Nat) (Option.some Jvm.ClassFile.FieldType.boolean)) ∈ lw_all := lw_g (lw_at lw_m2 43 rfl) rfl
theorem q434 : (Jvm.Cond.methodLink "TwelveChain" (188 : Nat) ({ cls := "TwelveChain", name := "isIn", desc := "(III)Z" } : Jvm.MethodName)) ∈ lw_all := lw_g (lw_at lw_m2 44 rfl) rfl
theorem q435 : (Jvm.Cond.static ({ cls := "TwelveChain", name := "isIn", desc := "(III)Z" } : Jvm.MethodName)) ∈ lw_all := lw_g (lw_at lw_m2 45 rfl) rfl
theorem q436 : (Jvm.Cond.code ({ cls := "TwelveChain", name := "isIn", desc := "(III)Z" } : Jvm.MethodName) prog_1_method_1_code (3 : Nat) (Option.some Jvm.ClassFile.FieldType.boolean)) ∈ lw_all := lw_g (lw_at lw_m2 46 rfl) rfl
theorem q438 : (Jvm.Cond.instanceMethod ({ cls := "TwelveChain", name := "text", desc := "(I)I" } : Jvm.MethodName)) ∈ lw_all := lw_g (lw_at lw_m2 48 rfl) rfl
theorem q439 : (Jvm.Cond.selects "TwelveChain" ({ cls := "TwelveChain", name := "text", desc := "(I)I" } : Jvm.MethodName) ({ cls := "TwelveChain", name := "text", desc := "(I)I" } : Jvm.MethodName)) ∈ lw_all := lw_g (lw_at lw_m2 49 rfl) rfl
theorem q440 : (Jvm.Cond.codeWith ({ cls := "TwelveChain", name := "text", desc := "(I)I" } : Jvm.MethodName) prog_1_method_40_code (5 : Nat) (Option.some Jvm.ClassFile.FieldType.int) [((10 : Nat), (29 : Nat), (36 : Nat), (252 : Nat)), ((10 : Nat), (29 : Nat), (62 : Nat), (0 : Nat)), ((36 : Nat), (55 : Nat), (62 : Nat), (0 : Nat)), ((62 : Nat), (64 : Nat), (62 : Nat), (0 : Nat))]) ∈ lw_all := lw_g (lw_at lw_m2 50 rfl) rfl
theorem q441 : (Jvm.Cond.classLink "TwelveChain" (252 : Nat) "TwelveChain$Fault") ∈ lw_all := lw_g (lw_at lw_m2 51 rfl) rfl
theorem q442 : (Jvm.Cond.methodLink "TwelveChain" (383 : Nat) ({ cls := "TwelveChain", name := "readsText", desc := "(I)I" } : Jvm.MethodName)) ∈ lw_all := lw_g (lw_at lw_m2 52 rfl) rfl
theorem q443 : (Jvm.Cond.privateMethod ({ cls := "TwelveChain", name := "readsText", desc := "(I)I" } : Jvm.MethodName)) ∈ lw_tbl := lw_at lw_m2 53 rfl
theorem q444 : (Jvm.Cond.instanceMethod ({ cls := "TwelveChain", name := "readsText", desc := "(I)I" } : Jvm.MethodName)) ∈ lw_all := lw_g (lw_at lw_m2 54 rfl) rfl
theorem q445 : (Jvm.Cond.code ({ cls := "TwelveChain", name := "readsText", desc := "(I)I" } : Jvm.MethodName) prog_1_method_39_code (2 : Nat) (Option.some Jvm.ClassFile.FieldType.int)) ∈ lw_all := lw_g (lw_at lw_m2 55 rfl) rfl
theorem q446 : (Jvm.Cond.methodLink "TwelveChain" (358 : Nat) ({ cls := "TwelveChain", name := "openText", desc := "(I)V" } : Jvm.MethodName)) ∈ lw_all := lw_g (lw_at lw_m2 56 rfl) rfl
theorem q447 : (Jvm.Cond.privateMethod ({ cls := "TwelveChain", name := "openText", desc := "(I)V" } : Jvm.MethodName)) ∈ lw_tbl := lw_at lw_m2 57 rfl
theorem q448 : (Jvm.Cond.instanceMethod ({ cls := "TwelveChain", name := "openText", desc := "(I)V" } : Jvm.MethodName)) ∈ lw_all := lw_g (lw_at lw_m2 58 rfl) rfl
theorem q449 : (Jvm.Cond.code ({ cls := "TwelveChain", name := "openText", desc := "(I)V" } : Jvm.MethodName) prog_1_method_38_code (2 : Nat) (Option.none : Option Jvm.ClassFile.FieldType)) ∈ lw_all := lw_g (lw_at lw_m2 59 rfl) rfl
theorem q450 : (Jvm.Cond.methodLink "TwelveChain" (265 : Nat) ({ cls := "TwelveChain", name := "readNext", desc := "()V" } : Jvm.MethodName)) ∈ lw_all := lw_g (lw_at lw_m2 60 rfl) rfl
theorem q451 : (Jvm.Cond.privateMethod ({ cls := "TwelveChain", name := "readNext", desc := "()V" } : Jvm.MethodName)) ∈ lw_tbl := lw_at lw_m2 61 rfl
theorem q452 : (Jvm.Cond.instanceMethod ({ cls := "TwelveChain", name := "readNext", desc := "()V" } : Jvm.MethodName)) ∈ lw_all := lw_g (lw_at lw_m2 62 rfl) rfl
theorem q453 : (Jvm.Cond.code ({ cls := "TwelveChain", name := "readNext", desc := "()V" } : Jvm.MethodName) prog_1_method_19_code (2 : Nat) (Option.none : Option Jvm.ClassFile.FieldType)) ∈ lw_all := lw_g (lw_at lw_m2 63 rfl) rfl
theorem q454 : (Jvm.Cond.methodLink "TwelveChain" (201 : Nat) ({ cls := "TwelveChain", name := "raw", desc := "(I)I" } : Jvm.MethodName)) ∈ lw_all := lw_g (lw_at lw_m2 64 rfl) rfl
theorem q455 : (Jvm.Cond.privateMethod ({ cls := "TwelveChain", name := "raw", desc := "(I)I" } : Jvm.MethodName)) ∈ lw_tbl := lw_at lw_m2 65 rfl
theorem q456 : (Jvm.Cond.instanceMethod ({ cls := "TwelveChain", name := "raw", desc := "(I)I" } : Jvm.MethodName)) ∈ lw_all := lw_g (lw_at lw_m2 66 rfl) rfl
theorem q457 : (Jvm.Cond.code ({ cls := "TwelveChain", name := "raw", desc := "(I)I" } : Jvm.MethodName) prog_1_method_12_code (2 : Nat) (Option.some Jvm.ClassFile.FieldType.int)) ∈ lw_all := lw_g (lw_at lw_m2 67 rfl) rfl
theorem q458 : (Jvm.Cond.fieldLink "TwelveChain" (227 : Nat) "TwelveChain$Token" "END" "LTwelveChain$Token;") ∈ lw_all := lw_g (lw_at lw_m2 68 rfl) rfl
theorem q460 : (Jvm.Cond.fieldLink "TwelveChain" (230 : Nat) "TwelveChain$Token" "NONE" "LTwelveChain$Token;") ∈ lw_all := lw_g (lw_at lw_m2 70 rfl) rfl
theorem q462 : (Jvm.Cond.methodLink "TwelveChain" (233 : Nat) ({ cls := "TwelveChain", name := "isLetter", desc := "(I)Z" } : Jvm.MethodName)) ∈ lw_all := lw_g (lw_at lw_m2 72 rfl) rfl
theorem q463 : (Jvm.Cond.static ({ cls := "TwelveChain", name := "isLetter", desc := "(I)Z" } : Jvm.MethodName)) ∈ lw_all := lw_g (lw_at lw_m2 73 rfl) rfl
theorem q464 : (Jvm.Cond.code ({ cls := "TwelveChain", name := "isLetter", desc := "(I)Z" } : Jvm.MethodName) prog_1_method_13_code (1 : Nat) (Option.some Jvm.ClassFile.FieldType.boolean)) ∈ lw_all := lw_g (lw_at lw_m2 74 rfl) rfl
theorem q465 : (Jvm.Cond.fieldLink "TwelveChain" (212 : Nat) "TwelveChain$Token" "WORD" "LTwelveChain$Token;") ∈ lw_all := lw_g (lw_at lw_m2 75 rfl) rfl
theorem q467 : (Jvm.Cond.methodLink "TwelveChain" (236 : Nat) ({ cls := "TwelveChain", name := "wordOf", desc := "([Ljava/lang/String;)I" } : Jvm.MethodName)) ∈ lw_all := lw_g (lw_at lw_m2 77 rfl) rfl
theorem q468 : (Jvm.Cond.privateMethod ({ cls := "TwelveChain", name := "wordOf", desc := "([Ljava/lang/String;)I" } : Jvm.MethodName)) ∈ lw_tbl := lw_at lw_m2 78 rfl
theorem q469 : (Jvm.Cond.instanceMethod ({ cls := "TwelveChain", name := "wordOf", desc := "([Ljava/lang/String;)I" } : Jvm.MethodName)) ∈ lw_all := lw_g (lw_at lw_m2 79 rfl) rfl
theorem q470 : (Jvm.Cond.code ({ cls := "TwelveChain", name := "wordOf", desc := "([Ljava/lang/String;)I" } : Jvm.MethodName) prog_1_method_16_code (3 : Nat) (Option.some Jvm.ClassFile.FieldType.int)) ∈ lw_all := lw_g (lw_at lw_m2 80 rfl) rfl
theorem q471 : (Jvm.Cond.methodLink "TwelveChain" (217 : Nat) ({ cls := "TwelveChain", name := "spells", desc := "(Ljava/lang/String;)Z" } : Jvm.MethodName)) ∈ lw_all := lw_g (lw_at lw_m2 81 rfl) rfl
theorem q472 : (Jvm.Cond.privateMethod ({ cls := "TwelveChain", name := "spells", desc := "(Ljava/lang/String;)Z" } : Jvm.MethodName)) ∈ lw_tbl := lw_at lw_m2 82 rfl
theorem q473 : (Jvm.Cond.instanceMethod ({ cls := "TwelveChain", name := "spells", desc := "(Ljava/lang/String;)Z" } : Jvm.MethodName)) ∈ lw_all := lw_g (lw_at lw_m2 83 rfl) rfl
theorem q474 : (Jvm.Cond.code ({ cls := "TwelveChain", name := "spells", desc := "(Ljava/lang/String;)Z" } : Jvm.MethodName) prog_1_method_15_code (3 : Nat) (Option.some Jvm.ClassFile.FieldType.boolean)) ∈ lw_all := lw_g (lw_at lw_m2 84 rfl) rfl
theorem q475 : (Jvm.Cond.methodLink "TwelveChain" (192 : Nat) ({ cls := "java/lang/String", name := "length", desc := "()I" } : Jvm.MethodName)) ∈ lw_all := lw_g (lw_at lw_m2 85 rfl) rfl
theorem q485 : (Jvm.Cond.methodLink "TwelveChain" (204 : Nat) ({ cls := "java/lang/String", name := "charAt", desc := "(I)C" } : Jvm.MethodName)) ∈ lw_all := lw_g (lw_at lw_m2 95 rfl) rfl
theorem q523 : (Jvm.Cond.methodLink "TwelveChain" (240 : Nat) ({ cls := "TwelveChain", name := "isDigit", desc := "(I)Z" } : Jvm.MethodName)) ∈ lw_all := lw_g (lw_at lw_m2 133 rfl) rfl
theorem q524 : (Jvm.Cond.static ({ cls := "TwelveChain", name := "isDigit", desc := "(I)Z" } : Jvm.MethodName)) ∈ lw_all := lw_g (lw_at lw_m2 134 rfl) rfl
theorem q525 : (Jvm.Cond.code ({ cls := "TwelveChain", name := "isDigit", desc := "(I)Z" } : Jvm.MethodName) prog_1_method_14_code (1 : Nat) (Option.some Jvm.ClassFile.FieldType.boolean)) ∈ lw_all := lw_g (lw_at lw_m2 135 rfl) rfl
theorem q526 : (Jvm.Cond.constant "TwelveChain" (243 : Nat) (99999 : Int32)) ∈ lw_all := lw_g (lw_at lw_m2 136 rfl) rfl
theorem q527 : (Jvm.Cond.methodLink "TwelveChain" (1 : Nat) ({ cls := "java/lang/Math", name := "min", desc := "(II)I" } : Jvm.MethodName)) ∈ lw_all := lw_g (lw_at lw_m2 137 rfl) rfl
theorem q530 : (Jvm.Cond.fieldLink "TwelveChain" (244 : Nat) "TwelveChain$Token" "NUMBER" "LTwelveChain$Token;") ∈ lw_all := lw_g (lw_at lw_m2 140 rfl) rfl
theorem q532 : (Jvm.Cond.stringRef "TwelveChain" (247 : Nat) ";+-*/()<=>") ∈ lw_tbl := lw_at lw_m2 142 rfl
theorem q533 : (Jvm.Cond.methodLink "TwelveChain" (249 : Nat) ({ cls := "java/lang/String", name := "indexOf", desc := "(I)I" } : Jvm.MethodName)) ∈ lw_all := lw_g (lw_at lw_m2 143 rfl) rfl
theorem q590 : (Jvm.Cond.fieldLink "TwelveChain" (221 : Nat) "TwelveChain$Token" "SIGN" "LTwelveChain$Token;") ∈ lw_all := lw_g (lw_at lw_m2 200 rfl) rfl
theorem q592 : (Jvm.Cond.methodLink "TwelveChain" (361 : Nat) ({ cls := "TwelveChain", name := "readsLaw", desc := "()LTwelveChain$Text;" } : Jvm.MethodName)) ∈ lw_all := lw_g (lw_at lw_m2 202 rfl) rfl
theorem q593 : (Jvm.Cond.privateMethod ({ cls := "TwelveChain", name := "readsLaw", desc := "()LTwelveChain$Text;" } : Jvm.MethodName)) ∈ lw_tbl := lw_at lw_m2 203 rfl
theorem q594 : (Jvm.Cond.instanceMethod ({ cls := "TwelveChain", name := "readsLaw", desc := "()LTwelveChain$Text;" } : Jvm.MethodName)) ∈ lw_all := lw_g (lw_at lw_m2 204 rfl) rfl
theorem q595 : (Jvm.Cond.code ({ cls := "TwelveChain", name := "readsLaw", desc := "()LTwelveChain$Text;" } : Jvm.MethodName) prog_1_method_29_code (3 : Nat) (Option.some (Jvm.ClassFile.FieldType.object "TwelveChain$Text"))) ∈ lw_all := lw_g (lw_at lw_m2 205 rfl) rfl
theorem q596 : (Jvm.Cond.methodLink "TwelveChain" (261 : Nat) ({ cls := "TwelveChain", name := "must", desc := "(Z)V" } : Jvm.MethodName)) ∈ lw_all := lw_g (lw_at lw_m2 206 rfl) rfl
theorem q597 : (Jvm.Cond.privateMethod ({ cls := "TwelveChain", name := "must", desc := "(Z)V" } : Jvm.MethodName)) ∈ lw_tbl := lw_at lw_m2 207 rfl
theorem q598 : (Jvm.Cond.instanceMethod ({ cls := "TwelveChain", name := "must", desc := "(Z)V" } : Jvm.MethodName)) ∈ lw_all := lw_g (lw_at lw_m2 208 rfl) rfl
theorem q599 : (Jvm.Cond.code ({ cls := "TwelveChain", name := "must", desc := "(Z)V" } : Jvm.MethodName) prog_1_method_20_code (2 : Nat) (Option.none : Option Jvm.ClassFile.FieldType)) ∈ lw_all := lw_g (lw_at lw_m2 209 rfl) rfl
theorem q636 : (Jvm.Cond.methodLink "TwelveChain" (254 : Nat) ({ cls := "TwelveChain$Fault", name := "<init>", desc := "(II)V" } : Jvm.MethodName)) ∈ lw_all := lw_g (lw_at lw_m3 6 rfl) rfl
theorem q646 : (Jvm.Cond.fieldLink "TwelveChain" (386 : Nat) "TwelveChain$Fault" "kind" "I") ∈ lw_all := lw_g (lw_at lw_m3 16 rfl) rfl
theorem q648 : (Jvm.Cond.fieldLink "TwelveChain" (389 : Nat) "TwelveChain$Fault" "place" "I") ∈ lw_all := lw_g (lw_at lw_m3 18 rfl) rfl
theorem q666 : (Jvm.Cond.methodLink "TwelveChain" (319 : Nat) ({ cls := "TwelveChain", name := "isRoom", desc := "(I)V" } : Jvm.MethodName)) ∈ lw_all := lw_g (lw_at lw_m3 36 rfl) rfl
theorem q667 : (Jvm.Cond.privateMethod ({ cls := "TwelveChain", name := "isRoom", desc := "(I)V" } : Jvm.MethodName)) ∈ lw_tbl := lw_at lw_m3 37 rfl
theorem q668 : (Jvm.Cond.instanceMethod ({ cls := "TwelveChain", name := "isRoom", desc := "(I)V" } : Jvm.MethodName)) ∈ lw_all := lw_g (lw_at lw_m3 38 rfl) rfl
theorem q669 : (Jvm.Cond.code ({ cls := "TwelveChain", name := "isRoom", desc := "(I)V" } : Jvm.MethodName) prog_1_method_31_code (2 : Nat) (Option.none : Option Jvm.ClassFile.FieldType)) ∈ lw_all := lw_g (lw_at lw_m3 39 rfl) rfl
theorem q670 : (Jvm.Cond.methodLink "TwelveChain" (310 : Nat) ({ cls := "TwelveChain", name := "sum", desc := "()LTwelveChain$Term;" } : Jvm.MethodName)) ∈ lw_all := lw_g (lw_at lw_m3 40 rfl) rfl
theorem q671 : (Jvm.Cond.privateMethod ({ cls := "TwelveChain", name := "sum", desc := "()LTwelveChain$Term;" } : Jvm.MethodName)) ∈ lw_tbl := lw_at lw_m3 41 rfl
theorem q672 : (Jvm.Cond.instanceMethod ({ cls := "TwelveChain", name := "sum", desc := "()LTwelveChain$Term;" } : Jvm.MethodName)) ∈ lw_all := lw_g (lw_at lw_m3 42 rfl) rfl
theorem q673 : (Jvm.Cond.code ({ cls := "TwelveChain", name := "sum", desc := "()LTwelveChain$Term;" } : Jvm.MethodName) prog_1_method_24_code (3 : Nat) (Option.some (Jvm.ClassFile.FieldType.object "TwelveChain$Term"))) ∈ lw_all := lw_g (lw_at lw_m3 43 rfl) rfl
theorem q674 : (Jvm.Cond.methodLink "TwelveChain" (284 : Nat) ({ cls := "TwelveChain", name := "product", desc := "()LTwelveChain$Term;" } : Jvm.MethodName)) ∈ lw_all := lw_g (lw_at lw_m3 44 rfl) rfl
theorem q675 : (Jvm.Cond.privateMethod ({ cls := "TwelveChain", name := "product", desc := "()LTwelveChain$Term;" } : Jvm.MethodName)) ∈ lw_tbl := lw_at lw_m3 45 rfl
theorem q676 : (Jvm.Cond.instanceMethod ({ cls := "TwelveChain", name := "product", desc := "()LTwelveChain$Term;" } : Jvm.MethodName)) ∈ lw_all := lw_g (lw_at lw_m3 46 rfl) rfl
theorem q677 : (Jvm.Cond.code ({ cls := "TwelveChain", name := "product", desc := "()LTwelveChain$Term;" } : Jvm.MethodName) prog_1_method_23_code (3 : Nat) (Option.some (Jvm.ClassFile.FieldType.object "TwelveChain$Term"))) ∈ lw_all := lw_g (lw_at lw_m3 47 rfl) rfl
theorem q678 : (Jvm.Cond.methodLink "TwelveChain" (275 : Nat) ({ cls := "TwelveChain", name := "unit", desc := "()LTwelveChain$Term;" } : Jvm.MethodName)) ∈ lw_all := lw_g (lw_at lw_m3 48 rfl) rfl
theorem q679 : (Jvm.Cond.privateMethod ({ cls := "TwelveChain", name := "unit", desc := "()LTwelveChain$Term;" } : Jvm.MethodName)) ∈ lw_tbl := lw_at lw_m3 49 rfl
theorem q680 : (Jvm.Cond.instanceMethod ({ cls := "TwelveChain", name := "unit", desc := "()LTwelveChain$Term;" } : Jvm.MethodName)) ∈ lw_all := lw_g (lw_at lw_m3 50 rfl) rfl
theorem q681 : (Jvm.Cond.code ({ cls := "TwelveChain", name := "unit", desc := "()LTwelveChain$Term;" } : Jvm.MethodName) prog_1_method_22_code (2 : Nat) (Option.some (Jvm.ClassFile.FieldType.object "TwelveChain$Term"))) ∈ lw_all := lw_g (lw_at lw_m3 51 rfl) rfl
theorem q682 : (Jvm.Cond.classLink "TwelveChain" (268 : Nat) "TwelveChain$Number") ∈ lw_all := lw_g (lw_at lw_m3 52 rfl) rfl
theorem q684 : (Jvm.Cond.methodLink "TwelveChain" (270 : Nat) ({ cls := "TwelveChain$Number", name := "<init>", desc := "(I)V" } : Jvm.MethodName)) ∈ lw_all := lw_g (lw_at lw_m3 54 rfl) rfl
theorem q695 : (Jvm.Cond.classLink "TwelveChain" (272 : Nat) "TwelveChain$Word") ∈ lw_all := lw_g (lw_at lw_m3 65 rfl) rfl
theorem q697 : (Jvm.Cond.methodLink "TwelveChain" (274 : Nat) ({ cls := "TwelveChain$Word", name := "<init>", desc := "(I)V" } : Jvm.MethodName)) ∈ lw_all := lw_g (lw_at lw_m3 67 rfl) rfl
theorem q705 : (Jvm.Cond.methodLink "TwelveChain" (257 : Nat) ({ cls := "TwelveChain", name := "isSign", desc := "(C)Z" } : Jvm.MethodName)) ∈ lw_all := lw_g (lw_at lw_m3 75 rfl) rfl
theorem q706 : (Jvm.Cond.privateMethod ({ cls := "TwelveChain", name := "isSign", desc := "(C)Z" } : Jvm.MethodName)) ∈ lw_tbl := lw_at lw_m3 76 rfl
theorem q707 : (Jvm.Cond.instanceMethod ({ cls := "TwelveChain", name := "isSign", desc := "(C)Z" } : Jvm.MethodName)) ∈ lw_all := lw_g (lw_at lw_m3 77 rfl) rfl
theorem q708 : (Jvm.Cond.code ({ cls := "TwelveChain", name := "isSign", desc := "(C)Z" } : Jvm.MethodName) prog_1_method_18_code (2 : Nat) (Option.some Jvm.ClassFile.FieldType.boolean)) ∈ lw_all := lw_g (lw_at lw_m3 78 rfl) rfl
theorem q709 : (Jvm.Cond.classLink "TwelveChain" (279 : Nat) "TwelveChain$Two") ∈ lw_all := lw_g (lw_at lw_m3 79 rfl) rfl
theorem q711 : (Jvm.Cond.methodLink "TwelveChain" (281 : Nat) ({ cls := "TwelveChain$Two", name := "<init>", desc := "(CLTwelveChain$Term;LTwelveChain$Term;)V" } : Jvm.MethodName)) ∈ lw_all := lw_g (lw_at lw_m3 81 rfl) rfl
theorem q725 : (Jvm.Cond.methodLink "TwelveChain" (290 : Nat) ({ cls := "TwelveChain", name := "isWord", desc := "(Ljava/lang/String;)Z" } : Jvm.MethodName)) ∈ lw_all := lw_g (lw_at lw_m3 95 rfl) rfl
theorem q726 : (Jvm.Cond.privateMethod ({ cls := "TwelveChain", name := "isWord", desc := "(Ljava/lang/String;)Z" } : Jvm.MethodName)) ∈ lw_tbl := lw_at lw_m3 96 rfl
theorem q727 : (Jvm.Cond.instanceMethod ({ cls := "TwelveChain", name := "isWord", desc := "(Ljava/lang/String;)Z" } : Jvm.MethodName)) ∈ lw_all := lw_g (lw_at lw_m3 97 rfl) rfl
theorem q728 : (Jvm.Cond.code ({ cls := "TwelveChain", name := "isWord", desc := "(Ljava/lang/String;)Z" } : Jvm.MethodName) prog_1_method_17_code (2 : Nat) (Option.some Jvm.ClassFile.FieldType.boolean)) ∈ lw_all := lw_g (lw_at lw_m3 98 rfl) rfl
theorem q729 : (Jvm.Cond.methodLink "TwelveChain" (303 : Nat) ({ cls := "TwelveChain", name := "any", desc := "()LTwelveChain$Term;" } : Jvm.MethodName)) ∈ lw_all := lw_g (lw_at lw_m3 99 rfl) rfl
theorem q730 : (Jvm.Cond.privateMethod ({ cls := "TwelveChain", name := "any", desc := "()LTwelveChain$Term;" } : Jvm.MethodName)) ∈ lw_tbl := lw_at lw_m3 100 rfl
theorem q731 : (Jvm.Cond.instanceMethod ({ cls := "TwelveChain", name := "any", desc := "()LTwelveChain$Term;" } : Jvm.MethodName)) ∈ lw_all := lw_g (lw_at lw_m3 101 rfl) rfl
theorem q732 : (Jvm.Cond.code ({ cls := "TwelveChain", name := "any", desc := "()LTwelveChain$Term;" } : Jvm.MethodName) prog_1_method_28_code (2 : Nat) (Option.some (Jvm.ClassFile.FieldType.object "TwelveChain$Term"))) ∈ lw_all := lw_g (lw_at lw_m3 102 rfl) rfl
theorem q733 : (Jvm.Cond.methodLink "TwelveChain" (313 : Nat) ({ cls := "TwelveChain", name := "both", desc := "()LTwelveChain$Term;" } : Jvm.MethodName)) ∈ lw_all := lw_g (lw_at lw_m3 103 rfl) rfl
theorem q734 : (Jvm.Cond.privateMethod ({ cls := "TwelveChain", name := "both", desc := "()LTwelveChain$Term;" } : Jvm.MethodName)) ∈ lw_tbl := lw_at lw_m3 104 rfl
theorem q735 : (Jvm.Cond.instanceMethod ({ cls := "TwelveChain", name := "both", desc := "()LTwelveChain$Term;" } : Jvm.MethodName)) ∈ lw_all := lw_g (lw_at lw_m3 105 rfl) rfl
theorem q736 : (Jvm.Cond.code ({ cls := "TwelveChain", name := "both", desc := "()LTwelveChain$Term;" } : Jvm.MethodName) prog_1_method_27_code (2 : Nat) (Option.some (Jvm.ClassFile.FieldType.object "TwelveChain$Term"))) ∈ lw_all := lw_g (lw_at lw_m3 106 rfl) rfl
theorem q737 : (Jvm.Cond.methodLink "TwelveChain" (295 : Nat) ({ cls := "TwelveChain", name := "oneOf", desc := "()LTwelveChain$Term;" } : Jvm.MethodName)) ∈ lw_all := lw_g (lw_at lw_m3 107 rfl) rfl
theorem q738 : (Jvm.Cond.privateMethod ({ cls := "TwelveChain", name := "oneOf", desc := "()LTwelveChain$Term;" } : Jvm.MethodName)) ∈ lw_tbl := lw_at lw_m3 108 rfl
theorem q739 : (Jvm.Cond.instanceMethod ({ cls := "TwelveChain", name := "oneOf", desc := "()LTwelveChain$Term;" } : Jvm.MethodName)) ∈ lw_all := lw_g (lw_at lw_m3 109 rfl) rfl
theorem q740 : (Jvm.Cond.code ({ cls := "TwelveChain", name := "oneOf", desc := "()LTwelveChain$Term;" } : Jvm.MethodName) prog_1_method_26_code (3 : Nat) (Option.some (Jvm.ClassFile.FieldType.object "TwelveChain$Term"))) ∈ lw_all := lw_g (lw_at lw_m3 110 rfl) rfl
theorem q741 : (Jvm.Cond.methodLink "TwelveChain" (293 : Nat) ({ cls := "TwelveChain", name := "opens", desc := "()V" } : Jvm.MethodName)) ∈ lw_all := lw_g (lw_at lw_m3 111 rfl) rfl
theorem q742 : (Jvm.Cond.privateMethod ({ cls := "TwelveChain", name := "opens", desc := "()V" } : Jvm.MethodName)) ∈ lw_tbl := lw_at lw_m3 112 rfl
theorem q743 : (Jvm.Cond.instanceMethod ({ cls := "TwelveChain", name := "opens", desc := "()V" } : Jvm.MethodName)) ∈ lw_all := lw_g (lw_at lw_m3 113 rfl) rfl
theorem q744 : (Jvm.Cond.code ({ cls := "TwelveChain", name := "opens", desc := "()V" } : Jvm.MethodName) prog_1_method_25_code (1 : Nat) (Option.none : Option Jvm.ClassFile.FieldType)) ∈ lw_all := lw_g (lw_at lw_m3 114 rfl) rfl
theorem q745 : (Jvm.Cond.classLink "TwelveChain" (298 : Nat) "TwelveChain$Not") ∈ lw_all := lw_g (lw_at lw_m3 115 rfl) rfl
theorem q747 : (Jvm.Cond.methodLink "TwelveChain" (300 : Nat) ({ cls := "TwelveChain$Not", name := "<init>", desc := "(LTwelveChain$Term;)V" } : Jvm.MethodName)) ∈ lw_all := lw_g (lw_at lw_m3 117 rfl) rfl
theorem q755 : (Jvm.Cond.methodLink "TwelveChain" (306 : Nat) ({ cls := "TwelveChain", name := "takesSign", desc := "(C)V" } : Jvm.MethodName)) ∈ lw_all := lw_g (lw_at lw_m3 125 rfl) rfl
theorem q756 : (Jvm.Cond.privateMethod ({ cls := "TwelveChain", name := "takesSign", desc := "(C)V" } : Jvm.MethodName)) ∈ lw_tbl := lw_at lw_m3 126 rfl
theorem q757 : (Jvm.Cond.instanceMethod ({ cls := "TwelveChain", name := "takesSign", desc := "(C)V" } : Jvm.MethodName)) ∈ lw_all := lw_g (lw_at lw_m3 127 rfl) rfl
theorem q758 : (Jvm.Cond.code ({ cls := "TwelveChain", name := "takesSign", desc := "(C)V" } : Jvm.MethodName) prog_1_method_21_code (2 : Nat) (Option.none : Option Jvm.ClassFile.FieldType)) ∈ lw_all := lw_g (lw_at lw_m3 128 rfl) rfl
theorem q759 : (Jvm.Cond.methodLink "TwelveChain" (365 : Nat) ({ cls := "TwelveChain", name := "readsPhones", desc := "()[LTwelveChain$Phone;" } : Jvm.MethodName)) ∈ lw_all := lw_g (lw_at lw_m3 129 rfl) rfl
theorem q760 : (Jvm.Cond.privateMethod ({ cls := "TwelveChain", name := "readsPhones", desc := "()[LTwelveChain$Phone;" } : Jvm.MethodName)) ∈ lw_tbl := lw_at lw_m3 130 rfl
theorem q761 : (Jvm.Cond.instanceMethod ({ cls := "TwelveChain", name := "readsPhones", desc := "()[LTwelveChain$Phone;" } : Jvm.MethodName)) ∈ lw_all := lw_g (lw_at lw_m3 131 rfl) rfl
theorem q762 : (Jvm.Cond.code ({ cls := "TwelveChain", name := "readsPhones", desc := "()[LTwelveChain$Phone;" } : Jvm.MethodName) prog_1_method_36_code (5 : Nat) (Option.some (Jvm.ClassFile.FieldType.array (Jvm.ClassFile.FieldType.object "TwelveChain$Phone")))) ∈ lw_all := lw_g (lw_at lw_m3 132 rfl) rfl
theorem q763 : (Jvm.Cond.methodLink "TwelveChain" (342 : Nat) ({ cls := "TwelveChain", name := "told", desc := "(Ljava/lang/String;II)I" } : Jvm.MethodName)) ∈ lw_all := lw_g (lw_at lw_m3 133 rfl) rfl
theorem q764 : (Jvm.Cond.privateMethod ({ cls := "TwelveChain", name := "told", desc := "(Ljava/lang/String;II)I" } : Jvm.MethodName)) ∈ lw_tbl := lw_at lw_m3 134 rfl
theorem q765 : (Jvm.Cond.instanceMethod ({ cls := "TwelveChain", name := "told", desc := "(Ljava/lang/String;II)I" } : Jvm.MethodName)) ∈ lw_all := lw_g (lw_at lw_m3 135 rfl) rfl
theorem q766 : (Jvm.Cond.code ({ cls := "TwelveChain", name := "told", desc := "(Ljava/lang/String;II)I" } : Jvm.MethodName) prog_1_method_33_code (4 : Nat) (Option.some Jvm.ClassFile.FieldType.int)) ∈ lw_all := lw_g (lw_at lw_m3 136 rfl) rfl
theorem q767 : (Jvm.Cond.methodLink "TwelveChain" (339 : Nat) ({ cls := "TwelveChain", name := "number", desc := "(II)I" } : Jvm.MethodName)) ∈ lw_all := lw_g (lw_at lw_m3 137 rfl) rfl
theorem q768 : (Jvm.Cond.privateMethod ({ cls := "TwelveChain", name := "number", desc := "(II)I" } : Jvm.MethodName)) ∈ lw_tbl := lw_at lw_m3 138 rfl
theorem q769 : (Jvm.Cond.instanceMethod ({ cls := "TwelveChain", name := "number", desc := "(II)I" } : Jvm.MethodName)) ∈ lw_all := lw_g (lw_at lw_m3 139 rfl) rfl
theorem q770 : (Jvm.Cond.code ({ cls := "TwelveChain", name := "number", desc := "(II)I" } : Jvm.MethodName) prog_1_method_32_code (4 : Nat) (Option.some Jvm.ClassFile.FieldType.int)) ∈ lw_all := lw_g (lw_at lw_m3 140 rfl) rfl
theorem q772 : (Jvm.Cond.methodLinkNest "TwelveChain" (354 : Nat) ({ cls := "TwelveChain$Phone", name := "<init>", desc := "(III)V" } : Jvm.MethodName) "TwelveChain") ∈ lw_tbl := lw_at lw_m3 142 rfl
theorem q789 : (Jvm.Cond.methodLink "TwelveChain" (369 : Nat) ({ cls := "TwelveChain", name := "readsRecords", desc := "()[LTwelveChain$Wrote;" } : Jvm.MethodName)) ∈ lw_all := lw_g (lw_at lw_m3 159 rfl) rfl
theorem q790 : (Jvm.Cond.privateMethod ({ cls := "TwelveChain", name := "readsRecords", desc := "()[LTwelveChain$Wrote;" } : Jvm.MethodName)) ∈ lw_tbl := lw_at lw_m3 160 rfl
theorem q791 : (Jvm.Cond.instanceMethod ({ cls := "TwelveChain", name := "readsRecords", desc := "()[LTwelveChain$Wrote;" } : Jvm.MethodName)) ∈ lw_all := lw_g (lw_at lw_m3 161 rfl) rfl
theorem q792 : (Jvm.Cond.code ({ cls := "TwelveChain", name := "readsRecords", desc := "()[LTwelveChain$Wrote;" } : Jvm.MethodName) prog_1_method_37_code (5 : Nat) (Option.some (Jvm.ClassFile.FieldType.array (Jvm.ClassFile.FieldType.object "TwelveChain$Wrote")))) ∈ lw_all := lw_g (lw_at lw_m3 162 rfl) rfl
theorem q794 : (Jvm.Cond.methodLinkNest "TwelveChain" (357 : Nat) ({ cls := "TwelveChain$Wrote", name := "<init>", desc := "(II)V" } : Jvm.MethodName) "TwelveChain") ∈ lw_tbl := lw_at lw_m3 164 rfl
theorem q805 : (Jvm.Cond.methodLink "TwelveChain" (373 : Nat) ({ cls := "TwelveChain", name := "readsPlan", desc := "()[LTwelveChain$Deed;" } : Jvm.MethodName)) ∈ lw_all := lw_g (lw_at lw_m3 175 rfl) rfl
theorem q806 : (Jvm.Cond.privateMethod ({ cls := "TwelveChain", name := "readsPlan", desc := "()[LTwelveChain$Deed;" } : Jvm.MethodName)) ∈ lw_tbl := lw_at lw_m3 176 rfl
theorem q807 : (Jvm.Cond.instanceMethod ({ cls := "TwelveChain", name := "readsPlan", desc := "()[LTwelveChain$Deed;" } : Jvm.MethodName)) ∈ lw_all := lw_g (lw_at lw_m3 177 rfl) rfl
theorem q808 : (Jvm.Cond.code ({ cls := "TwelveChain", name := "readsPlan", desc := "()[LTwelveChain$Deed;" } : Jvm.MethodName) prog_1_method_35_code (5 : Nat) (Option.some (Jvm.ClassFile.FieldType.array (Jvm.ClassFile.FieldType.object "TwelveChain$Deed")))) ∈ lw_all := lw_g (lw_at lw_m3 178 rfl) rfl
theorem q809 : (Jvm.Cond.methodLink "TwelveChain" (350 : Nat) ({ cls := "TwelveChain", name := "deed", desc := "()LTwelveChain$Deed;" } : Jvm.MethodName)) ∈ lw_all := lw_g (lw_at lw_m3 179 rfl) rfl
theorem q810 : (Jvm.Cond.privateMethod ({ cls := "TwelveChain", name := "deed", desc := "()LTwelveChain$Deed;" } : Jvm.MethodName)) ∈ lw_tbl := lw_at lw_m3 180 rfl
theorem q811 : (Jvm.Cond.instanceMethod ({ cls := "TwelveChain", name := "deed", desc := "()LTwelveChain$Deed;" } : Jvm.MethodName)) ∈ lw_all := lw_g (lw_at lw_m3 181 rfl) rfl
theorem q812 : (Jvm.Cond.code ({ cls := "TwelveChain", name := "deed", desc := "()LTwelveChain$Deed;" } : Jvm.MethodName) prog_1_method_34_code (6 : Nat) (Option.some (Jvm.ClassFile.FieldType.object "TwelveChain$Deed"))) ∈ lw_all := lw_g (lw_at lw_m3 182 rfl) rfl
theorem q814 : (Jvm.Cond.methodLinkNest "TwelveChain" (347 : Nat) ({ cls := "TwelveChain$Deed", name := "<init>", desc := "(IIIII)V" } : Jvm.MethodName) "TwelveChain") ∈ lw_tbl := lw_at lw_m3 184 rfl
theorem q835 : (Jvm.Cond.instanceMethod ({ cls := "TwelveChain", name := "fault", desc := "(I)I" } : Jvm.MethodName)) ∈ lw_all := lw_g (lw_at lw_m3 205 rfl) rfl
theorem q836 : (Jvm.Cond.selects "TwelveChain" ({ cls := "TwelveChain", name := "fault", desc := "(I)I" } : Jvm.MethodName) ({ cls := "TwelveChain", name := "fault", desc := "(I)I" } : Jvm.MethodName)) ∈ lw_all := lw_g (lw_at lw_m3 206 rfl) rfl
theorem q837 : (Jvm.Cond.code ({ cls := "TwelveChain", name := "fault", desc := "(I)I" } : Jvm.MethodName) prog_1_method_41_code (2 : Nat) (Option.some Jvm.ClassFile.FieldType.int)) ∈ lw_all := lw_g (lw_at lw_m3 207 rfl) rfl
theorem q839 : (Jvm.Cond.instanceMethod ({ cls := "TwelveChain", name := "undo", desc := "()Z" } : Jvm.MethodName)) ∈ lw_all := lw_g (lw_at lw_m3 209 rfl) rfl
theorem q840 : (Jvm.Cond.selects "TwelveChain" ({ cls := "TwelveChain", name := "undo", desc := "()Z" } : Jvm.MethodName) ({ cls := "TwelveChain", name := "undo", desc := "()Z" } : Jvm.MethodName)) ∈ lw_all := lw_g (lw_at lw_m3 210 rfl) rfl
theorem q841 : (Jvm.Cond.code ({ cls := "TwelveChain", name := "undo", desc := "()Z" } : Jvm.MethodName) prog_1_method_44_code (1 : Nat) (Option.some Jvm.ClassFile.FieldType.boolean)) ∈ lw_all := lw_g (lw_at lw_m3 211 rfl) rfl
theorem q842 : (Jvm.Cond.methodLink "TwelveChain" (397 : Nat) ({ cls := "TwelveChain$Chain", name := "become", desc := "(LTwelveChain$Chain;)V" } : Jvm.MethodName)) ∈ lw_all := lw_g (lw_at lw_m3 212 rfl) rfl
theorem q847 : (Jvm.Cond.static ({ cls := "TwelveChain", name := "copies", desc := "([I[I)V" } : Jvm.MethodName)) ∈ lw_all := lw_g (lw_at lw_m3 217 rfl) rfl
theorem q848 : (Jvm.Cond.code ({ cls := "TwelveChain", name := "copies", desc := "([I[I)V" } : Jvm.MethodName) prog_1_method_4_code (2 : Nat) (Option.none : Option Jvm.ClassFile.FieldType)) ∈ lw_all := lw_g (lw_at lw_m3 218 rfl) rfl
theorem q849 : (Jvm.Cond.methodLink "TwelveChain" (10 : Nat) ({ cls := "java/lang/System", name := "arraycopy", desc := "(Ljava/lang/Object;ILjava/lang/Object;II)V" } : Jvm.MethodName)) ∈ lw_all := lw_g (lw_at lw_m3 219 rfl) rfl
theorem q853 : (Jvm.Cond.instanceMethod ({ cls := "TwelveChain", name := "state", desc := "(I)I" } : Jvm.MethodName)) ∈ lw_all := lw_g (lw_at lw_m3 223 rfl) rfl
theorem q854 : (Jvm.Cond.selects "TwelveChain" ({ cls := "TwelveChain", name := "state", desc := "(I)I" } : Jvm.MethodName) ({ cls := "TwelveChain", name := "state", desc := "(I)I" } : Jvm.MethodName)) ∈ lw_all := lw_g (lw_at lw_m3 224 rfl) rfl
theorem q855 : (Jvm.Cond.code ({ cls := "TwelveChain", name := "state", desc := "(I)I" } : Jvm.MethodName) prog_1_method_46_code (3 : Nat) (Option.some Jvm.ClassFile.FieldType.int)) ∈ lw_all := lw_g (lw_at lw_m3 225 rfl) rfl
theorem q857 : (Jvm.Cond.instanceMethod ({ cls := "TwelveChain", name := "link", desc := "(IIII)I" } : Jvm.MethodName)) ∈ lw_all := lw_g (lw_at lw_m3 227 rfl) rfl
theorem q858 : (Jvm.Cond.selects "TwelveChain" ({ cls := "TwelveChain", name := "link", desc := "(IIII)I" } : Jvm.MethodName) ({ cls := "TwelveChain", name := "link", desc := "(IIII)I" } : Jvm.MethodName)) ∈ lw_all := lw_g (lw_at lw_m3 228 rfl) rfl
theorem q859 : (Jvm.Cond.code ({ cls := "TwelveChain", name := "link", desc := "(IIII)I" } : Jvm.MethodName) prog_1_method_47_code (7 : Nat) (Option.some Jvm.ClassFile.FieldType.int)) ∈ lw_all := lw_g (lw_at lw_m3 229 rfl) rfl
theorem q861 : (Jvm.Cond.instanceMethod ({ cls := "TwelveChain", name := "set", desc := "(III)Z" } : Jvm.MethodName)) ∈ lw_all := lw_g (lw_at lw_m3 231 rfl) rfl
theorem q862 : (Jvm.Cond.selects "TwelveChain" ({ cls := "TwelveChain", name := "set", desc := "(III)Z" } : Jvm.MethodName) ({ cls := "TwelveChain", name := "set", desc := "(III)Z" } : Jvm.MethodName)) ∈ lw_all := lw_g (lw_at lw_m3 232 rfl) rfl
theorem q863 : (Jvm.Cond.code ({ cls := "TwelveChain", name := "set", desc := "(III)Z" } : Jvm.MethodName) prog_1_method_49_code (4 : Nat) (Option.some Jvm.ClassFile.FieldType.boolean)) ∈ lw_all := lw_g (lw_at lw_m3 233 rfl) rfl
theorem q864 : (Jvm.Cond.methodLink "TwelveChain" (422 : Nat) ({ cls := "TwelveChain", name := "isLink", desc := "(I)Z" } : Jvm.MethodName)) ∈ lw_all := lw_g (lw_at lw_m3 234 rfl) rfl
theorem q865 : (Jvm.Cond.privateMethod ({ cls := "TwelveChain", name := "isLink", desc := "(I)Z" } : Jvm.MethodName)) ∈ lw_tbl := lw_at lw_m3 235 rfl
theorem q866 : (Jvm.Cond.instanceMethod ({ cls := "TwelveChain", name := "isLink", desc := "(I)Z" } : Jvm.MethodName)) ∈ lw_all := lw_g (lw_at lw_m3 236 rfl) rfl
theorem q867 : (Jvm.Cond.code ({ cls := "TwelveChain", name := "isLink", desc := "(I)Z" } : Jvm.MethodName) prog_1_method_45_code (2 : Nat) (Option.some Jvm.ClassFile.FieldType.boolean)) ∈ lw_all := lw_g (lw_at lw_m3 237 rfl) rfl
theorem q868 : (Jvm.Cond.methodLink "TwelveChain" (425 : Nat) ({ cls := "TwelveChain", name := "isWithin", desc := "(II)Z" } : Jvm.MethodName)) ∈ lw_all := lw_g (lw_at lw_m3 238 rfl) rfl
theorem q869 : (Jvm.Cond.static ({ cls := "TwelveChain", name := "isWithin", desc := "(II)Z" } : Jvm.MethodName)) ∈ lw_all := lw_g (lw_at lw_m3 239 rfl) rfl
theorem q870 : (Jvm.Cond.code ({ cls := "TwelveChain", name := "isWithin", desc := "(II)Z" } : Jvm.MethodName) prog_1_method_48_code (2 : Nat) (Option.some Jvm.ClassFile.FieldType.boolean)) ∈ lw_all := lw_g (lw_at lw_m4 0 rfl) rfl
theorem q872 : (Jvm.Cond.instanceMethod ({ cls := "TwelveChain", name := "ask", desc := "(II)I" } : Jvm.MethodName)) ∈ lw_all := lw_g (lw_at lw_m4 2 rfl) rfl
theorem q873 : (Jvm.Cond.selects "TwelveChain" ({ cls := "TwelveChain", name := "ask", desc := "(II)I" } : Jvm.MethodName) ({ cls := "TwelveChain", name := "ask", desc := "(II)I" } : Jvm.MethodName)) ∈ lw_all := lw_g (lw_at lw_m4 3 rfl) rfl
theorem q874 : (Jvm.Cond.code ({ cls := "TwelveChain", name := "ask", desc := "(II)I" } : Jvm.MethodName) prog_1_method_50_code (3 : Nat) (Option.some Jvm.ClassFile.FieldType.int)) ∈ lw_all := lw_g (lw_at lw_m4 4 rfl) rfl
theorem q875 : (Jvm.Cond.methodLink "TwelveChain" (429 : Nat) ({ cls := "TwelveChain$Chain", name := "canAsk", desc := "(I)Z" } : Jvm.MethodName)) ∈ lw_all := lw_g (lw_at lw_m4 5 rfl) rfl
theorem q888 : (Jvm.Cond.static ({ cls := "TwelveChain", name := "has", desc := "(II)Z" } : Jvm.MethodName)) ∈ lw_all := lw_g (lw_at lw_m4 18 rfl) rfl
theorem q889 : (Jvm.Cond.code ({ cls := "TwelveChain", name := "has", desc := "(II)Z" } : Jvm.MethodName) prog_1_method_3_code (2 : Nat) (Option.some Jvm.ClassFile.FieldType.boolean)) ∈ lw_all := lw_g (lw_at lw_m4 19 rfl) rfl
theorem q890 : (Jvm.Cond.methodLink "TwelveChain" (432 : Nat) ({ cls := "TwelveChain", name := "keepsAhead", desc := "()V" } : Jvm.MethodName)) ∈ lw_all := lw_g (lw_at lw_m4 20 rfl) rfl
theorem q891 : (Jvm.Cond.privateMethod ({ cls := "TwelveChain", name := "keepsAhead", desc := "()V" } : Jvm.MethodName)) ∈ lw_tbl := lw_at lw_m4 21 rfl
theorem q892 : (Jvm.Cond.instanceMethod ({ cls := "TwelveChain", name := "keepsAhead", desc := "()V" } : Jvm.MethodName)) ∈ lw_all := lw_g (lw_at lw_m4 22 rfl) rfl
theorem q893 : (Jvm.Cond.code ({ cls := "TwelveChain", name := "keepsAhead", desc := "()V" } : Jvm.MethodName) prog_1_method_43_code (2 : Nat) (Option.none : Option Jvm.ClassFile.FieldType)) ∈ lw_all := lw_g (lw_at lw_m4 23 rfl) rfl
theorem q894 : (Jvm.Cond.methodLink "TwelveChain" (435 : Nat) ({ cls := "TwelveChain$Chain", name := "gives", desc := "(II)I" } : Jvm.MethodName)) ∈ lw_all := lw_g (lw_at lw_m4 24 rfl) rfl
theorem q933 : (Jvm.Cond.privateMethod ({ cls := "TwelveChain", name := "tells", desc := "(III)I" } : Jvm.MethodName)) ∈ lw_tbl := lw_at lw_m4 63 rfl
theorem q934 : (Jvm.Cond.instanceMethod ({ cls := "TwelveChain", name := "tells", desc := "(III)I" } : Jvm.MethodName)) ∈ lw_all := lw_g (lw_at lw_m4 64 rfl) rfl
theorem q935 : (Jvm.Cond.code ({ cls := "TwelveChain", name := "tells", desc := "(III)I" } : Jvm.MethodName) prog_1_method_30_code (5 : Nat) (Option.some Jvm.ClassFile.FieldType.int)) ∈ lw_all := lw_g (lw_at lw_m4 65 rfl) rfl
theorem q936 : (Jvm.Cond.methodLink "TwelveChain" (330 : Nat) ({ cls := "TwelveChain$Term", name := "of", desc := "([I)I" } : Jvm.MethodName)) ∈ lw_all := lw_g (lw_at lw_m4 66 rfl) rfl
theorem q953 : (Jvm.Cond.methodLink "TwelveChain" (335 : Nat) ({ cls := "TwelveChain", name := "held", desc := "(III)I" } : Jvm.MethodName)) ∈ lw_all := lw_g (lw_at lw_m4 83 rfl) rfl
theorem q954 : (Jvm.Cond.static ({ cls := "TwelveChain", name := "held", desc := "(III)I" } : Jvm.MethodName)) ∈ lw_all := lw_g (lw_at lw_m4 84 rfl) rfl
theorem q955 : (Jvm.Cond.code ({ cls := "TwelveChain", name := "held", desc := "(III)I" } : Jvm.MethodName) prog_1_method_2_code (3 : Nat) (Option.some Jvm.ClassFile.FieldType.int)) ∈ lw_all := lw_g (lw_at lw_m4 85 rfl) rfl
theorem q956 : (Jvm.Cond.methodLink "TwelveChain" (7 : Nat) ({ cls := "java/lang/Math", name := "max", desc := "(II)I" } : Jvm.MethodName)) ∈ lw_all := lw_g (lw_at lw_m4 86 rfl) rfl
theorem q963 : (Jvm.Cond.privateMethod ({ cls := "TwelveChain", name := "writes", desc := "(III)V" } : Jvm.MethodName)) ∈ lw_tbl := lw_at lw_m4 93 rfl
theorem q964 : (Jvm.Cond.instanceMethod ({ cls := "TwelveChain", name := "writes", desc := "(III)V" } : Jvm.MethodName)) ∈ lw_all := lw_g (lw_at lw_m4 94 rfl) rfl
theorem q965 : (Jvm.Cond.code ({ cls := "TwelveChain", name := "writes", desc := "(III)V" } : Jvm.MethodName) prog_1_method_42_code (5 : Nat) (Option.none : Option Jvm.ClassFile.FieldType)) ∈ lw_all := lw_g (lw_at lw_m4 95 rfl) rfl
theorem q967 : (Jvm.Cond.instanceMethod ({ cls := "TwelveChain", name := "bridge", desc := "(I)Z" } : Jvm.MethodName)) ∈ lw_all := lw_g (lw_at lw_m4 97 rfl) rfl
theorem q968 : (Jvm.Cond.selects "TwelveChain" ({ cls := "TwelveChain", name := "bridge", desc := "(I)Z" } : Jvm.MethodName) ({ cls := "TwelveChain", name := "bridge", desc := "(I)Z" } : Jvm.MethodName)) ∈ lw_all := lw_g (lw_at lw_m4 98 rfl) rfl
theorem q969 : (Jvm.Cond.code ({ cls := "TwelveChain", name := "bridge", desc := "(I)Z" } : Jvm.MethodName) prog_1_method_51_code (2 : Nat) (Option.some Jvm.ClassFile.FieldType.boolean)) ∈ lw_all := lw_g (lw_at lw_m4 99 rfl) rfl
theorem q970 : (Jvm.Cond.methodLink "TwelveChain" (438 : Nat) ({ cls := "TwelveChain$Chain", name := "canBridge", desc := "(I)Z" } : Jvm.MethodName)) ∈ lw_all := lw_g (lw_at lw_m4 100 rfl) rfl
theorem q974 : (Jvm.Cond.methodLink "TwelveChain" (441 : Nat) ({ cls := "TwelveChain$Chain", name := "bridges", desc := "(I)V" } : Jvm.MethodName)) ∈ lw_all := lw_g (lw_at lw_m4 104 rfl) rfl
theorem q979 : (Jvm.Cond.instanceMethod ({ cls := "TwelveChain", name := "pay", desc := "(III)Z" } : Jvm.MethodName)) ∈ lw_all := lw_g (lw_at lw_m4 109 rfl) rfl
theorem q980 : (Jvm.Cond.selects "TwelveChain" ({ cls := "TwelveChain", name := "pay", desc := "(III)Z" } : Jvm.MethodName) ({ cls := "TwelveChain", name := "pay", desc := "(III)Z" } : Jvm.MethodName)) ∈ lw_all := lw_g (lw_at lw_m4 110 rfl) rfl
theorem q981 : (Jvm.Cond.code ({ cls := "TwelveChain", name := "pay", desc := "(III)Z" } : Jvm.MethodName) prog_1_method_52_code (4 : Nat) (Option.some Jvm.ClassFile.FieldType.boolean)) ∈ lw_all := lw_g (lw_at lw_m4 111 rfl) rfl
theorem q982 : (Jvm.Cond.methodLink "TwelveChain" (444 : Nat) ({ cls := "TwelveChain$Chain", name := "canPayTo", desc := "(III)Z" } : Jvm.MethodName)) ∈ lw_all := lw_g (lw_at lw_m4 112 rfl) rfl
theorem q986 : (Jvm.Cond.methodLink "TwelveChain" (447 : Nat) ({ cls := "TwelveChain$Chain", name := "pays", desc := "(III)V" } : Jvm.MethodName)) ∈ lw_all := lw_g (lw_at lw_m4 116 rfl) rfl
theorem q991 : (Jvm.Cond.instanceMethod ({ cls := "TwelveChain", name := "paper", desc := "(I)Z" } : Jvm.MethodName)) ∈ lw_all := lw_g (lw_at lw_m4 121 rfl) rfl
theorem q992 : (Jvm.Cond.selects "TwelveChain" ({ cls := "TwelveChain", name := "paper", desc := "(I)Z" } : Jvm.MethodName) ({ cls := "TwelveChain", name := "paper", desc := "(I)Z" } : Jvm.MethodName)) ∈ lw_all := lw_g (lw_at lw_m4 122 rfl) rfl
theorem q993 : (Jvm.Cond.code ({ cls := "TwelveChain", name := "paper", desc := "(I)Z" } : Jvm.MethodName) prog_1_method_53_code (2 : Nat) (Option.some Jvm.ClassFile.FieldType.boolean)) ∈ lw_all := lw_g (lw_at lw_m4 123 rfl) rfl
theorem q994 : (Jvm.Cond.methodLink "TwelveChain" (450 : Nat) ({ cls := "TwelveChain$Chain", name := "canPaper", desc := "(I)Z" } : Jvm.MethodName)) ∈ lw_all := lw_g (lw_at lw_m4 124 rfl) rfl
theorem q998 : (Jvm.Cond.methodLink "TwelveChain" (453 : Nat) ({ cls := "TwelveChain$Chain", name := "papers", desc := "(I)V" } : Jvm.MethodName)) ∈ lw_all := lw_g (lw_at lw_m4 128 rfl) rfl
theorem q1003 : (Jvm.Cond.instanceMethod ({ cls := "TwelveChain", name := "join", desc := "(I)Z" } : Jvm.MethodName)) ∈ lw_all := lw_g (lw_at lw_m4 133 rfl) rfl
theorem q1004 : (Jvm.Cond.selects "TwelveChain" ({ cls := "TwelveChain", name := "join", desc := "(I)Z" } : Jvm.MethodName) ({ cls := "TwelveChain", name := "join", desc := "(I)Z" } : Jvm.MethodName)) ∈ lw_all := lw_g (lw_at lw_m4 134 rfl) rfl
theorem q1005 : (Jvm.Cond.code ({ cls := "TwelveChain", name := "join", desc := "(I)Z" } : Jvm.MethodName) prog_1_method_54_code (2 : Nat) (Option.some Jvm.ClassFile.FieldType.boolean)) ∈ lw_all := lw_g (lw_at lw_m4 135 rfl) rfl
theorem q1006 : (Jvm.Cond.methodLink "TwelveChain" (456 : Nat) ({ cls := "TwelveChain", name := "has", desc := "(II)Z" } : Jvm.MethodName)) ∈ lw_all := lw_g (lw_at lw_m4 136 rfl) rfl
theorem q1007 : (Jvm.Cond.methodLink "TwelveChain" (459 : Nat) ({ cls := "TwelveChain$Chain", name := "joins", desc := "(I)V" } : Jvm.MethodName)) ∈ lw_all := lw_g (lw_at lw_m4 137 rfl) rfl
theorem q1012 : (Jvm.Cond.instanceMethod ({ cls := "TwelveChain", name := "days", desc := "(I)I" } : Jvm.MethodName)) ∈ lw_all := lw_g (lw_at lw_m4 142 rfl) rfl
theorem q1013 : (Jvm.Cond.selects "TwelveChain" ({ cls := "TwelveChain", name := "days", desc := "(I)I" } : Jvm.MethodName) ({ cls := "TwelveChain", name := "days", desc := "(I)I" } : Jvm.MethodName)) ∈ lw_all := lw_g (lw_at lw_m4 143 rfl) rfl
theorem q1014 : (Jvm.Cond.code ({ cls := "TwelveChain", name := "days", desc := "(I)I" } : Jvm.MethodName) prog_1_method_55_code (4 : Nat) (Option.some Jvm.ClassFile.FieldType.int)) ∈ lw_all := lw_g (lw_at lw_m4 144 rfl) rfl
theorem q1015 : (Jvm.Cond.methodLink "TwelveChain" (461 : Nat) ({ cls := "TwelveChain$Chain", name := "goesBy", desc := "()I" } : Jvm.MethodName)) ∈ lw_all := lw_g (lw_at lw_m4 145 rfl) rfl
theorem q1094 : (Jvm.Cond.instanceMethod ({ cls := "TwelveChain", name := "of", desc := "(II)I" } : Jvm.MethodName)) ∈ lw_all := lw_g (lw_at lw_m4 224 rfl) rfl
theorem q1095 : (Jvm.Cond.selects "TwelveChain" ({ cls := "TwelveChain", name := "of", desc := "(II)I" } : Jvm.MethodName) ({ cls := "TwelveChain", name := "of", desc := "(II)I" } : Jvm.MethodName)) ∈ lw_all := lw_g (lw_at lw_m4 225 rfl) rfl
theorem q1096 : (Jvm.Cond.code ({ cls := "TwelveChain", name := "of", desc := "(II)I" } : Jvm.MethodName) prog_1_method_56_code (3 : Nat) (Option.some Jvm.ClassFile.FieldType.int)) ∈ lw_all := lw_g (lw_at lw_m4 226 rfl) rfl
theorem q1097 : (Jvm.Cond.constant "TwelveChain" (464 : Nat) (-100000 : Int32)) ∈ lw_all := lw_g (lw_at lw_m4 227 rfl) rfl
theorem q1098 : (Jvm.Cond.methodLink "TwelveChain" (465 : Nat) ({ cls := "TwelveChain$Chain", name := "readyOf", desc := "(I)I" } : Jvm.MethodName)) ∈ lw_all := lw_g (lw_at lw_m4 228 rfl) rfl
theorem q1099 : (Jvm.Cond.methodLink "TwelveChain" (468 : Nat) ({ cls := "TwelveChain$Chain", name := "leaveOf", desc := "(I)I" } : Jvm.MethodName)) ∈ lw_all := lw_g (lw_at lw_m4 229 rfl) rfl
theorem q1100 : (Jvm.Cond.methodLink "TwelveChain" (471 : Nat) ({ cls := "TwelveChain$Chain", name := "giveOf", desc := "(I)I" } : Jvm.MethodName)) ∈ lw_all := lw_g (lw_at lw_m4 230 rfl) rfl
theorem q1101 : (Jvm.Cond.methodLink "TwelveChain" (474 : Nat) ({ cls := "TwelveChain$Chain", name := "costOf", desc := "(I)I" } : Jvm.MethodName)) ∈ lw_all := lw_g (lw_at lw_m4 231 rfl) rfl
theorem q1102 : (Jvm.Cond.methodLink "TwelveChain" (477 : Nat) ({ cls := "TwelveChain$Chain", name := "canPay", desc := "(I)Z" } : Jvm.MethodName)) ∈ lw_all := lw_g (lw_at lw_m4 232 rfl) rfl
theorem q1103 : (Jvm.Cond.methodLink "TwelveChain" (480 : Nat) ({ cls := "TwelveChain$Chain", name := "lacksOf", desc := "(I)I" } : Jvm.MethodName)) ∈ lw_all := lw_g (lw_at lw_m4 233 rfl) rfl
theorem q1105 : (Jvm.Cond.instanceMethod ({ cls := "TwelveChain", name := "phone", desc := "(II)I" } : Jvm.MethodName)) ∈ lw_all := lw_g (lw_at lw_m4 235 rfl) rfl
theorem q1106 : (Jvm.Cond.selects "TwelveChain" ({ cls := "TwelveChain", name := "phone", desc := "(II)I" } : Jvm.MethodName) ({ cls := "TwelveChain", name := "phone", desc := "(II)I" } : Jvm.MethodName)) ∈ lw_all := lw_g (lw_at lw_m4 236 rfl) rfl
theorem q1107 : (Jvm.Cond.code ({ cls := "TwelveChain", name := "phone", desc := "(II)I" } : Jvm.MethodName) prog_1_method_59_code (3 : Nat) (Option.some Jvm.ClassFile.FieldType.int)) ∈ lw_all := lw_g (lw_at lw_m4 237 rfl) rfl
theorem q1108 : (Jvm.Cond.methodLink "TwelveChain" (492 : Nat) ({ cls := "TwelveChain", name := "phoneOf", desc := "(IZ)I" } : Jvm.MethodName)) ∈ lw_all := lw_g (lw_at lw_m4 238 rfl) rfl
theorem q1109 : (Jvm.Cond.privateMethod ({ cls := "TwelveChain", name := "phoneOf", desc := "(IZ)I" } : Jvm.MethodName)) ∈ lw_tbl := lw_at lw_m4 239 rfl
theorem q1110 : (Jvm.Cond.instanceMethod ({ cls := "TwelveChain", name := "phoneOf", desc := "(IZ)I" } : Jvm.MethodName)) ∈ lw_all := lw_g (lw_at lw_m5 0 rfl) rfl
theorem q1111 : (Jvm.Cond.code ({ cls := "TwelveChain", name := "phoneOf", desc := "(IZ)I" } : Jvm.MethodName) prog_1_method_57_code (5 : Nat) (Option.some Jvm.ClassFile.FieldType.int)) ∈ lw_all := lw_g (lw_at lw_m5 1 rfl) rfl
theorem q1112 : (Jvm.Cond.methodLink "TwelveChain" (483 : Nat) ({ cls := "TwelveChain$Phone", name := "link", desc := "()I" } : Jvm.MethodName)) ∈ lw_all := lw_g (lw_at lw_m5 2 rfl) rfl
theorem q1116 : (Jvm.Cond.methodLink "TwelveChain" (485 : Nat) ({ cls := "TwelveChain$Phone", name := "to", desc := "()I" } : Jvm.MethodName)) ∈ lw_all := lw_g (lw_at lw_m5 6 rfl) rfl
theorem q1120 : (Jvm.Cond.methodLink "TwelveChain" (487 : Nat) ({ cls := "TwelveChain$Phone", name := "from", desc := "()I" } : Jvm.MethodName)) ∈ lw_all := lw_g (lw_at lw_m5 10 rfl) rfl
theorem q1124 : (Jvm.Cond.methodLink "TwelveChain" (496 : Nat) ({ cls := "TwelveChain", name := "recordsOf", desc := "(III)I" } : Jvm.MethodName)) ∈ lw_all := lw_g (lw_at lw_m5 14 rfl) rfl
theorem q1125 : (Jvm.Cond.privateMethod ({ cls := "TwelveChain", name := "recordsOf", desc := "(III)I" } : Jvm.MethodName)) ∈ lw_tbl := lw_at lw_m5 15 rfl
theorem q1126 : (Jvm.Cond.instanceMethod ({ cls := "TwelveChain", name := "recordsOf", desc := "(III)I" } : Jvm.MethodName)) ∈ lw_all := lw_g (lw_at lw_m5 16 rfl) rfl
theorem q1127 : (Jvm.Cond.code ({ cls := "TwelveChain", name := "recordsOf", desc := "(III)I" } : Jvm.MethodName) prog_1_method_58_code (6 : Nat) (Option.some Jvm.ClassFile.FieldType.int)) ∈ lw_all := lw_g (lw_at lw_m5 17 rfl) rfl
theorem q1128 : (Jvm.Cond.methodLink "TwelveChain" (489 : Nat) ({ cls := "TwelveChain$Wrote", name := "link", desc := "()I" } : Jvm.MethodName)) ∈ lw_all := lw_g (lw_at lw_m5 18 rfl) rfl
theorem q1132 : (Jvm.Cond.methodLink "TwelveChain" (490 : Nat) ({ cls := "TwelveChain$Wrote", name := "day", desc := "()I" } : Jvm.MethodName)) ∈ lw_all := lw_g (lw_at lw_m5 22 rfl) rfl
theorem q1137 : (Jvm.Cond.instanceMethod ({ cls := "TwelveChain", name := "book", desc := "(II)I" } : Jvm.MethodName)) ∈ lw_all := lw_g (lw_at lw_m5 27 rfl) rfl
theorem q1138 : (Jvm.Cond.selects "TwelveChain" ({ cls := "TwelveChain", name := "book", desc := "(II)I" } : Jvm.MethodName) ({ cls := "TwelveChain", name := "book", desc := "(II)I" } : Jvm.MethodName)) ∈ lw_all := lw_g (lw_at lw_m5 28 rfl) rfl
theorem q1139 : (Jvm.Cond.code ({ cls := "TwelveChain", name := "book", desc := "(II)I" } : Jvm.MethodName) prog_1_method_60_code (3 : Nat) (Option.some Jvm.ClassFile.FieldType.int)) ∈ lw_all := lw_g (lw_at lw_m5 29 rfl) rfl
theorem q1141 : (Jvm.Cond.instanceMethod ({ cls := "TwelveChain", name := "goes", desc := "(II)I" } : Jvm.MethodName)) ∈ lw_all := lw_g (lw_at lw_m5 31 rfl) rfl
theorem q1142 : (Jvm.Cond.selects "TwelveChain" ({ cls := "TwelveChain", name := "goes", desc := "(II)I" } : Jvm.MethodName) ({ cls := "TwelveChain", name := "goes", desc := "(II)I" } : Jvm.MethodName)) ∈ lw_all := lw_g (lw_at lw_m5 32 rfl) rfl
theorem q1143 : (Jvm.Cond.code ({ cls := "TwelveChain", name := "goes", desc := "(II)I" } : Jvm.MethodName) prog_1_method_61_code (7 : Nat) (Option.some Jvm.ClassFile.FieldType.int)) ∈ lw_all := lw_g (lw_at lw_m5 33 rfl) rfl
theorem q1144 : (Jvm.Cond.methodLink "TwelveChain" (499 : Nat) ({ cls := "TwelveChain$Chain", name := "thinks", desc := "(LTwelveChain$Chain;)LTwelveChain$Chain;" } : Jvm.MethodName)) ∈ lw_all := lw_g (lw_at lw_m5 34 rfl) rfl
theorem q1149 : (Jvm.Cond.methodLink "TwelveChain" (503 : Nat) ({ cls := "TwelveChain$Chain", name := "movedSet", desc := "()I" } : Jvm.MethodName)) ∈ lw_all := lw_g (lw_at lw_m5 39 rfl) rfl
theorem q1153 : (Jvm.Cond.methodLink "TwelveChain" (506 : Nat) ({ cls := "java/lang/Integer", name := "bitCount", desc := "(I)I" } : Jvm.MethodName)) ∈ lw_all := lw_g (lw_at lw_m5 43 rfl) rfl
theorem q1155 : (Jvm.Cond.instanceMethod ({ cls := "TwelveChain", name := "odds", desc := "(I)I" } : Jvm.MethodName)) ∈ lw_all := lw_g (lw_at lw_m5 45 rfl) rfl
theorem q1156 : (Jvm.Cond.selects "TwelveChain" ({ cls := "TwelveChain", name := "odds", desc := "(I)I" } : Jvm.MethodName) ({ cls := "TwelveChain", name := "odds", desc := "(I)I" } : Jvm.MethodName)) ∈ lw_all := lw_g (lw_at lw_m5 46 rfl) rfl
theorem q1157 : (Jvm.Cond.code ({ cls := "TwelveChain", name := "odds", desc := "(I)I" } : Jvm.MethodName) prog_1_method_65_code (2 : Nat) (Option.some Jvm.ClassFile.FieldType.int)) ∈ lw_all := lw_g (lw_at lw_m5 47 rfl) rfl
theorem q1158 : (Jvm.Cond.methodLink "TwelveChain" (524 : Nat) ({ cls := "TwelveChain", name := "oddsFrom", desc := "(III)I" } : Jvm.MethodName)) ∈ lw_all := lw_g (lw_at lw_m5 48 rfl) rfl
theorem q1159 : (Jvm.Cond.privateMethod ({ cls := "TwelveChain", name := "oddsFrom", desc := "(III)I" } : Jvm.MethodName)) ∈ lw_tbl := lw_at lw_m5 49 rfl
theorem q1160 : (Jvm.Cond.instanceMethod ({ cls := "TwelveChain", name := "oddsFrom", desc := "(III)I" } : Jvm.MethodName)) ∈ lw_all := lw_g (lw_at lw_m5 50 rfl) rfl
theorem q1161 : (Jvm.Cond.code ({ cls := "TwelveChain", name := "oddsFrom", desc := "(III)I" } : Jvm.MethodName) prog_1_method_64_code (6 : Nat) (Option.some Jvm.ClassFile.FieldType.int)) ∈ lw_all := lw_g (lw_at lw_m5 51 rfl) rfl
theorem q1162 : (Jvm.Cond.constant "TwelveChain" (514 : Nat) (1000000 : Int32)) ∈ lw_all := lw_g (lw_at lw_m5 52 rfl) rfl
theorem q1163 : (Jvm.Cond.methodLink "TwelveChain" (521 : Nat) ({ cls := "TwelveChain", name := "oddsOf", desc := "(II)I" } : Jvm.MethodName)) ∈ lw_all := lw_g (lw_at lw_m5 53 rfl) rfl
theorem q1164 : (Jvm.Cond.privateMethod ({ cls := "TwelveChain", name := "oddsOf", desc := "(II)I" } : Jvm.MethodName)) ∈ lw_tbl := lw_at lw_m5 54 rfl
theorem q1165 : (Jvm.Cond.instanceMethod ({ cls := "TwelveChain", name := "oddsOf", desc := "(II)I" } : Jvm.MethodName)) ∈ lw_all := lw_g (lw_at lw_m5 55 rfl) rfl
theorem q1166 : (Jvm.Cond.code ({ cls := "TwelveChain", name := "oddsOf", desc := "(II)I" } : Jvm.MethodName) prog_1_method_63_code (3 : Nat) (Option.some Jvm.ClassFile.FieldType.int)) ∈ lw_all := lw_g (lw_at lw_m5 56 rfl) rfl
theorem q1167 : (Jvm.Cond.methodLink "TwelveChain" (518 : Nat) ({ cls := "TwelveChain", name := "readyBy", desc := "(II)I" } : Jvm.MethodName)) ∈ lw_all := lw_g (lw_at lw_m5 57 rfl) rfl
theorem q1168 : (Jvm.Cond.static ({ cls := "TwelveChain", name := "readyBy", desc := "(II)I" } : Jvm.MethodName)) ∈ lw_all := lw_g (lw_at lw_m5 58 rfl) rfl
theorem q1169 : (Jvm.Cond.code ({ cls := "TwelveChain", name := "readyBy", desc := "(II)I" } : Jvm.MethodName) prog_1_method_62_code (4 : Nat) (Option.some Jvm.ClassFile.FieldType.int)) ∈ lw_all := lw_g (lw_at lw_m5 59 rfl) rfl
theorem q1170 : (Jvm.Cond.methodLink "TwelveChain" (515 : Nat) ({ cls := "TwelveChain", name := "partOf", desc := "(III)I" } : Jvm.MethodName)) ∈ lw_all := lw_g (lw_at lw_m5 60 rfl) rfl
theorem q1171 : (Jvm.Cond.static ({ cls := "TwelveChain", name := "partOf", desc := "(III)I" } : Jvm.MethodName)) ∈ lw_all := lw_g (lw_at lw_m5 61 rfl) rfl
theorem q1172 : (Jvm.Cond.code ({ cls := "TwelveChain", name := "partOf", desc := "(III)I" } : Jvm.MethodName) prog_1_method_7_code (3 : Nat) (Option.some Jvm.ClassFile.FieldType.int)) ∈ lw_all := lw_g (lw_at lw_m5 62 rfl) rfl
theorem q1174 : (Jvm.Cond.instanceMethod ({ cls := "TwelveChain", name := "holds", desc := "(II)I" } : Jvm.MethodName)) ∈ lw_all := lw_g (lw_at lw_m5 64 rfl) rfl
theorem q1175 : (Jvm.Cond.selects "TwelveChain" ({ cls := "TwelveChain", name := "holds", desc := "(II)I" } : Jvm.MethodName) ({ cls := "TwelveChain", name := "holds", desc := "(II)I" } : Jvm.MethodName)) ∈ lw_all := lw_g (lw_at lw_m5 65 rfl) rfl
theorem q1176 : (Jvm.Cond.code ({ cls := "TwelveChain", name := "holds", desc := "(II)I" } : Jvm.MethodName) prog_1_method_66_code (5 : Nat) (Option.some Jvm.ClassFile.FieldType.int)) ∈ lw_all := lw_g (lw_at lw_m5 66 rfl) rfl
theorem q1178 : (Jvm.Cond.instanceMethod ({ cls := "TwelveChain", name := "many", desc := "(II)I" } : Jvm.MethodName)) ∈ lw_all := lw_g (lw_at lw_m5 68 rfl) rfl
theorem q1179 : (Jvm.Cond.selects "TwelveChain" ({ cls := "TwelveChain", name := "many", desc := "(II)I" } : Jvm.MethodName) ({ cls := "TwelveChain", name := "many", desc := "(II)I" } : Jvm.MethodName)) ∈ lw_all := lw_g (lw_at lw_m5 69 rfl) rfl
theorem q1180 : (Jvm.Cond.code ({ cls := "TwelveChain", name := "many", desc := "(II)I" } : Jvm.MethodName) prog_1_method_67_code (6 : Nat) (Option.some Jvm.ClassFile.FieldType.int)) ∈ lw_all := lw_g (lw_at lw_m5 70 rfl) rfl
theorem q1182 : (Jvm.Cond.instanceMethod ({ cls := "TwelveChain", name := "bridges", desc := "(III)I" } : Jvm.MethodName)) ∈ lw_all := lw_g (lw_at lw_m5 72 rfl) rfl
theorem q1183 : (Jvm.Cond.selects "TwelveChain" ({ cls := "TwelveChain", name := "bridges", desc := "(III)I" } : Jvm.MethodName) ({ cls := "TwelveChain", name := "bridges", desc := "(III)I" } : Jvm.MethodName)) ∈ lw_all := lw_g (lw_at lw_m5 73 rfl) rfl
theorem q1184 : (Jvm.Cond.code ({ cls := "TwelveChain", name := "bridges", desc := "(III)I" } : Jvm.MethodName) prog_1_method_70_code (9 : Nat) (Option.some Jvm.ClassFile.FieldType.int)) ∈ lw_all := lw_g (lw_at lw_m5 74 rfl) rfl
theorem q1185 : (Jvm.Cond.privateMethod ({ cls := "TwelveChain", name := "lambda$bridges$0", desc := "(I)Z" } : Jvm.MethodName)) ∈ lw_tbl := lw_at lw_m5 75 rfl
theorem q1186 : (Jvm.Cond.instanceMethod ({ cls := "TwelveChain", name := "lambda$bridges$0", desc := "(I)Z" } : Jvm.MethodName)) ∈ lw_all := lw_g (lw_at lw_m5 76 rfl) rfl
theorem q1187 : (Jvm.Cond.code ({ cls := "TwelveChain", name := "lambda$bridges$0", desc := "(I)Z" } : Jvm.MethodName) prog_1_method_107_code (2 : Nat) (Option.some Jvm.ClassFile.FieldType.boolean)) ∈ lw_all := lw_g (lw_at lw_m5 77 rfl) rfl
theorem q1188 : (Jvm.Cond.methodLink "TwelveChain" (536 : Nat) ({ cls := "TwelveChain", name := "setOf", desc := "(ILTwelveChain$Condition;)I" } : Jvm.MethodName)) ∈ lw_all := lw_g (lw_at lw_m5 78 rfl) rfl
theorem q1189 : (Jvm.Cond.static ({ cls := "TwelveChain", name := "setOf", desc := "(ILTwelveChain$Condition;)I" } : Jvm.MethodName)) ∈ lw_all := lw_g (lw_at lw_m5 79 rfl) rfl
theorem q1190 : (Jvm.Cond.code ({ cls := "TwelveChain", name := "setOf", desc := "(ILTwelveChain$Condition;)I" } : Jvm.MethodName) prog_1_method_5_code (4 : Nat) (Option.some Jvm.ClassFile.FieldType.int)) ∈ lw_all := lw_g (lw_at lw_m5 80 rfl) rfl
theorem q1191 : (Jvm.Cond.interfaceEntry "TwelveChain" (16 : Nat)) ∈ lw_tbl := lw_at lw_m5 81 rfl
theorem q1192 : (Jvm.Cond.methodLink "TwelveChain" (16 : Nat) ({ cls := "TwelveChain$Condition", name := "holds", desc := "(I)Z" } : Jvm.MethodName)) ∈ lw_all := lw_g (lw_at lw_m5 82 rfl) rfl
theorem q1195 : (Jvm.Cond.constant "TwelveChain" (540 : Nat) (2147483647 : Int32)) ∈ lw_all := lw_g (lw_at lw_m5 85 rfl) rfl
theorem q1196 : (Jvm.Cond.methodLink "TwelveChain" (541 : Nat) ({ cls := "TwelveChain", name := "costOf", desc := "(II)I" } : Jvm.MethodName)) ∈ lw_all := lw_g (lw_at lw_m5 86 rfl) rfl
theorem q1197 : (Jvm.Cond.privateMethod ({ cls := "TwelveChain", name := "costOf", desc := "(II)I" } : Jvm.MethodName)) ∈ lw_tbl := lw_at lw_m5 87 rfl
theorem q1198 : (Jvm.Cond.instanceMethod ({ cls := "TwelveChain", name := "costOf", desc := "(II)I" } : Jvm.MethodName)) ∈ lw_all := lw_g (lw_at lw_m5 88 rfl) rfl
theorem q1199 : (Jvm.Cond.code ({ cls := "TwelveChain", name := "costOf", desc := "(II)I" } : Jvm.MethodName) prog_1_method_69_code (5 : Nat) (Option.some Jvm.ClassFile.FieldType.int)) ∈ lw_all := lw_g (lw_at lw_m5 89 rfl) rfl
theorem q1200 : (Jvm.Cond.methodLink "TwelveChain" (543 : Nat) ({ cls := "TwelveChain", name := "areLikely", desc := "(III)Z" } : Jvm.MethodName)) ∈ lw_all := lw_g (lw_at lw_m5 90 rfl) rfl
theorem q1201 : (Jvm.Cond.privateMethod ({ cls := "TwelveChain", name := "areLikely", desc := "(III)Z" } : Jvm.MethodName)) ∈ lw_tbl := lw_at lw_m5 91 rfl
theorem q1202 : (Jvm.Cond.instanceMethod ({ cls := "TwelveChain", name := "areLikely", desc := "(III)Z" } : Jvm.MethodName)) ∈ lw_all := lw_g (lw_at lw_m5 92 rfl) rfl
theorem q1203 : (Jvm.Cond.code ({ cls := "TwelveChain", name := "areLikely", desc := "(III)Z" } : Jvm.MethodName) prog_1_method_68_code (5 : Nat) (Option.some Jvm.ClassFile.FieldType.boolean)) ∈ lw_all := lw_g (lw_at lw_m5 93 rfl) rfl
theorem q1204 : (Jvm.Cond.methodLink "TwelveChain" (527 : Nat) ({ cls := "TwelveChain$Chain", name := "beginsPart", desc := "(II)Z" } : Jvm.MethodName)) ∈ lw_all := lw_g (lw_at lw_m5 94 rfl) rfl
theorem q1205 : (Jvm.Cond.methodLink "TwelveChain" (530 : Nat) ({ cls := "TwelveChain$Chain", name := "endOf", desc := "(II)I" } : Jvm.MethodName)) ∈ lw_all := lw_g (lw_at lw_m5 95 rfl) rfl
theorem q1207 : (Jvm.Cond.instanceMethod ({ cls := "TwelveChain", name := "soon", desc := "(I)I" } : Jvm.MethodName)) ∈ lw_all := lw_g (lw_at lw_m5 97 rfl) rfl
theorem q1208 : (Jvm.Cond.selects "TwelveChain" ({ cls := "TwelveChain", name := "soon", desc := "(I)I" } : Jvm.MethodName) ({ cls := "TwelveChain", name := "soon", desc := "(I)I" } : Jvm.MethodName)) ∈ lw_all := lw_g (lw_at lw_m5 98 rfl) rfl
theorem q1209 : (Jvm.Cond.code ({ cls := "TwelveChain", name := "soon", desc := "(I)I" } : Jvm.MethodName) prog_1_method_71_code (3 : Nat) (Option.some Jvm.ClassFile.FieldType.int)) ∈ lw_all := lw_g (lw_at lw_m5 99 rfl) rfl
theorem q1211 : (Jvm.Cond.instanceMethod ({ cls := "TwelveChain", name := "hurry", desc := "(II)I" } : Jvm.MethodName)) ∈ lw_all := lw_g (lw_at lw_m5 101 rfl) rfl
theorem q1212 : (Jvm.Cond.selects "TwelveChain" ({ cls := "TwelveChain", name := "hurry", desc := "(II)I" } : Jvm.MethodName) ({ cls := "TwelveChain", name := "hurry", desc := "(II)I" } : Jvm.MethodName)) ∈ lw_all := lw_g (lw_at lw_m5 102 rfl) rfl
theorem q1213 : (Jvm.Cond.code ({ cls := "TwelveChain", name := "hurry", desc := "(II)I" } : Jvm.MethodName) prog_1_method_73_code (4 : Nat) (Option.some Jvm.ClassFile.FieldType.int)) ∈ lw_all := lw_g (lw_at lw_m5 103 rfl) rfl
theorem q1214 : (Jvm.Cond.privateMethod ({ cls := "TwelveChain", name := "lambda$hurry$1", desc := "(II)I" } : Jvm.MethodName)) ∈ lw_tbl := lw_at lw_m5 104 rfl
theorem q1215 : (Jvm.Cond.instanceMethod ({ cls := "TwelveChain", name := "lambda$hurry$1", desc := "(II)I" } : Jvm.MethodName)) ∈ lw_all := lw_g (lw_at lw_m5 105 rfl) rfl
theorem q1216 : (Jvm.Cond.code ({ cls := "TwelveChain", name := "lambda$hurry$1", desc := "(II)I" } : Jvm.MethodName) prog_1_method_106_code (3 : Nat) (Option.some Jvm.ClassFile.FieldType.int)) ∈ lw_all := lw_g (lw_at lw_m5 106 rfl) rfl
theorem q1217 : (Jvm.Cond.methodLink "TwelveChain" (553 : Nat) ({ cls := "TwelveChain", name := "oddsHurried", desc := "(II)I" } : Jvm.MethodName)) ∈ lw_all := lw_g (lw_at lw_m5 107 rfl) rfl
theorem q1218 : (Jvm.Cond.privateMethod ({ cls := "TwelveChain", name := "oddsHurried", desc := "(II)I" } : Jvm.MethodName)) ∈ lw_tbl := lw_at lw_m5 108 rfl
theorem q1219 : (Jvm.Cond.instanceMethod ({ cls := "TwelveChain", name := "oddsHurried", desc := "(II)I" } : Jvm.MethodName)) ∈ lw_all := lw_g (lw_at lw_m5 109 rfl) rfl
theorem q1220 : (Jvm.Cond.code ({ cls := "TwelveChain", name := "oddsHurried", desc := "(II)I" } : Jvm.MethodName) prog_1_method_72_code (5 : Nat) (Option.some Jvm.ClassFile.FieldType.int)) ∈ lw_all := lw_g (lw_at lw_m5 110 rfl) rfl
theorem q1221 : (Jvm.Cond.methodLink "TwelveChain" (549 : Nat) ({ cls := "TwelveChain", name := "leastBy", desc := "(ILTwelveChain$Measure;)I" } : Jvm.MethodName)) ∈ lw_all := lw_g (lw_at lw_m5 111 rfl) rfl
theorem q1222 : (Jvm.Cond.static ({ cls := "TwelveChain", name := "leastBy", desc := "(ILTwelveChain$Measure;)I" } : Jvm.MethodName)) ∈ lw_all := lw_g (lw_at lw_m5 112 rfl) rfl
theorem q1223 : (Jvm.Cond.code ({ cls := "TwelveChain", name := "leastBy", desc := "(ILTwelveChain$Measure;)I" } : Jvm.MethodName) prog_1_method_6_code (4 : Nat) (Option.some Jvm.ClassFile.FieldType.int)) ∈ lw_all := lw_g (lw_at lw_m5 113 rfl) rfl
theorem q1224 : (Jvm.Cond.interfaceEntry "TwelveChain" (24 : Nat)) ∈ lw_tbl := lw_at lw_m5 114 rfl
theorem q1225 : (Jvm.Cond.methodLink "TwelveChain" (24 : Nat) ({ cls := "TwelveChain$Measure", name := "of", desc := "(I)I" } : Jvm.MethodName)) ∈ lw_all := lw_g (lw_at lw_m5 115 rfl) rfl
theorem q1229 : (Jvm.Cond.instanceMethod ({ cls := "TwelveChain", name := "split", desc := "(II)I" } : Jvm.MethodName)) ∈ lw_all := lw_g (lw_at lw_m5 119 rfl) rfl
theorem q1230 : (Jvm.Cond.selects "TwelveChain" ({ cls := "TwelveChain", name := "split", desc := "(II)I" } : Jvm.MethodName) ({ cls := "TwelveChain", name := "split", desc := "(II)I" } : Jvm.MethodName)) ∈ lw_all := lw_g (lw_at lw_m5 120 rfl) rfl
theorem q1231 : (Jvm.Cond.code ({ cls := "TwelveChain", name := "split", desc := "(II)I" } : Jvm.MethodName) prog_1_method_75_code (7 : Nat) (Option.some Jvm.ClassFile.FieldType.int)) ∈ lw_all := lw_g (lw_at lw_m5 121 rfl) rfl
theorem q1232 : (Jvm.Cond.methodLink "TwelveChain" (556 : Nat) ({ cls := "TwelveChain", name := "worstPart", desc := "(II)I" } : Jvm.MethodName)) ∈ lw_all := lw_g (lw_at lw_m5 122 rfl) rfl
theorem q1233 : (Jvm.Cond.privateMethod ({ cls := "TwelveChain", name := "worstPart", desc := "(II)I" } : Jvm.MethodName)) ∈ lw_tbl := lw_at lw_m5 123 rfl
theorem q1234 : (Jvm.Cond.instanceMethod ({ cls := "TwelveChain", name := "worstPart", desc := "(II)I" } : Jvm.MethodName)) ∈ lw_all := lw_g (lw_at lw_m5 124 rfl) rfl
theorem q1235 : (Jvm.Cond.code ({ cls := "TwelveChain", name := "worstPart", desc := "(II)I" } : Jvm.MethodName) prog_1_method_74_code (5 : Nat) (Option.some Jvm.ClassFile.FieldType.int)) ∈ lw_all := lw_g (lw_at lw_m5 125 rfl) rfl
theorem q1237 : (Jvm.Cond.instanceMethod ({ cls := "TwelveChain", name := "gap", desc := "(I)I" } : Jvm.MethodName)) ∈ lw_all := lw_g (lw_at lw_m5 127 rfl) rfl
theorem q1238 : (Jvm.Cond.selects "TwelveChain" ({ cls := "TwelveChain", name := "gap", desc := "(I)I" } : Jvm.MethodName) ({ cls := "TwelveChain", name := "gap", desc := "(I)I" } : Jvm.MethodName)) ∈ lw_all := lw_g (lw_at lw_m5 128 rfl) rfl
theorem q1239 : (Jvm.Cond.code ({ cls := "TwelveChain", name := "gap", desc := "(I)I" } : Jvm.MethodName) prog_1_method_77_code (2 : Nat) (Option.some Jvm.ClassFile.FieldType.int)) ∈ lw_all := lw_g (lw_at lw_m5 129 rfl) rfl
theorem q1240 : (Jvm.Cond.methodLink "TwelveChain" (559 : Nat) ({ cls := "TwelveChain", name := "gapOf", desc := "(I)I" } : Jvm.MethodName)) ∈ lw_all := lw_g (lw_at lw_m5 130 rfl) rfl
theorem q1241 : (Jvm.Cond.privateMethod ({ cls := "TwelveChain", name := "gapOf", desc := "(I)I" } : Jvm.MethodName)) ∈ lw_tbl := lw_at lw_m5 131 rfl
theorem q1242 : (Jvm.Cond.instanceMethod ({ cls := "TwelveChain", name := "gapOf", desc := "(I)I" } : Jvm.MethodName)) ∈ lw_all := lw_g (lw_at lw_m5 132 rfl) rfl
theorem q1243 : (Jvm.Cond.code ({ cls := "TwelveChain", name := "gapOf", desc := "(I)I" } : Jvm.MethodName) prog_1_method_76_code (2 : Nat) (Option.some Jvm.ClassFile.FieldType.int)) ∈ lw_all := lw_g (lw_at lw_m5 133 rfl) rfl
theorem q1245 : (Jvm.Cond.instanceMethod ({ cls := "TwelveChain", name := "runs", desc := "(I)I" } : Jvm.MethodName)) ∈ lw_all := lw_g (lw_at lw_m5 135 rfl) rfl
theorem q1246 : (Jvm.Cond.selects "TwelveChain" ({ cls := "TwelveChain", name := "runs", desc := "(I)I" } : Jvm.MethodName) ({ cls := "TwelveChain", name := "runs", desc := "(I)I" } : Jvm.MethodName)) ∈ lw_all := lw_g (lw_at lw_m5 136 rfl) rfl
theorem q1247 : (Jvm.Cond.code ({ cls := "TwelveChain", name := "runs", desc := "(I)I" } : Jvm.MethodName) prog_1_method_79_code (7 : Nat) (Option.some Jvm.ClassFile.FieldType.int)) ∈ lw_all := lw_g (lw_at lw_m5 137 rfl) rfl
theorem q1248 : (Jvm.Cond.methodLink "TwelveChain" (565 : Nat) ({ cls := "TwelveChain", name := "isSound", desc := "(I)Z" } : Jvm.MethodName)) ∈ lw_all := lw_g (lw_at lw_m5 138 rfl) rfl
theorem q1249 : (Jvm.Cond.privateMethod ({ cls := "TwelveChain", name := "isSound", desc := "(I)Z" } : Jvm.MethodName)) ∈ lw_tbl := lw_at lw_m5 139 rfl
theorem q1250 : (Jvm.Cond.instanceMethod ({ cls := "TwelveChain", name := "isSound", desc := "(I)Z" } : Jvm.MethodName)) ∈ lw_all := lw_g (lw_at lw_m5 140 rfl) rfl
theorem q1251 : (Jvm.Cond.code ({ cls := "TwelveChain", name := "isSound", desc := "(I)Z" } : Jvm.MethodName) prog_1_method_78_code (2 : Nat) (Option.some Jvm.ClassFile.FieldType.boolean)) ∈ lw_all := lw_g (lw_at lw_m5 141 rfl) rfl
theorem q1252 : (Jvm.Cond.methodLink "TwelveChain" (562 : Nat) ({ cls := "TwelveChain$Chain", name := "isThere", desc := "(I)Z" } : Jvm.MethodName)) ∈ lw_all := lw_g (lw_at lw_m5 142 rfl) rfl
theorem q1254 : (Jvm.Cond.instanceMethod ({ cls := "TwelveChain", name := "share", desc := "(II)I" } : Jvm.MethodName)) ∈ lw_all := lw_g (lw_at lw_m5 144 rfl) rfl
theorem q1255 : (Jvm.Cond.selects "TwelveChain" ({ cls := "TwelveChain", name := "share", desc := "(II)I" } : Jvm.MethodName) ({ cls := "TwelveChain", name := "share", desc := "(II)I" } : Jvm.MethodName)) ∈ lw_all := lw_g (lw_at lw_m5 145 rfl) rfl
theorem q1256 : (Jvm.Cond.code ({ cls := "TwelveChain", name := "share", desc := "(II)I" } : Jvm.MethodName) prog_1_method_82_code (6 : Nat) (Option.some Jvm.ClassFile.FieldType.int)) ∈ lw_all := lw_g (lw_at lw_m5 146 rfl) rfl
theorem q1257 : (Jvm.Cond.methodLink "TwelveChain" (571 : Nat) ({ cls := "TwelveChain", name := "givenAt", desc := "(I)I" } : Jvm.MethodName)) ∈ lw_all := lw_g (lw_at lw_m5 147 rfl) rfl
theorem q1258 : (Jvm.Cond.privateMethod ({ cls := "TwelveChain", name := "givenAt", desc := "(I)I" } : Jvm.MethodName)) ∈ lw_tbl := lw_at lw_m5 148 rfl
theorem q1259 : (Jvm.Cond.instanceMethod ({ cls := "TwelveChain", name := "givenAt", desc := "(I)I" } : Jvm.MethodName)) ∈ lw_all := lw_g (lw_at lw_m5 149 rfl) rfl
theorem q1260 : (Jvm.Cond.code ({ cls := "TwelveChain", name := "givenAt", desc := "(I)I" } : Jvm.MethodName) prog_1_method_81_code (4 : Nat) (Option.some Jvm.ClassFile.FieldType.int)) ∈ lw_all := lw_g (lw_at lw_m5 150 rfl) rfl
theorem q1261 : (Jvm.Cond.methodLink "TwelveChain" (568 : Nat) ({ cls := "TwelveChain", name := "canGive", desc := "(I)I" } : Jvm.MethodName)) ∈ lw_all := lw_g (lw_at lw_m5 151 rfl) rfl
theorem q1262 : (Jvm.Cond.privateMethod ({ cls := "TwelveChain", name := "canGive", desc := "(I)I" } : Jvm.MethodName)) ∈ lw_tbl := lw_at lw_m5 152 rfl
theorem q1263 : (Jvm.Cond.instanceMethod ({ cls := "TwelveChain", name := "canGive", desc := "(I)I" } : Jvm.MethodName)) ∈ lw_all := lw_g (lw_at lw_m5 153 rfl) rfl
theorem q1264 : (Jvm.Cond.code ({ cls := "TwelveChain", name := "canGive", desc := "(I)I" } : Jvm.MethodName) prog_1_method_80_code (2 : Nat) (Option.some Jvm.ClassFile.FieldType.int)) ∈ lw_all := lw_g (lw_at lw_m5 154 rfl) rfl
theorem q1266 : (Jvm.Cond.instanceMethod ({ cls := "TwelveChain", name := "along", desc := "(III)I" } : Jvm.MethodName)) ∈ lw_all := lw_g (lw_at lw_m5 156 rfl) rfl
theorem q1267 : (Jvm.Cond.selects "TwelveChain" ({ cls := "TwelveChain", name := "along", desc := "(III)I" } : Jvm.MethodName) ({ cls := "TwelveChain", name := "along", desc := "(III)I" } : Jvm.MethodName)) ∈ lw_all := lw_g (lw_at lw_m5 157 rfl) rfl
theorem q1268 : (Jvm.Cond.code ({ cls := "TwelveChain", name := "along", desc := "(III)I" } : Jvm.MethodName) prog_1_method_83_code (8 : Nat) (Option.some Jvm.ClassFile.FieldType.int)) ∈ lw_all := lw_g (lw_at lw_m5 158 rfl) rfl
theorem q1270 : (Jvm.Cond.instanceMethod ({ cls := "TwelveChain", name := "choice", desc := "(IIII)I" } : Jvm.MethodName)) ∈ lw_all := lw_g (lw_at lw_m5 160 rfl) rfl
theorem q1271 : (Jvm.Cond.selects "TwelveChain" ({ cls := "TwelveChain", name := "choice", desc := "(IIII)I" } : Jvm.MethodName) ({ cls := "TwelveChain", name := "choice", desc := "(IIII)I" } : Jvm.MethodName)) ∈ lw_all := lw_g (lw_at lw_m5 161 rfl) rfl
theorem q1272 : (Jvm.Cond.code ({ cls := "TwelveChain", name := "choice", desc := "(IIII)I" } : Jvm.MethodName) prog_1_method_84_code (9 : Nat) (Option.some Jvm.ClassFile.FieldType.int)) ∈ lw_all := lw_g (lw_at lw_m5 162 rfl) rfl
theorem q1273 : (Jvm.Cond.methodLink "TwelveChain" (574 : Nat) ({ cls := "java/lang/Math", name := "floorDiv", desc := "(II)I" } : Jvm.MethodName)) ∈ lw_all := lw_g (lw_at lw_m5 163 rfl) rfl
theorem q1275 : (Jvm.Cond.instanceMethod ({ cls := "TwelveChain", name := "bluff", desc := "(III)I" } : Jvm.MethodName)) ∈ lw_all := lw_g (lw_at lw_m5 165 rfl) rfl
theorem q1276 : (Jvm.Cond.selects "TwelveChain" ({ cls := "TwelveChain", name := "bluff", desc := "(III)I" } : Jvm.MethodName) ({ cls := "TwelveChain", name := "bluff", desc := "(III)I" } : Jvm.MethodName)) ∈ lw_all := lw_g (lw_at lw_m5 166 rfl) rfl
theorem q1277 : (Jvm.Cond.code ({ cls := "TwelveChain", name := "bluff", desc := "(III)I" } : Jvm.MethodName) prog_1_method_85_code (6 : Nat) (Option.some Jvm.ClassFile.FieldType.int)) ∈ lw_all := lw_g (lw_at lw_m5 167 rfl) rfl
theorem q1279 : (Jvm.Cond.instanceMethod ({ cls := "TwelveChain", name := "signs", desc := "(I)I" } : Jvm.MethodName)) ∈ lw_all := lw_g (lw_at lw_m5 169 rfl) rfl
theorem q1280 : (Jvm.Cond.selects "TwelveChain" ({ cls := "TwelveChain", name := "signs", desc := "(I)I" } : Jvm.MethodName) ({ cls := "TwelveChain", name := "signs", desc := "(I)I" } : Jvm.MethodName)) ∈ lw_all := lw_g (lw_at lw_m5 170 rfl) rfl
theorem q1281 : (Jvm.Cond.code ({ cls := "TwelveChain", name := "signs", desc := "(I)I" } : Jvm.MethodName) prog_1_method_91_code (3 : Nat) (Option.some Jvm.ClassFile.FieldType.int)) ∈ lw_all := lw_g (lw_at lw_m5 171 rfl) rfl
theorem q1282 : (Jvm.Cond.methodLink "TwelveChain" (584 : Nat) ({ cls := "TwelveChain", name := "findsSigned", desc := "(II)V" } : Jvm.MethodName)) ∈ lw_all := lw_g (lw_at lw_m5 172 rfl) rfl
theorem q1283 : (Jvm.Cond.privateMethod ({ cls := "TwelveChain", name := "findsSigned", desc := "(II)V" } : Jvm.MethodName)) ∈ lw_tbl := lw_at lw_m5 173 rfl
theorem q1284 : (Jvm.Cond.instanceMethod ({ cls := "TwelveChain", name := "findsSigned", desc := "(II)V" } : Jvm.MethodName)) ∈ lw_all := lw_g (lw_at lw_m5 174 rfl) rfl
theorem q1285 : (Jvm.Cond.code ({ cls := "TwelveChain", name := "findsSigned", desc := "(II)V" } : Jvm.MethodName) prog_1_method_88_code (6 : Nat) (Option.none : Option Jvm.ClassFile.FieldType)) ∈ lw_all := lw_g (lw_at lw_m5 175 rfl) rfl
theorem q1286 : (Jvm.Cond.constant "TwelveChain" (577 : Nat) (100000 : Int32)) ∈ lw_all := lw_g (lw_at lw_m5 176 rfl) rfl
theorem q1287 : (Jvm.Cond.methodLink "TwelveChain" (578 : Nat) ({ cls := "TwelveChain", name := "isBeyond", desc := "(II)Z" } : Jvm.MethodName)) ∈ lw_all := lw_g (lw_at lw_m5 177 rfl) rfl
theorem q1288 : (Jvm.Cond.static ({ cls := "TwelveChain", name := "isBeyond", desc := "(II)Z" } : Jvm.MethodName)) ∈ lw_all := lw_g (lw_at lw_m5 178 rfl) rfl
theorem q1289 : (Jvm.Cond.code ({ cls := "TwelveChain", name := "isBeyond", desc := "(II)Z" } : Jvm.MethodName) prog_1_method_87_code (2 : Nat) (Option.some Jvm.ClassFile.FieldType.boolean)) ∈ lw_all := lw_g (lw_at lw_m5 179 rfl) rfl
theorem q1290 : (Jvm.Cond.methodLink "TwelveChain" (581 : Nat) ({ cls := "TwelveChain", name := "signsBehind", desc := "(II)I" } : Jvm.MethodName)) ∈ lw_all := lw_g (lw_at lw_m5 180 rfl) rfl
theorem q1291 : (Jvm.Cond.privateMethod ({ cls := "TwelveChain", name := "signsBehind", desc := "(II)I" } : Jvm.MethodName)) ∈ lw_tbl := lw_at lw_m5 181 rfl
theorem q1292 : (Jvm.Cond.instanceMethod ({ cls := "TwelveChain", name := "signsBehind", desc := "(II)I" } : Jvm.MethodName)) ∈ lw_all := lw_g (lw_at lw_m5 182 rfl) rfl
theorem q1293 : (Jvm.Cond.code ({ cls := "TwelveChain", name := "signsBehind", desc := "(II)I" } : Jvm.MethodName) prog_1_method_86_code (4 : Nat) (Option.some Jvm.ClassFile.FieldType.int)) ∈ lw_all := lw_g (lw_at lw_m5 183 rfl) rfl
theorem q1294 : (Jvm.Cond.methodLink "TwelveChain" (587 : Nat) ({ cls := "TwelveChain", name := "mostSigned", desc := "()I" } : Jvm.MethodName)) ∈ lw_all := lw_g (lw_at lw_m5 184 rfl) rfl
theorem q1295 : (Jvm.Cond.privateMethod ({ cls := "TwelveChain", name := "mostSigned", desc := "()I" } : Jvm.MethodName)) ∈ lw_tbl := lw_at lw_m5 185 rfl
theorem q1296 : (Jvm.Cond.instanceMethod ({ cls := "TwelveChain", name := "mostSigned", desc := "()I" } : Jvm.MethodName)) ∈ lw_all := lw_g (lw_at lw_m5 186 rfl) rfl
theorem q1297 : (Jvm.Cond.code ({ cls := "TwelveChain", name := "mostSigned", desc := "()I" } : Jvm.MethodName) prog_1_method_89_code (3 : Nat) (Option.some Jvm.ClassFile.FieldType.int)) ∈ lw_all := lw_g (lw_at lw_m5 187 rfl) rfl
theorem q1298 : (Jvm.Cond.methodLink "TwelveChain" (590 : Nat) ({ cls := "TwelveChain", name := "signerAt", desc := "(II)I" } : Jvm.MethodName)) ∈ lw_all := lw_g (lw_at lw_m5 188 rfl) rfl
theorem q1299 : (Jvm.Cond.privateMethod ({ cls := "TwelveChain", name := "signerAt", desc := "(II)I" } : Jvm.MethodName)) ∈ lw_tbl := lw_at lw_m5 189 rfl
theorem q1300 : (Jvm.Cond.instanceMethod ({ cls := "TwelveChain", name := "signerAt", desc := "(II)I" } : Jvm.MethodName)) ∈ lw_all := lw_g (lw_at lw_m5 190 rfl) rfl
theorem q1301 : (Jvm.Cond.code ({ cls := "TwelveChain", name := "signerAt", desc := "(II)I" } : Jvm.MethodName) prog_1_method_90_code (10 : Nat) (Option.some Jvm.ClassFile.FieldType.int)) ∈ lw_all := lw_g (lw_at lw_m5 191 rfl) rfl
theorem q1303 : (Jvm.Cond.instanceMethod ({ cls := "TwelveChain", name := "money", desc := "(II)I" } : Jvm.MethodName)) ∈ lw_all := lw_g (lw_at lw_m5 193 rfl) rfl
theorem q1304 : (Jvm.Cond.selects "TwelveChain" ({ cls := "TwelveChain", name := "money", desc := "(II)I" } : Jvm.MethodName) ({ cls := "TwelveChain", name := "money", desc := "(II)I" } : Jvm.MethodName)) ∈ lw_all := lw_g (lw_at lw_m5 194 rfl) rfl
theorem q1305 : (Jvm.Cond.code ({ cls := "TwelveChain", name := "money", desc := "(II)I" } : Jvm.MethodName) prog_1_method_92_code (6 : Nat) (Option.some Jvm.ClassFile.FieldType.int)) ∈ lw_all := lw_g (lw_at lw_m5 195 rfl) rfl
theorem q1307 : (Jvm.Cond.instanceMethod ({ cls := "TwelveChain", name := "ill", desc := "(II)I" } : Jvm.MethodName)) ∈ lw_all := lw_g (lw_at lw_m5 197 rfl) rfl
theorem q1308 : (Jvm.Cond.selects "TwelveChain" ({ cls := "TwelveChain", name := "ill", desc := "(II)I" } : Jvm.MethodName) ({ cls := "TwelveChain", name := "ill", desc := "(II)I" } : Jvm.MethodName)) ∈ lw_all := lw_g (lw_at lw_m5 198 rfl) rfl
theorem q1309 : (Jvm.Cond.code ({ cls := "TwelveChain", name := "ill", desc := "(II)I" } : Jvm.MethodName) prog_1_method_93_code (3 : Nat) (Option.some Jvm.ClassFile.FieldType.int)) ∈ lw_all := lw_g (lw_at lw_m5 199 rfl) rfl
theorem q1310 : (Jvm.Cond.privateMethod ({ cls := "TwelveChain", name := "lambda$ill$2", desc := "(III)Z" } : Jvm.MethodName)) ∈ lw_tbl := lw_at lw_m5 200 rfl
theorem q1311 : (Jvm.Cond.instanceMethod ({ cls := "TwelveChain", name := "lambda$ill$2", desc := "(III)Z" } : Jvm.MethodName)) ∈ lw_all := lw_g (lw_at lw_m5 201 rfl) rfl
theorem q1312 : (Jvm.Cond.code ({ cls := "TwelveChain", name := "lambda$ill$2", desc := "(III)Z" } : Jvm.MethodName) prog_1_method_105_code (4 : Nat) (Option.some Jvm.ClassFile.FieldType.boolean)) ∈ lw_all := lw_g (lw_at lw_m5 202 rfl) rfl
theorem q1314 : (Jvm.Cond.instanceMethod ({ cls := "TwelveChain", name := "wrote", desc := "()I" } : Jvm.MethodName)) ∈ lw_all := lw_g (lw_at lw_m5 204 rfl) rfl
theorem q1315 : (Jvm.Cond.selects "TwelveChain" ({ cls := "TwelveChain", name := "wrote", desc := "()I" } : Jvm.MethodName) ({ cls := "TwelveChain", name := "wrote", desc := "()I" } : Jvm.MethodName)) ∈ lw_all := lw_g (lw_at lw_m5 205 rfl) rfl
theorem q1316 : (Jvm.Cond.code ({ cls := "TwelveChain", name := "wrote", desc := "()I" } : Jvm.MethodName) prog_1_method_95_code (1 : Nat) (Option.some Jvm.ClassFile.FieldType.int)) ∈ lw_all := lw_g (lw_at lw_m5 206 rfl) rfl
theorem q1317 : (Jvm.Cond.privateMethod ({ cls := "TwelveChain", name := "lambda$wrote$3", desc := "(I)I" } : Jvm.MethodName)) ∈ lw_tbl := lw_at lw_m5 207 rfl
theorem q1318 : (Jvm.Cond.instanceMethod ({ cls := "TwelveChain", name := "lambda$wrote$3", desc := "(I)I" } : Jvm.MethodName)) ∈ lw_all := lw_g (lw_at lw_m5 208 rfl) rfl
theorem q1319 : (Jvm.Cond.code ({ cls := "TwelveChain", name := "lambda$wrote$3", desc := "(I)I" } : Jvm.MethodName) prog_1_method_104_code (2 : Nat) (Option.some Jvm.ClassFile.FieldType.int)) ∈ lw_all := lw_g (lw_at lw_m5 209 rfl) rfl
theorem q1320 : (Jvm.Cond.methodLink "TwelveChain" (633 : Nat) ({ cls := "TwelveChain", name := "greaterPart", desc := "(I)I" } : Jvm.MethodName)) ∈ lw_all := lw_g (lw_at lw_m5 210 rfl) rfl
theorem q1321 : (Jvm.Cond.privateMethod ({ cls := "TwelveChain", name := "greaterPart", desc := "(I)I" } : Jvm.MethodName)) ∈ lw_tbl := lw_at lw_m5 211 rfl
theorem q1322 : (Jvm.Cond.instanceMethod ({ cls := "TwelveChain", name := "greaterPart", desc := "(I)I" } : Jvm.MethodName)) ∈ lw_all := lw_g (lw_at lw_m5 212 rfl) rfl
theorem q1323 : (Jvm.Cond.code ({ cls := "TwelveChain", name := "greaterPart", desc := "(I)I" } : Jvm.MethodName) prog_1_method_94_code (4 : Nat) (Option.some Jvm.ClassFile.FieldType.int)) ∈ lw_all := lw_g (lw_at lw_m5 213 rfl) rfl
theorem q1325 : (Jvm.Cond.instanceMethod ({ cls := "TwelveChain", name := "slowest", desc := "()I" } : Jvm.MethodName)) ∈ lw_all := lw_g (lw_at lw_m5 215 rfl) rfl
theorem q1326 : (Jvm.Cond.selects "TwelveChain" ({ cls := "TwelveChain", name := "slowest", desc := "()I" } : Jvm.MethodName) ({ cls := "TwelveChain", name := "slowest", desc := "()I" } : Jvm.MethodName)) ∈ lw_all := lw_g (lw_at lw_m5 216 rfl) rfl
theorem q1327 : (Jvm.Cond.code ({ cls := "TwelveChain", name := "slowest", desc := "()I" } : Jvm.MethodName) prog_1_method_96_code (3 : Nat) (Option.some Jvm.ClassFile.FieldType.int)) ∈ lw_all := lw_g (lw_at lw_m5 217 rfl) rfl
theorem q1328 : (Jvm.Cond.methodLink "TwelveChain" (599 : Nat) ({ cls := "TwelveChain$Chain", name := "isMoved", desc := "(I)Z" } : Jvm.MethodName)) ∈ lw_all := lw_g (lw_at lw_m5 218 rfl) rfl
theorem q1330 : (Jvm.Cond.instanceMethod ({ cls := "TwelveChain", name := "game", desc := "(I)I" } : Jvm.MethodName)) ∈ lw_all := lw_g (lw_at lw_m5 220 rfl) rfl
theorem q1331 : (Jvm.Cond.selects "TwelveChain" ({ cls := "TwelveChain", name := "game", desc := "(I)I" } : Jvm.MethodName) ({ cls := "TwelveChain", name := "game", desc := "(I)I" } : Jvm.MethodName)) ∈ lw_all := lw_g (lw_at lw_m5 221 rfl) rfl
theorem q1332 : (Jvm.Cond.code ({ cls := "TwelveChain", name := "game", desc := "(I)I" } : Jvm.MethodName) prog_1_method_98_code (5 : Nat) (Option.some Jvm.ClassFile.FieldType.int)) ∈ lw_all := lw_g (lw_at lw_m5 222 rfl) rfl
theorem q1333 : (Jvm.Cond.methodLink "TwelveChain" (602 : Nat) ({ cls := "TwelveChain", name := "heapOf", desc := "(I)I" } : Jvm.MethodName)) ∈ lw_all := lw_g (lw_at lw_m5 223 rfl) rfl
theorem q1334 : (Jvm.Cond.privateMethod ({ cls := "TwelveChain", name := "heapOf", desc := "(I)I" } : Jvm.MethodName)) ∈ lw_tbl := lw_at lw_m5 224 rfl
theorem q1335 : (Jvm.Cond.instanceMethod ({ cls := "TwelveChain", name := "heapOf", desc := "(I)I" } : Jvm.MethodName)) ∈ lw_all := lw_g (lw_at lw_m5 225 rfl) rfl
theorem q1336 : (Jvm.Cond.code ({ cls := "TwelveChain", name := "heapOf", desc := "(I)I" } : Jvm.MethodName) prog_1_method_97_code (2 : Nat) (Option.some Jvm.ClassFile.FieldType.int)) ∈ lw_all := lw_g (lw_at lw_m5 226 rfl) rfl
theorem q1338 : (Jvm.Cond.instanceMethod ({ cls := "TwelveChain", name := "image", desc := "(Z)Z" } : Jvm.MethodName)) ∈ lw_all := lw_g (lw_at lw_m5 228 rfl) rfl
theorem q1339 : (Jvm.Cond.selects "TwelveChain" ({ cls := "TwelveChain", name := "image", desc := "(Z)Z" } : Jvm.MethodName) ({ cls := "TwelveChain", name := "image", desc := "(Z)Z" } : Jvm.MethodName)) ∈ lw_all := lw_g (lw_at lw_m5 229 rfl) rfl
theorem q1340 : (Jvm.Cond.code ({ cls := "TwelveChain", name := "image", desc := "(Z)Z" } : Jvm.MethodName) prog_1_method_101_code (2 : Nat) (Option.some Jvm.ClassFile.FieldType.boolean)) ∈ lw_all := lw_g (lw_at lw_m5 230 rfl) rfl
theorem q1341 : (Jvm.Cond.methodLink "TwelveChain" (624 : Nat) ({ cls := "TwelveChain", name := "takesAll", desc := "()V" } : Jvm.MethodName)) ∈ lw_all := lw_g (lw_at lw_m5 231 rfl) rfl
theorem q1342 : (Jvm.Cond.privateMethod ({ cls := "TwelveChain", name := "takesAll", desc := "()V" } : Jvm.MethodName)) ∈ lw_tbl := lw_at lw_m5 232 rfl
theorem q1343 : (Jvm.Cond.instanceMethod ({ cls := "TwelveChain", name := "takesAll", desc := "()V" } : Jvm.MethodName)) ∈ lw_all := lw_g (lw_at lw_m5 233 rfl) rfl
theorem q1344 : (Jvm.Cond.code ({ cls := "TwelveChain", name := "takesAll", desc := "()V" } : Jvm.MethodName) prog_1_method_99_code (1 : Nat) (Option.none : Option Jvm.ClassFile.FieldType)) ∈ lw_all := lw_g (lw_at lw_m5 234 rfl) rfl
theorem q1345 : (Jvm.Cond.methodLink "TwelveChain" (605 : Nat) ({ cls := "TwelveChain", name := "copies", desc := "([I[I)V" } : Jvm.MethodName)) ∈ lw_all := lw_g (lw_at lw_m5 235 rfl) rfl
theorem q1346 : (Jvm.Cond.methodLink "TwelveChain" (627 : Nat) ({ cls := "TwelveChain", name := "goesBack", desc := "()V" } : Jvm.MethodName)) ∈ lw_all := lw_g (lw_at lw_m5 236 rfl) rfl
theorem q1347 : (Jvm.Cond.privateMethod ({ cls := "TwelveChain", name := "goesBack", desc := "()V" } : Jvm.MethodName)) ∈ lw_tbl := lw_at lw_m5 237 rfl
theorem q1348 : (Jvm.Cond.instanceMethod ({ cls := "TwelveChain", name := "goesBack", desc := "()V" } : Jvm.MethodName)) ∈ lw_all := lw_g (lw_at lw_m5 238 rfl) rfl
theorem q1349 : (Jvm.Cond.code ({ cls := "TwelveChain", name := "goesBack", desc := "()V" } : Jvm.MethodName) prog_1_method_100_code (1 : Nat) (Option.none : Option Jvm.ClassFile.FieldType)) ∈ lw_all := lw_g (lw_at lw_m5 239 rfl) rfl
theorem q1351 : (Jvm.Cond.instanceMethod ({ cls := "TwelveChain", name := "look", desc := "(I)I" } : Jvm.MethodName)) ∈ lw_all := lw_g (lw_at lw_m6 1 rfl) rfl
theorem q1352 : (Jvm.Cond.selects "TwelveChain" ({ cls := "TwelveChain", name := "look", desc := "(I)I" } : Jvm.MethodName) ({ cls := "TwelveChain", name := "look", desc := "(I)I" } : Jvm.MethodName)) ∈ lw_all := lw_g (lw_at lw_m6 2 rfl) rfl
theorem q1353 : (Jvm.Cond.code ({ cls := "TwelveChain", name := "look", desc := "(I)I" } : Jvm.MethodName) prog_1_method_103_code (2 : Nat) (Option.some Jvm.ClassFile.FieldType.int)) ∈ lw_all := lw_g (lw_at lw_m6 3 rfl) rfl
theorem q1354 : (Jvm.Cond.methodLink "TwelveChain" (630 : Nat) ({ cls := "TwelveChain", name := "partMany", desc := "()I" } : Jvm.MethodName)) ∈ lw_all := lw_g (lw_at lw_m6 4 rfl) rfl
theorem q1355 : (Jvm.Cond.privateMethod ({ cls := "TwelveChain", name := "partMany", desc := "()I" } : Jvm.MethodName)) ∈ lw_tbl := lw_at lw_m6 5 rfl
theorem q1356 : (Jvm.Cond.instanceMethod ({ cls := "TwelveChain", name := "partMany", desc := "()I" } : Jvm.MethodName)) ∈ lw_all := lw_g (lw_at lw_m6 6 rfl) rfl
theorem q1357 : (Jvm.Cond.code ({ cls := "TwelveChain", name := "partMany", desc := "()I" } : Jvm.MethodName) prog_1_method_102_code (3 : Nat) (Option.some Jvm.ClassFile.FieldType.int)) ∈ lw_all := lw_g (lw_at lw_m6 7 rfl) rfl
theorem in_X0 : ∀ w ∈ wsX00, w ∈ lw_all := lw_in wsX00 [347, 349, 351, 353, 355, 357, 359, 361, 363, 365, 367, 369, 371, 373, 375, 377, 379, 381, 383, 385, 387, 389, 391, 393, 395, 397, 399, 401, 403, 405, 407, 409, 411, 413, 415, 417, 419] (by decide +kernel) (by decide +kernel)
