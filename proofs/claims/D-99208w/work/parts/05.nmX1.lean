/-! TwelveChain$Text -/
set_option maxRecDepth 100000
def RX1 : String := "TwelveChain$Text"
def TX1 : u_T := fun k => match k with
  | 0 => ("TwelveChain$Text", "word", "[I", true)
  | 1 => ("TwelveChain$Text", "worth", "[LTwelveChain$Term;", true)
  | 2 => ("TwelveChain$Text", "when", "[LTwelveChain$Term;", true)
  | _ => ("TwelveChain$Text", "many", "I", false)
def tyX1 : Nat → FieldType := fun k => match k with
  | 0 => .array .int
  | 1 => .array (.object "TwelveChain$Term")
  | 2 => .array (.object "TwelveChain$Term")
  | _ => .int
abbrev wsX10 : List Cond := u_ws RX1 TX1 4
theorem nmX1 : ∀ a, a < 4 → ∀ b, b < 4 → a ≠ b → (TX1 a).2.1 ≠ (TX1 b).2.1 := by decide +kernel
theorem tyX1_ok : ∀ k, k < 4 → parseFieldDescriptor (TX1 k).2.2.1 = some (tyX1 k) := by decide +kernel
abbrev cX1_init : ByteArray := prog_11_method_1_code
def yX1_init : MethodName := ⟨RX1, "<init>", "()V"⟩
def dkwX1_init_1 : List UInt8 := [189, 0, 15, 181, 0, 21, 177]
abbrev dktX1_init_1 : List UInt8 := dkwX1_init_1 ++ []
def dkwX1_init_0 : List UInt8 := [42, 183, 0, 3, 42, 16, 16, 188, 10, 181, 0, 9, 42, 16, 16, 189, 0, 15, 181, 0, 17, 42, 16, 16]
abbrev dktX1_init_0 : List UInt8 := dkwX1_init_0 ++ dktX1_init_1
theorem dksX1_init_0 : cX1_init.data.toList.drop 0 = dktX1_init_0 := by decide +kernel
theorem dksX1_init_1 : cX1_init.data.toList.drop 24 = dktX1_init_1 := dk_seg dksX1_init_0 24 rfl rfl
theorem dX1_init_0 : decode cX1_init 0 = .ok (.aload_n 0, 1) := dk_42 (dk_at dksX1_init_0 0 rfl rfl)
theorem dX1_init_1 : decode cX1_init 1 = .ok (.invokespecial 3, 3) := dk_183 0 3 (dk_at dksX1_init_0 1 rfl rfl)
theorem dX1_init_4 : decode cX1_init 4 = .ok (.aload_n 0, 1) := dk_42 (dk_at dksX1_init_0 4 rfl rfl)
theorem dX1_init_5 : decode cX1_init 5 = .ok (.bipush 16, 2) := dk_16 16 (dk_at dksX1_init_0 5 rfl rfl)
theorem dX1_init_7 : decode cX1_init 7 = .ok (.newarray .int, 2) := dk_188_10 (dk_at dksX1_init_0 7 rfl rfl)
theorem dX1_init_9 : decode cX1_init 9 = .ok (.putfield 9, 3) := dk_181 0 9 (dk_at dksX1_init_0 9 rfl rfl)
theorem dX1_init_12 : decode cX1_init 12 = .ok (.aload_n 0, 1) := dk_42 (dk_at dksX1_init_0 12 rfl rfl)
theorem dX1_init_13 : decode cX1_init 13 = .ok (.bipush 16, 2) := dk_16 16 (dk_at dksX1_init_0 13 rfl rfl)
theorem dX1_init_15 : decode cX1_init 15 = .ok (.anewarray 15, 3) := dk_189 0 15 (dk_at dksX1_init_0 15 rfl rfl)
theorem dX1_init_18 : decode cX1_init 18 = .ok (.putfield 17, 3) := dk_181 0 17 (dk_at dksX1_init_0 18 rfl rfl)
theorem dX1_init_21 : decode cX1_init 21 = .ok (.aload_n 0, 1) := dk_42 (dk_at dksX1_init_0 21 rfl rfl)
theorem dX1_init_22 : decode cX1_init 22 = .ok (.bipush 16, 2) := dk_16 16 (dk_at dksX1_init_0 22 rfl rfl)
theorem dX1_init_24 : decode cX1_init 24 = .ok (.anewarray 15, 3) := dk_189 0 15 (dk_at dksX1_init_1 0 rfl rfl)
theorem dX1_init_27 : decode cX1_init 27 = .ok (.putfield 21, 3) := dk_181 0 21 (dk_at dksX1_init_1 3 rfl rfl)
theorem dX1_init_30 : decode cX1_init 30 = .ok (.return_, 1) := dk_177 (dk_at dksX1_init_1 6 rfl rfl)
theorem q152 : (Jvm.Cond.initialized "TwelveChain$Text") ∈ lw_all := lw_g (lw_at lw_m1 2 rfl) rfl
theorem q214 : (Jvm.Cond.instantiable "TwelveChain$Text" (4 : Nat)) ∈ lw_all := lw_g (lw_at lw_m1 64 rfl) rfl
theorem q216 : (Jvm.Cond.instanceMethod ({ cls := "TwelveChain$Text", name := "<init>", desc := "()V" } : Jvm.MethodName)) ∈ lw_all := lw_g (lw_at lw_m1 66 rfl) rfl
theorem q217 : (Jvm.Cond.code ({ cls := "TwelveChain$Text", name := "<init>", desc := "()V" } : Jvm.MethodName) prog_11_method_1_code (1 : Nat) (Option.none : Option Jvm.ClassFile.FieldType)) ∈ lw_all := lw_g (lw_at lw_m1 67 rfl) rfl
theorem q218 : (Jvm.Cond.methodLink "TwelveChain$Text" (3 : Nat) ({ cls := "java/lang/Object", name := "<init>", desc := "()V" } : Jvm.MethodName)) ∈ lw_all := lw_g (lw_at lw_m1 68 rfl) rfl
theorem q219 : (Jvm.Cond.classLink "TwelveChain$Text" (15 : Nat) "TwelveChain$Term") ∈ lw_all := lw_g (lw_at lw_m1 69 rfl) rfl
theorem q221 : (Jvm.Cond.fieldLink "TwelveChain$Text" (9 : Nat) "TwelveChain$Text" "word" "[I") ∈ lw_all := lw_g (lw_at lw_m1 71 rfl) rfl
theorem q223 : (Jvm.Cond.fieldLink "TwelveChain$Text" (17 : Nat) "TwelveChain$Text" "worth" "[LTwelveChain$Term;") ∈ lw_all := lw_g (lw_at lw_m1 73 rfl) rfl
theorem q225 : (Jvm.Cond.fieldLink "TwelveChain$Text" (21 : Nat) "TwelveChain$Text" "when" "[LTwelveChain$Term;") ∈ lw_all := lw_g (lw_at lw_m1 75 rfl) rfl
theorem q228 : (Jvm.Cond.laysFinal "TwelveChain$Text" "TwelveChain$Text" "word" "[I") ∈ lw_all := lw_g (lw_at lw_m1 78 rfl) rfl
theorem q229 : (Jvm.Cond.soleField "TwelveChain$Text" "word") ∈ lw_all := lw_g (lw_at lw_m1 79 rfl) rfl
theorem q230 : (Jvm.Cond.laysFinal "TwelveChain$Text" "TwelveChain$Text" "worth" "[LTwelveChain$Term;") ∈ lw_all := lw_g (lw_at lw_m1 80 rfl) rfl
theorem q231 : (Jvm.Cond.soleField "TwelveChain$Text" "worth") ∈ lw_all := lw_g (lw_at lw_m1 81 rfl) rfl
theorem q232 : (Jvm.Cond.laysFinal "TwelveChain$Text" "TwelveChain$Text" "when" "[LTwelveChain$Term;") ∈ lw_all := lw_g (lw_at lw_m1 82 rfl) rfl
theorem q233 : (Jvm.Cond.soleField "TwelveChain$Text" "when") ∈ lw_all := lw_g (lw_at lw_m1 83 rfl) rfl
theorem q234 : (Jvm.Cond.lays "TwelveChain$Text" "TwelveChain$Text" "many" "I") ∈ lw_all := lw_g (lw_at lw_m1 84 rfl) rfl
theorem q235 : (Jvm.Cond.soleField "TwelveChain$Text" "many") ∈ lw_all := lw_g (lw_at lw_m1 85 rfl) rfl
theorem q236 : (Jvm.Cond.superclass "TwelveChain$Text" "java/lang/Object") ∈ lw_all := lw_g (lw_at lw_m1 86 rfl) rfl
theorem in_X1 : ∀ w ∈ wsX10, w ∈ lw_all := lw_in wsX10 [228, 230, 232, 234] (by decide +kernel) (by decide +kernel)
/-! TwelveChain$Chain -/
set_option maxRecDepth 100000
def RX2 : String := "TwelveChain$Chain"
def TX2 : u_T := fun k => match k with
  | 0 => ("TwelveChain$Chain", "price", "[I", true)
  | 1 => ("TwelveChain$Chain", "purse", "[I", true)
  | 2 => ("TwelveChain$Chain", "worth", "[I", true)
  | 3 => ("TwelveChain$Chain", "slow", "[I", true)
  | 4 => ("TwelveChain$Chain", "moved", "[I", true)
  | 5 => ("TwelveChain$Chain", "ready", "I", false)
  | 6 => ("TwelveChain$Chain", "out", "I", false)
  | 7 => ("TwelveChain$Chain", "bridged", "I", false)
  | 8 => ("TwelveChain$Chain", "day", "I", false)
  | 9 => ("TwelveChain$Chain", "falls", "I", false)
  | 10 => ("TwelveChain$Chain", "state", "I", false)
  | 11 => ("TwelveChain$Chain", "bookMany", "I", false)
  | 12 => ("TwelveChain$Chain", "isThought", "Z", false)
  | _ => ("TwelveChain$Chain", "this$0", "LTwelveChain;", true)
def tyX2 : Nat → FieldType := fun k => match k with
  | 0 => .array .int
  | 1 => .array .int
  | 2 => .array .int
  | 3 => .array .int
  | 4 => .array .int
  | 5 => .int
  | 6 => .int
  | 7 => .int
  | 8 => .int
  | 9 => .int
  | 10 => .int
  | 11 => .int
  | 12 => .boolean
  | _ => .object "TwelveChain"
abbrev wsX20 : List Cond := u_ws RX2 TX2 14
set_option maxRecDepth 100000 in
theorem nmX2 : ∀ a, a < 14 → ∀ b, b < 14 → a ≠ b → (TX2 a).2.1 ≠ (TX2 b).2.1 := by decide +kernel
set_option maxRecDepth 100000 in
theorem tyX2_ok : ∀ k, k < 14 → parseFieldDescriptor (TX2 k).2.2.1 = some (tyX2 k) := by decide +kernel
abbrev cX2_init : ByteArray := prog_2_method_1_code
def yX2_init : MethodName := ⟨RX2, "<init>", "(LTwelveChain;)V"⟩
def dkwX2_init_2 : List UInt8 := [181, 0, 28, 177]
abbrev dktX2_init_2 : List UInt8 := dkwX2_init_2 ++ []
def dkwX2_init_1 : List UInt8 := [181, 0, 19, 42, 16, 12, 188, 10, 181, 0, 22, 42, 16, 12, 188, 10, 181, 0, 25, 42, 16, 12, 188, 10]
abbrev dktX2_init_1 : List UInt8 := dkwX2_init_1 ++ dktX2_init_2
def dkwX2_init_0 : List UInt8 := [42, 43, 181, 0, 3, 42, 183, 0, 9, 42, 16, 12, 188, 10, 181, 0, 15, 42, 16, 12, 188, 10]
abbrev dktX2_init_0 : List UInt8 := dkwX2_init_0 ++ dktX2_init_1
theorem dksX2_init_0 : cX2_init.data.toList.drop 0 = dktX2_init_0 := by decide +kernel
theorem dksX2_init_1 : cX2_init.data.toList.drop 22 = dktX2_init_1 := dk_seg dksX2_init_0 22 rfl rfl
theorem dksX2_init_2 : cX2_init.data.toList.drop 46 = dktX2_init_2 := dk_seg dksX2_init_1 24 rfl rfl
theorem dX2_init_0 : decode cX2_init 0 = .ok (.aload_n 0, 1) := dk_42 (dk_at dksX2_init_0 0 rfl rfl)
theorem dX2_init_1 : decode cX2_init 1 = .ok (.aload_n 1, 1) := dk_43 (dk_at dksX2_init_0 1 rfl rfl)
theorem dX2_init_2 : decode cX2_init 2 = .ok (.putfield 3, 3) := dk_181 0 3 (dk_at dksX2_init_0 2 rfl rfl)
theorem dX2_init_5 : decode cX2_init 5 = .ok (.aload_n 0, 1) := dk_42 (dk_at dksX2_init_0 5 rfl rfl)
theorem dX2_init_6 : decode cX2_init 6 = .ok (.invokespecial 9, 3) := dk_183 0 9 (dk_at dksX2_init_0 6 rfl rfl)
theorem dX2_init_9 : decode cX2_init 9 = .ok (.aload_n 0, 1) := dk_42 (dk_at dksX2_init_0 9 rfl rfl)
theorem dX2_init_10 : decode cX2_init 10 = .ok (.bipush 12, 2) := dk_16 12 (dk_at dksX2_init_0 10 rfl rfl)
theorem dX2_init_12 : decode cX2_init 12 = .ok (.newarray .int, 2) := dk_188_10 (dk_at dksX2_init_0 12 rfl rfl)
theorem dX2_init_14 : decode cX2_init 14 = .ok (.putfield 15, 3) := dk_181 0 15 (dk_at dksX2_init_0 14 rfl rfl)
theorem dX2_init_17 : decode cX2_init 17 = .ok (.aload_n 0, 1) := dk_42 (dk_at dksX2_init_0 17 rfl rfl)
theorem dX2_init_18 : decode cX2_init 18 = .ok (.bipush 12, 2) := dk_16 12 (dk_at dksX2_init_0 18 rfl rfl)
theorem dX2_init_20 : decode cX2_init 20 = .ok (.newarray .int, 2) := dk_188_10 (dk_at dksX2_init_0 20 rfl rfl)
theorem dX2_init_22 : decode cX2_init 22 = .ok (.putfield 19, 3) := dk_181 0 19 (dk_at dksX2_init_1 0 rfl rfl)
theorem dX2_init_25 : decode cX2_init 25 = .ok (.aload_n 0, 1) := dk_42 (dk_at dksX2_init_1 3 rfl rfl)
theorem dX2_init_26 : decode cX2_init 26 = .ok (.bipush 12, 2) := dk_16 12 (dk_at dksX2_init_1 4 rfl rfl)
theorem dX2_init_28 : decode cX2_init 28 = .ok (.newarray .int, 2) := dk_188_10 (dk_at dksX2_init_1 6 rfl rfl)
theorem dX2_init_30 : decode cX2_init 30 = .ok (.putfield 22, 3) := dk_181 0 22 (dk_at dksX2_init_1 8 rfl rfl)
theorem dX2_init_33 : decode cX2_init 33 = .ok (.aload_n 0, 1) := dk_42 (dk_at dksX2_init_1 11 rfl rfl)
theorem dX2_init_34 : decode cX2_init 34 = .ok (.bipush 12, 2) := dk_16 12 (dk_at dksX2_init_1 12 rfl rfl)
theorem dX2_init_36 : decode cX2_init 36 = .ok (.newarray .int, 2) := dk_188_10 (dk_at dksX2_init_1 14 rfl rfl)
theorem dX2_init_38 : decode cX2_init 38 = .ok (.putfield 25, 3) := dk_181 0 25 (dk_at dksX2_init_1 16 rfl rfl)
theorem dX2_init_41 : decode cX2_init 41 = .ok (.aload_n 0, 1) := dk_42 (dk_at dksX2_init_1 19 rfl rfl)
theorem dX2_init_42 : decode cX2_init 42 = .ok (.bipush 12, 2) := dk_16 12 (dk_at dksX2_init_1 20 rfl rfl)
theorem dX2_init_44 : decode cX2_init 44 = .ok (.newarray .int, 2) := dk_188_10 (dk_at dksX2_init_1 22 rfl rfl)
theorem dX2_init_46 : decode cX2_init 46 = .ok (.putfield 28, 3) := dk_181 0 28 (dk_at dksX2_init_2 0 rfl rfl)
theorem dX2_init_49 : decode cX2_init 49 = .ok (.return_, 1) := dk_177 (dk_at dksX2_init_2 3 rfl rfl)
abbrev cX2_become : ByteArray := prog_2_method_2_code
def yX2_become : MethodName := ⟨RX2, "become", "(LTwelveChain$Chain;)V"⟩
def dkwX2_become_4 : List UInt8 := [181, 0, 48, 42, 43, 180, 0, 51, 181, 0, 51, 42, 43, 180, 0, 54, 181, 0, 54, 177]
abbrev dktX2_become_4 : List UInt8 := dkwX2_become_4 ++ []
def dkwX2_become_3 : List UInt8 := [181, 0, 39, 42, 43, 180, 0, 42, 181, 0, 42, 42, 43, 180, 0, 45, 181, 0, 45, 42, 43, 180, 0, 48]
abbrev dktX2_become_3 : List UInt8 := dkwX2_become_3 ++ dktX2_become_4
def dkwX2_become_2 : List UInt8 := [180, 0, 28, 42, 180, 0, 28, 184, 0, 31, 42, 43, 180, 0, 35, 181, 0, 35, 42, 43, 180, 0, 39]
abbrev dktX2_become_2 : List UInt8 := dkwX2_become_2 ++ dktX2_become_3
def dkwX2_become_1 : List UInt8 := [180, 0, 22, 42, 180, 0, 22, 184, 0, 31, 43, 180, 0, 25, 42, 180, 0, 25, 184, 0, 31, 43]
abbrev dktX2_become_1 : List UInt8 := dkwX2_become_1 ++ dktX2_become_2
def dkwX2_become_0 : List UInt8 := [43, 180, 0, 15, 42, 180, 0, 15, 184, 0, 31, 43, 180, 0, 19, 42, 180, 0, 19, 184, 0, 31, 43]
abbrev dktX2_become_0 : List UInt8 := dkwX2_become_0 ++ dktX2_become_1
theorem dksX2_become_0 : cX2_become.data.toList.drop 0 = dktX2_become_0 := by decide +kernel
theorem dksX2_become_1 : cX2_become.data.toList.drop 23 = dktX2_become_1 := dk_seg dksX2_become_0 23 rfl rfl
theorem dksX2_become_2 : cX2_become.data.toList.drop 45 = dktX2_become_2 := dk_seg dksX2_become_1 22 rfl rfl
theorem dksX2_become_3 : cX2_become.data.toList.drop 68 = dktX2_become_3 := dk_seg dksX2_become_2 23 rfl rfl
theorem dksX2_become_4 : cX2_become.data.toList.drop 92 = dktX2_become_4 := dk_seg dksX2_become_3 24 rfl rfl
theorem dX2_become_0 : decode cX2_become 0 = .ok (.aload_n 1, 1) := dk_43 (dk_at dksX2_become_0 0 rfl rfl)
theorem dX2_become_1 : decode cX2_become 1 = .ok (.getfield 15, 3) := dk_180 0 15 (dk_at dksX2_become_0 1 rfl rfl)
theorem dX2_become_4 : decode cX2_become 4 = .ok (.aload_n 0, 1) := dk_42 (dk_at dksX2_become_0 4 rfl rfl)
theorem dX2_become_5 : decode cX2_become 5 = .ok (.getfield 15, 3) := dk_180 0 15 (dk_at dksX2_become_0 5 rfl rfl)
theorem dX2_become_8 : decode cX2_become 8 = .ok (.invokestatic 31, 3) := dk_184 0 31 (dk_at dksX2_become_0 8 rfl rfl)
theorem dX2_become_11 : decode cX2_become 11 = .ok (.aload_n 1, 1) := dk_43 (dk_at dksX2_become_0 11 rfl rfl)
theorem dX2_become_12 : decode cX2_become 12 = .ok (.getfield 19, 3) := dk_180 0 19 (dk_at dksX2_become_0 12 rfl rfl)
theorem dX2_become_15 : decode cX2_become 15 = .ok (.aload_n 0, 1) := dk_42 (dk_at dksX2_become_0 15 rfl rfl)
theorem dX2_become_16 : decode cX2_become 16 = .ok (.getfield 19, 3) := dk_180 0 19 (dk_at dksX2_become_0 16 rfl rfl)
theorem dX2_become_19 : decode cX2_become 19 = .ok (.invokestatic 31, 3) := dk_184 0 31 (dk_at dksX2_become_0 19 rfl rfl)
theorem dX2_become_22 : decode cX2_become 22 = .ok (.aload_n 1, 1) := dk_43 (dk_at dksX2_become_0 22 rfl rfl)
theorem dX2_become_23 : decode cX2_become 23 = .ok (.getfield 22, 3) := dk_180 0 22 (dk_at dksX2_become_1 0 rfl rfl)
theorem dX2_become_26 : decode cX2_become 26 = .ok (.aload_n 0, 1) := dk_42 (dk_at dksX2_become_1 3 rfl rfl)
theorem dX2_become_27 : decode cX2_become 27 = .ok (.getfield 22, 3) := dk_180 0 22 (dk_at dksX2_become_1 4 rfl rfl)
theorem dX2_become_30 : decode cX2_become 30 = .ok (.invokestatic 31, 3) := dk_184 0 31 (dk_at dksX2_become_1 7 rfl rfl)
theorem dX2_become_33 : decode cX2_become 33 = .ok (.aload_n 1, 1) := dk_43 (dk_at dksX2_become_1 10 rfl rfl)
theorem dX2_become_34 : decode cX2_become 34 = .ok (.getfield 25, 3) := dk_180 0 25 (dk_at dksX2_become_1 11 rfl rfl)
theorem dX2_become_37 : decode cX2_become 37 = .ok (.aload_n 0, 1) := dk_42 (dk_at dksX2_become_1 14 rfl rfl)
theorem dX2_become_38 : decode cX2_become 38 = .ok (.getfield 25, 3) := dk_180 0 25 (dk_at dksX2_become_1 15 rfl rfl)
theorem dX2_become_41 : decode cX2_become 41 = .ok (.invokestatic 31, 3) := dk_184 0 31 (dk_at dksX2_become_1 18 rfl rfl)
theorem dX2_become_44 : decode cX2_become 44 = .ok (.aload_n 1, 1) := dk_43 (dk_at dksX2_become_1 21 rfl rfl)
theorem dX2_become_45 : decode cX2_become 45 = .ok (.getfield 28, 3) := dk_180 0 28 (dk_at dksX2_become_2 0 rfl rfl)
theorem dX2_become_48 : decode cX2_become 48 = .ok (.aload_n 0, 1) := dk_42 (dk_at dksX2_become_2 3 rfl rfl)
theorem dX2_become_49 : decode cX2_become 49 = .ok (.getfield 28, 3) := dk_180 0 28 (dk_at dksX2_become_2 4 rfl rfl)
theorem dX2_become_52 : decode cX2_become 52 = .ok (.invokestatic 31, 3) := dk_184 0 31 (dk_at dksX2_become_2 7 rfl rfl)
theorem dX2_become_55 : decode cX2_become 55 = .ok (.aload_n 0, 1) := dk_42 (dk_at dksX2_become_2 10 rfl rfl)
theorem dX2_become_56 : decode cX2_become 56 = .ok (.aload_n 1, 1) := dk_43 (dk_at dksX2_become_2 11 rfl rfl)
theorem dX2_become_57 : decode cX2_become 57 = .ok (.getfield 35, 3) := dk_180 0 35 (dk_at dksX2_become_2 12 rfl rfl)
theorem dX2_become_60 : decode cX2_become 60 = .ok (.putfield 35, 3) := dk_181 0 35 (dk_at dksX2_become_2 15 rfl rfl)
theorem dX2_become_63 : decode cX2_become 63 = .ok (.aload_n 0, 1) := dk_42 (dk_at dksX2_become_2 18 rfl rfl)
theorem dX2_become_64 : decode cX2_become 64 = .ok (.aload_n 1, 1) := dk_43 (dk_at dksX2_become_2 19 rfl rfl)
theorem dX2_become_65 : decode cX2_become 65 = .ok (.getfield 39, 3) := dk_180 0 39 (dk_at dksX2_become_2 20 rfl rfl)
theorem dX2_become_68 : decode cX2_become 68 = .ok (.putfield 39, 3) := dk_181 0 39 (dk_at dksX2_become_3 0 rfl rfl)
theorem dX2_become_71 : decode cX2_become 71 = .ok (.aload_n 0, 1) := dk_42 (dk_at dksX2_become_3 3 rfl rfl)
theorem dX2_become_72 : decode cX2_become 72 = .ok (.aload_n 1, 1) := dk_43 (dk_at dksX2_become_3 4 rfl rfl)
theorem dX2_become_73 : decode cX2_become 73 = .ok (.getfield 42, 3) := dk_180 0 42 (dk_at dksX2_become_3 5 rfl rfl)
theorem dX2_become_76 : decode cX2_become 76 = .ok (.putfield 42, 3) := dk_181 0 42 (dk_at dksX2_become_3 8 rfl rfl)
theorem dX2_become_79 : decode cX2_become 79 = .ok (.aload_n 0, 1) := dk_42 (dk_at dksX2_become_3 11 rfl rfl)
theorem dX2_become_80 : decode cX2_become 80 = .ok (.aload_n 1, 1) := dk_43 (dk_at dksX2_become_3 12 rfl rfl)
theorem dX2_become_81 : decode cX2_become 81 = .ok (.getfield 45, 3) := dk_180 0 45 (dk_at dksX2_become_3 13 rfl rfl)
theorem dX2_become_84 : decode cX2_become 84 = .ok (.putfield 45, 3) := dk_181 0 45 (dk_at dksX2_become_3 16 rfl rfl)
theorem dX2_become_87 : decode cX2_become 87 = .ok (.aload_n 0, 1) := dk_42 (dk_at dksX2_become_3 19 rfl rfl)
theorem dX2_become_88 : decode cX2_become 88 = .ok (.aload_n 1, 1) := dk_43 (dk_at dksX2_become_3 20 rfl rfl)
theorem dX2_become_89 : decode cX2_become 89 = .ok (.getfield 48, 3) := dk_180 0 48 (dk_at dksX2_become_3 21 rfl rfl)
theorem dX2_become_92 : decode cX2_become 92 = .ok (.putfield 48, 3) := dk_181 0 48 (dk_at dksX2_become_4 0 rfl rfl)
theorem dX2_become_95 : decode cX2_become 95 = .ok (.aload_n 0, 1) := dk_42 (dk_at dksX2_become_4 3 rfl rfl)
theorem dX2_become_96 : decode cX2_become 96 = .ok (.aload_n 1, 1) := dk_43 (dk_at dksX2_become_4 4 rfl rfl)
theorem dX2_become_97 : decode cX2_become 97 = .ok (.getfield 51, 3) := dk_180 0 51 (dk_at dksX2_become_4 5 rfl rfl)
theorem dX2_become_100 : decode cX2_become 100 = .ok (.putfield 51, 3) := dk_181 0 51 (dk_at dksX2_become_4 8 rfl rfl)
theorem dX2_become_103 : decode cX2_become 103 = .ok (.aload_n 0, 1) := dk_42 (dk_at dksX2_become_4 11 rfl rfl)
theorem dX2_become_104 : decode cX2_become 104 = .ok (.aload_n 1, 1) := dk_43 (dk_at dksX2_become_4 12 rfl rfl)
theorem dX2_become_105 : decode cX2_become 105 = .ok (.getfield 54, 3) := dk_180 0 54 (dk_at dksX2_become_4 13 rfl rfl)
theorem dX2_become_108 : decode cX2_become 108 = .ok (.putfield 54, 3) := dk_181 0 54 (dk_at dksX2_become_4 16 rfl rfl)
theorem dX2_become_111 : decode cX2_become 111 = .ok (.return_, 1) := dk_177 (dk_at dksX2_become_4 19 rfl rfl)
abbrev cX2_canAsk : ByteArray := prog_2_method_18_code
def yX2_canAsk : MethodName := ⟨RX2, "canAsk", "(I)Z"⟩
def dkwX2_canAsk_1 : List UInt8 := [167, 0, 4, 3, 172]
abbrev dktX2_canAsk_1 : List UInt8 := dkwX2_canAsk_1 ++ []
def dkwX2_canAsk_0 : List UInt8 := [27, 42, 180, 0, 3, 180, 0, 75, 4, 100, 162, 0, 17, 42, 27, 4, 96, 182, 0, 116, 153, 0, 7, 4]
abbrev dktX2_canAsk_0 : List UInt8 := dkwX2_canAsk_0 ++ dktX2_canAsk_1
theorem dksX2_canAsk_0 : cX2_canAsk.data.toList.drop 0 = dktX2_canAsk_0 := by decide +kernel
theorem dksX2_canAsk_1 : cX2_canAsk.data.toList.drop 24 = dktX2_canAsk_1 := dk_seg dksX2_canAsk_0 24 rfl rfl
theorem dX2_canAsk_0 : decode cX2_canAsk 0 = .ok (.iload_n 1, 1) := dk_27 (dk_at dksX2_canAsk_0 0 rfl rfl)
theorem dX2_canAsk_1 : decode cX2_canAsk 1 = .ok (.aload_n 0, 1) := dk_42 (dk_at dksX2_canAsk_0 1 rfl rfl)
theorem dX2_canAsk_2 : decode cX2_canAsk 2 = .ok (.getfield 3, 3) := dk_180 0 3 (dk_at dksX2_canAsk_0 2 rfl rfl)
theorem dX2_canAsk_5 : decode cX2_canAsk 5 = .ok (.getfield 75, 3) := dk_180 0 75 (dk_at dksX2_canAsk_0 5 rfl rfl)
theorem dX2_canAsk_8 : decode cX2_canAsk 8 = .ok (.iconst 1, 1) := dk_4 (dk_at dksX2_canAsk_0 8 rfl rfl)
theorem dX2_canAsk_9 : decode cX2_canAsk 9 = .ok (.isub, 1) := dk_100 (dk_at dksX2_canAsk_0 9 rfl rfl)
theorem dX2_canAsk_10 : decode cX2_canAsk 10 = .ok (.if_icmp .ge 17, 3) := dk_162 0 17 (dk_at dksX2_canAsk_0 10 rfl rfl)
theorem dX2_canAsk_13 : decode cX2_canAsk 13 = .ok (.aload_n 0, 1) := dk_42 (dk_at dksX2_canAsk_0 13 rfl rfl)
theorem dX2_canAsk_14 : decode cX2_canAsk 14 = .ok (.iload_n 1, 1) := dk_27 (dk_at dksX2_canAsk_0 14 rfl rfl)
theorem dX2_canAsk_15 : decode cX2_canAsk 15 = .ok (.iconst 1, 1) := dk_4 (dk_at dksX2_canAsk_0 15 rfl rfl)
theorem dX2_canAsk_16 : decode cX2_canAsk 16 = .ok (.iadd, 1) := dk_96 (dk_at dksX2_canAsk_0 16 rfl rfl)
theorem dX2_canAsk_17 : decode cX2_canAsk 17 = .ok (.invokevirtual 116, 3) := dk_182 0 116 (dk_at dksX2_canAsk_0 17 rfl rfl)
theorem dX2_canAsk_20 : decode cX2_canAsk 20 = .ok (.ifCond .eq 7, 3) := dk_153 0 7 (dk_at dksX2_canAsk_0 20 rfl rfl)
theorem dX2_canAsk_23 : decode cX2_canAsk 23 = .ok (.iconst 1, 1) := dk_4 (dk_at dksX2_canAsk_0 23 rfl rfl)
theorem dX2_canAsk_24 : decode cX2_canAsk 24 = .ok (.goto 4, 3) := dk_167 0 4 (dk_at dksX2_canAsk_1 0 rfl rfl)
theorem dX2_canAsk_27 : decode cX2_canAsk 27 = .ok (.iconst 0, 1) := dk_3 (dk_at dksX2_canAsk_1 3 rfl rfl)
theorem dX2_canAsk_28 : decode cX2_canAsk 28 = .ok (.ireturn, 1) := dk_172 (dk_at dksX2_canAsk_1 4 rfl rfl)
abbrev cX2_isThere : ByteArray := prog_2_method_6_code
def yX2_isThere : MethodName := ⟨RX2, "isThere", "(I)Z"⟩
def dkwX2_isThere_1 : List UInt8 := [172]
abbrev dktX2_isThere_1 : List UInt8 := dkwX2_isThere_1 ++ []
def dkwX2_isThere_0 : List UInt8 := [42, 27, 182, 0, 67, 154, 0, 18, 42, 180, 0, 39, 27, 184, 0, 71, 154, 0, 7, 4, 167, 0, 4, 3]
abbrev dktX2_isThere_0 : List UInt8 := dkwX2_isThere_0 ++ dktX2_isThere_1
theorem dksX2_isThere_0 : cX2_isThere.data.toList.drop 0 = dktX2_isThere_0 := by decide +kernel
theorem dksX2_isThere_1 : cX2_isThere.data.toList.drop 24 = dktX2_isThere_1 := dk_seg dksX2_isThere_0 24 rfl rfl
theorem dX2_isThere_0 : decode cX2_isThere 0 = .ok (.aload_n 0, 1) := dk_42 (dk_at dksX2_isThere_0 0 rfl rfl)
theorem dX2_isThere_1 : decode cX2_isThere 1 = .ok (.iload_n 1, 1) := dk_27 (dk_at dksX2_isThere_0 1 rfl rfl)
theorem dX2_isThere_2 : decode cX2_isThere 2 = .ok (.invokevirtual 67, 3) := dk_182 0 67 (dk_at dksX2_isThere_0 2 rfl rfl)
theorem dX2_isThere_5 : decode cX2_isThere 5 = .ok (.ifCond .ne 18, 3) := dk_154 0 18 (dk_at dksX2_isThere_0 5 rfl rfl)
theorem dX2_isThere_8 : decode cX2_isThere 8 = .ok (.aload_n 0, 1) := dk_42 (dk_at dksX2_isThere_0 8 rfl rfl)
theorem dX2_isThere_9 : decode cX2_isThere 9 = .ok (.getfield 39, 3) := dk_180 0 39 (dk_at dksX2_isThere_0 9 rfl rfl)
theorem dX2_isThere_12 : decode cX2_isThere 12 = .ok (.iload_n 1, 1) := dk_27 (dk_at dksX2_isThere_0 12 rfl rfl)
theorem dX2_isThere_13 : decode cX2_isThere 13 = .ok (.invokestatic 71, 3) := dk_184 0 71 (dk_at dksX2_isThere_0 13 rfl rfl)
theorem dX2_isThere_16 : decode cX2_isThere 16 = .ok (.ifCond .ne 7, 3) := dk_154 0 7 (dk_at dksX2_isThere_0 16 rfl rfl)
theorem dX2_isThere_19 : decode cX2_isThere 19 = .ok (.iconst 1, 1) := dk_4 (dk_at dksX2_isThere_0 19 rfl rfl)
theorem dX2_isThere_20 : decode cX2_isThere 20 = .ok (.goto 4, 3) := dk_167 0 4 (dk_at dksX2_isThere_0 20 rfl rfl)
theorem dX2_isThere_23 : decode cX2_isThere 23 = .ok (.iconst 0, 1) := dk_3 (dk_at dksX2_isThere_0 23 rfl rfl)
theorem dX2_isThere_24 : decode cX2_isThere 24 = .ok (.ireturn, 1) := dk_172 (dk_at dksX2_isThere_1 0 rfl rfl)
abbrev cX2_isMoved : ByteArray := prog_2_method_5_code
def yX2_isMoved : MethodName := ⟨RX2, "isMoved", "(I)Z"⟩
def dkwX2_isMoved_0 : List UInt8 := [42, 180, 0, 28, 27, 46, 2, 159, 0, 7, 4, 167, 0, 4, 3, 172]
abbrev dktX2_isMoved_0 : List UInt8 := dkwX2_isMoved_0 ++ []
theorem dksX2_isMoved_0 : cX2_isMoved.data.toList.drop 0 = dktX2_isMoved_0 := by decide +kernel
theorem dX2_isMoved_0 : decode cX2_isMoved 0 = .ok (.aload_n 0, 1) := dk_42 (dk_at dksX2_isMoved_0 0 rfl rfl)
theorem dX2_isMoved_1 : decode cX2_isMoved 1 = .ok (.getfield 28, 3) := dk_180 0 28 (dk_at dksX2_isMoved_0 1 rfl rfl)
theorem dX2_isMoved_4 : decode cX2_isMoved 4 = .ok (.iload_n 1, 1) := dk_27 (dk_at dksX2_isMoved_0 4 rfl rfl)
theorem dX2_isMoved_5 : decode cX2_isMoved 5 = .ok (.iaload, 1) := dk_46 (dk_at dksX2_isMoved_0 5 rfl rfl)
theorem dX2_isMoved_6 : decode cX2_isMoved 6 = .ok (.iconst (-1), 1) := dk_2 (dk_at dksX2_isMoved_0 6 rfl rfl)
theorem dX2_isMoved_7 : decode cX2_isMoved 7 = .ok (.if_icmp .eq 7, 3) := dk_159 0 7 (dk_at dksX2_isMoved_0 7 rfl rfl)
theorem dX2_isMoved_10 : decode cX2_isMoved 10 = .ok (.iconst 1, 1) := dk_4 (dk_at dksX2_isMoved_0 10 rfl rfl)
theorem dX2_isMoved_11 : decode cX2_isMoved 11 = .ok (.goto 4, 3) := dk_167 0 4 (dk_at dksX2_isMoved_0 11 rfl rfl)
theorem dX2_isMoved_14 : decode cX2_isMoved 14 = .ok (.iconst 0, 1) := dk_3 (dk_at dksX2_isMoved_0 14 rfl rfl)
theorem dX2_isMoved_15 : decode cX2_isMoved 15 = .ok (.ireturn, 1) := dk_172 (dk_at dksX2_isMoved_0 15 rfl rfl)
abbrev cX2_gives : ByteArray := prog_2_method_19_code
def yX2_gives : MethodName := ⟨RX2, "gives", "(II)I"⟩
def dkwX2_gives_2 : List UInt8 := [100, 184, 0, 122, 79, 42, 3, 27, 29, 182, 0, 125, 29, 172]
abbrev dktX2_gives_2 : List UInt8 := dkwX2_gives_2 ++ []
def dkwX2_gives_1 : List UInt8 := [180, 0, 15, 27, 92, 46, 29, 100, 79, 42, 180, 0, 22, 27, 17, 252, 25, 42, 180, 0, 22, 27, 46, 29]
abbrev dktX2_gives_1 : List UInt8 := dkwX2_gives_1 ++ dktX2_gives_2
def dkwX2_gives_0 : List UInt8 := [28, 42, 27, 182, 0, 119, 184, 0, 78, 42, 180, 0, 15, 27, 46, 4, 100, 184, 0, 78, 62, 42]
abbrev dktX2_gives_0 : List UInt8 := dkwX2_gives_0 ++ dktX2_gives_1
theorem dksX2_gives_0 : cX2_gives.data.toList.drop 0 = dktX2_gives_0 := by decide +kernel
theorem dksX2_gives_1 : cX2_gives.data.toList.drop 22 = dktX2_gives_1 := dk_seg dksX2_gives_0 22 rfl rfl
theorem dksX2_gives_2 : cX2_gives.data.toList.drop 46 = dktX2_gives_2 := dk_seg dksX2_gives_1 24 rfl rfl
theorem dX2_gives_0 : decode cX2_gives 0 = .ok (.iload_n 2, 1) := dk_28 (dk_at dksX2_gives_0 0 rfl rfl)
theorem dX2_gives_1 : decode cX2_gives 1 = .ok (.aload_n 0, 1) := dk_42 (dk_at dksX2_gives_0 1 rfl rfl)
theorem dX2_gives_2 : decode cX2_gives 2 = .ok (.iload_n 1, 1) := dk_27 (dk_at dksX2_gives_0 2 rfl rfl)
theorem dX2_gives_3 : decode cX2_gives 3 = .ok (.invokevirtual 119, 3) := dk_182 0 119 (dk_at dksX2_gives_0 3 rfl rfl)
theorem dX2_gives_6 : decode cX2_gives 6 = .ok (.invokestatic 78, 3) := dk_184 0 78 (dk_at dksX2_gives_0 6 rfl rfl)
theorem dX2_gives_9 : decode cX2_gives 9 = .ok (.aload_n 0, 1) := dk_42 (dk_at dksX2_gives_0 9 rfl rfl)
theorem dX2_gives_10 : decode cX2_gives 10 = .ok (.getfield 15, 3) := dk_180 0 15 (dk_at dksX2_gives_0 10 rfl rfl)
theorem dX2_gives_13 : decode cX2_gives 13 = .ok (.iload_n 1, 1) := dk_27 (dk_at dksX2_gives_0 13 rfl rfl)
theorem dX2_gives_14 : decode cX2_gives 14 = .ok (.iaload, 1) := dk_46 (dk_at dksX2_gives_0 14 rfl rfl)
theorem dX2_gives_15 : decode cX2_gives 15 = .ok (.iconst 1, 1) := dk_4 (dk_at dksX2_gives_0 15 rfl rfl)
theorem dX2_gives_16 : decode cX2_gives 16 = .ok (.isub, 1) := dk_100 (dk_at dksX2_gives_0 16 rfl rfl)
theorem dX2_gives_17 : decode cX2_gives 17 = .ok (.invokestatic 78, 3) := dk_184 0 78 (dk_at dksX2_gives_0 17 rfl rfl)
theorem dX2_gives_20 : decode cX2_gives 20 = .ok (.istore_n 3, 1) := dk_62 (dk_at dksX2_gives_0 20 rfl rfl)
theorem dX2_gives_21 : decode cX2_gives 21 = .ok (.aload_n 0, 1) := dk_42 (dk_at dksX2_gives_0 21 rfl rfl)
theorem dX2_gives_22 : decode cX2_gives 22 = .ok (.getfield 15, 3) := dk_180 0 15 (dk_at dksX2_gives_1 0 rfl rfl)
theorem dX2_gives_25 : decode cX2_gives 25 = .ok (.iload_n 1, 1) := dk_27 (dk_at dksX2_gives_1 3 rfl rfl)
theorem dX2_gives_26 : decode cX2_gives 26 = .ok (.dup2, 1) := dk_92 (dk_at dksX2_gives_1 4 rfl rfl)
theorem dX2_gives_27 : decode cX2_gives 27 = .ok (.iaload, 1) := dk_46 (dk_at dksX2_gives_1 5 rfl rfl)
theorem dX2_gives_28 : decode cX2_gives 28 = .ok (.iload_n 3, 1) := dk_29 (dk_at dksX2_gives_1 6 rfl rfl)
theorem dX2_gives_29 : decode cX2_gives 29 = .ok (.isub, 1) := dk_100 (dk_at dksX2_gives_1 7 rfl rfl)
theorem dX2_gives_30 : decode cX2_gives 30 = .ok (.iastore, 1) := dk_79 (dk_at dksX2_gives_1 8 rfl rfl)
theorem dX2_gives_31 : decode cX2_gives 31 = .ok (.aload_n 0, 1) := dk_42 (dk_at dksX2_gives_1 9 rfl rfl)
theorem dX2_gives_32 : decode cX2_gives 32 = .ok (.getfield 22, 3) := dk_180 0 22 (dk_at dksX2_gives_1 10 rfl rfl)
theorem dX2_gives_35 : decode cX2_gives 35 = .ok (.iload_n 1, 1) := dk_27 (dk_at dksX2_gives_1 13 rfl rfl)
theorem dX2_gives_36 : decode cX2_gives 36 = .ok (.sipush (-999), 3) := dk_17 252 25 (dk_at dksX2_gives_1 14 rfl rfl)
theorem dX2_gives_39 : decode cX2_gives 39 = .ok (.aload_n 0, 1) := dk_42 (dk_at dksX2_gives_1 17 rfl rfl)
theorem dX2_gives_40 : decode cX2_gives 40 = .ok (.getfield 22, 3) := dk_180 0 22 (dk_at dksX2_gives_1 18 rfl rfl)
theorem dX2_gives_43 : decode cX2_gives 43 = .ok (.iload_n 1, 1) := dk_27 (dk_at dksX2_gives_1 21 rfl rfl)
theorem dX2_gives_44 : decode cX2_gives 44 = .ok (.iaload, 1) := dk_46 (dk_at dksX2_gives_1 22 rfl rfl)
theorem dX2_gives_45 : decode cX2_gives 45 = .ok (.iload_n 3, 1) := dk_29 (dk_at dksX2_gives_1 23 rfl rfl)
theorem dX2_gives_46 : decode cX2_gives 46 = .ok (.isub, 1) := dk_100 (dk_at dksX2_gives_2 0 rfl rfl)
theorem dX2_gives_47 : decode cX2_gives 47 = .ok (.invokestatic 122, 3) := dk_184 0 122 (dk_at dksX2_gives_2 1 rfl rfl)
theorem dX2_gives_50 : decode cX2_gives 50 = .ok (.iastore, 1) := dk_79 (dk_at dksX2_gives_2 4 rfl rfl)
theorem dX2_gives_51 : decode cX2_gives 51 = .ok (.aload_n 0, 1) := dk_42 (dk_at dksX2_gives_2 5 rfl rfl)
theorem dX2_gives_52 : decode cX2_gives 52 = .ok (.iconst 0, 1) := dk_3 (dk_at dksX2_gives_2 6 rfl rfl)
theorem dX2_gives_53 : decode cX2_gives 53 = .ok (.iload_n 1, 1) := dk_27 (dk_at dksX2_gives_2 7 rfl rfl)
theorem dX2_gives_54 : decode cX2_gives 54 = .ok (.iload_n 3, 1) := dk_29 (dk_at dksX2_gives_2 8 rfl rfl)
theorem dX2_gives_55 : decode cX2_gives 55 = .ok (.invokevirtual 125, 3) := dk_182 0 125 (dk_at dksX2_gives_2 9 rfl rfl)
theorem dX2_gives_58 : decode cX2_gives 58 = .ok (.iload_n 3, 1) := dk_29 (dk_at dksX2_gives_2 12 rfl rfl)
theorem dX2_gives_59 : decode cX2_gives 59 = .ok (.ireturn, 1) := dk_172 (dk_at dksX2_gives_2 13 rfl rfl)
abbrev cX2_giveOf : ByteArray := prog_2_method_16_code
def yX2_giveOf : MethodName := ⟨RX2, "giveOf", "(I)I"⟩
def dkwX2_giveOf_1 : List UInt8 := [182, 0, 109, 172]
abbrev dktX2_giveOf_1 : List UInt8 := dkwX2_giveOf_1 ++ []
def dkwX2_giveOf_0 : List UInt8 := [42, 27, 182, 0, 105, 42, 180, 0, 3, 5, 42, 180, 0, 22, 27, 46, 7, 184, 0, 113, 17, 3, 231]
abbrev dktX2_giveOf_0 : List UInt8 := dkwX2_giveOf_0 ++ dktX2_giveOf_1
theorem dksX2_giveOf_0 : cX2_giveOf.data.toList.drop 0 = dktX2_giveOf_0 := by decide +kernel
theorem dksX2_giveOf_1 : cX2_giveOf.data.toList.drop 23 = dktX2_giveOf_1 := dk_seg dksX2_giveOf_0 23 rfl rfl
theorem dX2_giveOf_0 : decode cX2_giveOf 0 = .ok (.aload_n 0, 1) := dk_42 (dk_at dksX2_giveOf_0 0 rfl rfl)
theorem dX2_giveOf_1 : decode cX2_giveOf 1 = .ok (.iload_n 1, 1) := dk_27 (dk_at dksX2_giveOf_0 1 rfl rfl)
theorem dX2_giveOf_2 : decode cX2_giveOf 2 = .ok (.invokevirtual 105, 3) := dk_182 0 105 (dk_at dksX2_giveOf_0 2 rfl rfl)
theorem dX2_giveOf_5 : decode cX2_giveOf 5 = .ok (.aload_n 0, 1) := dk_42 (dk_at dksX2_giveOf_0 5 rfl rfl)
theorem dX2_giveOf_6 : decode cX2_giveOf 6 = .ok (.getfield 3, 3) := dk_180 0 3 (dk_at dksX2_giveOf_0 6 rfl rfl)
theorem dX2_giveOf_9 : decode cX2_giveOf 9 = .ok (.iconst 2, 1) := dk_5 (dk_at dksX2_giveOf_0 9 rfl rfl)
theorem dX2_giveOf_10 : decode cX2_giveOf 10 = .ok (.aload_n 0, 1) := dk_42 (dk_at dksX2_giveOf_0 10 rfl rfl)
theorem dX2_giveOf_11 : decode cX2_giveOf 11 = .ok (.getfield 22, 3) := dk_180 0 22 (dk_at dksX2_giveOf_0 11 rfl rfl)
theorem dX2_giveOf_14 : decode cX2_giveOf 14 = .ok (.iload_n 1, 1) := dk_27 (dk_at dksX2_giveOf_0 14 rfl rfl)
theorem dX2_giveOf_15 : decode cX2_giveOf 15 = .ok (.iaload, 1) := dk_46 (dk_at dksX2_giveOf_0 15 rfl rfl)
theorem dX2_giveOf_16 : decode cX2_giveOf 16 = .ok (.iconst 4, 1) := dk_7 (dk_at dksX2_giveOf_0 16 rfl rfl)
theorem dX2_giveOf_17 : decode cX2_giveOf 17 = .ok (.invokestatic 113, 3) := dk_184 0 113 (dk_at dksX2_giveOf_0 17 rfl rfl)
theorem dX2_giveOf_20 : decode cX2_giveOf 20 = .ok (.sipush 999, 3) := dk_17 3 231 (dk_at dksX2_giveOf_0 20 rfl rfl)
theorem dX2_giveOf_23 : decode cX2_giveOf 23 = .ok (.invokevirtual 109, 3) := dk_182 0 109 (dk_at dksX2_giveOf_1 0 rfl rfl)
theorem dX2_giveOf_26 : decode cX2_giveOf 26 = .ok (.ireturn, 1) := dk_172 (dk_at dksX2_giveOf_1 3 rfl rfl)
abbrev cX2_asks : ByteArray := prog_2_method_13_code
def yX2_asks : MethodName := ⟨RX2, "asks", "(I)V"⟩
def dkwX2_asks_6 : List UInt8 := [177]
abbrev dktX2_asks_6 : List UInt8 := dkwX2_asks_6 ++ []
def dkwX2_asks_5 : List UInt8 := [153, 0, 7, 4, 167, 0, 4, 3, 79, 42, 180, 0, 3, 180, 0, 99, 16, 8, 42, 27, 182, 0, 102, 79]
abbrev dktX2_asks_5 : List UInt8 := dkwX2_asks_5 ++ dktX2_asks_6
def dkwX2_asks_4 : List UInt8 := [180, 0, 3, 180, 0, 75, 79, 42, 180, 0, 3, 180, 0, 99, 16, 7, 42, 180, 0, 42, 27, 184, 0, 71]
abbrev dktX2_asks_4 : List UInt8 := dkwX2_asks_4 ++ dktX2_asks_5
def dkwX2_asks_3 : List UInt8 := [180, 0, 3, 180, 0, 99, 8, 42, 180, 0, 45, 79, 42, 180, 0, 3, 180, 0, 99, 16, 6, 42]
abbrev dktX2_asks_3 : List UInt8 := dkwX2_asks_3 ++ dktX2_asks_4
def dkwX2_asks_2 : List UInt8 := [42, 180, 0, 22, 27, 46, 79, 42, 180, 0, 3, 180, 0, 99, 7, 42, 180, 0, 25, 27, 46, 79, 42]
abbrev dktX2_asks_2 : List UInt8 := dkwX2_asks_2 ++ dktX2_asks_3
def dkwX2_asks_1 : List UInt8 := [79, 42, 180, 0, 3, 180, 0, 99, 5, 42, 180, 0, 19, 27, 46, 79, 42, 180, 0, 3, 180, 0, 99, 6]
abbrev dktX2_asks_1 : List UInt8 := dkwX2_asks_1 ++ dktX2_asks_2
def dkwX2_asks_0 : List UInt8 := [42, 180, 0, 3, 180, 0, 99, 3, 27, 79, 42, 180, 0, 3, 180, 0, 99, 4, 42, 180, 0, 15, 27, 46]
abbrev dktX2_asks_0 : List UInt8 := dkwX2_asks_0 ++ dktX2_asks_1
theorem dksX2_asks_0 : cX2_asks.data.toList.drop 0 = dktX2_asks_0 := by decide +kernel
theorem dksX2_asks_1 : cX2_asks.data.toList.drop 24 = dktX2_asks_1 := dk_seg dksX2_asks_0 24 rfl rfl
theorem dksX2_asks_2 : cX2_asks.data.toList.drop 48 = dktX2_asks_2 := dk_seg dksX2_asks_1 24 rfl rfl
theorem dksX2_asks_3 : cX2_asks.data.toList.drop 71 = dktX2_asks_3 := dk_seg dksX2_asks_2 23 rfl rfl
theorem dksX2_asks_4 : cX2_asks.data.toList.drop 93 = dktX2_asks_4 := dk_seg dksX2_asks_3 22 rfl rfl
theorem dksX2_asks_5 : cX2_asks.data.toList.drop 117 = dktX2_asks_5 := dk_seg dksX2_asks_4 24 rfl rfl
theorem dksX2_asks_6 : cX2_asks.data.toList.drop 141 = dktX2_asks_6 := dk_seg dksX2_asks_5 24 rfl rfl
theorem dX2_asks_0 : decode cX2_asks 0 = .ok (.aload_n 0, 1) := dk_42 (dk_at dksX2_asks_0 0 rfl rfl)
theorem dX2_asks_1 : decode cX2_asks 1 = .ok (.getfield 3, 3) := dk_180 0 3 (dk_at dksX2_asks_0 1 rfl rfl)
theorem dX2_asks_4 : decode cX2_asks 4 = .ok (.getfield 99, 3) := dk_180 0 99 (dk_at dksX2_asks_0 4 rfl rfl)
theorem dX2_asks_7 : decode cX2_asks 7 = .ok (.iconst 0, 1) := dk_3 (dk_at dksX2_asks_0 7 rfl rfl)
theorem dX2_asks_8 : decode cX2_asks 8 = .ok (.iload_n 1, 1) := dk_27 (dk_at dksX2_asks_0 8 rfl rfl)
theorem dX2_asks_9 : decode cX2_asks 9 = .ok (.iastore, 1) := dk_79 (dk_at dksX2_asks_0 9 rfl rfl)
theorem dX2_asks_10 : decode cX2_asks 10 = .ok (.aload_n 0, 1) := dk_42 (dk_at dksX2_asks_0 10 rfl rfl)
theorem dX2_asks_11 : decode cX2_asks 11 = .ok (.getfield 3, 3) := dk_180 0 3 (dk_at dksX2_asks_0 11 rfl rfl)
theorem dX2_asks_14 : decode cX2_asks 14 = .ok (.getfield 99, 3) := dk_180 0 99 (dk_at dksX2_asks_0 14 rfl rfl)
theorem dX2_asks_17 : decode cX2_asks 17 = .ok (.iconst 1, 1) := dk_4 (dk_at dksX2_asks_0 17 rfl rfl)
theorem dX2_asks_18 : decode cX2_asks 18 = .ok (.aload_n 0, 1) := dk_42 (dk_at dksX2_asks_0 18 rfl rfl)
theorem dX2_asks_19 : decode cX2_asks 19 = .ok (.getfield 15, 3) := dk_180 0 15 (dk_at dksX2_asks_0 19 rfl rfl)
theorem dX2_asks_22 : decode cX2_asks 22 = .ok (.iload_n 1, 1) := dk_27 (dk_at dksX2_asks_0 22 rfl rfl)
theorem dX2_asks_23 : decode cX2_asks 23 = .ok (.iaload, 1) := dk_46 (dk_at dksX2_asks_0 23 rfl rfl)
theorem dX2_asks_24 : decode cX2_asks 24 = .ok (.iastore, 1) := dk_79 (dk_at dksX2_asks_1 0 rfl rfl)
theorem dX2_asks_25 : decode cX2_asks 25 = .ok (.aload_n 0, 1) := dk_42 (dk_at dksX2_asks_1 1 rfl rfl)
theorem dX2_asks_26 : decode cX2_asks 26 = .ok (.getfield 3, 3) := dk_180 0 3 (dk_at dksX2_asks_1 2 rfl rfl)
theorem dX2_asks_29 : decode cX2_asks 29 = .ok (.getfield 99, 3) := dk_180 0 99 (dk_at dksX2_asks_1 5 rfl rfl)
theorem dX2_asks_32 : decode cX2_asks 32 = .ok (.iconst 2, 1) := dk_5 (dk_at dksX2_asks_1 8 rfl rfl)
theorem dX2_asks_33 : decode cX2_asks 33 = .ok (.aload_n 0, 1) := dk_42 (dk_at dksX2_asks_1 9 rfl rfl)
theorem dX2_asks_34 : decode cX2_asks 34 = .ok (.getfield 19, 3) := dk_180 0 19 (dk_at dksX2_asks_1 10 rfl rfl)
theorem dX2_asks_37 : decode cX2_asks 37 = .ok (.iload_n 1, 1) := dk_27 (dk_at dksX2_asks_1 13 rfl rfl)
theorem dX2_asks_38 : decode cX2_asks 38 = .ok (.iaload, 1) := dk_46 (dk_at dksX2_asks_1 14 rfl rfl)
theorem dX2_asks_39 : decode cX2_asks 39 = .ok (.iastore, 1) := dk_79 (dk_at dksX2_asks_1 15 rfl rfl)
theorem dX2_asks_40 : decode cX2_asks 40 = .ok (.aload_n 0, 1) := dk_42 (dk_at dksX2_asks_1 16 rfl rfl)
theorem dX2_asks_41 : decode cX2_asks 41 = .ok (.getfield 3, 3) := dk_180 0 3 (dk_at dksX2_asks_1 17 rfl rfl)
theorem dX2_asks_44 : decode cX2_asks 44 = .ok (.getfield 99, 3) := dk_180 0 99 (dk_at dksX2_asks_1 20 rfl rfl)
theorem dX2_asks_47 : decode cX2_asks 47 = .ok (.iconst 3, 1) := dk_6 (dk_at dksX2_asks_1 23 rfl rfl)
theorem dX2_asks_48 : decode cX2_asks 48 = .ok (.aload_n 0, 1) := dk_42 (dk_at dksX2_asks_2 0 rfl rfl)
theorem dX2_asks_49 : decode cX2_asks 49 = .ok (.getfield 22, 3) := dk_180 0 22 (dk_at dksX2_asks_2 1 rfl rfl)
theorem dX2_asks_52 : decode cX2_asks 52 = .ok (.iload_n 1, 1) := dk_27 (dk_at dksX2_asks_2 4 rfl rfl)
theorem dX2_asks_53 : decode cX2_asks 53 = .ok (.iaload, 1) := dk_46 (dk_at dksX2_asks_2 5 rfl rfl)
theorem dX2_asks_54 : decode cX2_asks 54 = .ok (.iastore, 1) := dk_79 (dk_at dksX2_asks_2 6 rfl rfl)
theorem dX2_asks_55 : decode cX2_asks 55 = .ok (.aload_n 0, 1) := dk_42 (dk_at dksX2_asks_2 7 rfl rfl)
theorem dX2_asks_56 : decode cX2_asks 56 = .ok (.getfield 3, 3) := dk_180 0 3 (dk_at dksX2_asks_2 8 rfl rfl)
theorem dX2_asks_59 : decode cX2_asks 59 = .ok (.getfield 99, 3) := dk_180 0 99 (dk_at dksX2_asks_2 11 rfl rfl)
theorem dX2_asks_62 : decode cX2_asks 62 = .ok (.iconst 4, 1) := dk_7 (dk_at dksX2_asks_2 14 rfl rfl)
theorem dX2_asks_63 : decode cX2_asks 63 = .ok (.aload_n 0, 1) := dk_42 (dk_at dksX2_asks_2 15 rfl rfl)
theorem dX2_asks_64 : decode cX2_asks 64 = .ok (.getfield 25, 3) := dk_180 0 25 (dk_at dksX2_asks_2 16 rfl rfl)
theorem dX2_asks_67 : decode cX2_asks 67 = .ok (.iload_n 1, 1) := dk_27 (dk_at dksX2_asks_2 19 rfl rfl)
theorem dX2_asks_68 : decode cX2_asks 68 = .ok (.iaload, 1) := dk_46 (dk_at dksX2_asks_2 20 rfl rfl)
theorem dX2_asks_69 : decode cX2_asks 69 = .ok (.iastore, 1) := dk_79 (dk_at dksX2_asks_2 21 rfl rfl)
theorem dX2_asks_70 : decode cX2_asks 70 = .ok (.aload_n 0, 1) := dk_42 (dk_at dksX2_asks_2 22 rfl rfl)
theorem dX2_asks_71 : decode cX2_asks 71 = .ok (.getfield 3, 3) := dk_180 0 3 (dk_at dksX2_asks_3 0 rfl rfl)
theorem dX2_asks_74 : decode cX2_asks 74 = .ok (.getfield 99, 3) := dk_180 0 99 (dk_at dksX2_asks_3 3 rfl rfl)
theorem dX2_asks_77 : decode cX2_asks 77 = .ok (.iconst 5, 1) := dk_8 (dk_at dksX2_asks_3 6 rfl rfl)
theorem dX2_asks_78 : decode cX2_asks 78 = .ok (.aload_n 0, 1) := dk_42 (dk_at dksX2_asks_3 7 rfl rfl)
theorem dX2_asks_79 : decode cX2_asks 79 = .ok (.getfield 45, 3) := dk_180 0 45 (dk_at dksX2_asks_3 8 rfl rfl)
theorem dX2_asks_82 : decode cX2_asks 82 = .ok (.iastore, 1) := dk_79 (dk_at dksX2_asks_3 11 rfl rfl)
theorem dX2_asks_83 : decode cX2_asks 83 = .ok (.aload_n 0, 1) := dk_42 (dk_at dksX2_asks_3 12 rfl rfl)
theorem dX2_asks_84 : decode cX2_asks 84 = .ok (.getfield 3, 3) := dk_180 0 3 (dk_at dksX2_asks_3 13 rfl rfl)
theorem dX2_asks_87 : decode cX2_asks 87 = .ok (.getfield 99, 3) := dk_180 0 99 (dk_at dksX2_asks_3 16 rfl rfl)
theorem dX2_asks_90 : decode cX2_asks 90 = .ok (.bipush 6, 2) := dk_16 6 (dk_at dksX2_asks_3 19 rfl rfl)
theorem dX2_asks_92 : decode cX2_asks 92 = .ok (.aload_n 0, 1) := dk_42 (dk_at dksX2_asks_3 21 rfl rfl)
theorem dX2_asks_93 : decode cX2_asks 93 = .ok (.getfield 3, 3) := dk_180 0 3 (dk_at dksX2_asks_4 0 rfl rfl)
theorem dX2_asks_96 : decode cX2_asks 96 = .ok (.getfield 75, 3) := dk_180 0 75 (dk_at dksX2_asks_4 3 rfl rfl)
theorem dX2_asks_99 : decode cX2_asks 99 = .ok (.iastore, 1) := dk_79 (dk_at dksX2_asks_4 6 rfl rfl)
theorem dX2_asks_100 : decode cX2_asks 100 = .ok (.aload_n 0, 1) := dk_42 (dk_at dksX2_asks_4 7 rfl rfl)
theorem dX2_asks_101 : decode cX2_asks 101 = .ok (.getfield 3, 3) := dk_180 0 3 (dk_at dksX2_asks_4 8 rfl rfl)
theorem dX2_asks_104 : decode cX2_asks 104 = .ok (.getfield 99, 3) := dk_180 0 99 (dk_at dksX2_asks_4 11 rfl rfl)
theorem dX2_asks_107 : decode cX2_asks 107 = .ok (.bipush 7, 2) := dk_16 7 (dk_at dksX2_asks_4 14 rfl rfl)
theorem dX2_asks_109 : decode cX2_asks 109 = .ok (.aload_n 0, 1) := dk_42 (dk_at dksX2_asks_4 16 rfl rfl)
theorem dX2_asks_110 : decode cX2_asks 110 = .ok (.getfield 42, 3) := dk_180 0 42 (dk_at dksX2_asks_4 17 rfl rfl)
theorem dX2_asks_113 : decode cX2_asks 113 = .ok (.iload_n 1, 1) := dk_27 (dk_at dksX2_asks_4 20 rfl rfl)
theorem dX2_asks_114 : decode cX2_asks 114 = .ok (.invokestatic 71, 3) := dk_184 0 71 (dk_at dksX2_asks_4 21 rfl rfl)
theorem dX2_asks_117 : decode cX2_asks 117 = .ok (.ifCond .eq 7, 3) := dk_153 0 7 (dk_at dksX2_asks_5 0 rfl rfl)
theorem dX2_asks_120 : decode cX2_asks 120 = .ok (.iconst 1, 1) := dk_4 (dk_at dksX2_asks_5 3 rfl rfl)
theorem dX2_asks_121 : decode cX2_asks 121 = .ok (.goto 4, 3) := dk_167 0 4 (dk_at dksX2_asks_5 4 rfl rfl)
theorem dX2_asks_124 : decode cX2_asks 124 = .ok (.iconst 0, 1) := dk_3 (dk_at dksX2_asks_5 7 rfl rfl)
theorem dX2_asks_125 : decode cX2_asks 125 = .ok (.iastore, 1) := dk_79 (dk_at dksX2_asks_5 8 rfl rfl)
theorem dX2_asks_126 : decode cX2_asks 126 = .ok (.aload_n 0, 1) := dk_42 (dk_at dksX2_asks_5 9 rfl rfl)
theorem dX2_asks_127 : decode cX2_asks 127 = .ok (.getfield 3, 3) := dk_180 0 3 (dk_at dksX2_asks_5 10 rfl rfl)
theorem dX2_asks_130 : decode cX2_asks 130 = .ok (.getfield 99, 3) := dk_180 0 99 (dk_at dksX2_asks_5 13 rfl rfl)
theorem dX2_asks_133 : decode cX2_asks 133 = .ok (.bipush 8, 2) := dk_16 8 (dk_at dksX2_asks_5 16 rfl rfl)
theorem dX2_asks_135 : decode cX2_asks 135 = .ok (.aload_n 0, 1) := dk_42 (dk_at dksX2_asks_5 18 rfl rfl)
theorem dX2_asks_136 : decode cX2_asks 136 = .ok (.iload_n 1, 1) := dk_27 (dk_at dksX2_asks_5 19 rfl rfl)
theorem dX2_asks_137 : decode cX2_asks 137 = .ok (.invokevirtual 102, 3) := dk_182 0 102 (dk_at dksX2_asks_5 20 rfl rfl)
theorem dX2_asks_140 : decode cX2_asks 140 = .ok (.iastore, 1) := dk_79 (dk_at dksX2_asks_5 23 rfl rfl)
theorem dX2_asks_141 : decode cX2_asks 141 = .ok (.return_, 1) := dk_177 (dk_at dksX2_asks_6 0 rfl rfl)
abbrev cX2_lacksOf : ByteArray := prog_2_method_11_code
def yX2_lacksOf : MethodName := ⟨RX2, "lacksOf", "(I)I"⟩
def dkwX2_lacksOf_3 : List UInt8 := [172]
abbrev dktX2_lacksOf_3 : List UInt8 := dkwX2_lacksOf_3 ++ []
def dkwX2_lacksOf_2 : List UInt8 := [182, 0, 87, 154, 0, 9, 132, 2, 255, 167, 255, 241, 29, 42, 28, 182, 0, 90, 128, 62, 29, 184, 0, 94]
abbrev dktX2_lacksOf_2 : List UInt8 := dkwX2_lacksOf_2 ++ dktX2_lacksOf_3
def dkwX2_lacksOf_1 : List UInt8 := [182, 0, 90, 62, 28, 27, 160, 0, 36, 27, 158, 0, 32, 132, 2, 255, 42, 28, 42, 180, 0, 42]
abbrev dktX2_lacksOf_1 : List UInt8 := dkwX2_lacksOf_1 ++ dktX2_lacksOf_2
def dkwX2_lacksOf_0 : List UInt8 := [27, 61, 42, 28, 42, 180, 0, 42, 182, 0, 87, 154, 0, 9, 132, 2, 255, 167, 255, 241, 42, 28]
abbrev dktX2_lacksOf_0 : List UInt8 := dkwX2_lacksOf_0 ++ dktX2_lacksOf_1
theorem dksX2_lacksOf_0 : cX2_lacksOf.data.toList.drop 0 = dktX2_lacksOf_0 := by decide +kernel
theorem dksX2_lacksOf_1 : cX2_lacksOf.data.toList.drop 22 = dktX2_lacksOf_1 := dk_seg dksX2_lacksOf_0 22 rfl rfl
theorem dksX2_lacksOf_2 : cX2_lacksOf.data.toList.drop 44 = dktX2_lacksOf_2 := dk_seg dksX2_lacksOf_1 22 rfl rfl
theorem dksX2_lacksOf_3 : cX2_lacksOf.data.toList.drop 68 = dktX2_lacksOf_3 := dk_seg dksX2_lacksOf_2 24 rfl rfl
theorem dX2_lacksOf_0 : decode cX2_lacksOf 0 = .ok (.iload_n 1, 1) := dk_27 (dk_at dksX2_lacksOf_0 0 rfl rfl)
theorem dX2_lacksOf_1 : decode cX2_lacksOf 1 = .ok (.istore_n 2, 1) := dk_61 (dk_at dksX2_lacksOf_0 1 rfl rfl)
theorem dX2_lacksOf_2 : decode cX2_lacksOf 2 = .ok (.aload_n 0, 1) := dk_42 (dk_at dksX2_lacksOf_0 2 rfl rfl)
theorem dX2_lacksOf_3 : decode cX2_lacksOf 3 = .ok (.iload_n 2, 1) := dk_28 (dk_at dksX2_lacksOf_0 3 rfl rfl)
theorem dX2_lacksOf_4 : decode cX2_lacksOf 4 = .ok (.aload_n 0, 1) := dk_42 (dk_at dksX2_lacksOf_0 4 rfl rfl)
theorem dX2_lacksOf_5 : decode cX2_lacksOf 5 = .ok (.getfield 42, 3) := dk_180 0 42 (dk_at dksX2_lacksOf_0 5 rfl rfl)
theorem dX2_lacksOf_8 : decode cX2_lacksOf 8 = .ok (.invokevirtual 87, 3) := dk_182 0 87 (dk_at dksX2_lacksOf_0 8 rfl rfl)
theorem dX2_lacksOf_11 : decode cX2_lacksOf 11 = .ok (.ifCond .ne 9, 3) := dk_154 0 9 (dk_at dksX2_lacksOf_0 11 rfl rfl)
theorem dX2_lacksOf_14 : decode cX2_lacksOf 14 = .ok (.iinc 2 (-1), 3) := dk_132 2 255 (dk_at dksX2_lacksOf_0 14 rfl rfl)
theorem dX2_lacksOf_17 : decode cX2_lacksOf 17 = .ok (.goto (-15), 3) := dk_167 255 241 (dk_at dksX2_lacksOf_0 17 rfl rfl)
theorem dX2_lacksOf_20 : decode cX2_lacksOf 20 = .ok (.aload_n 0, 1) := dk_42 (dk_at dksX2_lacksOf_0 20 rfl rfl)
theorem dX2_lacksOf_21 : decode cX2_lacksOf 21 = .ok (.iload_n 2, 1) := dk_28 (dk_at dksX2_lacksOf_0 21 rfl rfl)
theorem dX2_lacksOf_22 : decode cX2_lacksOf 22 = .ok (.invokevirtual 90, 3) := dk_182 0 90 (dk_at dksX2_lacksOf_1 0 rfl rfl)
theorem dX2_lacksOf_25 : decode cX2_lacksOf 25 = .ok (.istore_n 3, 1) := dk_62 (dk_at dksX2_lacksOf_1 3 rfl rfl)
theorem dX2_lacksOf_26 : decode cX2_lacksOf 26 = .ok (.iload_n 2, 1) := dk_28 (dk_at dksX2_lacksOf_1 4 rfl rfl)
theorem dX2_lacksOf_27 : decode cX2_lacksOf 27 = .ok (.iload_n 1, 1) := dk_27 (dk_at dksX2_lacksOf_1 5 rfl rfl)
theorem dX2_lacksOf_28 : decode cX2_lacksOf 28 = .ok (.if_icmp .ne 36, 3) := dk_160 0 36 (dk_at dksX2_lacksOf_1 6 rfl rfl)
theorem dX2_lacksOf_31 : decode cX2_lacksOf 31 = .ok (.iload_n 1, 1) := dk_27 (dk_at dksX2_lacksOf_1 9 rfl rfl)
theorem dX2_lacksOf_32 : decode cX2_lacksOf 32 = .ok (.ifCond .le 32, 3) := dk_158 0 32 (dk_at dksX2_lacksOf_1 10 rfl rfl)
theorem dX2_lacksOf_35 : decode cX2_lacksOf 35 = .ok (.iinc 2 (-1), 3) := dk_132 2 255 (dk_at dksX2_lacksOf_1 13 rfl rfl)
theorem dX2_lacksOf_38 : decode cX2_lacksOf 38 = .ok (.aload_n 0, 1) := dk_42 (dk_at dksX2_lacksOf_1 16 rfl rfl)
theorem dX2_lacksOf_39 : decode cX2_lacksOf 39 = .ok (.iload_n 2, 1) := dk_28 (dk_at dksX2_lacksOf_1 17 rfl rfl)
theorem dX2_lacksOf_40 : decode cX2_lacksOf 40 = .ok (.aload_n 0, 1) := dk_42 (dk_at dksX2_lacksOf_1 18 rfl rfl)
theorem dX2_lacksOf_41 : decode cX2_lacksOf 41 = .ok (.getfield 42, 3) := dk_180 0 42 (dk_at dksX2_lacksOf_1 19 rfl rfl)
theorem dX2_lacksOf_44 : decode cX2_lacksOf 44 = .ok (.invokevirtual 87, 3) := dk_182 0 87 (dk_at dksX2_lacksOf_2 0 rfl rfl)
theorem dX2_lacksOf_47 : decode cX2_lacksOf 47 = .ok (.ifCond .ne 9, 3) := dk_154 0 9 (dk_at dksX2_lacksOf_2 3 rfl rfl)
theorem dX2_lacksOf_50 : decode cX2_lacksOf 50 = .ok (.iinc 2 (-1), 3) := dk_132 2 255 (dk_at dksX2_lacksOf_2 6 rfl rfl)
theorem dX2_lacksOf_53 : decode cX2_lacksOf 53 = .ok (.goto (-15), 3) := dk_167 255 241 (dk_at dksX2_lacksOf_2 9 rfl rfl)
theorem dX2_lacksOf_56 : decode cX2_lacksOf 56 = .ok (.iload_n 3, 1) := dk_29 (dk_at dksX2_lacksOf_2 12 rfl rfl)
theorem dX2_lacksOf_57 : decode cX2_lacksOf 57 = .ok (.aload_n 0, 1) := dk_42 (dk_at dksX2_lacksOf_2 13 rfl rfl)
theorem dX2_lacksOf_58 : decode cX2_lacksOf 58 = .ok (.iload_n 2, 1) := dk_28 (dk_at dksX2_lacksOf_2 14 rfl rfl)
theorem dX2_lacksOf_59 : decode cX2_lacksOf 59 = .ok (.invokevirtual 90, 3) := dk_182 0 90 (dk_at dksX2_lacksOf_2 15 rfl rfl)
theorem dX2_lacksOf_62 : decode cX2_lacksOf 62 = .ok (.ior, 1) := dk_128 (dk_at dksX2_lacksOf_2 18 rfl rfl)
theorem dX2_lacksOf_63 : decode cX2_lacksOf 63 = .ok (.istore_n 3, 1) := dk_62 (dk_at dksX2_lacksOf_2 19 rfl rfl)
theorem dX2_lacksOf_64 : decode cX2_lacksOf 64 = .ok (.iload_n 3, 1) := dk_29 (dk_at dksX2_lacksOf_2 20 rfl rfl)
theorem dX2_lacksOf_65 : decode cX2_lacksOf 65 = .ok (.invokestatic 94, 3) := dk_184 0 94 (dk_at dksX2_lacksOf_2 21 rfl rfl)
theorem dX2_lacksOf_68 : decode cX2_lacksOf 68 = .ok (.ireturn, 1) := dk_172 (dk_at dksX2_lacksOf_3 0 rfl rfl)
abbrev cX2_beginsPart : ByteArray := prog_2_method_9_code
def yX2_beginsPart : MethodName := ⟨RX2, "beginsPart", "(II)Z"⟩
def dkwX2_beginsPart_0 : List UInt8 := [27, 153, 0, 11, 28, 27, 184, 0, 71, 153, 0, 7, 4, 167, 0, 4, 3, 172]
abbrev dktX2_beginsPart_0 : List UInt8 := dkwX2_beginsPart_0 ++ []
theorem dksX2_beginsPart_0 : cX2_beginsPart.data.toList.drop 0 = dktX2_beginsPart_0 := by decide +kernel
theorem dX2_beginsPart_0 : decode cX2_beginsPart 0 = .ok (.iload_n 1, 1) := dk_27 (dk_at dksX2_beginsPart_0 0 rfl rfl)
theorem dX2_beginsPart_1 : decode cX2_beginsPart 1 = .ok (.ifCond .eq 11, 3) := dk_153 0 11 (dk_at dksX2_beginsPart_0 1 rfl rfl)
theorem dX2_beginsPart_4 : decode cX2_beginsPart 4 = .ok (.iload_n 2, 1) := dk_28 (dk_at dksX2_beginsPart_0 4 rfl rfl)
theorem dX2_beginsPart_5 : decode cX2_beginsPart 5 = .ok (.iload_n 1, 1) := dk_27 (dk_at dksX2_beginsPart_0 5 rfl rfl)
theorem dX2_beginsPart_6 : decode cX2_beginsPart 6 = .ok (.invokestatic 71, 3) := dk_184 0 71 (dk_at dksX2_beginsPart_0 6 rfl rfl)
theorem dX2_beginsPart_9 : decode cX2_beginsPart 9 = .ok (.ifCond .eq 7, 3) := dk_153 0 7 (dk_at dksX2_beginsPart_0 9 rfl rfl)
theorem dX2_beginsPart_12 : decode cX2_beginsPart 12 = .ok (.iconst 1, 1) := dk_4 (dk_at dksX2_beginsPart_0 12 rfl rfl)
theorem dX2_beginsPart_13 : decode cX2_beginsPart 13 = .ok (.goto 4, 3) := dk_167 0 4 (dk_at dksX2_beginsPart_0 13 rfl rfl)
theorem dX2_beginsPart_16 : decode cX2_beginsPart 16 = .ok (.iconst 0, 1) := dk_3 (dk_at dksX2_beginsPart_0 16 rfl rfl)
theorem dX2_beginsPart_17 : decode cX2_beginsPart 17 = .ok (.ireturn, 1) := dk_172 (dk_at dksX2_beginsPart_0 17 rfl rfl)
abbrev cX2_lacksFrom : ByteArray := prog_2_method_10_code
def yX2_lacksFrom : MethodName := ⟨RX2, "lacksFrom", "(I)I"⟩
def dkwX2_lacksFrom_1 : List UInt8 := [184, 0, 71, 153, 0, 7, 3, 167, 0, 6, 4, 29, 120, 128, 61, 132, 3, 1, 167, 255, 219, 28, 172]
abbrev dktX2_lacksFrom_1 : List UInt8 := dkwX2_lacksFrom_1 ++ []
def dkwX2_lacksFrom_0 : List UInt8 := [3, 61, 27, 62, 29, 42, 27, 42, 180, 0, 42, 182, 0, 84, 163, 0, 30, 28, 42, 180, 0, 35, 29]
abbrev dktX2_lacksFrom_0 : List UInt8 := dkwX2_lacksFrom_0 ++ dktX2_lacksFrom_1
theorem dksX2_lacksFrom_0 : cX2_lacksFrom.data.toList.drop 0 = dktX2_lacksFrom_0 := by decide +kernel
theorem dksX2_lacksFrom_1 : cX2_lacksFrom.data.toList.drop 23 = dktX2_lacksFrom_1 := dk_seg dksX2_lacksFrom_0 23 rfl rfl
theorem dX2_lacksFrom_0 : decode cX2_lacksFrom 0 = .ok (.iconst 0, 1) := dk_3 (dk_at dksX2_lacksFrom_0 0 rfl rfl)
theorem dX2_lacksFrom_1 : decode cX2_lacksFrom 1 = .ok (.istore_n 2, 1) := dk_61 (dk_at dksX2_lacksFrom_0 1 rfl rfl)
theorem dX2_lacksFrom_2 : decode cX2_lacksFrom 2 = .ok (.iload_n 1, 1) := dk_27 (dk_at dksX2_lacksFrom_0 2 rfl rfl)
theorem dX2_lacksFrom_3 : decode cX2_lacksFrom 3 = .ok (.istore_n 3, 1) := dk_62 (dk_at dksX2_lacksFrom_0 3 rfl rfl)
theorem dX2_lacksFrom_4 : decode cX2_lacksFrom 4 = .ok (.iload_n 3, 1) := dk_29 (dk_at dksX2_lacksFrom_0 4 rfl rfl)
theorem dX2_lacksFrom_5 : decode cX2_lacksFrom 5 = .ok (.aload_n 0, 1) := dk_42 (dk_at dksX2_lacksFrom_0 5 rfl rfl)
theorem dX2_lacksFrom_6 : decode cX2_lacksFrom 6 = .ok (.iload_n 1, 1) := dk_27 (dk_at dksX2_lacksFrom_0 6 rfl rfl)
theorem dX2_lacksFrom_7 : decode cX2_lacksFrom 7 = .ok (.aload_n 0, 1) := dk_42 (dk_at dksX2_lacksFrom_0 7 rfl rfl)
theorem dX2_lacksFrom_8 : decode cX2_lacksFrom 8 = .ok (.getfield 42, 3) := dk_180 0 42 (dk_at dksX2_lacksFrom_0 8 rfl rfl)
theorem dX2_lacksFrom_11 : decode cX2_lacksFrom 11 = .ok (.invokevirtual 84, 3) := dk_182 0 84 (dk_at dksX2_lacksFrom_0 11 rfl rfl)
theorem dX2_lacksFrom_14 : decode cX2_lacksFrom 14 = .ok (.if_icmp .gt 30, 3) := dk_163 0 30 (dk_at dksX2_lacksFrom_0 14 rfl rfl)
theorem dX2_lacksFrom_17 : decode cX2_lacksFrom 17 = .ok (.iload_n 2, 1) := dk_28 (dk_at dksX2_lacksFrom_0 17 rfl rfl)
theorem dX2_lacksFrom_18 : decode cX2_lacksFrom 18 = .ok (.aload_n 0, 1) := dk_42 (dk_at dksX2_lacksFrom_0 18 rfl rfl)
theorem dX2_lacksFrom_19 : decode cX2_lacksFrom 19 = .ok (.getfield 35, 3) := dk_180 0 35 (dk_at dksX2_lacksFrom_0 19 rfl rfl)
theorem dX2_lacksFrom_22 : decode cX2_lacksFrom 22 = .ok (.iload_n 3, 1) := dk_29 (dk_at dksX2_lacksFrom_0 22 rfl rfl)
theorem dX2_lacksFrom_23 : decode cX2_lacksFrom 23 = .ok (.invokestatic 71, 3) := dk_184 0 71 (dk_at dksX2_lacksFrom_1 0 rfl rfl)
theorem dX2_lacksFrom_26 : decode cX2_lacksFrom 26 = .ok (.ifCond .eq 7, 3) := dk_153 0 7 (dk_at dksX2_lacksFrom_1 3 rfl rfl)
theorem dX2_lacksFrom_29 : decode cX2_lacksFrom 29 = .ok (.iconst 0, 1) := dk_3 (dk_at dksX2_lacksFrom_1 6 rfl rfl)
theorem dX2_lacksFrom_30 : decode cX2_lacksFrom 30 = .ok (.goto 6, 3) := dk_167 0 6 (dk_at dksX2_lacksFrom_1 7 rfl rfl)
theorem dX2_lacksFrom_33 : decode cX2_lacksFrom 33 = .ok (.iconst 1, 1) := dk_4 (dk_at dksX2_lacksFrom_1 10 rfl rfl)
theorem dX2_lacksFrom_34 : decode cX2_lacksFrom 34 = .ok (.iload_n 3, 1) := dk_29 (dk_at dksX2_lacksFrom_1 11 rfl rfl)
theorem dX2_lacksFrom_35 : decode cX2_lacksFrom 35 = .ok (.ishl, 1) := dk_120 (dk_at dksX2_lacksFrom_1 12 rfl rfl)
theorem dX2_lacksFrom_36 : decode cX2_lacksFrom 36 = .ok (.ior, 1) := dk_128 (dk_at dksX2_lacksFrom_1 13 rfl rfl)
theorem dX2_lacksFrom_37 : decode cX2_lacksFrom 37 = .ok (.istore_n 2, 1) := dk_61 (dk_at dksX2_lacksFrom_1 14 rfl rfl)
theorem dX2_lacksFrom_38 : decode cX2_lacksFrom 38 = .ok (.iinc 3 1, 3) := dk_132 3 1 (dk_at dksX2_lacksFrom_1 15 rfl rfl)
theorem dX2_lacksFrom_41 : decode cX2_lacksFrom 41 = .ok (.goto (-37), 3) := dk_167 255 219 (dk_at dksX2_lacksFrom_1 18 rfl rfl)
theorem dX2_lacksFrom_44 : decode cX2_lacksFrom 44 = .ok (.iload_n 2, 1) := dk_28 (dk_at dksX2_lacksFrom_1 21 rfl rfl)
theorem dX2_lacksFrom_45 : decode cX2_lacksFrom 45 = .ok (.ireturn, 1) := dk_172 (dk_at dksX2_lacksFrom_1 22 rfl rfl)
abbrev cX2_endOf : ByteArray := prog_2_method_8_code
def yX2_endOf : MethodName := ⟨RX2, "endOf", "(II)I"⟩
def dkwX2_endOf_1 : List UInt8 := [154, 0, 9, 132, 3, 1, 167, 255, 232, 29, 42, 180, 0, 3, 180, 0, 75, 4, 100, 184, 0, 78, 172]
abbrev dktX2_endOf_1 : List UInt8 := dkwX2_endOf_1 ++ []
def dkwX2_endOf_0 : List UInt8 := [27, 4, 96, 62, 29, 42, 180, 0, 3, 180, 0, 75, 4, 100, 162, 0, 17, 28, 29, 184, 0, 71]
abbrev dktX2_endOf_0 : List UInt8 := dkwX2_endOf_0 ++ dktX2_endOf_1
theorem dksX2_endOf_0 : cX2_endOf.data.toList.drop 0 = dktX2_endOf_0 := by decide +kernel
theorem dksX2_endOf_1 : cX2_endOf.data.toList.drop 22 = dktX2_endOf_1 := dk_seg dksX2_endOf_0 22 rfl rfl
theorem dX2_endOf_0 : decode cX2_endOf 0 = .ok (.iload_n 1, 1) := dk_27 (dk_at dksX2_endOf_0 0 rfl rfl)
theorem dX2_endOf_1 : decode cX2_endOf 1 = .ok (.iconst 1, 1) := dk_4 (dk_at dksX2_endOf_0 1 rfl rfl)
theorem dX2_endOf_2 : decode cX2_endOf 2 = .ok (.iadd, 1) := dk_96 (dk_at dksX2_endOf_0 2 rfl rfl)
theorem dX2_endOf_3 : decode cX2_endOf 3 = .ok (.istore_n 3, 1) := dk_62 (dk_at dksX2_endOf_0 3 rfl rfl)
theorem dX2_endOf_4 : decode cX2_endOf 4 = .ok (.iload_n 3, 1) := dk_29 (dk_at dksX2_endOf_0 4 rfl rfl)
theorem dX2_endOf_5 : decode cX2_endOf 5 = .ok (.aload_n 0, 1) := dk_42 (dk_at dksX2_endOf_0 5 rfl rfl)
theorem dX2_endOf_6 : decode cX2_endOf 6 = .ok (.getfield 3, 3) := dk_180 0 3 (dk_at dksX2_endOf_0 6 rfl rfl)
theorem dX2_endOf_9 : decode cX2_endOf 9 = .ok (.getfield 75, 3) := dk_180 0 75 (dk_at dksX2_endOf_0 9 rfl rfl)
theorem dX2_endOf_12 : decode cX2_endOf 12 = .ok (.iconst 1, 1) := dk_4 (dk_at dksX2_endOf_0 12 rfl rfl)
theorem dX2_endOf_13 : decode cX2_endOf 13 = .ok (.isub, 1) := dk_100 (dk_at dksX2_endOf_0 13 rfl rfl)
theorem dX2_endOf_14 : decode cX2_endOf 14 = .ok (.if_icmp .ge 17, 3) := dk_162 0 17 (dk_at dksX2_endOf_0 14 rfl rfl)
theorem dX2_endOf_17 : decode cX2_endOf 17 = .ok (.iload_n 2, 1) := dk_28 (dk_at dksX2_endOf_0 17 rfl rfl)
theorem dX2_endOf_18 : decode cX2_endOf 18 = .ok (.iload_n 3, 1) := dk_29 (dk_at dksX2_endOf_0 18 rfl rfl)
theorem dX2_endOf_19 : decode cX2_endOf 19 = .ok (.invokestatic 71, 3) := dk_184 0 71 (dk_at dksX2_endOf_0 19 rfl rfl)
theorem dX2_endOf_22 : decode cX2_endOf 22 = .ok (.ifCond .ne 9, 3) := dk_154 0 9 (dk_at dksX2_endOf_1 0 rfl rfl)
theorem dX2_endOf_25 : decode cX2_endOf 25 = .ok (.iinc 3 1, 3) := dk_132 3 1 (dk_at dksX2_endOf_1 3 rfl rfl)
theorem dX2_endOf_28 : decode cX2_endOf 28 = .ok (.goto (-24), 3) := dk_167 255 232 (dk_at dksX2_endOf_1 6 rfl rfl)
theorem dX2_endOf_31 : decode cX2_endOf 31 = .ok (.iload_n 3, 1) := dk_29 (dk_at dksX2_endOf_1 9 rfl rfl)
theorem dX2_endOf_32 : decode cX2_endOf 32 = .ok (.aload_n 0, 1) := dk_42 (dk_at dksX2_endOf_1 10 rfl rfl)
theorem dX2_endOf_33 : decode cX2_endOf 33 = .ok (.getfield 3, 3) := dk_180 0 3 (dk_at dksX2_endOf_1 11 rfl rfl)
theorem dX2_endOf_36 : decode cX2_endOf 36 = .ok (.getfield 75, 3) := dk_180 0 75 (dk_at dksX2_endOf_1 14 rfl rfl)
theorem dX2_endOf_39 : decode cX2_endOf 39 = .ok (.iconst 1, 1) := dk_4 (dk_at dksX2_endOf_1 17 rfl rfl)
theorem dX2_endOf_40 : decode cX2_endOf 40 = .ok (.isub, 1) := dk_100 (dk_at dksX2_endOf_1 18 rfl rfl)
theorem dX2_endOf_41 : decode cX2_endOf 41 = .ok (.invokestatic 78, 3) := dk_184 0 78 (dk_at dksX2_endOf_1 19 rfl rfl)
theorem dX2_endOf_44 : decode cX2_endOf 44 = .ok (.ireturn, 1) := dk_172 (dk_at dksX2_endOf_1 22 rfl rfl)
abbrev cX2_notes : ByteArray := prog_2_method_34_code
def yX2_notes : MethodName := ⟨RX2, "notes", "(III)V"⟩
def dkwX2_notes_0 : List UInt8 := [42, 180, 0, 61, 154, 0, 13, 42, 180, 0, 3, 27, 28, 29, 182, 0, 208, 177]
abbrev dktX2_notes_0 : List UInt8 := dkwX2_notes_0 ++ []
theorem dksX2_notes_0 : cX2_notes.data.toList.drop 0 = dktX2_notes_0 := by decide +kernel
theorem dX2_notes_0 : decode cX2_notes 0 = .ok (.aload_n 0, 1) := dk_42 (dk_at dksX2_notes_0 0 rfl rfl)
theorem dX2_notes_1 : decode cX2_notes 1 = .ok (.getfield 61, 3) := dk_180 0 61 (dk_at dksX2_notes_0 1 rfl rfl)
theorem dX2_notes_4 : decode cX2_notes 4 = .ok (.ifCond .ne 13, 3) := dk_154 0 13 (dk_at dksX2_notes_0 4 rfl rfl)
theorem dX2_notes_7 : decode cX2_notes 7 = .ok (.aload_n 0, 1) := dk_42 (dk_at dksX2_notes_0 7 rfl rfl)
theorem dX2_notes_8 : decode cX2_notes 8 = .ok (.getfield 3, 3) := dk_180 0 3 (dk_at dksX2_notes_0 8 rfl rfl)
theorem dX2_notes_11 : decode cX2_notes 11 = .ok (.iload_n 1, 1) := dk_27 (dk_at dksX2_notes_0 11 rfl rfl)
theorem dX2_notes_12 : decode cX2_notes 12 = .ok (.iload_n 2, 1) := dk_28 (dk_at dksX2_notes_0 12 rfl rfl)
theorem dX2_notes_13 : decode cX2_notes 13 = .ok (.iload_n 3, 1) := dk_29 (dk_at dksX2_notes_0 13 rfl rfl)
theorem dX2_notes_14 : decode cX2_notes 14 = .ok (.invokevirtual 208, 3) := dk_182 0 208 (dk_at dksX2_notes_0 14 rfl rfl)
theorem dX2_notes_17 : decode cX2_notes 17 = .ok (.return_, 1) := dk_177 (dk_at dksX2_notes_0 17 rfl rfl)
abbrev cX2_canBridge : ByteArray := prog_2_method_20_code
def yX2_canBridge : MethodName := ⟨RX2, "canBridge", "(I)Z"⟩
def dkwX2_canBridge_1 : List UInt8 := [184, 0, 71, 154, 0, 15, 42, 27, 182, 0, 116, 153, 0, 7, 4, 167, 0, 4, 3, 172]
abbrev dktX2_canBridge_1 : List UInt8 := dkwX2_canBridge_1 ++ []
def dkwX2_canBridge_0 : List UInt8 := [27, 158, 0, 39, 27, 42, 180, 0, 3, 180, 0, 75, 4, 100, 162, 0, 26, 42, 180, 0, 42, 27]
abbrev dktX2_canBridge_0 : List UInt8 := dkwX2_canBridge_0 ++ dktX2_canBridge_1
theorem dksX2_canBridge_0 : cX2_canBridge.data.toList.drop 0 = dktX2_canBridge_0 := by decide +kernel
theorem dksX2_canBridge_1 : cX2_canBridge.data.toList.drop 22 = dktX2_canBridge_1 := dk_seg dksX2_canBridge_0 22 rfl rfl
theorem dX2_canBridge_0 : decode cX2_canBridge 0 = .ok (.iload_n 1, 1) := dk_27 (dk_at dksX2_canBridge_0 0 rfl rfl)
theorem dX2_canBridge_1 : decode cX2_canBridge 1 = .ok (.ifCond .le 39, 3) := dk_158 0 39 (dk_at dksX2_canBridge_0 1 rfl rfl)
theorem dX2_canBridge_4 : decode cX2_canBridge 4 = .ok (.iload_n 1, 1) := dk_27 (dk_at dksX2_canBridge_0 4 rfl rfl)
theorem dX2_canBridge_5 : decode cX2_canBridge 5 = .ok (.aload_n 0, 1) := dk_42 (dk_at dksX2_canBridge_0 5 rfl rfl)
theorem dX2_canBridge_6 : decode cX2_canBridge 6 = .ok (.getfield 3, 3) := dk_180 0 3 (dk_at dksX2_canBridge_0 6 rfl rfl)
theorem dX2_canBridge_9 : decode cX2_canBridge 9 = .ok (.getfield 75, 3) := dk_180 0 75 (dk_at dksX2_canBridge_0 9 rfl rfl)
theorem dX2_canBridge_12 : decode cX2_canBridge 12 = .ok (.iconst 1, 1) := dk_4 (dk_at dksX2_canBridge_0 12 rfl rfl)
theorem dX2_canBridge_13 : decode cX2_canBridge 13 = .ok (.isub, 1) := dk_100 (dk_at dksX2_canBridge_0 13 rfl rfl)
theorem dX2_canBridge_14 : decode cX2_canBridge 14 = .ok (.if_icmp .ge 26, 3) := dk_162 0 26 (dk_at dksX2_canBridge_0 14 rfl rfl)
theorem dX2_canBridge_17 : decode cX2_canBridge 17 = .ok (.aload_n 0, 1) := dk_42 (dk_at dksX2_canBridge_0 17 rfl rfl)
theorem dX2_canBridge_18 : decode cX2_canBridge 18 = .ok (.getfield 42, 3) := dk_180 0 42 (dk_at dksX2_canBridge_0 18 rfl rfl)
theorem dX2_canBridge_21 : decode cX2_canBridge 21 = .ok (.iload_n 1, 1) := dk_27 (dk_at dksX2_canBridge_0 21 rfl rfl)
theorem dX2_canBridge_22 : decode cX2_canBridge 22 = .ok (.invokestatic 71, 3) := dk_184 0 71 (dk_at dksX2_canBridge_1 0 rfl rfl)
theorem dX2_canBridge_25 : decode cX2_canBridge 25 = .ok (.ifCond .ne 15, 3) := dk_154 0 15 (dk_at dksX2_canBridge_1 3 rfl rfl)
theorem dX2_canBridge_28 : decode cX2_canBridge 28 = .ok (.aload_n 0, 1) := dk_42 (dk_at dksX2_canBridge_1 6 rfl rfl)
theorem dX2_canBridge_29 : decode cX2_canBridge 29 = .ok (.iload_n 1, 1) := dk_27 (dk_at dksX2_canBridge_1 7 rfl rfl)
theorem dX2_canBridge_30 : decode cX2_canBridge 30 = .ok (.invokevirtual 116, 3) := dk_182 0 116 (dk_at dksX2_canBridge_1 8 rfl rfl)
theorem dX2_canBridge_33 : decode cX2_canBridge 33 = .ok (.ifCond .eq 7, 3) := dk_153 0 7 (dk_at dksX2_canBridge_1 11 rfl rfl)
theorem dX2_canBridge_36 : decode cX2_canBridge 36 = .ok (.iconst 1, 1) := dk_4 (dk_at dksX2_canBridge_1 14 rfl rfl)
theorem dX2_canBridge_37 : decode cX2_canBridge 37 = .ok (.goto 4, 3) := dk_167 0 4 (dk_at dksX2_canBridge_1 15 rfl rfl)
theorem dX2_canBridge_40 : decode cX2_canBridge 40 = .ok (.iconst 0, 1) := dk_3 (dk_at dksX2_canBridge_1 18 rfl rfl)
theorem dX2_canBridge_41 : decode cX2_canBridge 41 = .ok (.ireturn, 1) := dk_172 (dk_at dksX2_canBridge_1 19 rfl rfl)
abbrev cX2_bridges : ByteArray := prog_2_method_21_code
def yX2_bridges : MethodName := ⟨RX2, "bridges", "(I)V"⟩
def dkwX2_bridges_0 : List UInt8 := [42, 89, 180, 0, 42, 4, 27, 120, 128, 181, 0, 42, 42, 4, 27, 3, 182, 0, 125, 177]
abbrev dktX2_bridges_0 : List UInt8 := dkwX2_bridges_0 ++ []
theorem dksX2_bridges_0 : cX2_bridges.data.toList.drop 0 = dktX2_bridges_0 := by decide +kernel
theorem dX2_bridges_0 : decode cX2_bridges 0 = .ok (.aload_n 0, 1) := dk_42 (dk_at dksX2_bridges_0 0 rfl rfl)
theorem dX2_bridges_1 : decode cX2_bridges 1 = .ok (.dup, 1) := dk_89 (dk_at dksX2_bridges_0 1 rfl rfl)
theorem dX2_bridges_2 : decode cX2_bridges 2 = .ok (.getfield 42, 3) := dk_180 0 42 (dk_at dksX2_bridges_0 2 rfl rfl)
theorem dX2_bridges_5 : decode cX2_bridges 5 = .ok (.iconst 1, 1) := dk_4 (dk_at dksX2_bridges_0 5 rfl rfl)
theorem dX2_bridges_6 : decode cX2_bridges 6 = .ok (.iload_n 1, 1) := dk_27 (dk_at dksX2_bridges_0 6 rfl rfl)
theorem dX2_bridges_7 : decode cX2_bridges 7 = .ok (.ishl, 1) := dk_120 (dk_at dksX2_bridges_0 7 rfl rfl)
theorem dX2_bridges_8 : decode cX2_bridges 8 = .ok (.ior, 1) := dk_128 (dk_at dksX2_bridges_0 8 rfl rfl)
theorem dX2_bridges_9 : decode cX2_bridges 9 = .ok (.putfield 42, 3) := dk_181 0 42 (dk_at dksX2_bridges_0 9 rfl rfl)
theorem dX2_bridges_12 : decode cX2_bridges 12 = .ok (.aload_n 0, 1) := dk_42 (dk_at dksX2_bridges_0 12 rfl rfl)
theorem dX2_bridges_13 : decode cX2_bridges 13 = .ok (.iconst 1, 1) := dk_4 (dk_at dksX2_bridges_0 13 rfl rfl)
theorem dX2_bridges_14 : decode cX2_bridges 14 = .ok (.iload_n 1, 1) := dk_27 (dk_at dksX2_bridges_0 14 rfl rfl)
theorem dX2_bridges_15 : decode cX2_bridges 15 = .ok (.iconst 0, 1) := dk_3 (dk_at dksX2_bridges_0 15 rfl rfl)
theorem dX2_bridges_16 : decode cX2_bridges 16 = .ok (.invokevirtual 125, 3) := dk_182 0 125 (dk_at dksX2_bridges_0 16 rfl rfl)
theorem dX2_bridges_19 : decode cX2_bridges 19 = .ok (.return_, 1) := dk_177 (dk_at dksX2_bridges_0 19 rfl rfl)
abbrev cX2_canPayTo : ByteArray := prog_2_method_22_code
def yX2_canPayTo : MethodName := ⟨RX2, "canPayTo", "(III)Z"⟩
def dkwX2_canPayTo_1 : List UInt8 := [17, 39, 15, 163, 0, 7, 4, 167, 0, 4, 3, 172]
abbrev dktX2_canPayTo_1 : List UInt8 := dkwX2_canPayTo_1 ++ []
def dkwX2_canPayTo_0 : List UInt8 := [42, 180, 0, 19, 27, 46, 29, 100, 17, 216, 241, 161, 0, 21, 42, 180, 0, 19, 28, 46, 29, 96]
abbrev dktX2_canPayTo_0 : List UInt8 := dkwX2_canPayTo_0 ++ dktX2_canPayTo_1
theorem dksX2_canPayTo_0 : cX2_canPayTo.data.toList.drop 0 = dktX2_canPayTo_0 := by decide +kernel
theorem dksX2_canPayTo_1 : cX2_canPayTo.data.toList.drop 22 = dktX2_canPayTo_1 := dk_seg dksX2_canPayTo_0 22 rfl rfl
theorem dX2_canPayTo_0 : decode cX2_canPayTo 0 = .ok (.aload_n 0, 1) := dk_42 (dk_at dksX2_canPayTo_0 0 rfl rfl)
theorem dX2_canPayTo_1 : decode cX2_canPayTo 1 = .ok (.getfield 19, 3) := dk_180 0 19 (dk_at dksX2_canPayTo_0 1 rfl rfl)
theorem dX2_canPayTo_4 : decode cX2_canPayTo 4 = .ok (.iload_n 1, 1) := dk_27 (dk_at dksX2_canPayTo_0 4 rfl rfl)
theorem dX2_canPayTo_5 : decode cX2_canPayTo 5 = .ok (.iaload, 1) := dk_46 (dk_at dksX2_canPayTo_0 5 rfl rfl)
theorem dX2_canPayTo_6 : decode cX2_canPayTo 6 = .ok (.iload_n 3, 1) := dk_29 (dk_at dksX2_canPayTo_0 6 rfl rfl)
theorem dX2_canPayTo_7 : decode cX2_canPayTo 7 = .ok (.isub, 1) := dk_100 (dk_at dksX2_canPayTo_0 7 rfl rfl)
theorem dX2_canPayTo_8 : decode cX2_canPayTo 8 = .ok (.sipush (-9999), 3) := dk_17 216 241 (dk_at dksX2_canPayTo_0 8 rfl rfl)
theorem dX2_canPayTo_11 : decode cX2_canPayTo 11 = .ok (.if_icmp .lt 21, 3) := dk_161 0 21 (dk_at dksX2_canPayTo_0 11 rfl rfl)
theorem dX2_canPayTo_14 : decode cX2_canPayTo 14 = .ok (.aload_n 0, 1) := dk_42 (dk_at dksX2_canPayTo_0 14 rfl rfl)
theorem dX2_canPayTo_15 : decode cX2_canPayTo 15 = .ok (.getfield 19, 3) := dk_180 0 19 (dk_at dksX2_canPayTo_0 15 rfl rfl)
theorem dX2_canPayTo_18 : decode cX2_canPayTo 18 = .ok (.iload_n 2, 1) := dk_28 (dk_at dksX2_canPayTo_0 18 rfl rfl)
theorem dX2_canPayTo_19 : decode cX2_canPayTo 19 = .ok (.iaload, 1) := dk_46 (dk_at dksX2_canPayTo_0 19 rfl rfl)
theorem dX2_canPayTo_20 : decode cX2_canPayTo 20 = .ok (.iload_n 3, 1) := dk_29 (dk_at dksX2_canPayTo_0 20 rfl rfl)
theorem dX2_canPayTo_21 : decode cX2_canPayTo 21 = .ok (.iadd, 1) := dk_96 (dk_at dksX2_canPayTo_0 21 rfl rfl)
theorem dX2_canPayTo_22 : decode cX2_canPayTo 22 = .ok (.sipush 9999, 3) := dk_17 39 15 (dk_at dksX2_canPayTo_1 0 rfl rfl)
theorem dX2_canPayTo_25 : decode cX2_canPayTo 25 = .ok (.if_icmp .gt 7, 3) := dk_163 0 7 (dk_at dksX2_canPayTo_1 3 rfl rfl)
theorem dX2_canPayTo_28 : decode cX2_canPayTo 28 = .ok (.iconst 1, 1) := dk_4 (dk_at dksX2_canPayTo_1 6 rfl rfl)
theorem dX2_canPayTo_29 : decode cX2_canPayTo 29 = .ok (.goto 4, 3) := dk_167 0 4 (dk_at dksX2_canPayTo_1 7 rfl rfl)
theorem dX2_canPayTo_32 : decode cX2_canPayTo 32 = .ok (.iconst 0, 1) := dk_3 (dk_at dksX2_canPayTo_1 10 rfl rfl)
theorem dX2_canPayTo_33 : decode cX2_canPayTo 33 = .ok (.ireturn, 1) := dk_172 (dk_at dksX2_canPayTo_1 11 rfl rfl)
abbrev cX2_pays : ByteArray := prog_2_method_23_code
def yX2_pays : MethodName := ⟨RX2, "pays", "(III)V"⟩
def dkwX2_pays_1 : List UInt8 := [182, 0, 125, 177]
abbrev dktX2_pays_1 : List UInt8 := dkwX2_pays_1 ++ []
def dkwX2_pays_0 : List UInt8 := [42, 180, 0, 19, 27, 92, 46, 29, 100, 79, 42, 180, 0, 19, 28, 92, 46, 29, 96, 79, 42, 5, 27, 29]
abbrev dktX2_pays_0 : List UInt8 := dkwX2_pays_0 ++ dktX2_pays_1
theorem dksX2_pays_0 : cX2_pays.data.toList.drop 0 = dktX2_pays_0 := by decide +kernel
theorem dksX2_pays_1 : cX2_pays.data.toList.drop 24 = dktX2_pays_1 := dk_seg dksX2_pays_0 24 rfl rfl
theorem dX2_pays_0 : decode cX2_pays 0 = .ok (.aload_n 0, 1) := dk_42 (dk_at dksX2_pays_0 0 rfl rfl)
theorem dX2_pays_1 : decode cX2_pays 1 = .ok (.getfield 19, 3) := dk_180 0 19 (dk_at dksX2_pays_0 1 rfl rfl)
theorem dX2_pays_4 : decode cX2_pays 4 = .ok (.iload_n 1, 1) := dk_27 (dk_at dksX2_pays_0 4 rfl rfl)
theorem dX2_pays_5 : decode cX2_pays 5 = .ok (.dup2, 1) := dk_92 (dk_at dksX2_pays_0 5 rfl rfl)
theorem dX2_pays_6 : decode cX2_pays 6 = .ok (.iaload, 1) := dk_46 (dk_at dksX2_pays_0 6 rfl rfl)
theorem dX2_pays_7 : decode cX2_pays 7 = .ok (.iload_n 3, 1) := dk_29 (dk_at dksX2_pays_0 7 rfl rfl)
theorem dX2_pays_8 : decode cX2_pays 8 = .ok (.isub, 1) := dk_100 (dk_at dksX2_pays_0 8 rfl rfl)
theorem dX2_pays_9 : decode cX2_pays 9 = .ok (.iastore, 1) := dk_79 (dk_at dksX2_pays_0 9 rfl rfl)
theorem dX2_pays_10 : decode cX2_pays 10 = .ok (.aload_n 0, 1) := dk_42 (dk_at dksX2_pays_0 10 rfl rfl)
theorem dX2_pays_11 : decode cX2_pays 11 = .ok (.getfield 19, 3) := dk_180 0 19 (dk_at dksX2_pays_0 11 rfl rfl)
theorem dX2_pays_14 : decode cX2_pays 14 = .ok (.iload_n 2, 1) := dk_28 (dk_at dksX2_pays_0 14 rfl rfl)
theorem dX2_pays_15 : decode cX2_pays 15 = .ok (.dup2, 1) := dk_92 (dk_at dksX2_pays_0 15 rfl rfl)
theorem dX2_pays_16 : decode cX2_pays 16 = .ok (.iaload, 1) := dk_46 (dk_at dksX2_pays_0 16 rfl rfl)
theorem dX2_pays_17 : decode cX2_pays 17 = .ok (.iload_n 3, 1) := dk_29 (dk_at dksX2_pays_0 17 rfl rfl)
theorem dX2_pays_18 : decode cX2_pays 18 = .ok (.iadd, 1) := dk_96 (dk_at dksX2_pays_0 18 rfl rfl)
theorem dX2_pays_19 : decode cX2_pays 19 = .ok (.iastore, 1) := dk_79 (dk_at dksX2_pays_0 19 rfl rfl)
theorem dX2_pays_20 : decode cX2_pays 20 = .ok (.aload_n 0, 1) := dk_42 (dk_at dksX2_pays_0 20 rfl rfl)
theorem dX2_pays_21 : decode cX2_pays 21 = .ok (.iconst 2, 1) := dk_5 (dk_at dksX2_pays_0 21 rfl rfl)
theorem dX2_pays_22 : decode cX2_pays 22 = .ok (.iload_n 1, 1) := dk_27 (dk_at dksX2_pays_0 22 rfl rfl)
theorem dX2_pays_23 : decode cX2_pays 23 = .ok (.iload_n 3, 1) := dk_29 (dk_at dksX2_pays_0 23 rfl rfl)
theorem dX2_pays_24 : decode cX2_pays 24 = .ok (.invokevirtual 125, 3) := dk_182 0 125 (dk_at dksX2_pays_1 0 rfl rfl)
theorem dX2_pays_27 : decode cX2_pays 27 = .ok (.return_, 1) := dk_177 (dk_at dksX2_pays_1 3 rfl rfl)
abbrev cX2_canPaper : ByteArray := prog_2_method_24_code
def yX2_canPaper : MethodName := ⟨RX2, "canPaper", "(I)Z"⟩
def dkwX2_canPaper_1 : List UInt8 := [172]
abbrev dktX2_canPaper_1 : List UInt8 := dkwX2_canPaper_1 ++ []
def dkwX2_canPaper_0 : List UInt8 := [42, 180, 0, 35, 27, 184, 0, 71, 154, 0, 15, 42, 27, 182, 0, 116, 153, 0, 7, 4, 167, 0, 4, 3]
abbrev dktX2_canPaper_0 : List UInt8 := dkwX2_canPaper_0 ++ dktX2_canPaper_1
theorem dksX2_canPaper_0 : cX2_canPaper.data.toList.drop 0 = dktX2_canPaper_0 := by decide +kernel
theorem dksX2_canPaper_1 : cX2_canPaper.data.toList.drop 24 = dktX2_canPaper_1 := dk_seg dksX2_canPaper_0 24 rfl rfl
theorem dX2_canPaper_0 : decode cX2_canPaper 0 = .ok (.aload_n 0, 1) := dk_42 (dk_at dksX2_canPaper_0 0 rfl rfl)
theorem dX2_canPaper_1 : decode cX2_canPaper 1 = .ok (.getfield 35, 3) := dk_180 0 35 (dk_at dksX2_canPaper_0 1 rfl rfl)
theorem dX2_canPaper_4 : decode cX2_canPaper 4 = .ok (.iload_n 1, 1) := dk_27 (dk_at dksX2_canPaper_0 4 rfl rfl)
theorem dX2_canPaper_5 : decode cX2_canPaper 5 = .ok (.invokestatic 71, 3) := dk_184 0 71 (dk_at dksX2_canPaper_0 5 rfl rfl)
theorem dX2_canPaper_8 : decode cX2_canPaper 8 = .ok (.ifCond .ne 15, 3) := dk_154 0 15 (dk_at dksX2_canPaper_0 8 rfl rfl)
theorem dX2_canPaper_11 : decode cX2_canPaper 11 = .ok (.aload_n 0, 1) := dk_42 (dk_at dksX2_canPaper_0 11 rfl rfl)
theorem dX2_canPaper_12 : decode cX2_canPaper 12 = .ok (.iload_n 1, 1) := dk_27 (dk_at dksX2_canPaper_0 12 rfl rfl)
theorem dX2_canPaper_13 : decode cX2_canPaper 13 = .ok (.invokevirtual 116, 3) := dk_182 0 116 (dk_at dksX2_canPaper_0 13 rfl rfl)
theorem dX2_canPaper_16 : decode cX2_canPaper 16 = .ok (.ifCond .eq 7, 3) := dk_153 0 7 (dk_at dksX2_canPaper_0 16 rfl rfl)
theorem dX2_canPaper_19 : decode cX2_canPaper 19 = .ok (.iconst 1, 1) := dk_4 (dk_at dksX2_canPaper_0 19 rfl rfl)
theorem dX2_canPaper_20 : decode cX2_canPaper 20 = .ok (.goto 4, 3) := dk_167 0 4 (dk_at dksX2_canPaper_0 20 rfl rfl)
theorem dX2_canPaper_23 : decode cX2_canPaper 23 = .ok (.iconst 0, 1) := dk_3 (dk_at dksX2_canPaper_0 23 rfl rfl)
theorem dX2_canPaper_24 : decode cX2_canPaper 24 = .ok (.ireturn, 1) := dk_172 (dk_at dksX2_canPaper_1 0 rfl rfl)
abbrev cX2_papers : ByteArray := prog_2_method_25_code
def yX2_papers : MethodName := ⟨RX2, "papers", "(I)V"⟩
def dkwX2_papers_0 : List UInt8 := [42, 89, 180, 0, 35, 4, 27, 120, 128, 181, 0, 35, 42, 6, 27, 3, 182, 0, 125, 177]
abbrev dktX2_papers_0 : List UInt8 := dkwX2_papers_0 ++ []
theorem dksX2_papers_0 : cX2_papers.data.toList.drop 0 = dktX2_papers_0 := by decide +kernel
theorem dX2_papers_0 : decode cX2_papers 0 = .ok (.aload_n 0, 1) := dk_42 (dk_at dksX2_papers_0 0 rfl rfl)
theorem dX2_papers_1 : decode cX2_papers 1 = .ok (.dup, 1) := dk_89 (dk_at dksX2_papers_0 1 rfl rfl)
theorem dX2_papers_2 : decode cX2_papers 2 = .ok (.getfield 35, 3) := dk_180 0 35 (dk_at dksX2_papers_0 2 rfl rfl)
theorem dX2_papers_5 : decode cX2_papers 5 = .ok (.iconst 1, 1) := dk_4 (dk_at dksX2_papers_0 5 rfl rfl)
theorem dX2_papers_6 : decode cX2_papers 6 = .ok (.iload_n 1, 1) := dk_27 (dk_at dksX2_papers_0 6 rfl rfl)
theorem dX2_papers_7 : decode cX2_papers 7 = .ok (.ishl, 1) := dk_120 (dk_at dksX2_papers_0 7 rfl rfl)
theorem dX2_papers_8 : decode cX2_papers 8 = .ok (.ior, 1) := dk_128 (dk_at dksX2_papers_0 8 rfl rfl)
theorem dX2_papers_9 : decode cX2_papers 9 = .ok (.putfield 35, 3) := dk_181 0 35 (dk_at dksX2_papers_0 9 rfl rfl)
theorem dX2_papers_12 : decode cX2_papers 12 = .ok (.aload_n 0, 1) := dk_42 (dk_at dksX2_papers_0 12 rfl rfl)
theorem dX2_papers_13 : decode cX2_papers 13 = .ok (.iconst 3, 1) := dk_6 (dk_at dksX2_papers_0 13 rfl rfl)
theorem dX2_papers_14 : decode cX2_papers 14 = .ok (.iload_n 1, 1) := dk_27 (dk_at dksX2_papers_0 14 rfl rfl)
theorem dX2_papers_15 : decode cX2_papers 15 = .ok (.iconst 0, 1) := dk_3 (dk_at dksX2_papers_0 15 rfl rfl)
theorem dX2_papers_16 : decode cX2_papers 16 = .ok (.invokevirtual 125, 3) := dk_182 0 125 (dk_at dksX2_papers_0 16 rfl rfl)
theorem dX2_papers_19 : decode cX2_papers 19 = .ok (.return_, 1) := dk_177 (dk_at dksX2_papers_0 19 rfl rfl)
abbrev cX2_joins : ByteArray := prog_2_method_26_code
def yX2_joins : MethodName := ⟨RX2, "joins", "(I)V"⟩
def dkwX2_joins_1 : List UInt8 := [126, 181, 0, 35, 42, 16, 6, 27, 3, 182, 0, 125, 177]
abbrev dktX2_joins_1 : List UInt8 := dkwX2_joins_1 ++ []
def dkwX2_joins_0 : List UInt8 := [42, 89, 180, 0, 39, 4, 27, 120, 2, 130, 126, 181, 0, 39, 42, 89, 180, 0, 35, 4, 27, 120, 2, 130]
abbrev dktX2_joins_0 : List UInt8 := dkwX2_joins_0 ++ dktX2_joins_1
theorem dksX2_joins_0 : cX2_joins.data.toList.drop 0 = dktX2_joins_0 := by decide +kernel
theorem dksX2_joins_1 : cX2_joins.data.toList.drop 24 = dktX2_joins_1 := dk_seg dksX2_joins_0 24 rfl rfl
theorem dX2_joins_0 : decode cX2_joins 0 = .ok (.aload_n 0, 1) := dk_42 (dk_at dksX2_joins_0 0 rfl rfl)
theorem dX2_joins_1 : decode cX2_joins 1 = .ok (.dup, 1) := dk_89 (dk_at dksX2_joins_0 1 rfl rfl)
theorem dX2_joins_2 : decode cX2_joins 2 = .ok (.getfield 39, 3) := dk_180 0 39 (dk_at dksX2_joins_0 2 rfl rfl)
theorem dX2_joins_5 : decode cX2_joins 5 = .ok (.iconst 1, 1) := dk_4 (dk_at dksX2_joins_0 5 rfl rfl)
theorem dX2_joins_6 : decode cX2_joins 6 = .ok (.iload_n 1, 1) := dk_27 (dk_at dksX2_joins_0 6 rfl rfl)
theorem dX2_joins_7 : decode cX2_joins 7 = .ok (.ishl, 1) := dk_120 (dk_at dksX2_joins_0 7 rfl rfl)
theorem dX2_joins_8 : decode cX2_joins 8 = .ok (.iconst (-1), 1) := dk_2 (dk_at dksX2_joins_0 8 rfl rfl)
theorem dX2_joins_9 : decode cX2_joins 9 = .ok (.ixor, 1) := dk_130 (dk_at dksX2_joins_0 9 rfl rfl)
theorem dX2_joins_10 : decode cX2_joins 10 = .ok (.iand, 1) := dk_126 (dk_at dksX2_joins_0 10 rfl rfl)
theorem dX2_joins_11 : decode cX2_joins 11 = .ok (.putfield 39, 3) := dk_181 0 39 (dk_at dksX2_joins_0 11 rfl rfl)
theorem dX2_joins_14 : decode cX2_joins 14 = .ok (.aload_n 0, 1) := dk_42 (dk_at dksX2_joins_0 14 rfl rfl)
theorem dX2_joins_15 : decode cX2_joins 15 = .ok (.dup, 1) := dk_89 (dk_at dksX2_joins_0 15 rfl rfl)
theorem dX2_joins_16 : decode cX2_joins 16 = .ok (.getfield 35, 3) := dk_180 0 35 (dk_at dksX2_joins_0 16 rfl rfl)
theorem dX2_joins_19 : decode cX2_joins 19 = .ok (.iconst 1, 1) := dk_4 (dk_at dksX2_joins_0 19 rfl rfl)
theorem dX2_joins_20 : decode cX2_joins 20 = .ok (.iload_n 1, 1) := dk_27 (dk_at dksX2_joins_0 20 rfl rfl)
theorem dX2_joins_21 : decode cX2_joins 21 = .ok (.ishl, 1) := dk_120 (dk_at dksX2_joins_0 21 rfl rfl)
theorem dX2_joins_22 : decode cX2_joins 22 = .ok (.iconst (-1), 1) := dk_2 (dk_at dksX2_joins_0 22 rfl rfl)
theorem dX2_joins_23 : decode cX2_joins 23 = .ok (.ixor, 1) := dk_130 (dk_at dksX2_joins_0 23 rfl rfl)
theorem dX2_joins_24 : decode cX2_joins 24 = .ok (.iand, 1) := dk_126 (dk_at dksX2_joins_1 0 rfl rfl)
theorem dX2_joins_25 : decode cX2_joins 25 = .ok (.putfield 35, 3) := dk_181 0 35 (dk_at dksX2_joins_1 1 rfl rfl)
theorem dX2_joins_28 : decode cX2_joins 28 = .ok (.aload_n 0, 1) := dk_42 (dk_at dksX2_joins_1 4 rfl rfl)
theorem dX2_joins_29 : decode cX2_joins 29 = .ok (.bipush 6, 2) := dk_16 6 (dk_at dksX2_joins_1 5 rfl rfl)
theorem dX2_joins_31 : decode cX2_joins 31 = .ok (.iload_n 1, 1) := dk_27 (dk_at dksX2_joins_1 7 rfl rfl)
theorem dX2_joins_32 : decode cX2_joins 32 = .ok (.iconst 0, 1) := dk_3 (dk_at dksX2_joins_1 8 rfl rfl)
theorem dX2_joins_33 : decode cX2_joins 33 = .ok (.invokevirtual 125, 3) := dk_182 0 125 (dk_at dksX2_joins_1 9 rfl rfl)
theorem dX2_joins_36 : decode cX2_joins 36 = .ok (.return_, 1) := dk_177 (dk_at dksX2_joins_1 12 rfl rfl)
abbrev cX2_goesBy : ByteArray := prog_2_method_33_code
def yX2_goesBy : MethodName := ⟨RX2, "goesBy", "()I"⟩
def dkwX2_goesBy_9 : List UInt8 := [132, 2, 1, 167, 255, 199, 42, 89, 180, 0, 45, 4, 96, 181, 0, 45, 27, 172]
abbrev dktX2_goesBy_9 : List UInt8 := dkwX2_goesBy_9 ++ []
def dkwX2_goesBy_8 : List UInt8 := [180, 0, 19, 28, 17, 216, 241, 42, 180, 0, 19, 28, 46, 42, 28, 182, 0, 205, 100, 184, 0, 122, 79]
abbrev dktX2_goesBy_8 : List UInt8 := dkwX2_goesBy_8 ++ dktX2_goesBy_9
def dkwX2_goesBy_7 : List UInt8 := [162, 0, 52, 42, 180, 0, 42, 28, 184, 0, 71, 153, 0, 35, 42, 28, 182, 0, 116, 153, 0, 27, 42]
abbrev dktX2_goesBy_7 : List UInt8 := dkwX2_goesBy_7 ++ dktX2_goesBy_8
def dkwX2_goesBy_6 : List UInt8 := [182, 0, 200, 132, 1, 1, 167, 255, 207, 42, 182, 0, 202, 60, 3, 61, 28, 42, 180, 0, 3, 180, 0, 75]
abbrev dktX2_goesBy_6 : List UInt8 := dkwX2_goesBy_6 ++ dktX2_goesBy_7
def dkwX2_goesBy_5 : List UInt8 := [42, 27, 182, 0, 197, 167, 0, 4, 3, 61, 28, 158, 0, 16, 42, 28, 182, 0, 194, 153, 0, 8, 42, 27]
abbrev dktX2_goesBy_5 : List UInt8 := dkwX2_goesBy_5 ++ dktX2_goesBy_6
def dkwX2_goesBy_4 : List UInt8 := [167, 255, 217, 3, 60, 27, 42, 180, 0, 3, 180, 0, 75, 162, 0, 44, 42, 27, 182, 0, 116, 153, 0, 11]
abbrev dktX2_goesBy_4 : List UInt8 := dkwX2_goesBy_4 ++ dktX2_goesBy_5
def dkwX2_goesBy_3 : List UInt8 := [153, 0, 20, 42, 42, 27, 182, 0, 191, 182, 0, 194, 153, 0, 8, 42, 27, 182, 0, 166, 132, 1, 1]
abbrev dktX2_goesBy_3 : List UInt8 := dkwX2_goesBy_3 ++ dktX2_goesBy_4
def dkwX2_goesBy_2 : List UInt8 := [132, 1, 1, 167, 255, 209, 3, 60, 27, 42, 180, 0, 3, 180, 0, 75, 162, 0, 34, 42, 27, 182, 0, 163]
abbrev dktX2_goesBy_2 : List UInt8 := dkwX2_goesBy_2 ++ dktX2_goesBy_3
def dkwX2_goesBy_1 : List UInt8 := [182, 0, 185, 42, 180, 0, 45, 160, 0, 16, 42, 42, 180, 0, 3, 180, 0, 181, 27, 50, 182, 0, 187]
abbrev dktX2_goesBy_1 : List UInt8 := dkwX2_goesBy_1 ++ dktX2_goesBy_2
def dkwX2_goesBy_0 : List UInt8 := [3, 60, 27, 42, 180, 0, 3, 180, 0, 181, 190, 162, 0, 41, 42, 180, 0, 3, 180, 0, 181, 27, 50]
abbrev dktX2_goesBy_0 : List UInt8 := dkwX2_goesBy_0 ++ dktX2_goesBy_1
theorem dksX2_goesBy_0 : cX2_goesBy.data.toList.drop 0 = dktX2_goesBy_0 := by decide +kernel
theorem dksX2_goesBy_1 : cX2_goesBy.data.toList.drop 23 = dktX2_goesBy_1 := dk_seg dksX2_goesBy_0 23 rfl rfl
theorem dksX2_goesBy_2 : cX2_goesBy.data.toList.drop 46 = dktX2_goesBy_2 := dk_seg dksX2_goesBy_1 23 rfl rfl
theorem dksX2_goesBy_3 : cX2_goesBy.data.toList.drop 70 = dktX2_goesBy_3 := dk_seg dksX2_goesBy_2 24 rfl rfl
theorem dksX2_goesBy_4 : cX2_goesBy.data.toList.drop 93 = dktX2_goesBy_4 := dk_seg dksX2_goesBy_3 23 rfl rfl
theorem dksX2_goesBy_5 : cX2_goesBy.data.toList.drop 117 = dktX2_goesBy_5 := dk_seg dksX2_goesBy_4 24 rfl rfl
theorem dksX2_goesBy_6 : cX2_goesBy.data.toList.drop 141 = dktX2_goesBy_6 := dk_seg dksX2_goesBy_5 24 rfl rfl
theorem dksX2_goesBy_7 : cX2_goesBy.data.toList.drop 165 = dktX2_goesBy_7 := dk_seg dksX2_goesBy_6 24 rfl rfl
theorem dksX2_goesBy_8 : cX2_goesBy.data.toList.drop 188 = dktX2_goesBy_8 := dk_seg dksX2_goesBy_7 23 rfl rfl
theorem dksX2_goesBy_9 : cX2_goesBy.data.toList.drop 211 = dktX2_goesBy_9 := dk_seg dksX2_goesBy_8 23 rfl rfl
theorem dX2_goesBy_0 : decode cX2_goesBy 0 = .ok (.iconst 0, 1) := dk_3 (dk_at dksX2_goesBy_0 0 rfl rfl)
theorem dX2_goesBy_1 : decode cX2_goesBy 1 = .ok (.istore_n 1, 1) := dk_60 (dk_at dksX2_goesBy_0 1 rfl rfl)
theorem dX2_goesBy_2 : decode cX2_goesBy 2 = .ok (.iload_n 1, 1) := dk_27 (dk_at dksX2_goesBy_0 2 rfl rfl)
theorem dX2_goesBy_3 : decode cX2_goesBy 3 = .ok (.aload_n 0, 1) := dk_42 (dk_at dksX2_goesBy_0 3 rfl rfl)
theorem dX2_goesBy_4 : decode cX2_goesBy 4 = .ok (.getfield 3, 3) := dk_180 0 3 (dk_at dksX2_goesBy_0 4 rfl rfl)
theorem dX2_goesBy_7 : decode cX2_goesBy 7 = .ok (.getfield 181, 3) := dk_180 0 181 (dk_at dksX2_goesBy_0 7 rfl rfl)
theorem dX2_goesBy_10 : decode cX2_goesBy 10 = .ok (.arraylength, 1) := dk_190 (dk_at dksX2_goesBy_0 10 rfl rfl)
theorem dX2_goesBy_11 : decode cX2_goesBy 11 = .ok (.if_icmp .ge 41, 3) := dk_162 0 41 (dk_at dksX2_goesBy_0 11 rfl rfl)
theorem dX2_goesBy_14 : decode cX2_goesBy 14 = .ok (.aload_n 0, 1) := dk_42 (dk_at dksX2_goesBy_0 14 rfl rfl)
theorem dX2_goesBy_15 : decode cX2_goesBy 15 = .ok (.getfield 3, 3) := dk_180 0 3 (dk_at dksX2_goesBy_0 15 rfl rfl)
theorem dX2_goesBy_18 : decode cX2_goesBy 18 = .ok (.getfield 181, 3) := dk_180 0 181 (dk_at dksX2_goesBy_0 18 rfl rfl)
theorem dX2_goesBy_21 : decode cX2_goesBy 21 = .ok (.iload_n 1, 1) := dk_27 (dk_at dksX2_goesBy_0 21 rfl rfl)
theorem dX2_goesBy_22 : decode cX2_goesBy 22 = .ok (.aaload, 1) := dk_50 (dk_at dksX2_goesBy_0 22 rfl rfl)
theorem dX2_goesBy_23 : decode cX2_goesBy 23 = .ok (.invokevirtual 185, 3) := dk_182 0 185 (dk_at dksX2_goesBy_1 0 rfl rfl)
theorem dX2_goesBy_26 : decode cX2_goesBy 26 = .ok (.aload_n 0, 1) := dk_42 (dk_at dksX2_goesBy_1 3 rfl rfl)
theorem dX2_goesBy_27 : decode cX2_goesBy 27 = .ok (.getfield 45, 3) := dk_180 0 45 (dk_at dksX2_goesBy_1 4 rfl rfl)
theorem dX2_goesBy_30 : decode cX2_goesBy 30 = .ok (.if_icmp .ne 16, 3) := dk_160 0 16 (dk_at dksX2_goesBy_1 7 rfl rfl)
theorem dX2_goesBy_33 : decode cX2_goesBy 33 = .ok (.aload_n 0, 1) := dk_42 (dk_at dksX2_goesBy_1 10 rfl rfl)
theorem dX2_goesBy_34 : decode cX2_goesBy 34 = .ok (.aload_n 0, 1) := dk_42 (dk_at dksX2_goesBy_1 11 rfl rfl)
theorem dX2_goesBy_35 : decode cX2_goesBy 35 = .ok (.getfield 3, 3) := dk_180 0 3 (dk_at dksX2_goesBy_1 12 rfl rfl)
theorem dX2_goesBy_38 : decode cX2_goesBy 38 = .ok (.getfield 181, 3) := dk_180 0 181 (dk_at dksX2_goesBy_1 15 rfl rfl)
theorem dX2_goesBy_41 : decode cX2_goesBy 41 = .ok (.iload_n 1, 1) := dk_27 (dk_at dksX2_goesBy_1 18 rfl rfl)
theorem dX2_goesBy_42 : decode cX2_goesBy 42 = .ok (.aaload, 1) := dk_50 (dk_at dksX2_goesBy_1 19 rfl rfl)
theorem dX2_goesBy_43 : decode cX2_goesBy 43 = .ok (.invokevirtual 187, 3) := dk_182 0 187 (dk_at dksX2_goesBy_1 20 rfl rfl)
theorem dX2_goesBy_46 : decode cX2_goesBy 46 = .ok (.iinc 1 1, 3) := dk_132 1 1 (dk_at dksX2_goesBy_2 0 rfl rfl)
theorem dX2_goesBy_49 : decode cX2_goesBy 49 = .ok (.goto (-47), 3) := dk_167 255 209 (dk_at dksX2_goesBy_2 3 rfl rfl)
theorem dX2_goesBy_52 : decode cX2_goesBy 52 = .ok (.iconst 0, 1) := dk_3 (dk_at dksX2_goesBy_2 6 rfl rfl)
theorem dX2_goesBy_53 : decode cX2_goesBy 53 = .ok (.istore_n 1, 1) := dk_60 (dk_at dksX2_goesBy_2 7 rfl rfl)
theorem dX2_goesBy_54 : decode cX2_goesBy 54 = .ok (.iload_n 1, 1) := dk_27 (dk_at dksX2_goesBy_2 8 rfl rfl)
theorem dX2_goesBy_55 : decode cX2_goesBy 55 = .ok (.aload_n 0, 1) := dk_42 (dk_at dksX2_goesBy_2 9 rfl rfl)
theorem dX2_goesBy_56 : decode cX2_goesBy 56 = .ok (.getfield 3, 3) := dk_180 0 3 (dk_at dksX2_goesBy_2 10 rfl rfl)
theorem dX2_goesBy_59 : decode cX2_goesBy 59 = .ok (.getfield 75, 3) := dk_180 0 75 (dk_at dksX2_goesBy_2 13 rfl rfl)
theorem dX2_goesBy_62 : decode cX2_goesBy 62 = .ok (.if_icmp .ge 34, 3) := dk_162 0 34 (dk_at dksX2_goesBy_2 16 rfl rfl)
theorem dX2_goesBy_65 : decode cX2_goesBy 65 = .ok (.aload_n 0, 1) := dk_42 (dk_at dksX2_goesBy_2 19 rfl rfl)
theorem dX2_goesBy_66 : decode cX2_goesBy 66 = .ok (.iload_n 1, 1) := dk_27 (dk_at dksX2_goesBy_2 20 rfl rfl)
theorem dX2_goesBy_67 : decode cX2_goesBy 67 = .ok (.invokevirtual 163, 3) := dk_182 0 163 (dk_at dksX2_goesBy_2 21 rfl rfl)
theorem dX2_goesBy_70 : decode cX2_goesBy 70 = .ok (.ifCond .eq 20, 3) := dk_153 0 20 (dk_at dksX2_goesBy_3 0 rfl rfl)
theorem dX2_goesBy_73 : decode cX2_goesBy 73 = .ok (.aload_n 0, 1) := dk_42 (dk_at dksX2_goesBy_3 3 rfl rfl)
theorem dX2_goesBy_74 : decode cX2_goesBy 74 = .ok (.aload_n 0, 1) := dk_42 (dk_at dksX2_goesBy_3 4 rfl rfl)
theorem dX2_goesBy_75 : decode cX2_goesBy 75 = .ok (.iload_n 1, 1) := dk_27 (dk_at dksX2_goesBy_3 5 rfl rfl)
theorem dX2_goesBy_76 : decode cX2_goesBy 76 = .ok (.invokevirtual 191, 3) := dk_182 0 191 (dk_at dksX2_goesBy_3 6 rfl rfl)
theorem dX2_goesBy_79 : decode cX2_goesBy 79 = .ok (.invokevirtual 194, 3) := dk_182 0 194 (dk_at dksX2_goesBy_3 9 rfl rfl)
theorem dX2_goesBy_82 : decode cX2_goesBy 82 = .ok (.ifCond .eq 8, 3) := dk_153 0 8 (dk_at dksX2_goesBy_3 12 rfl rfl)
theorem dX2_goesBy_85 : decode cX2_goesBy 85 = .ok (.aload_n 0, 1) := dk_42 (dk_at dksX2_goesBy_3 15 rfl rfl)
theorem dX2_goesBy_86 : decode cX2_goesBy 86 = .ok (.iload_n 1, 1) := dk_27 (dk_at dksX2_goesBy_3 16 rfl rfl)
theorem dX2_goesBy_87 : decode cX2_goesBy 87 = .ok (.invokevirtual 166, 3) := dk_182 0 166 (dk_at dksX2_goesBy_3 17 rfl rfl)
theorem dX2_goesBy_90 : decode cX2_goesBy 90 = .ok (.iinc 1 1, 3) := dk_132 1 1 (dk_at dksX2_goesBy_3 20 rfl rfl)
theorem dX2_goesBy_93 : decode cX2_goesBy 93 = .ok (.goto (-39), 3) := dk_167 255 217 (dk_at dksX2_goesBy_4 0 rfl rfl)
theorem dX2_goesBy_96 : decode cX2_goesBy 96 = .ok (.iconst 0, 1) := dk_3 (dk_at dksX2_goesBy_4 3 rfl rfl)
theorem dX2_goesBy_97 : decode cX2_goesBy 97 = .ok (.istore_n 1, 1) := dk_60 (dk_at dksX2_goesBy_4 4 rfl rfl)
theorem dX2_goesBy_98 : decode cX2_goesBy 98 = .ok (.iload_n 1, 1) := dk_27 (dk_at dksX2_goesBy_4 5 rfl rfl)
theorem dX2_goesBy_99 : decode cX2_goesBy 99 = .ok (.aload_n 0, 1) := dk_42 (dk_at dksX2_goesBy_4 6 rfl rfl)
theorem dX2_goesBy_100 : decode cX2_goesBy 100 = .ok (.getfield 3, 3) := dk_180 0 3 (dk_at dksX2_goesBy_4 7 rfl rfl)
theorem dX2_goesBy_103 : decode cX2_goesBy 103 = .ok (.getfield 75, 3) := dk_180 0 75 (dk_at dksX2_goesBy_4 10 rfl rfl)
theorem dX2_goesBy_106 : decode cX2_goesBy 106 = .ok (.if_icmp .ge 44, 3) := dk_162 0 44 (dk_at dksX2_goesBy_4 13 rfl rfl)
theorem dX2_goesBy_109 : decode cX2_goesBy 109 = .ok (.aload_n 0, 1) := dk_42 (dk_at dksX2_goesBy_4 16 rfl rfl)
theorem dX2_goesBy_110 : decode cX2_goesBy 110 = .ok (.iload_n 1, 1) := dk_27 (dk_at dksX2_goesBy_4 17 rfl rfl)
theorem dX2_goesBy_111 : decode cX2_goesBy 111 = .ok (.invokevirtual 116, 3) := dk_182 0 116 (dk_at dksX2_goesBy_4 18 rfl rfl)
theorem dX2_goesBy_114 : decode cX2_goesBy 114 = .ok (.ifCond .eq 11, 3) := dk_153 0 11 (dk_at dksX2_goesBy_4 21 rfl rfl)
theorem dX2_goesBy_117 : decode cX2_goesBy 117 = .ok (.aload_n 0, 1) := dk_42 (dk_at dksX2_goesBy_5 0 rfl rfl)
theorem dX2_goesBy_118 : decode cX2_goesBy 118 = .ok (.iload_n 1, 1) := dk_27 (dk_at dksX2_goesBy_5 1 rfl rfl)
theorem dX2_goesBy_119 : decode cX2_goesBy 119 = .ok (.invokevirtual 197, 3) := dk_182 0 197 (dk_at dksX2_goesBy_5 2 rfl rfl)
theorem dX2_goesBy_122 : decode cX2_goesBy 122 = .ok (.goto 4, 3) := dk_167 0 4 (dk_at dksX2_goesBy_5 5 rfl rfl)
theorem dX2_goesBy_125 : decode cX2_goesBy 125 = .ok (.iconst 0, 1) := dk_3 (dk_at dksX2_goesBy_5 8 rfl rfl)
theorem dX2_goesBy_126 : decode cX2_goesBy 126 = .ok (.istore_n 2, 1) := dk_61 (dk_at dksX2_goesBy_5 9 rfl rfl)
theorem dX2_goesBy_127 : decode cX2_goesBy 127 = .ok (.iload_n 2, 1) := dk_28 (dk_at dksX2_goesBy_5 10 rfl rfl)
theorem dX2_goesBy_128 : decode cX2_goesBy 128 = .ok (.ifCond .le 16, 3) := dk_158 0 16 (dk_at dksX2_goesBy_5 11 rfl rfl)
theorem dX2_goesBy_131 : decode cX2_goesBy 131 = .ok (.aload_n 0, 1) := dk_42 (dk_at dksX2_goesBy_5 14 rfl rfl)
theorem dX2_goesBy_132 : decode cX2_goesBy 132 = .ok (.iload_n 2, 1) := dk_28 (dk_at dksX2_goesBy_5 15 rfl rfl)
theorem dX2_goesBy_133 : decode cX2_goesBy 133 = .ok (.invokevirtual 194, 3) := dk_182 0 194 (dk_at dksX2_goesBy_5 16 rfl rfl)
theorem dX2_goesBy_136 : decode cX2_goesBy 136 = .ok (.ifCond .eq 8, 3) := dk_153 0 8 (dk_at dksX2_goesBy_5 19 rfl rfl)
theorem dX2_goesBy_139 : decode cX2_goesBy 139 = .ok (.aload_n 0, 1) := dk_42 (dk_at dksX2_goesBy_5 22 rfl rfl)
theorem dX2_goesBy_140 : decode cX2_goesBy 140 = .ok (.iload_n 1, 1) := dk_27 (dk_at dksX2_goesBy_5 23 rfl rfl)
theorem dX2_goesBy_141 : decode cX2_goesBy 141 = .ok (.invokevirtual 200, 3) := dk_182 0 200 (dk_at dksX2_goesBy_6 0 rfl rfl)
theorem dX2_goesBy_144 : decode cX2_goesBy 144 = .ok (.iinc 1 1, 3) := dk_132 1 1 (dk_at dksX2_goesBy_6 3 rfl rfl)
theorem dX2_goesBy_147 : decode cX2_goesBy 147 = .ok (.goto (-49), 3) := dk_167 255 207 (dk_at dksX2_goesBy_6 6 rfl rfl)
theorem dX2_goesBy_150 : decode cX2_goesBy 150 = .ok (.aload_n 0, 1) := dk_42 (dk_at dksX2_goesBy_6 9 rfl rfl)
theorem dX2_goesBy_151 : decode cX2_goesBy 151 = .ok (.invokevirtual 202, 3) := dk_182 0 202 (dk_at dksX2_goesBy_6 10 rfl rfl)
theorem dX2_goesBy_154 : decode cX2_goesBy 154 = .ok (.istore_n 1, 1) := dk_60 (dk_at dksX2_goesBy_6 13 rfl rfl)
theorem dX2_goesBy_155 : decode cX2_goesBy 155 = .ok (.iconst 0, 1) := dk_3 (dk_at dksX2_goesBy_6 14 rfl rfl)
theorem dX2_goesBy_156 : decode cX2_goesBy 156 = .ok (.istore_n 2, 1) := dk_61 (dk_at dksX2_goesBy_6 15 rfl rfl)
theorem dX2_goesBy_157 : decode cX2_goesBy 157 = .ok (.iload_n 2, 1) := dk_28 (dk_at dksX2_goesBy_6 16 rfl rfl)
theorem dX2_goesBy_158 : decode cX2_goesBy 158 = .ok (.aload_n 0, 1) := dk_42 (dk_at dksX2_goesBy_6 17 rfl rfl)
theorem dX2_goesBy_159 : decode cX2_goesBy 159 = .ok (.getfield 3, 3) := dk_180 0 3 (dk_at dksX2_goesBy_6 18 rfl rfl)
theorem dX2_goesBy_162 : decode cX2_goesBy 162 = .ok (.getfield 75, 3) := dk_180 0 75 (dk_at dksX2_goesBy_6 21 rfl rfl)
theorem dX2_goesBy_165 : decode cX2_goesBy 165 = .ok (.if_icmp .ge 52, 3) := dk_162 0 52 (dk_at dksX2_goesBy_7 0 rfl rfl)
theorem dX2_goesBy_168 : decode cX2_goesBy 168 = .ok (.aload_n 0, 1) := dk_42 (dk_at dksX2_goesBy_7 3 rfl rfl)
theorem dX2_goesBy_169 : decode cX2_goesBy 169 = .ok (.getfield 42, 3) := dk_180 0 42 (dk_at dksX2_goesBy_7 4 rfl rfl)
theorem dX2_goesBy_172 : decode cX2_goesBy 172 = .ok (.iload_n 2, 1) := dk_28 (dk_at dksX2_goesBy_7 7 rfl rfl)
theorem dX2_goesBy_173 : decode cX2_goesBy 173 = .ok (.invokestatic 71, 3) := dk_184 0 71 (dk_at dksX2_goesBy_7 8 rfl rfl)
theorem dX2_goesBy_176 : decode cX2_goesBy 176 = .ok (.ifCond .eq 35, 3) := dk_153 0 35 (dk_at dksX2_goesBy_7 11 rfl rfl)
theorem dX2_goesBy_179 : decode cX2_goesBy 179 = .ok (.aload_n 0, 1) := dk_42 (dk_at dksX2_goesBy_7 14 rfl rfl)
theorem dX2_goesBy_180 : decode cX2_goesBy 180 = .ok (.iload_n 2, 1) := dk_28 (dk_at dksX2_goesBy_7 15 rfl rfl)
theorem dX2_goesBy_181 : decode cX2_goesBy 181 = .ok (.invokevirtual 116, 3) := dk_182 0 116 (dk_at dksX2_goesBy_7 16 rfl rfl)
theorem dX2_goesBy_184 : decode cX2_goesBy 184 = .ok (.ifCond .eq 27, 3) := dk_153 0 27 (dk_at dksX2_goesBy_7 19 rfl rfl)
theorem dX2_goesBy_187 : decode cX2_goesBy 187 = .ok (.aload_n 0, 1) := dk_42 (dk_at dksX2_goesBy_7 22 rfl rfl)
theorem dX2_goesBy_188 : decode cX2_goesBy 188 = .ok (.getfield 19, 3) := dk_180 0 19 (dk_at dksX2_goesBy_8 0 rfl rfl)
theorem dX2_goesBy_191 : decode cX2_goesBy 191 = .ok (.iload_n 2, 1) := dk_28 (dk_at dksX2_goesBy_8 3 rfl rfl)
theorem dX2_goesBy_192 : decode cX2_goesBy 192 = .ok (.sipush (-9999), 3) := dk_17 216 241 (dk_at dksX2_goesBy_8 4 rfl rfl)
theorem dX2_goesBy_195 : decode cX2_goesBy 195 = .ok (.aload_n 0, 1) := dk_42 (dk_at dksX2_goesBy_8 7 rfl rfl)
theorem dX2_goesBy_196 : decode cX2_goesBy 196 = .ok (.getfield 19, 3) := dk_180 0 19 (dk_at dksX2_goesBy_8 8 rfl rfl)
theorem dX2_goesBy_199 : decode cX2_goesBy 199 = .ok (.iload_n 2, 1) := dk_28 (dk_at dksX2_goesBy_8 11 rfl rfl)
theorem dX2_goesBy_200 : decode cX2_goesBy 200 = .ok (.iaload, 1) := dk_46 (dk_at dksX2_goesBy_8 12 rfl rfl)
theorem dX2_goesBy_201 : decode cX2_goesBy 201 = .ok (.aload_n 0, 1) := dk_42 (dk_at dksX2_goesBy_8 13 rfl rfl)
theorem dX2_goesBy_202 : decode cX2_goesBy 202 = .ok (.iload_n 2, 1) := dk_28 (dk_at dksX2_goesBy_8 14 rfl rfl)
theorem dX2_goesBy_203 : decode cX2_goesBy 203 = .ok (.invokevirtual 205, 3) := dk_182 0 205 (dk_at dksX2_goesBy_8 15 rfl rfl)
theorem dX2_goesBy_206 : decode cX2_goesBy 206 = .ok (.isub, 1) := dk_100 (dk_at dksX2_goesBy_8 18 rfl rfl)
theorem dX2_goesBy_207 : decode cX2_goesBy 207 = .ok (.invokestatic 122, 3) := dk_184 0 122 (dk_at dksX2_goesBy_8 19 rfl rfl)
theorem dX2_goesBy_210 : decode cX2_goesBy 210 = .ok (.iastore, 1) := dk_79 (dk_at dksX2_goesBy_8 22 rfl rfl)
theorem dX2_goesBy_211 : decode cX2_goesBy 211 = .ok (.iinc 2 1, 3) := dk_132 2 1 (dk_at dksX2_goesBy_9 0 rfl rfl)
theorem dX2_goesBy_214 : decode cX2_goesBy 214 = .ok (.goto (-57), 3) := dk_167 255 199 (dk_at dksX2_goesBy_9 3 rfl rfl)
theorem dX2_goesBy_217 : decode cX2_goesBy 217 = .ok (.aload_n 0, 1) := dk_42 (dk_at dksX2_goesBy_9 6 rfl rfl)
theorem dX2_goesBy_218 : decode cX2_goesBy 218 = .ok (.dup, 1) := dk_89 (dk_at dksX2_goesBy_9 7 rfl rfl)
theorem dX2_goesBy_219 : decode cX2_goesBy 219 = .ok (.getfield 45, 3) := dk_180 0 45 (dk_at dksX2_goesBy_9 8 rfl rfl)
theorem dX2_goesBy_222 : decode cX2_goesBy 222 = .ok (.iconst 1, 1) := dk_4 (dk_at dksX2_goesBy_9 11 rfl rfl)
theorem dX2_goesBy_223 : decode cX2_goesBy 223 = .ok (.iadd, 1) := dk_96 (dk_at dksX2_goesBy_9 12 rfl rfl)
theorem dX2_goesBy_224 : decode cX2_goesBy 224 = .ok (.putfield 45, 3) := dk_181 0 45 (dk_at dksX2_goesBy_9 13 rfl rfl)
theorem dX2_goesBy_227 : decode cX2_goesBy 227 = .ok (.iload_n 1, 1) := dk_27 (dk_at dksX2_goesBy_9 16 rfl rfl)
theorem dX2_goesBy_228 : decode cX2_goesBy 228 = .ok (.ireturn, 1) := dk_172 (dk_at dksX2_goesBy_9 17 rfl rfl)
abbrev cX2_does : ByteArray := prog_2_method_27_code
def yX2_does : MethodName := ⟨RX2, "does", "(LTwelveChain$Deed;)V"⟩
def dkwX2_does_5 : List UInt8 := [182, 0, 163, 153, 0, 11, 42, 43, 182, 0, 135, 182, 0, 166, 177]
abbrev dktX2_does_5 : List UInt8 := dkwX2_does_5 ++ []
def dkwX2_does_4 : List UInt8 := [182, 0, 153, 43, 182, 0, 141, 182, 0, 160, 43, 182, 0, 129, 6, 160, 0, 22, 42, 43, 182, 0, 135]
abbrev dktX2_does_4 : List UInt8 := dkwX2_does_4 ++ dktX2_does_5
def dkwX2_does_3 : List UInt8 := [182, 0, 135, 43, 182, 0, 153, 43, 182, 0, 141, 182, 0, 156, 153, 0, 19, 42, 43, 182, 0, 135, 43]
abbrev dktX2_does_3 : List UInt8 := dkwX2_does_3 ++ dktX2_does_4
def dkwX2_does_2 : List UInt8 := [182, 0, 147, 153, 0, 11, 42, 43, 182, 0, 135, 182, 0, 150, 43, 182, 0, 129, 5, 160, 0, 38, 42, 43]
abbrev dktX2_does_2 : List UInt8 := dkwX2_does_2 ++ dktX2_does_3
def dkwX2_does_1 : List UInt8 := [96, 43, 182, 0, 141, 182, 0, 144, 87, 43, 182, 0, 129, 4, 160, 0, 22, 42, 43, 182, 0, 135]
abbrev dktX2_does_1 : List UInt8 := dkwX2_does_1 ++ dktX2_does_2
def dkwX2_does_0 : List UInt8 := [43, 182, 0, 129, 154, 0, 29, 42, 43, 182, 0, 135, 182, 0, 138, 153, 0, 18, 42, 43, 182, 0, 135, 4]
abbrev dktX2_does_0 : List UInt8 := dkwX2_does_0 ++ dktX2_does_1
theorem dksX2_does_0 : cX2_does.data.toList.drop 0 = dktX2_does_0 := by decide +kernel
theorem dksX2_does_1 : cX2_does.data.toList.drop 24 = dktX2_does_1 := dk_seg dksX2_does_0 24 rfl rfl
theorem dksX2_does_2 : cX2_does.data.toList.drop 46 = dktX2_does_2 := dk_seg dksX2_does_1 22 rfl rfl
theorem dksX2_does_3 : cX2_does.data.toList.drop 70 = dktX2_does_3 := dk_seg dksX2_does_2 24 rfl rfl
theorem dksX2_does_4 : cX2_does.data.toList.drop 93 = dktX2_does_4 := dk_seg dksX2_does_3 23 rfl rfl
theorem dksX2_does_5 : cX2_does.data.toList.drop 116 = dktX2_does_5 := dk_seg dksX2_does_4 23 rfl rfl
theorem dX2_does_0 : decode cX2_does 0 = .ok (.aload_n 1, 1) := dk_43 (dk_at dksX2_does_0 0 rfl rfl)
theorem dX2_does_1 : decode cX2_does 1 = .ok (.invokevirtual 129, 3) := dk_182 0 129 (dk_at dksX2_does_0 1 rfl rfl)
theorem dX2_does_4 : decode cX2_does 4 = .ok (.ifCond .ne 29, 3) := dk_154 0 29 (dk_at dksX2_does_0 4 rfl rfl)
theorem dX2_does_7 : decode cX2_does 7 = .ok (.aload_n 0, 1) := dk_42 (dk_at dksX2_does_0 7 rfl rfl)
theorem dX2_does_8 : decode cX2_does 8 = .ok (.aload_n 1, 1) := dk_43 (dk_at dksX2_does_0 8 rfl rfl)
theorem dX2_does_9 : decode cX2_does 9 = .ok (.invokevirtual 135, 3) := dk_182 0 135 (dk_at dksX2_does_0 9 rfl rfl)
theorem dX2_does_12 : decode cX2_does 12 = .ok (.invokevirtual 138, 3) := dk_182 0 138 (dk_at dksX2_does_0 12 rfl rfl)
theorem dX2_does_15 : decode cX2_does 15 = .ok (.ifCond .eq 18, 3) := dk_153 0 18 (dk_at dksX2_does_0 15 rfl rfl)
theorem dX2_does_18 : decode cX2_does 18 = .ok (.aload_n 0, 1) := dk_42 (dk_at dksX2_does_0 18 rfl rfl)
theorem dX2_does_19 : decode cX2_does 19 = .ok (.aload_n 1, 1) := dk_43 (dk_at dksX2_does_0 19 rfl rfl)
theorem dX2_does_20 : decode cX2_does 20 = .ok (.invokevirtual 135, 3) := dk_182 0 135 (dk_at dksX2_does_0 20 rfl rfl)
theorem dX2_does_23 : decode cX2_does 23 = .ok (.iconst 1, 1) := dk_4 (dk_at dksX2_does_0 23 rfl rfl)
theorem dX2_does_24 : decode cX2_does 24 = .ok (.iadd, 1) := dk_96 (dk_at dksX2_does_1 0 rfl rfl)
theorem dX2_does_25 : decode cX2_does 25 = .ok (.aload_n 1, 1) := dk_43 (dk_at dksX2_does_1 1 rfl rfl)
theorem dX2_does_26 : decode cX2_does 26 = .ok (.invokevirtual 141, 3) := dk_182 0 141 (dk_at dksX2_does_1 2 rfl rfl)
theorem dX2_does_29 : decode cX2_does 29 = .ok (.invokevirtual 144, 3) := dk_182 0 144 (dk_at dksX2_does_1 5 rfl rfl)
theorem dX2_does_32 : decode cX2_does 32 = .ok (.pop, 1) := dk_87 (dk_at dksX2_does_1 8 rfl rfl)
theorem dX2_does_33 : decode cX2_does 33 = .ok (.aload_n 1, 1) := dk_43 (dk_at dksX2_does_1 9 rfl rfl)
theorem dX2_does_34 : decode cX2_does 34 = .ok (.invokevirtual 129, 3) := dk_182 0 129 (dk_at dksX2_does_1 10 rfl rfl)
theorem dX2_does_37 : decode cX2_does 37 = .ok (.iconst 1, 1) := dk_4 (dk_at dksX2_does_1 13 rfl rfl)
theorem dX2_does_38 : decode cX2_does 38 = .ok (.if_icmp .ne 22, 3) := dk_160 0 22 (dk_at dksX2_does_1 14 rfl rfl)
theorem dX2_does_41 : decode cX2_does 41 = .ok (.aload_n 0, 1) := dk_42 (dk_at dksX2_does_1 17 rfl rfl)
theorem dX2_does_42 : decode cX2_does 42 = .ok (.aload_n 1, 1) := dk_43 (dk_at dksX2_does_1 18 rfl rfl)
theorem dX2_does_43 : decode cX2_does 43 = .ok (.invokevirtual 135, 3) := dk_182 0 135 (dk_at dksX2_does_1 19 rfl rfl)
theorem dX2_does_46 : decode cX2_does 46 = .ok (.invokevirtual 147, 3) := dk_182 0 147 (dk_at dksX2_does_2 0 rfl rfl)
theorem dX2_does_49 : decode cX2_does 49 = .ok (.ifCond .eq 11, 3) := dk_153 0 11 (dk_at dksX2_does_2 3 rfl rfl)
theorem dX2_does_52 : decode cX2_does 52 = .ok (.aload_n 0, 1) := dk_42 (dk_at dksX2_does_2 6 rfl rfl)
theorem dX2_does_53 : decode cX2_does 53 = .ok (.aload_n 1, 1) := dk_43 (dk_at dksX2_does_2 7 rfl rfl)
theorem dX2_does_54 : decode cX2_does 54 = .ok (.invokevirtual 135, 3) := dk_182 0 135 (dk_at dksX2_does_2 8 rfl rfl)
theorem dX2_does_57 : decode cX2_does 57 = .ok (.invokevirtual 150, 3) := dk_182 0 150 (dk_at dksX2_does_2 11 rfl rfl)
theorem dX2_does_60 : decode cX2_does 60 = .ok (.aload_n 1, 1) := dk_43 (dk_at dksX2_does_2 14 rfl rfl)
theorem dX2_does_61 : decode cX2_does 61 = .ok (.invokevirtual 129, 3) := dk_182 0 129 (dk_at dksX2_does_2 15 rfl rfl)
theorem dX2_does_64 : decode cX2_does 64 = .ok (.iconst 2, 1) := dk_5 (dk_at dksX2_does_2 18 rfl rfl)
theorem dX2_does_65 : decode cX2_does 65 = .ok (.if_icmp .ne 38, 3) := dk_160 0 38 (dk_at dksX2_does_2 19 rfl rfl)
theorem dX2_does_68 : decode cX2_does 68 = .ok (.aload_n 0, 1) := dk_42 (dk_at dksX2_does_2 22 rfl rfl)
theorem dX2_does_69 : decode cX2_does 69 = .ok (.aload_n 1, 1) := dk_43 (dk_at dksX2_does_2 23 rfl rfl)
theorem dX2_does_70 : decode cX2_does 70 = .ok (.invokevirtual 135, 3) := dk_182 0 135 (dk_at dksX2_does_3 0 rfl rfl)
theorem dX2_does_73 : decode cX2_does 73 = .ok (.aload_n 1, 1) := dk_43 (dk_at dksX2_does_3 3 rfl rfl)
theorem dX2_does_74 : decode cX2_does 74 = .ok (.invokevirtual 153, 3) := dk_182 0 153 (dk_at dksX2_does_3 4 rfl rfl)
theorem dX2_does_77 : decode cX2_does 77 = .ok (.aload_n 1, 1) := dk_43 (dk_at dksX2_does_3 7 rfl rfl)
theorem dX2_does_78 : decode cX2_does 78 = .ok (.invokevirtual 141, 3) := dk_182 0 141 (dk_at dksX2_does_3 8 rfl rfl)
theorem dX2_does_81 : decode cX2_does 81 = .ok (.invokevirtual 156, 3) := dk_182 0 156 (dk_at dksX2_does_3 11 rfl rfl)
theorem dX2_does_84 : decode cX2_does 84 = .ok (.ifCond .eq 19, 3) := dk_153 0 19 (dk_at dksX2_does_3 14 rfl rfl)
theorem dX2_does_87 : decode cX2_does 87 = .ok (.aload_n 0, 1) := dk_42 (dk_at dksX2_does_3 17 rfl rfl)
theorem dX2_does_88 : decode cX2_does 88 = .ok (.aload_n 1, 1) := dk_43 (dk_at dksX2_does_3 18 rfl rfl)
theorem dX2_does_89 : decode cX2_does 89 = .ok (.invokevirtual 135, 3) := dk_182 0 135 (dk_at dksX2_does_3 19 rfl rfl)
theorem dX2_does_92 : decode cX2_does 92 = .ok (.aload_n 1, 1) := dk_43 (dk_at dksX2_does_3 22 rfl rfl)
theorem dX2_does_93 : decode cX2_does 93 = .ok (.invokevirtual 153, 3) := dk_182 0 153 (dk_at dksX2_does_4 0 rfl rfl)
theorem dX2_does_96 : decode cX2_does 96 = .ok (.aload_n 1, 1) := dk_43 (dk_at dksX2_does_4 3 rfl rfl)
theorem dX2_does_97 : decode cX2_does 97 = .ok (.invokevirtual 141, 3) := dk_182 0 141 (dk_at dksX2_does_4 4 rfl rfl)
theorem dX2_does_100 : decode cX2_does 100 = .ok (.invokevirtual 160, 3) := dk_182 0 160 (dk_at dksX2_does_4 7 rfl rfl)
theorem dX2_does_103 : decode cX2_does 103 = .ok (.aload_n 1, 1) := dk_43 (dk_at dksX2_does_4 10 rfl rfl)
theorem dX2_does_104 : decode cX2_does 104 = .ok (.invokevirtual 129, 3) := dk_182 0 129 (dk_at dksX2_does_4 11 rfl rfl)
theorem dX2_does_107 : decode cX2_does 107 = .ok (.iconst 3, 1) := dk_6 (dk_at dksX2_does_4 14 rfl rfl)
theorem dX2_does_108 : decode cX2_does 108 = .ok (.if_icmp .ne 22, 3) := dk_160 0 22 (dk_at dksX2_does_4 15 rfl rfl)
theorem dX2_does_111 : decode cX2_does 111 = .ok (.aload_n 0, 1) := dk_42 (dk_at dksX2_does_4 18 rfl rfl)
theorem dX2_does_112 : decode cX2_does 112 = .ok (.aload_n 1, 1) := dk_43 (dk_at dksX2_does_4 19 rfl rfl)
theorem dX2_does_113 : decode cX2_does 113 = .ok (.invokevirtual 135, 3) := dk_182 0 135 (dk_at dksX2_does_4 20 rfl rfl)
theorem dX2_does_116 : decode cX2_does 116 = .ok (.invokevirtual 163, 3) := dk_182 0 163 (dk_at dksX2_does_5 0 rfl rfl)
theorem dX2_does_119 : decode cX2_does 119 = .ok (.ifCond .eq 11, 3) := dk_153 0 11 (dk_at dksX2_does_5 3 rfl rfl)
theorem dX2_does_122 : decode cX2_does 122 = .ok (.aload_n 0, 1) := dk_42 (dk_at dksX2_does_5 6 rfl rfl)
theorem dX2_does_123 : decode cX2_does 123 = .ok (.aload_n 1, 1) := dk_43 (dk_at dksX2_does_5 7 rfl rfl)
theorem dX2_does_124 : decode cX2_does 124 = .ok (.invokevirtual 135, 3) := dk_182 0 135 (dk_at dksX2_does_5 8 rfl rfl)
theorem dX2_does_127 : decode cX2_does 127 = .ok (.invokevirtual 166, 3) := dk_182 0 166 (dk_at dksX2_does_5 11 rfl rfl)
theorem dX2_does_130 : decode cX2_does 130 = .ok (.return_, 1) := dk_177 (dk_at dksX2_does_5 14 rfl rfl)
abbrev cX2_readyOf : ByteArray := prog_2_method_14_code
def yX2_readyOf : MethodName := ⟨RX2, "readyOf", "(I)I"⟩
def dkwX2_readyOf_1 : List UInt8 := [17, 3, 232, 182, 0, 109, 172]
abbrev dktX2_readyOf_1 : List UInt8 := dkwX2_readyOf_1 ++ []
def dkwX2_readyOf_0 : List UInt8 := [42, 27, 182, 0, 105, 42, 180, 0, 3, 3, 17, 1, 44, 16, 30, 42, 180, 0, 25, 27, 46, 104, 100]
abbrev dktX2_readyOf_0 : List UInt8 := dkwX2_readyOf_0 ++ dktX2_readyOf_1
theorem dksX2_readyOf_0 : cX2_readyOf.data.toList.drop 0 = dktX2_readyOf_0 := by decide +kernel
theorem dksX2_readyOf_1 : cX2_readyOf.data.toList.drop 23 = dktX2_readyOf_1 := dk_seg dksX2_readyOf_0 23 rfl rfl
theorem dX2_readyOf_0 : decode cX2_readyOf 0 = .ok (.aload_n 0, 1) := dk_42 (dk_at dksX2_readyOf_0 0 rfl rfl)
theorem dX2_readyOf_1 : decode cX2_readyOf 1 = .ok (.iload_n 1, 1) := dk_27 (dk_at dksX2_readyOf_0 1 rfl rfl)
theorem dX2_readyOf_2 : decode cX2_readyOf 2 = .ok (.invokevirtual 105, 3) := dk_182 0 105 (dk_at dksX2_readyOf_0 2 rfl rfl)
theorem dX2_readyOf_5 : decode cX2_readyOf 5 = .ok (.aload_n 0, 1) := dk_42 (dk_at dksX2_readyOf_0 5 rfl rfl)
theorem dX2_readyOf_6 : decode cX2_readyOf 6 = .ok (.getfield 3, 3) := dk_180 0 3 (dk_at dksX2_readyOf_0 6 rfl rfl)
theorem dX2_readyOf_9 : decode cX2_readyOf 9 = .ok (.iconst 0, 1) := dk_3 (dk_at dksX2_readyOf_0 9 rfl rfl)
theorem dX2_readyOf_10 : decode cX2_readyOf 10 = .ok (.sipush 300, 3) := dk_17 1 44 (dk_at dksX2_readyOf_0 10 rfl rfl)
theorem dX2_readyOf_13 : decode cX2_readyOf 13 = .ok (.bipush 30, 2) := dk_16 30 (dk_at dksX2_readyOf_0 13 rfl rfl)
theorem dX2_readyOf_15 : decode cX2_readyOf 15 = .ok (.aload_n 0, 1) := dk_42 (dk_at dksX2_readyOf_0 15 rfl rfl)
theorem dX2_readyOf_16 : decode cX2_readyOf 16 = .ok (.getfield 25, 3) := dk_180 0 25 (dk_at dksX2_readyOf_0 16 rfl rfl)
theorem dX2_readyOf_19 : decode cX2_readyOf 19 = .ok (.iload_n 1, 1) := dk_27 (dk_at dksX2_readyOf_0 19 rfl rfl)
theorem dX2_readyOf_20 : decode cX2_readyOf 20 = .ok (.iaload, 1) := dk_46 (dk_at dksX2_readyOf_0 20 rfl rfl)
theorem dX2_readyOf_21 : decode cX2_readyOf 21 = .ok (.imul, 1) := dk_104 (dk_at dksX2_readyOf_0 21 rfl rfl)
theorem dX2_readyOf_22 : decode cX2_readyOf 22 = .ok (.isub, 1) := dk_100 (dk_at dksX2_readyOf_0 22 rfl rfl)
theorem dX2_readyOf_23 : decode cX2_readyOf 23 = .ok (.sipush 1000, 3) := dk_17 3 232 (dk_at dksX2_readyOf_1 0 rfl rfl)
theorem dX2_readyOf_26 : decode cX2_readyOf 26 = .ok (.invokevirtual 109, 3) := dk_182 0 109 (dk_at dksX2_readyOf_1 3 rfl rfl)
theorem dX2_readyOf_29 : decode cX2_readyOf 29 = .ok (.ireturn, 1) := dk_172 (dk_at dksX2_readyOf_1 6 rfl rfl)
abbrev cX2_comes : ByteArray := prog_2_method_28_code
def yX2_comes : MethodName := ⟨RX2, "comes", "(I)Z"⟩
def dkwX2_comes_1 : List UInt8 := [42, 17, 3, 232, 182, 0, 169, 27, 162, 0, 7, 4, 167, 0, 4, 3, 172]
abbrev dktX2_comes_1 : List UInt8 := dkwX2_comes_1 ++ []
def dkwX2_comes_0 : List UInt8 := [42, 180, 0, 61, 153, 0, 20, 5, 27, 104, 17, 3, 232, 161, 0, 7, 4, 167, 0, 23, 3, 167, 0, 19]
abbrev dktX2_comes_0 : List UInt8 := dkwX2_comes_0 ++ dktX2_comes_1
theorem dksX2_comes_0 : cX2_comes.data.toList.drop 0 = dktX2_comes_0 := by decide +kernel
theorem dksX2_comes_1 : cX2_comes.data.toList.drop 24 = dktX2_comes_1 := dk_seg dksX2_comes_0 24 rfl rfl
theorem dX2_comes_0 : decode cX2_comes 0 = .ok (.aload_n 0, 1) := dk_42 (dk_at dksX2_comes_0 0 rfl rfl)
theorem dX2_comes_1 : decode cX2_comes 1 = .ok (.getfield 61, 3) := dk_180 0 61 (dk_at dksX2_comes_0 1 rfl rfl)
theorem dX2_comes_4 : decode cX2_comes 4 = .ok (.ifCond .eq 20, 3) := dk_153 0 20 (dk_at dksX2_comes_0 4 rfl rfl)
theorem dX2_comes_7 : decode cX2_comes 7 = .ok (.iconst 2, 1) := dk_5 (dk_at dksX2_comes_0 7 rfl rfl)
theorem dX2_comes_8 : decode cX2_comes 8 = .ok (.iload_n 1, 1) := dk_27 (dk_at dksX2_comes_0 8 rfl rfl)
theorem dX2_comes_9 : decode cX2_comes 9 = .ok (.imul, 1) := dk_104 (dk_at dksX2_comes_0 9 rfl rfl)
theorem dX2_comes_10 : decode cX2_comes 10 = .ok (.sipush 1000, 3) := dk_17 3 232 (dk_at dksX2_comes_0 10 rfl rfl)
theorem dX2_comes_13 : decode cX2_comes 13 = .ok (.if_icmp .lt 7, 3) := dk_161 0 7 (dk_at dksX2_comes_0 13 rfl rfl)
theorem dX2_comes_16 : decode cX2_comes 16 = .ok (.iconst 1, 1) := dk_4 (dk_at dksX2_comes_0 16 rfl rfl)
theorem dX2_comes_17 : decode cX2_comes 17 = .ok (.goto 23, 3) := dk_167 0 23 (dk_at dksX2_comes_0 17 rfl rfl)
theorem dX2_comes_20 : decode cX2_comes 20 = .ok (.iconst 0, 1) := dk_3 (dk_at dksX2_comes_0 20 rfl rfl)
theorem dX2_comes_21 : decode cX2_comes 21 = .ok (.goto 19, 3) := dk_167 0 19 (dk_at dksX2_comes_0 21 rfl rfl)
theorem dX2_comes_24 : decode cX2_comes 24 = .ok (.aload_n 0, 1) := dk_42 (dk_at dksX2_comes_1 0 rfl rfl)
theorem dX2_comes_25 : decode cX2_comes 25 = .ok (.sipush 1000, 3) := dk_17 3 232 (dk_at dksX2_comes_1 1 rfl rfl)
theorem dX2_comes_28 : decode cX2_comes 28 = .ok (.invokevirtual 169, 3) := dk_182 0 169 (dk_at dksX2_comes_1 4 rfl rfl)
theorem dX2_comes_31 : decode cX2_comes 31 = .ok (.iload_n 1, 1) := dk_27 (dk_at dksX2_comes_1 7 rfl rfl)
theorem dX2_comes_32 : decode cX2_comes 32 = .ok (.if_icmp .ge 7, 3) := dk_162 0 7 (dk_at dksX2_comes_1 8 rfl rfl)
theorem dX2_comes_35 : decode cX2_comes 35 = .ok (.iconst 1, 1) := dk_4 (dk_at dksX2_comes_1 11 rfl rfl)
theorem dX2_comes_36 : decode cX2_comes 36 = .ok (.goto 4, 3) := dk_167 0 4 (dk_at dksX2_comes_1 12 rfl rfl)
theorem dX2_comes_39 : decode cX2_comes 39 = .ok (.iconst 0, 1) := dk_3 (dk_at dksX2_comes_1 15 rfl rfl)
theorem dX2_comes_40 : decode cX2_comes 40 = .ok (.ireturn, 1) := dk_172 (dk_at dksX2_comes_1 16 rfl rfl)
abbrev cX2_draw : ByteArray := prog_2_method_4_code
def yX2_draw : MethodName := ⟨RX2, "draw", "(I)I"⟩
def dkwX2_draw_0 : List UInt8 := [42, 18, 65, 42, 180, 0, 51, 104, 18, 66, 96, 181, 0, 51, 42, 180, 0, 51, 16, 8, 124, 27, 112, 172]
abbrev dktX2_draw_0 : List UInt8 := dkwX2_draw_0 ++ []
theorem dksX2_draw_0 : cX2_draw.data.toList.drop 0 = dktX2_draw_0 := by decide +kernel
theorem dX2_draw_0 : decode cX2_draw 0 = .ok (.aload_n 0, 1) := dk_42 (dk_at dksX2_draw_0 0 rfl rfl)
theorem dX2_draw_1 : decode cX2_draw 1 = .ok (.ldc 65, 2) := dk_18 65 (dk_at dksX2_draw_0 1 rfl rfl)
theorem dX2_draw_3 : decode cX2_draw 3 = .ok (.aload_n 0, 1) := dk_42 (dk_at dksX2_draw_0 3 rfl rfl)
theorem dX2_draw_4 : decode cX2_draw 4 = .ok (.getfield 51, 3) := dk_180 0 51 (dk_at dksX2_draw_0 4 rfl rfl)
theorem dX2_draw_7 : decode cX2_draw 7 = .ok (.imul, 1) := dk_104 (dk_at dksX2_draw_0 7 rfl rfl)
theorem dX2_draw_8 : decode cX2_draw 8 = .ok (.ldc 66, 2) := dk_18 66 (dk_at dksX2_draw_0 8 rfl rfl)
theorem dX2_draw_10 : decode cX2_draw 10 = .ok (.iadd, 1) := dk_96 (dk_at dksX2_draw_0 10 rfl rfl)
theorem dX2_draw_11 : decode cX2_draw 11 = .ok (.putfield 51, 3) := dk_181 0 51 (dk_at dksX2_draw_0 11 rfl rfl)
theorem dX2_draw_14 : decode cX2_draw 14 = .ok (.aload_n 0, 1) := dk_42 (dk_at dksX2_draw_0 14 rfl rfl)
theorem dX2_draw_15 : decode cX2_draw 15 = .ok (.getfield 51, 3) := dk_180 0 51 (dk_at dksX2_draw_0 15 rfl rfl)
theorem dX2_draw_18 : decode cX2_draw 18 = .ok (.bipush 8, 2) := dk_16 8 (dk_at dksX2_draw_0 18 rfl rfl)
theorem dX2_draw_20 : decode cX2_draw 20 = .ok (.iushr, 1) := dk_124 (dk_at dksX2_draw_0 20 rfl rfl)
theorem dX2_draw_21 : decode cX2_draw 21 = .ok (.iload_n 1, 1) := dk_27 (dk_at dksX2_draw_0 21 rfl rfl)
theorem dX2_draw_22 : decode cX2_draw 22 = .ok (.irem, 1) := dk_112 (dk_at dksX2_draw_0 22 rfl rfl)
theorem dX2_draw_23 : decode cX2_draw 23 = .ok (.ireturn, 1) := dk_172 (dk_at dksX2_draw_0 23 rfl rfl)
abbrev cX2_leaveOf : ByteArray := prog_2_method_15_code
def yX2_leaveOf : MethodName := ⟨RX2, "leaveOf", "(I)I"⟩
def dkwX2_leaveOf_0 : List UInt8 := [42, 27, 182, 0, 105, 42, 180, 0, 3, 4, 3, 17, 3, 232, 182, 0, 109, 172]
abbrev dktX2_leaveOf_0 : List UInt8 := dkwX2_leaveOf_0 ++ []
theorem dksX2_leaveOf_0 : cX2_leaveOf.data.toList.drop 0 = dktX2_leaveOf_0 := by decide +kernel
theorem dX2_leaveOf_0 : decode cX2_leaveOf 0 = .ok (.aload_n 0, 1) := dk_42 (dk_at dksX2_leaveOf_0 0 rfl rfl)
theorem dX2_leaveOf_1 : decode cX2_leaveOf 1 = .ok (.iload_n 1, 1) := dk_27 (dk_at dksX2_leaveOf_0 1 rfl rfl)
theorem dX2_leaveOf_2 : decode cX2_leaveOf 2 = .ok (.invokevirtual 105, 3) := dk_182 0 105 (dk_at dksX2_leaveOf_0 2 rfl rfl)
theorem dX2_leaveOf_5 : decode cX2_leaveOf 5 = .ok (.aload_n 0, 1) := dk_42 (dk_at dksX2_leaveOf_0 5 rfl rfl)
theorem dX2_leaveOf_6 : decode cX2_leaveOf 6 = .ok (.getfield 3, 3) := dk_180 0 3 (dk_at dksX2_leaveOf_0 6 rfl rfl)
theorem dX2_leaveOf_9 : decode cX2_leaveOf 9 = .ok (.iconst 1, 1) := dk_4 (dk_at dksX2_leaveOf_0 9 rfl rfl)
theorem dX2_leaveOf_10 : decode cX2_leaveOf 10 = .ok (.iconst 0, 1) := dk_3 (dk_at dksX2_leaveOf_0 10 rfl rfl)
theorem dX2_leaveOf_11 : decode cX2_leaveOf 11 = .ok (.sipush 1000, 3) := dk_17 3 232 (dk_at dksX2_leaveOf_0 11 rfl rfl)
theorem dX2_leaveOf_14 : decode cX2_leaveOf 14 = .ok (.invokevirtual 109, 3) := dk_182 0 109 (dk_at dksX2_leaveOf_0 14 rfl rfl)
theorem dX2_leaveOf_17 : decode cX2_leaveOf 17 = .ok (.ireturn, 1) := dk_172 (dk_at dksX2_leaveOf_0 17 rfl rfl)
abbrev cX2_falls : ByteArray := prog_2_method_30_code
def yX2_falls : MethodName := ⟨RX2, "falls", "(I)V"⟩
def dkwX2_falls_2 : List UInt8 := [182, 0, 125, 177]
abbrev dktX2_falls_2 : List UInt8 := dkwX2_falls_2 ++ []
def dkwX2_falls_1 : List UInt8 := [100, 61, 28, 27, 4, 96, 163, 0, 14, 42, 28, 182, 0, 172, 132, 2, 1, 167, 255, 241, 42, 7, 27, 3]
abbrev dktX2_falls_1 : List UInt8 := dkwX2_falls_1 ++ dktX2_falls_2
def dkwX2_falls_0 : List UInt8 := [42, 89, 180, 0, 39, 4, 27, 120, 128, 181, 0, 39, 42, 89, 180, 0, 48, 4, 96, 181, 0, 48, 27, 4]
abbrev dktX2_falls_0 : List UInt8 := dkwX2_falls_0 ++ dktX2_falls_1
theorem dksX2_falls_0 : cX2_falls.data.toList.drop 0 = dktX2_falls_0 := by decide +kernel
theorem dksX2_falls_1 : cX2_falls.data.toList.drop 24 = dktX2_falls_1 := dk_seg dksX2_falls_0 24 rfl rfl
theorem dksX2_falls_2 : cX2_falls.data.toList.drop 48 = dktX2_falls_2 := dk_seg dksX2_falls_1 24 rfl rfl
theorem dX2_falls_0 : decode cX2_falls 0 = .ok (.aload_n 0, 1) := dk_42 (dk_at dksX2_falls_0 0 rfl rfl)
theorem dX2_falls_1 : decode cX2_falls 1 = .ok (.dup, 1) := dk_89 (dk_at dksX2_falls_0 1 rfl rfl)
theorem dX2_falls_2 : decode cX2_falls 2 = .ok (.getfield 39, 3) := dk_180 0 39 (dk_at dksX2_falls_0 2 rfl rfl)
theorem dX2_falls_5 : decode cX2_falls 5 = .ok (.iconst 1, 1) := dk_4 (dk_at dksX2_falls_0 5 rfl rfl)
theorem dX2_falls_6 : decode cX2_falls 6 = .ok (.iload_n 1, 1) := dk_27 (dk_at dksX2_falls_0 6 rfl rfl)
theorem dX2_falls_7 : decode cX2_falls 7 = .ok (.ishl, 1) := dk_120 (dk_at dksX2_falls_0 7 rfl rfl)
theorem dX2_falls_8 : decode cX2_falls 8 = .ok (.ior, 1) := dk_128 (dk_at dksX2_falls_0 8 rfl rfl)
theorem dX2_falls_9 : decode cX2_falls 9 = .ok (.putfield 39, 3) := dk_181 0 39 (dk_at dksX2_falls_0 9 rfl rfl)
theorem dX2_falls_12 : decode cX2_falls 12 = .ok (.aload_n 0, 1) := dk_42 (dk_at dksX2_falls_0 12 rfl rfl)
theorem dX2_falls_13 : decode cX2_falls 13 = .ok (.dup, 1) := dk_89 (dk_at dksX2_falls_0 13 rfl rfl)
theorem dX2_falls_14 : decode cX2_falls 14 = .ok (.getfield 48, 3) := dk_180 0 48 (dk_at dksX2_falls_0 14 rfl rfl)
theorem dX2_falls_17 : decode cX2_falls 17 = .ok (.iconst 1, 1) := dk_4 (dk_at dksX2_falls_0 17 rfl rfl)
theorem dX2_falls_18 : decode cX2_falls 18 = .ok (.iadd, 1) := dk_96 (dk_at dksX2_falls_0 18 rfl rfl)
theorem dX2_falls_19 : decode cX2_falls 19 = .ok (.putfield 48, 3) := dk_181 0 48 (dk_at dksX2_falls_0 19 rfl rfl)
theorem dX2_falls_22 : decode cX2_falls 22 = .ok (.iload_n 1, 1) := dk_27 (dk_at dksX2_falls_0 22 rfl rfl)
theorem dX2_falls_23 : decode cX2_falls 23 = .ok (.iconst 1, 1) := dk_4 (dk_at dksX2_falls_0 23 rfl rfl)
theorem dX2_falls_24 : decode cX2_falls 24 = .ok (.isub, 1) := dk_100 (dk_at dksX2_falls_1 0 rfl rfl)
theorem dX2_falls_25 : decode cX2_falls 25 = .ok (.istore_n 2, 1) := dk_61 (dk_at dksX2_falls_1 1 rfl rfl)
theorem dX2_falls_26 : decode cX2_falls 26 = .ok (.iload_n 2, 1) := dk_28 (dk_at dksX2_falls_1 2 rfl rfl)
theorem dX2_falls_27 : decode cX2_falls 27 = .ok (.iload_n 1, 1) := dk_27 (dk_at dksX2_falls_1 3 rfl rfl)
theorem dX2_falls_28 : decode cX2_falls 28 = .ok (.iconst 1, 1) := dk_4 (dk_at dksX2_falls_1 4 rfl rfl)
theorem dX2_falls_29 : decode cX2_falls 29 = .ok (.iadd, 1) := dk_96 (dk_at dksX2_falls_1 5 rfl rfl)
theorem dX2_falls_30 : decode cX2_falls 30 = .ok (.if_icmp .gt 14, 3) := dk_163 0 14 (dk_at dksX2_falls_1 6 rfl rfl)
theorem dX2_falls_33 : decode cX2_falls 33 = .ok (.aload_n 0, 1) := dk_42 (dk_at dksX2_falls_1 9 rfl rfl)
theorem dX2_falls_34 : decode cX2_falls 34 = .ok (.iload_n 2, 1) := dk_28 (dk_at dksX2_falls_1 10 rfl rfl)
theorem dX2_falls_35 : decode cX2_falls 35 = .ok (.invokevirtual 172, 3) := dk_182 0 172 (dk_at dksX2_falls_1 11 rfl rfl)
theorem dX2_falls_38 : decode cX2_falls 38 = .ok (.iinc 2 1, 3) := dk_132 2 1 (dk_at dksX2_falls_1 14 rfl rfl)
theorem dX2_falls_41 : decode cX2_falls 41 = .ok (.goto (-15), 3) := dk_167 255 241 (dk_at dksX2_falls_1 17 rfl rfl)
theorem dX2_falls_44 : decode cX2_falls 44 = .ok (.aload_n 0, 1) := dk_42 (dk_at dksX2_falls_1 20 rfl rfl)
theorem dX2_falls_45 : decode cX2_falls 45 = .ok (.iconst 4, 1) := dk_7 (dk_at dksX2_falls_1 21 rfl rfl)
theorem dX2_falls_46 : decode cX2_falls 46 = .ok (.iload_n 1, 1) := dk_27 (dk_at dksX2_falls_1 22 rfl rfl)
theorem dX2_falls_47 : decode cX2_falls 47 = .ok (.iconst 0, 1) := dk_3 (dk_at dksX2_falls_1 23 rfl rfl)
theorem dX2_falls_48 : decode cX2_falls 48 = .ok (.invokevirtual 125, 3) := dk_182 0 125 (dk_at dksX2_falls_2 0 rfl rfl)
theorem dX2_falls_51 : decode cX2_falls 51 = .ok (.return_, 1) := dk_177 (dk_at dksX2_falls_2 3 rfl rfl)
abbrev cX2_losesReady : ByteArray := prog_2_method_29_code
def yX2_losesReady : MethodName := ⟨RX2, "losesReady", "(I)V"⟩
def dkwX2_losesReady_1 : List UInt8 := [89, 180, 0, 35, 4, 27, 120, 2, 130, 126, 181, 0, 35, 177]
abbrev dktX2_losesReady_1 : List UInt8 := dkwX2_losesReady_1 ++ []
def dkwX2_losesReady_0 : List UInt8 := [27, 155, 0, 36, 27, 42, 180, 0, 3, 180, 0, 75, 162, 0, 25, 42, 27, 182, 0, 67, 154, 0, 17, 42]
abbrev dktX2_losesReady_0 : List UInt8 := dkwX2_losesReady_0 ++ dktX2_losesReady_1
theorem dksX2_losesReady_0 : cX2_losesReady.data.toList.drop 0 = dktX2_losesReady_0 := by decide +kernel
theorem dksX2_losesReady_1 : cX2_losesReady.data.toList.drop 24 = dktX2_losesReady_1 := dk_seg dksX2_losesReady_0 24 rfl rfl
theorem dX2_losesReady_0 : decode cX2_losesReady 0 = .ok (.iload_n 1, 1) := dk_27 (dk_at dksX2_losesReady_0 0 rfl rfl)
theorem dX2_losesReady_1 : decode cX2_losesReady 1 = .ok (.ifCond .lt 36, 3) := dk_155 0 36 (dk_at dksX2_losesReady_0 1 rfl rfl)
theorem dX2_losesReady_4 : decode cX2_losesReady 4 = .ok (.iload_n 1, 1) := dk_27 (dk_at dksX2_losesReady_0 4 rfl rfl)
theorem dX2_losesReady_5 : decode cX2_losesReady 5 = .ok (.aload_n 0, 1) := dk_42 (dk_at dksX2_losesReady_0 5 rfl rfl)
theorem dX2_losesReady_6 : decode cX2_losesReady 6 = .ok (.getfield 3, 3) := dk_180 0 3 (dk_at dksX2_losesReady_0 6 rfl rfl)
theorem dX2_losesReady_9 : decode cX2_losesReady 9 = .ok (.getfield 75, 3) := dk_180 0 75 (dk_at dksX2_losesReady_0 9 rfl rfl)
theorem dX2_losesReady_12 : decode cX2_losesReady 12 = .ok (.if_icmp .ge 25, 3) := dk_162 0 25 (dk_at dksX2_losesReady_0 12 rfl rfl)
theorem dX2_losesReady_15 : decode cX2_losesReady 15 = .ok (.aload_n 0, 1) := dk_42 (dk_at dksX2_losesReady_0 15 rfl rfl)
theorem dX2_losesReady_16 : decode cX2_losesReady 16 = .ok (.iload_n 1, 1) := dk_27 (dk_at dksX2_losesReady_0 16 rfl rfl)
theorem dX2_losesReady_17 : decode cX2_losesReady 17 = .ok (.invokevirtual 67, 3) := dk_182 0 67 (dk_at dksX2_losesReady_0 17 rfl rfl)
theorem dX2_losesReady_20 : decode cX2_losesReady 20 = .ok (.ifCond .ne 17, 3) := dk_154 0 17 (dk_at dksX2_losesReady_0 20 rfl rfl)
theorem dX2_losesReady_23 : decode cX2_losesReady 23 = .ok (.aload_n 0, 1) := dk_42 (dk_at dksX2_losesReady_0 23 rfl rfl)
theorem dX2_losesReady_24 : decode cX2_losesReady 24 = .ok (.dup, 1) := dk_89 (dk_at dksX2_losesReady_1 0 rfl rfl)
theorem dX2_losesReady_25 : decode cX2_losesReady 25 = .ok (.getfield 35, 3) := dk_180 0 35 (dk_at dksX2_losesReady_1 1 rfl rfl)
theorem dX2_losesReady_28 : decode cX2_losesReady 28 = .ok (.iconst 1, 1) := dk_4 (dk_at dksX2_losesReady_1 4 rfl rfl)
theorem dX2_losesReady_29 : decode cX2_losesReady 29 = .ok (.iload_n 1, 1) := dk_27 (dk_at dksX2_losesReady_1 5 rfl rfl)
theorem dX2_losesReady_30 : decode cX2_losesReady 30 = .ok (.ishl, 1) := dk_120 (dk_at dksX2_losesReady_1 6 rfl rfl)
theorem dX2_losesReady_31 : decode cX2_losesReady 31 = .ok (.iconst (-1), 1) := dk_2 (dk_at dksX2_losesReady_1 7 rfl rfl)
theorem dX2_losesReady_32 : decode cX2_losesReady 32 = .ok (.ixor, 1) := dk_130 (dk_at dksX2_losesReady_1 8 rfl rfl)
theorem dX2_losesReady_33 : decode cX2_losesReady 33 = .ok (.iand, 1) := dk_126 (dk_at dksX2_losesReady_1 9 rfl rfl)
theorem dX2_losesReady_34 : decode cX2_losesReady 34 = .ok (.putfield 35, 3) := dk_181 0 35 (dk_at dksX2_losesReady_1 10 rfl rfl)
theorem dX2_losesReady_37 : decode cX2_losesReady 37 = .ok (.return_, 1) := dk_177 (dk_at dksX2_losesReady_1 13 rfl rfl)
abbrev cX2_movesParts : ByteArray := prog_2_method_32_code
def yX2_movesParts : MethodName := ⟨RX2, "movesParts", "()I"⟩
def dkwX2_movesParts_5 : List UInt8 := [132, 1, 1, 132, 4, 1, 167, 255, 189, 132, 2, 1, 167, 255, 132, 27, 172]
abbrev dktX2_movesParts_5 : List UInt8 := dkwX2_movesParts_5 ++ []
def dkwX2_movesParts_4 : List UInt8 := [167, 0, 25, 42, 180, 0, 28, 21, 4, 42, 180, 0, 45, 79, 42, 8, 21, 4, 3, 182, 0, 125]
abbrev dktX2_movesParts_4 : List UInt8 := dkwX2_movesParts_4 ++ dktX2_movesParts_5
def dkwX2_movesParts_3 : List UInt8 := [21, 4, 29, 160, 0, 24, 21, 4, 28, 164, 0, 18, 42, 180, 0, 42, 21, 4, 184, 0, 71, 153, 0, 6]
abbrev dktX2_movesParts_3 : List UInt8 := dkwX2_movesParts_3 ++ dktX2_movesParts_4
def dkwX2_movesParts_2 : List UInt8 := [154, 0, 6, 167, 0, 76, 28, 54, 4, 21, 4, 29, 163, 0, 67, 42, 21, 4, 182, 0, 67, 154, 0, 52]
abbrev dktX2_movesParts_2 : List UInt8 := dkwX2_movesParts_2 ++ dktX2_movesParts_3
def dkwX2_movesParts_1 : List UInt8 := [154, 0, 6, 167, 0, 98, 42, 28, 42, 180, 0, 42, 182, 0, 84, 62, 42, 28, 29, 182, 0, 178]
abbrev dktX2_movesParts_1 : List UInt8 := dkwX2_movesParts_1 ++ dktX2_movesParts_2
def dkwX2_movesParts_0 : List UInt8 := [3, 60, 3, 61, 28, 42, 180, 0, 3, 180, 0, 75, 162, 0, 119, 42, 28, 42, 180, 0, 42, 182, 0, 87]
abbrev dktX2_movesParts_0 : List UInt8 := dkwX2_movesParts_0 ++ dktX2_movesParts_1
theorem dksX2_movesParts_0 : cX2_movesParts.data.toList.drop 0 = dktX2_movesParts_0 := by decide +kernel
theorem dksX2_movesParts_1 : cX2_movesParts.data.toList.drop 24 = dktX2_movesParts_1 := dk_seg dksX2_movesParts_0 24 rfl rfl
theorem dksX2_movesParts_2 : cX2_movesParts.data.toList.drop 46 = dktX2_movesParts_2 := dk_seg dksX2_movesParts_1 22 rfl rfl
theorem dksX2_movesParts_3 : cX2_movesParts.data.toList.drop 70 = dktX2_movesParts_3 := dk_seg dksX2_movesParts_2 24 rfl rfl
theorem dksX2_movesParts_4 : cX2_movesParts.data.toList.drop 94 = dktX2_movesParts_4 := dk_seg dksX2_movesParts_3 24 rfl rfl
theorem dksX2_movesParts_5 : cX2_movesParts.data.toList.drop 116 = dktX2_movesParts_5 := dk_seg dksX2_movesParts_4 22 rfl rfl
theorem dX2_movesParts_0 : decode cX2_movesParts 0 = .ok (.iconst 0, 1) := dk_3 (dk_at dksX2_movesParts_0 0 rfl rfl)
theorem dX2_movesParts_1 : decode cX2_movesParts 1 = .ok (.istore_n 1, 1) := dk_60 (dk_at dksX2_movesParts_0 1 rfl rfl)
theorem dX2_movesParts_2 : decode cX2_movesParts 2 = .ok (.iconst 0, 1) := dk_3 (dk_at dksX2_movesParts_0 2 rfl rfl)
theorem dX2_movesParts_3 : decode cX2_movesParts 3 = .ok (.istore_n 2, 1) := dk_61 (dk_at dksX2_movesParts_0 3 rfl rfl)
theorem dX2_movesParts_4 : decode cX2_movesParts 4 = .ok (.iload_n 2, 1) := dk_28 (dk_at dksX2_movesParts_0 4 rfl rfl)
theorem dX2_movesParts_5 : decode cX2_movesParts 5 = .ok (.aload_n 0, 1) := dk_42 (dk_at dksX2_movesParts_0 5 rfl rfl)
theorem dX2_movesParts_6 : decode cX2_movesParts 6 = .ok (.getfield 3, 3) := dk_180 0 3 (dk_at dksX2_movesParts_0 6 rfl rfl)
theorem dX2_movesParts_9 : decode cX2_movesParts 9 = .ok (.getfield 75, 3) := dk_180 0 75 (dk_at dksX2_movesParts_0 9 rfl rfl)
theorem dX2_movesParts_12 : decode cX2_movesParts 12 = .ok (.if_icmp .ge 119, 3) := dk_162 0 119 (dk_at dksX2_movesParts_0 12 rfl rfl)
theorem dX2_movesParts_15 : decode cX2_movesParts 15 = .ok (.aload_n 0, 1) := dk_42 (dk_at dksX2_movesParts_0 15 rfl rfl)
theorem dX2_movesParts_16 : decode cX2_movesParts 16 = .ok (.iload_n 2, 1) := dk_28 (dk_at dksX2_movesParts_0 16 rfl rfl)
theorem dX2_movesParts_17 : decode cX2_movesParts 17 = .ok (.aload_n 0, 1) := dk_42 (dk_at dksX2_movesParts_0 17 rfl rfl)
theorem dX2_movesParts_18 : decode cX2_movesParts 18 = .ok (.getfield 42, 3) := dk_180 0 42 (dk_at dksX2_movesParts_0 18 rfl rfl)
theorem dX2_movesParts_21 : decode cX2_movesParts 21 = .ok (.invokevirtual 87, 3) := dk_182 0 87 (dk_at dksX2_movesParts_0 21 rfl rfl)
theorem dX2_movesParts_24 : decode cX2_movesParts 24 = .ok (.ifCond .ne 6, 3) := dk_154 0 6 (dk_at dksX2_movesParts_1 0 rfl rfl)
theorem dX2_movesParts_27 : decode cX2_movesParts 27 = .ok (.goto 98, 3) := dk_167 0 98 (dk_at dksX2_movesParts_1 3 rfl rfl)
theorem dX2_movesParts_30 : decode cX2_movesParts 30 = .ok (.aload_n 0, 1) := dk_42 (dk_at dksX2_movesParts_1 6 rfl rfl)
theorem dX2_movesParts_31 : decode cX2_movesParts 31 = .ok (.iload_n 2, 1) := dk_28 (dk_at dksX2_movesParts_1 7 rfl rfl)
theorem dX2_movesParts_32 : decode cX2_movesParts 32 = .ok (.aload_n 0, 1) := dk_42 (dk_at dksX2_movesParts_1 8 rfl rfl)
theorem dX2_movesParts_33 : decode cX2_movesParts 33 = .ok (.getfield 42, 3) := dk_180 0 42 (dk_at dksX2_movesParts_1 9 rfl rfl)
theorem dX2_movesParts_36 : decode cX2_movesParts 36 = .ok (.invokevirtual 84, 3) := dk_182 0 84 (dk_at dksX2_movesParts_1 12 rfl rfl)
theorem dX2_movesParts_39 : decode cX2_movesParts 39 = .ok (.istore_n 3, 1) := dk_62 (dk_at dksX2_movesParts_1 15 rfl rfl)
theorem dX2_movesParts_40 : decode cX2_movesParts 40 = .ok (.aload_n 0, 1) := dk_42 (dk_at dksX2_movesParts_1 16 rfl rfl)
theorem dX2_movesParts_41 : decode cX2_movesParts 41 = .ok (.iload_n 2, 1) := dk_28 (dk_at dksX2_movesParts_1 17 rfl rfl)
theorem dX2_movesParts_42 : decode cX2_movesParts 42 = .ok (.iload_n 3, 1) := dk_29 (dk_at dksX2_movesParts_1 18 rfl rfl)
theorem dX2_movesParts_43 : decode cX2_movesParts 43 = .ok (.invokevirtual 178, 3) := dk_182 0 178 (dk_at dksX2_movesParts_1 19 rfl rfl)
theorem dX2_movesParts_46 : decode cX2_movesParts 46 = .ok (.ifCond .ne 6, 3) := dk_154 0 6 (dk_at dksX2_movesParts_2 0 rfl rfl)
theorem dX2_movesParts_49 : decode cX2_movesParts 49 = .ok (.goto 76, 3) := dk_167 0 76 (dk_at dksX2_movesParts_2 3 rfl rfl)
theorem dX2_movesParts_52 : decode cX2_movesParts 52 = .ok (.iload_n 2, 1) := dk_28 (dk_at dksX2_movesParts_2 6 rfl rfl)
theorem dX2_movesParts_53 : decode cX2_movesParts 53 = .ok (.istore 4, 2) := dk_54 4 (dk_at dksX2_movesParts_2 7 rfl rfl)
theorem dX2_movesParts_55 : decode cX2_movesParts 55 = .ok (.iload 4, 2) := dk_21 4 (dk_at dksX2_movesParts_2 9 rfl rfl)
theorem dX2_movesParts_57 : decode cX2_movesParts 57 = .ok (.iload_n 3, 1) := dk_29 (dk_at dksX2_movesParts_2 11 rfl rfl)
theorem dX2_movesParts_58 : decode cX2_movesParts 58 = .ok (.if_icmp .gt 67, 3) := dk_163 0 67 (dk_at dksX2_movesParts_2 12 rfl rfl)
theorem dX2_movesParts_61 : decode cX2_movesParts 61 = .ok (.aload_n 0, 1) := dk_42 (dk_at dksX2_movesParts_2 15 rfl rfl)
theorem dX2_movesParts_62 : decode cX2_movesParts 62 = .ok (.iload 4, 2) := dk_21 4 (dk_at dksX2_movesParts_2 16 rfl rfl)
theorem dX2_movesParts_64 : decode cX2_movesParts 64 = .ok (.invokevirtual 67, 3) := dk_182 0 67 (dk_at dksX2_movesParts_2 18 rfl rfl)
theorem dX2_movesParts_67 : decode cX2_movesParts 67 = .ok (.ifCond .ne 52, 3) := dk_154 0 52 (dk_at dksX2_movesParts_2 21 rfl rfl)
theorem dX2_movesParts_70 : decode cX2_movesParts 70 = .ok (.iload 4, 2) := dk_21 4 (dk_at dksX2_movesParts_3 0 rfl rfl)
theorem dX2_movesParts_72 : decode cX2_movesParts 72 = .ok (.iload_n 3, 1) := dk_29 (dk_at dksX2_movesParts_3 2 rfl rfl)
theorem dX2_movesParts_73 : decode cX2_movesParts 73 = .ok (.if_icmp .ne 24, 3) := dk_160 0 24 (dk_at dksX2_movesParts_3 3 rfl rfl)
theorem dX2_movesParts_76 : decode cX2_movesParts 76 = .ok (.iload 4, 2) := dk_21 4 (dk_at dksX2_movesParts_3 6 rfl rfl)
theorem dX2_movesParts_78 : decode cX2_movesParts 78 = .ok (.iload_n 2, 1) := dk_28 (dk_at dksX2_movesParts_3 8 rfl rfl)
theorem dX2_movesParts_79 : decode cX2_movesParts 79 = .ok (.if_icmp .le 18, 3) := dk_164 0 18 (dk_at dksX2_movesParts_3 9 rfl rfl)
theorem dX2_movesParts_82 : decode cX2_movesParts 82 = .ok (.aload_n 0, 1) := dk_42 (dk_at dksX2_movesParts_3 12 rfl rfl)
theorem dX2_movesParts_83 : decode cX2_movesParts 83 = .ok (.getfield 42, 3) := dk_180 0 42 (dk_at dksX2_movesParts_3 13 rfl rfl)
theorem dX2_movesParts_86 : decode cX2_movesParts 86 = .ok (.iload 4, 2) := dk_21 4 (dk_at dksX2_movesParts_3 16 rfl rfl)
theorem dX2_movesParts_88 : decode cX2_movesParts 88 = .ok (.invokestatic 71, 3) := dk_184 0 71 (dk_at dksX2_movesParts_3 18 rfl rfl)
theorem dX2_movesParts_91 : decode cX2_movesParts 91 = .ok (.ifCond .eq 6, 3) := dk_153 0 6 (dk_at dksX2_movesParts_3 21 rfl rfl)
theorem dX2_movesParts_94 : decode cX2_movesParts 94 = .ok (.goto 25, 3) := dk_167 0 25 (dk_at dksX2_movesParts_4 0 rfl rfl)
theorem dX2_movesParts_97 : decode cX2_movesParts 97 = .ok (.aload_n 0, 1) := dk_42 (dk_at dksX2_movesParts_4 3 rfl rfl)
theorem dX2_movesParts_98 : decode cX2_movesParts 98 = .ok (.getfield 28, 3) := dk_180 0 28 (dk_at dksX2_movesParts_4 4 rfl rfl)
theorem dX2_movesParts_101 : decode cX2_movesParts 101 = .ok (.iload 4, 2) := dk_21 4 (dk_at dksX2_movesParts_4 7 rfl rfl)
theorem dX2_movesParts_103 : decode cX2_movesParts 103 = .ok (.aload_n 0, 1) := dk_42 (dk_at dksX2_movesParts_4 9 rfl rfl)
theorem dX2_movesParts_104 : decode cX2_movesParts 104 = .ok (.getfield 45, 3) := dk_180 0 45 (dk_at dksX2_movesParts_4 10 rfl rfl)
theorem dX2_movesParts_107 : decode cX2_movesParts 107 = .ok (.iastore, 1) := dk_79 (dk_at dksX2_movesParts_4 13 rfl rfl)
theorem dX2_movesParts_108 : decode cX2_movesParts 108 = .ok (.aload_n 0, 1) := dk_42 (dk_at dksX2_movesParts_4 14 rfl rfl)
theorem dX2_movesParts_109 : decode cX2_movesParts 109 = .ok (.iconst 5, 1) := dk_8 (dk_at dksX2_movesParts_4 15 rfl rfl)
theorem dX2_movesParts_110 : decode cX2_movesParts 110 = .ok (.iload 4, 2) := dk_21 4 (dk_at dksX2_movesParts_4 16 rfl rfl)
theorem dX2_movesParts_112 : decode cX2_movesParts 112 = .ok (.iconst 0, 1) := dk_3 (dk_at dksX2_movesParts_4 18 rfl rfl)
theorem dX2_movesParts_113 : decode cX2_movesParts 113 = .ok (.invokevirtual 125, 3) := dk_182 0 125 (dk_at dksX2_movesParts_4 19 rfl rfl)
theorem dX2_movesParts_116 : decode cX2_movesParts 116 = .ok (.iinc 1 1, 3) := dk_132 1 1 (dk_at dksX2_movesParts_5 0 rfl rfl)
theorem dX2_movesParts_119 : decode cX2_movesParts 119 = .ok (.iinc 4 1, 3) := dk_132 4 1 (dk_at dksX2_movesParts_5 3 rfl rfl)
theorem dX2_movesParts_122 : decode cX2_movesParts 122 = .ok (.goto (-67), 3) := dk_167 255 189 (dk_at dksX2_movesParts_5 6 rfl rfl)
theorem dX2_movesParts_125 : decode cX2_movesParts 125 = .ok (.iinc 2 1, 3) := dk_132 2 1 (dk_at dksX2_movesParts_5 9 rfl rfl)
theorem dX2_movesParts_128 : decode cX2_movesParts 128 = .ok (.goto (-124), 3) := dk_167 255 132 (dk_at dksX2_movesParts_5 12 rfl rfl)
theorem dX2_movesParts_131 : decode cX2_movesParts 131 = .ok (.iload_n 1, 1) := dk_27 (dk_at dksX2_movesParts_5 15 rfl rfl)
theorem dX2_movesParts_132 : decode cX2_movesParts 132 = .ok (.ireturn, 1) := dk_172 (dk_at dksX2_movesParts_5 16 rfl rfl)
abbrev cX2_canMove : ByteArray := prog_2_method_31_code
def yX2_canMove : MethodName := ⟨RX2, "canMove", "(II)Z"⟩
def dkwX2_canMove_2 : List UInt8 := [167, 255, 211, 4, 172]
abbrev dktX2_canMove_2 : List UInt8 := dkwX2_canMove_2 ++ []
def dkwX2_canMove_1 : List UInt8 := [184, 0, 71, 154, 0, 16, 29, 28, 162, 0, 13, 42, 29, 182, 0, 175, 154, 0, 5, 3, 172, 132, 3, 1]
abbrev dktX2_canMove_1 : List UInt8 := dkwX2_canMove_1 ++ dktX2_canMove_2
def dkwX2_canMove_0 : List UInt8 := [27, 62, 29, 28, 163, 0, 46, 42, 180, 0, 35, 29, 184, 0, 71, 153, 0, 27, 42, 180, 0, 39, 29]
abbrev dktX2_canMove_0 : List UInt8 := dkwX2_canMove_0 ++ dktX2_canMove_1
theorem dksX2_canMove_0 : cX2_canMove.data.toList.drop 0 = dktX2_canMove_0 := by decide +kernel
theorem dksX2_canMove_1 : cX2_canMove.data.toList.drop 23 = dktX2_canMove_1 := dk_seg dksX2_canMove_0 23 rfl rfl
theorem dksX2_canMove_2 : cX2_canMove.data.toList.drop 47 = dktX2_canMove_2 := dk_seg dksX2_canMove_1 24 rfl rfl
theorem dX2_canMove_0 : decode cX2_canMove 0 = .ok (.iload_n 1, 1) := dk_27 (dk_at dksX2_canMove_0 0 rfl rfl)
theorem dX2_canMove_1 : decode cX2_canMove 1 = .ok (.istore_n 3, 1) := dk_62 (dk_at dksX2_canMove_0 1 rfl rfl)
theorem dX2_canMove_2 : decode cX2_canMove 2 = .ok (.iload_n 3, 1) := dk_29 (dk_at dksX2_canMove_0 2 rfl rfl)
theorem dX2_canMove_3 : decode cX2_canMove 3 = .ok (.iload_n 2, 1) := dk_28 (dk_at dksX2_canMove_0 3 rfl rfl)
theorem dX2_canMove_4 : decode cX2_canMove 4 = .ok (.if_icmp .gt 46, 3) := dk_163 0 46 (dk_at dksX2_canMove_0 4 rfl rfl)
theorem dX2_canMove_7 : decode cX2_canMove 7 = .ok (.aload_n 0, 1) := dk_42 (dk_at dksX2_canMove_0 7 rfl rfl)
theorem dX2_canMove_8 : decode cX2_canMove 8 = .ok (.getfield 35, 3) := dk_180 0 35 (dk_at dksX2_canMove_0 8 rfl rfl)
theorem dX2_canMove_11 : decode cX2_canMove 11 = .ok (.iload_n 3, 1) := dk_29 (dk_at dksX2_canMove_0 11 rfl rfl)
theorem dX2_canMove_12 : decode cX2_canMove 12 = .ok (.invokestatic 71, 3) := dk_184 0 71 (dk_at dksX2_canMove_0 12 rfl rfl)
theorem dX2_canMove_15 : decode cX2_canMove 15 = .ok (.ifCond .eq 27, 3) := dk_153 0 27 (dk_at dksX2_canMove_0 15 rfl rfl)
theorem dX2_canMove_18 : decode cX2_canMove 18 = .ok (.aload_n 0, 1) := dk_42 (dk_at dksX2_canMove_0 18 rfl rfl)
theorem dX2_canMove_19 : decode cX2_canMove 19 = .ok (.getfield 39, 3) := dk_180 0 39 (dk_at dksX2_canMove_0 19 rfl rfl)
theorem dX2_canMove_22 : decode cX2_canMove 22 = .ok (.iload_n 3, 1) := dk_29 (dk_at dksX2_canMove_0 22 rfl rfl)
theorem dX2_canMove_23 : decode cX2_canMove 23 = .ok (.invokestatic 71, 3) := dk_184 0 71 (dk_at dksX2_canMove_1 0 rfl rfl)
theorem dX2_canMove_26 : decode cX2_canMove 26 = .ok (.ifCond .ne 16, 3) := dk_154 0 16 (dk_at dksX2_canMove_1 3 rfl rfl)
theorem dX2_canMove_29 : decode cX2_canMove 29 = .ok (.iload_n 3, 1) := dk_29 (dk_at dksX2_canMove_1 6 rfl rfl)
theorem dX2_canMove_30 : decode cX2_canMove 30 = .ok (.iload_n 2, 1) := dk_28 (dk_at dksX2_canMove_1 7 rfl rfl)
theorem dX2_canMove_31 : decode cX2_canMove 31 = .ok (.if_icmp .ge 13, 3) := dk_162 0 13 (dk_at dksX2_canMove_1 8 rfl rfl)
theorem dX2_canMove_34 : decode cX2_canMove 34 = .ok (.aload_n 0, 1) := dk_42 (dk_at dksX2_canMove_1 11 rfl rfl)
theorem dX2_canMove_35 : decode cX2_canMove 35 = .ok (.iload_n 3, 1) := dk_29 (dk_at dksX2_canMove_1 12 rfl rfl)
theorem dX2_canMove_36 : decode cX2_canMove 36 = .ok (.invokevirtual 175, 3) := dk_182 0 175 (dk_at dksX2_canMove_1 13 rfl rfl)
theorem dX2_canMove_39 : decode cX2_canMove 39 = .ok (.ifCond .ne 5, 3) := dk_154 0 5 (dk_at dksX2_canMove_1 16 rfl rfl)
theorem dX2_canMove_42 : decode cX2_canMove 42 = .ok (.iconst 0, 1) := dk_3 (dk_at dksX2_canMove_1 19 rfl rfl)
theorem dX2_canMove_43 : decode cX2_canMove 43 = .ok (.ireturn, 1) := dk_172 (dk_at dksX2_canMove_1 20 rfl rfl)
theorem dX2_canMove_44 : decode cX2_canMove 44 = .ok (.iinc 3 1, 3) := dk_132 3 1 (dk_at dksX2_canMove_1 21 rfl rfl)
theorem dX2_canMove_47 : decode cX2_canMove 47 = .ok (.goto (-45), 3) := dk_167 255 211 (dk_at dksX2_canMove_2 0 rfl rfl)
theorem dX2_canMove_50 : decode cX2_canMove 50 = .ok (.iconst 1, 1) := dk_4 (dk_at dksX2_canMove_2 3 rfl rfl)
theorem dX2_canMove_51 : decode cX2_canMove 51 = .ok (.ireturn, 1) := dk_172 (dk_at dksX2_canMove_2 4 rfl rfl)
abbrev cX2_canPay : ByteArray := prog_2_method_12_code
def yX2_canPay : MethodName := ⟨RX2, "canPay", "(I)Z"⟩
def dkwX2_canPay_2 : List UInt8 := [167, 0, 4, 3, 172]
abbrev dktX2_canPay_2 : List UInt8 := dkwX2_canPay_2 ++ []
def dkwX2_canPay_1 : List UInt8 := [180, 0, 19, 27, 46, 27, 158, 0, 12, 42, 180, 0, 15, 27, 46, 167, 0, 4, 3, 96, 163, 0, 7, 4]
abbrev dktX2_canPay_1 : List UInt8 := dkwX2_canPay_1 ++ dktX2_canPay_2
def dkwX2_canPay_0 : List UInt8 := [27, 42, 180, 0, 3, 180, 0, 75, 4, 100, 159, 0, 35, 42, 180, 0, 15, 27, 4, 96, 46, 42]
abbrev dktX2_canPay_0 : List UInt8 := dkwX2_canPay_0 ++ dktX2_canPay_1
theorem dksX2_canPay_0 : cX2_canPay.data.toList.drop 0 = dktX2_canPay_0 := by decide +kernel
theorem dksX2_canPay_1 : cX2_canPay.data.toList.drop 22 = dktX2_canPay_1 := dk_seg dksX2_canPay_0 22 rfl rfl
theorem dksX2_canPay_2 : cX2_canPay.data.toList.drop 46 = dktX2_canPay_2 := dk_seg dksX2_canPay_1 24 rfl rfl
theorem dX2_canPay_0 : decode cX2_canPay 0 = .ok (.iload_n 1, 1) := dk_27 (dk_at dksX2_canPay_0 0 rfl rfl)
theorem dX2_canPay_1 : decode cX2_canPay 1 = .ok (.aload_n 0, 1) := dk_42 (dk_at dksX2_canPay_0 1 rfl rfl)
theorem dX2_canPay_2 : decode cX2_canPay 2 = .ok (.getfield 3, 3) := dk_180 0 3 (dk_at dksX2_canPay_0 2 rfl rfl)
theorem dX2_canPay_5 : decode cX2_canPay 5 = .ok (.getfield 75, 3) := dk_180 0 75 (dk_at dksX2_canPay_0 5 rfl rfl)
theorem dX2_canPay_8 : decode cX2_canPay 8 = .ok (.iconst 1, 1) := dk_4 (dk_at dksX2_canPay_0 8 rfl rfl)
theorem dX2_canPay_9 : decode cX2_canPay 9 = .ok (.isub, 1) := dk_100 (dk_at dksX2_canPay_0 9 rfl rfl)
theorem dX2_canPay_10 : decode cX2_canPay 10 = .ok (.if_icmp .eq 35, 3) := dk_159 0 35 (dk_at dksX2_canPay_0 10 rfl rfl)
theorem dX2_canPay_13 : decode cX2_canPay 13 = .ok (.aload_n 0, 1) := dk_42 (dk_at dksX2_canPay_0 13 rfl rfl)
theorem dX2_canPay_14 : decode cX2_canPay 14 = .ok (.getfield 15, 3) := dk_180 0 15 (dk_at dksX2_canPay_0 14 rfl rfl)
theorem dX2_canPay_17 : decode cX2_canPay 17 = .ok (.iload_n 1, 1) := dk_27 (dk_at dksX2_canPay_0 17 rfl rfl)
theorem dX2_canPay_18 : decode cX2_canPay 18 = .ok (.iconst 1, 1) := dk_4 (dk_at dksX2_canPay_0 18 rfl rfl)
theorem dX2_canPay_19 : decode cX2_canPay 19 = .ok (.iadd, 1) := dk_96 (dk_at dksX2_canPay_0 19 rfl rfl)
theorem dX2_canPay_20 : decode cX2_canPay 20 = .ok (.iaload, 1) := dk_46 (dk_at dksX2_canPay_0 20 rfl rfl)
theorem dX2_canPay_21 : decode cX2_canPay 21 = .ok (.aload_n 0, 1) := dk_42 (dk_at dksX2_canPay_0 21 rfl rfl)
theorem dX2_canPay_22 : decode cX2_canPay 22 = .ok (.getfield 19, 3) := dk_180 0 19 (dk_at dksX2_canPay_1 0 rfl rfl)
theorem dX2_canPay_25 : decode cX2_canPay 25 = .ok (.iload_n 1, 1) := dk_27 (dk_at dksX2_canPay_1 3 rfl rfl)
theorem dX2_canPay_26 : decode cX2_canPay 26 = .ok (.iaload, 1) := dk_46 (dk_at dksX2_canPay_1 4 rfl rfl)
theorem dX2_canPay_27 : decode cX2_canPay 27 = .ok (.iload_n 1, 1) := dk_27 (dk_at dksX2_canPay_1 5 rfl rfl)
theorem dX2_canPay_28 : decode cX2_canPay 28 = .ok (.ifCond .le 12, 3) := dk_158 0 12 (dk_at dksX2_canPay_1 6 rfl rfl)
theorem dX2_canPay_31 : decode cX2_canPay 31 = .ok (.aload_n 0, 1) := dk_42 (dk_at dksX2_canPay_1 9 rfl rfl)
theorem dX2_canPay_32 : decode cX2_canPay 32 = .ok (.getfield 15, 3) := dk_180 0 15 (dk_at dksX2_canPay_1 10 rfl rfl)
theorem dX2_canPay_35 : decode cX2_canPay 35 = .ok (.iload_n 1, 1) := dk_27 (dk_at dksX2_canPay_1 13 rfl rfl)
theorem dX2_canPay_36 : decode cX2_canPay 36 = .ok (.iaload, 1) := dk_46 (dk_at dksX2_canPay_1 14 rfl rfl)
theorem dX2_canPay_37 : decode cX2_canPay 37 = .ok (.goto 4, 3) := dk_167 0 4 (dk_at dksX2_canPay_1 15 rfl rfl)
theorem dX2_canPay_40 : decode cX2_canPay 40 = .ok (.iconst 0, 1) := dk_3 (dk_at dksX2_canPay_1 18 rfl rfl)
theorem dX2_canPay_41 : decode cX2_canPay 41 = .ok (.iadd, 1) := dk_96 (dk_at dksX2_canPay_1 19 rfl rfl)
theorem dX2_canPay_42 : decode cX2_canPay 42 = .ok (.if_icmp .gt 7, 3) := dk_163 0 7 (dk_at dksX2_canPay_1 20 rfl rfl)
theorem dX2_canPay_45 : decode cX2_canPay 45 = .ok (.iconst 1, 1) := dk_4 (dk_at dksX2_canPay_1 23 rfl rfl)
theorem dX2_canPay_46 : decode cX2_canPay 46 = .ok (.goto 4, 3) := dk_167 0 4 (dk_at dksX2_canPay_2 0 rfl rfl)
theorem dX2_canPay_49 : decode cX2_canPay 49 = .ok (.iconst 0, 1) := dk_3 (dk_at dksX2_canPay_2 3 rfl rfl)
theorem dX2_canPay_50 : decode cX2_canPay 50 = .ok (.ireturn, 1) := dk_172 (dk_at dksX2_canPay_2 4 rfl rfl)
abbrev cX2_costOf : ByteArray := prog_2_method_17_code
def yX2_costOf : MethodName := ⟨RX2, "costOf", "(I)I"⟩
def dkwX2_costOf_0 : List UInt8 := [42, 27, 182, 0, 105, 42, 180, 0, 3, 6, 6, 16, 99, 182, 0, 109, 172]
abbrev dktX2_costOf_0 : List UInt8 := dkwX2_costOf_0 ++ []
theorem dksX2_costOf_0 : cX2_costOf.data.toList.drop 0 = dktX2_costOf_0 := by decide +kernel
theorem dX2_costOf_0 : decode cX2_costOf 0 = .ok (.aload_n 0, 1) := dk_42 (dk_at dksX2_costOf_0 0 rfl rfl)
theorem dX2_costOf_1 : decode cX2_costOf 1 = .ok (.iload_n 1, 1) := dk_27 (dk_at dksX2_costOf_0 1 rfl rfl)
theorem dX2_costOf_2 : decode cX2_costOf 2 = .ok (.invokevirtual 105, 3) := dk_182 0 105 (dk_at dksX2_costOf_0 2 rfl rfl)
theorem dX2_costOf_5 : decode cX2_costOf 5 = .ok (.aload_n 0, 1) := dk_42 (dk_at dksX2_costOf_0 5 rfl rfl)
theorem dX2_costOf_6 : decode cX2_costOf 6 = .ok (.getfield 3, 3) := dk_180 0 3 (dk_at dksX2_costOf_0 6 rfl rfl)
theorem dX2_costOf_9 : decode cX2_costOf 9 = .ok (.iconst 3, 1) := dk_6 (dk_at dksX2_costOf_0 9 rfl rfl)
theorem dX2_costOf_10 : decode cX2_costOf 10 = .ok (.iconst 3, 1) := dk_6 (dk_at dksX2_costOf_0 10 rfl rfl)
theorem dX2_costOf_11 : decode cX2_costOf 11 = .ok (.bipush 99, 2) := dk_16 99 (dk_at dksX2_costOf_0 11 rfl rfl)
theorem dX2_costOf_13 : decode cX2_costOf 13 = .ok (.invokevirtual 109, 3) := dk_182 0 109 (dk_at dksX2_costOf_0 13 rfl rfl)
theorem dX2_costOf_16 : decode cX2_costOf 16 = .ok (.ireturn, 1) := dk_172 (dk_at dksX2_costOf_0 16 rfl rfl)
abbrev cX2_thinks : ByteArray := prog_2_method_3_code
def yX2_thinks : MethodName := ⟨RX2, "thinks", "(LTwelveChain$Chain;)LTwelveChain$Chain;"⟩
def dkwX2_thinks_0 : List UInt8 := [42, 43, 182, 0, 57, 42, 4, 181, 0, 61, 42, 176]
abbrev dktX2_thinks_0 : List UInt8 := dkwX2_thinks_0 ++ []
theorem dksX2_thinks_0 : cX2_thinks.data.toList.drop 0 = dktX2_thinks_0 := by decide +kernel
theorem dX2_thinks_0 : decode cX2_thinks 0 = .ok (.aload_n 0, 1) := dk_42 (dk_at dksX2_thinks_0 0 rfl rfl)
theorem dX2_thinks_1 : decode cX2_thinks 1 = .ok (.aload_n 1, 1) := dk_43 (dk_at dksX2_thinks_0 1 rfl rfl)
theorem dX2_thinks_2 : decode cX2_thinks 2 = .ok (.invokevirtual 57, 3) := dk_182 0 57 (dk_at dksX2_thinks_0 2 rfl rfl)
theorem dX2_thinks_5 : decode cX2_thinks 5 = .ok (.aload_n 0, 1) := dk_42 (dk_at dksX2_thinks_0 5 rfl rfl)
theorem dX2_thinks_6 : decode cX2_thinks 6 = .ok (.iconst 1, 1) := dk_4 (dk_at dksX2_thinks_0 6 rfl rfl)
theorem dX2_thinks_7 : decode cX2_thinks 7 = .ok (.putfield 61, 3) := dk_181 0 61 (dk_at dksX2_thinks_0 7 rfl rfl)
theorem dX2_thinks_10 : decode cX2_thinks 10 = .ok (.aload_n 0, 1) := dk_42 (dk_at dksX2_thinks_0 10 rfl rfl)
theorem dX2_thinks_11 : decode cX2_thinks 11 = .ok (.areturn, 1) := dk_176 (dk_at dksX2_thinks_0 11 rfl rfl)
abbrev cX2_movedSet : ByteArray := prog_2_method_7_code
def yX2_movedSet : MethodName := ⟨RX2, "movedSet", "()I"⟩
def dkwX2_movedSet_1 : List UInt8 := [4, 28, 120, 167, 0, 4, 3, 128, 60, 132, 2, 1, 167, 255, 224, 27, 172]
abbrev dktX2_movedSet_1 : List UInt8 := dkwX2_movedSet_1 ++ []
def dkwX2_movedSet_0 : List UInt8 := [3, 60, 3, 61, 28, 42, 180, 0, 3, 180, 0, 75, 162, 0, 27, 27, 42, 28, 182, 0, 67, 153, 0, 9]
abbrev dktX2_movedSet_0 : List UInt8 := dkwX2_movedSet_0 ++ dktX2_movedSet_1
theorem dksX2_movedSet_0 : cX2_movedSet.data.toList.drop 0 = dktX2_movedSet_0 := by decide +kernel
theorem dksX2_movedSet_1 : cX2_movedSet.data.toList.drop 24 = dktX2_movedSet_1 := dk_seg dksX2_movedSet_0 24 rfl rfl
theorem dX2_movedSet_0 : decode cX2_movedSet 0 = .ok (.iconst 0, 1) := dk_3 (dk_at dksX2_movedSet_0 0 rfl rfl)
theorem dX2_movedSet_1 : decode cX2_movedSet 1 = .ok (.istore_n 1, 1) := dk_60 (dk_at dksX2_movedSet_0 1 rfl rfl)
theorem dX2_movedSet_2 : decode cX2_movedSet 2 = .ok (.iconst 0, 1) := dk_3 (dk_at dksX2_movedSet_0 2 rfl rfl)
theorem dX2_movedSet_3 : decode cX2_movedSet 3 = .ok (.istore_n 2, 1) := dk_61 (dk_at dksX2_movedSet_0 3 rfl rfl)
theorem dX2_movedSet_4 : decode cX2_movedSet 4 = .ok (.iload_n 2, 1) := dk_28 (dk_at dksX2_movedSet_0 4 rfl rfl)
theorem dX2_movedSet_5 : decode cX2_movedSet 5 = .ok (.aload_n 0, 1) := dk_42 (dk_at dksX2_movedSet_0 5 rfl rfl)
theorem dX2_movedSet_6 : decode cX2_movedSet 6 = .ok (.getfield 3, 3) := dk_180 0 3 (dk_at dksX2_movedSet_0 6 rfl rfl)
theorem dX2_movedSet_9 : decode cX2_movedSet 9 = .ok (.getfield 75, 3) := dk_180 0 75 (dk_at dksX2_movedSet_0 9 rfl rfl)
theorem dX2_movedSet_12 : decode cX2_movedSet 12 = .ok (.if_icmp .ge 27, 3) := dk_162 0 27 (dk_at dksX2_movedSet_0 12 rfl rfl)
theorem dX2_movedSet_15 : decode cX2_movedSet 15 = .ok (.iload_n 1, 1) := dk_27 (dk_at dksX2_movedSet_0 15 rfl rfl)
theorem dX2_movedSet_16 : decode cX2_movedSet 16 = .ok (.aload_n 0, 1) := dk_42 (dk_at dksX2_movedSet_0 16 rfl rfl)
theorem dX2_movedSet_17 : decode cX2_movedSet 17 = .ok (.iload_n 2, 1) := dk_28 (dk_at dksX2_movedSet_0 17 rfl rfl)
theorem dX2_movedSet_18 : decode cX2_movedSet 18 = .ok (.invokevirtual 67, 3) := dk_182 0 67 (dk_at dksX2_movedSet_0 18 rfl rfl)
theorem dX2_movedSet_21 : decode cX2_movedSet 21 = .ok (.ifCond .eq 9, 3) := dk_153 0 9 (dk_at dksX2_movedSet_0 21 rfl rfl)
theorem dX2_movedSet_24 : decode cX2_movedSet 24 = .ok (.iconst 1, 1) := dk_4 (dk_at dksX2_movedSet_1 0 rfl rfl)
theorem dX2_movedSet_25 : decode cX2_movedSet 25 = .ok (.iload_n 2, 1) := dk_28 (dk_at dksX2_movedSet_1 1 rfl rfl)
theorem dX2_movedSet_26 : decode cX2_movedSet 26 = .ok (.ishl, 1) := dk_120 (dk_at dksX2_movedSet_1 2 rfl rfl)
theorem dX2_movedSet_27 : decode cX2_movedSet 27 = .ok (.goto 4, 3) := dk_167 0 4 (dk_at dksX2_movedSet_1 3 rfl rfl)
theorem dX2_movedSet_30 : decode cX2_movedSet 30 = .ok (.iconst 0, 1) := dk_3 (dk_at dksX2_movedSet_1 6 rfl rfl)
theorem dX2_movedSet_31 : decode cX2_movedSet 31 = .ok (.ior, 1) := dk_128 (dk_at dksX2_movedSet_1 7 rfl rfl)
theorem dX2_movedSet_32 : decode cX2_movedSet 32 = .ok (.istore_n 1, 1) := dk_60 (dk_at dksX2_movedSet_1 8 rfl rfl)
theorem dX2_movedSet_33 : decode cX2_movedSet 33 = .ok (.iinc 2 1, 3) := dk_132 2 1 (dk_at dksX2_movedSet_1 9 rfl rfl)
theorem dX2_movedSet_36 : decode cX2_movedSet 36 = .ok (.goto (-32), 3) := dk_167 255 224 (dk_at dksX2_movedSet_1 12 rfl rfl)
theorem dX2_movedSet_39 : decode cX2_movedSet 39 = .ok (.iload_n 1, 1) := dk_27 (dk_at dksX2_movedSet_1 15 rfl rfl)
theorem dX2_movedSet_40 : decode cX2_movedSet 40 = .ok (.ireturn, 1) := dk_172 (dk_at dksX2_movedSet_1 16 rfl rfl)
theorem q153 : (Jvm.Cond.initialized "TwelveChain$Chain") ∈ lw_all := lw_g (lw_at lw_m1 3 rfl) rfl
theorem q246 : (Jvm.Cond.instantiable "TwelveChain$Chain" (14 : Nat)) ∈ lw_all := lw_g (lw_at lw_m1 96 rfl) rfl
theorem q248 : (Jvm.Cond.instanceMethod ({ cls := "TwelveChain$Chain", name := "<init>", desc := "(LTwelveChain;)V" } : Jvm.MethodName)) ∈ lw_all := lw_g (lw_at lw_m1 98 rfl) rfl
theorem q249 : (Jvm.Cond.code ({ cls := "TwelveChain$Chain", name := "<init>", desc := "(LTwelveChain;)V" } : Jvm.MethodName) prog_2_method_1_code (2 : Nat) (Option.none : Option Jvm.ClassFile.FieldType)) ∈ lw_all := lw_g (lw_at lw_m1 99 rfl) rfl
theorem q250 : (Jvm.Cond.methodLink "TwelveChain$Chain" (9 : Nat) ({ cls := "java/lang/Object", name := "<init>", desc := "()V" } : Jvm.MethodName)) ∈ lw_all := lw_g (lw_at lw_m1 100 rfl) rfl
theorem q251 : (Jvm.Cond.fieldLink "TwelveChain$Chain" (15 : Nat) "TwelveChain$Chain" "price" "[I") ∈ lw_all := lw_g (lw_at lw_m1 101 rfl) rfl
theorem q253 : (Jvm.Cond.fieldLink "TwelveChain$Chain" (19 : Nat) "TwelveChain$Chain" "purse" "[I") ∈ lw_all := lw_g (lw_at lw_m1 103 rfl) rfl
theorem q255 : (Jvm.Cond.fieldLink "TwelveChain$Chain" (22 : Nat) "TwelveChain$Chain" "worth" "[I") ∈ lw_all := lw_g (lw_at lw_m1 105 rfl) rfl
theorem q257 : (Jvm.Cond.fieldLink "TwelveChain$Chain" (25 : Nat) "TwelveChain$Chain" "slow" "[I") ∈ lw_all := lw_g (lw_at lw_m1 107 rfl) rfl
theorem q259 : (Jvm.Cond.fieldLink "TwelveChain$Chain" (28 : Nat) "TwelveChain$Chain" "moved" "[I") ∈ lw_all := lw_g (lw_at lw_m1 109 rfl) rfl
theorem q261 : (Jvm.Cond.fieldLink "TwelveChain$Chain" (35 : Nat) "TwelveChain$Chain" "ready" "I") ∈ lw_all := lw_g (lw_at lw_m1 111 rfl) rfl
theorem q263 : (Jvm.Cond.fieldLink "TwelveChain$Chain" (39 : Nat) "TwelveChain$Chain" "out" "I") ∈ lw_all := lw_g (lw_at lw_m1 113 rfl) rfl
theorem q265 : (Jvm.Cond.fieldLink "TwelveChain$Chain" (42 : Nat) "TwelveChain$Chain" "bridged" "I") ∈ lw_all := lw_g (lw_at lw_m1 115 rfl) rfl
theorem q267 : (Jvm.Cond.fieldLink "TwelveChain$Chain" (45 : Nat) "TwelveChain$Chain" "day" "I") ∈ lw_all := lw_g (lw_at lw_m1 117 rfl) rfl
theorem q269 : (Jvm.Cond.fieldLink "TwelveChain$Chain" (48 : Nat) "TwelveChain$Chain" "falls" "I") ∈ lw_all := lw_g (lw_at lw_m1 119 rfl) rfl
theorem q271 : (Jvm.Cond.fieldLink "TwelveChain$Chain" (51 : Nat) "TwelveChain$Chain" "state" "I") ∈ lw_all := lw_g (lw_at lw_m1 121 rfl) rfl
theorem q273 : (Jvm.Cond.fieldLink "TwelveChain$Chain" (54 : Nat) "TwelveChain$Chain" "bookMany" "I") ∈ lw_all := lw_g (lw_at lw_m1 123 rfl) rfl
theorem q275 : (Jvm.Cond.fieldLink "TwelveChain$Chain" (61 : Nat) "TwelveChain$Chain" "isThought" "Z") ∈ lw_all := lw_g (lw_at lw_m1 125 rfl) rfl
theorem q276 : (Jvm.Cond.fieldLink "TwelveChain$Chain" (3 : Nat) "TwelveChain$Chain" "this$0" "LTwelveChain;") ∈ lw_all := lw_g (lw_at lw_m1 126 rfl) rfl
theorem q277 : (Jvm.Cond.laysFinal "TwelveChain$Chain" "TwelveChain$Chain" "price" "[I") ∈ lw_all := lw_g (lw_at lw_m1 127 rfl) rfl
theorem q278 : (Jvm.Cond.soleField "TwelveChain$Chain" "price") ∈ lw_all := lw_g (lw_at lw_m1 128 rfl) rfl
theorem q279 : (Jvm.Cond.laysFinal "TwelveChain$Chain" "TwelveChain$Chain" "purse" "[I") ∈ lw_all := lw_g (lw_at lw_m1 129 rfl) rfl
theorem q280 : (Jvm.Cond.soleField "TwelveChain$Chain" "purse") ∈ lw_all := lw_g (lw_at lw_m1 130 rfl) rfl
theorem q281 : (Jvm.Cond.laysFinal "TwelveChain$Chain" "TwelveChain$Chain" "worth" "[I") ∈ lw_all := lw_g (lw_at lw_m1 131 rfl) rfl
theorem q282 : (Jvm.Cond.soleField "TwelveChain$Chain" "worth") ∈ lw_all := lw_g (lw_at lw_m1 132 rfl) rfl
theorem q283 : (Jvm.Cond.laysFinal "TwelveChain$Chain" "TwelveChain$Chain" "slow" "[I") ∈ lw_all := lw_g (lw_at lw_m1 133 rfl) rfl
theorem q284 : (Jvm.Cond.soleField "TwelveChain$Chain" "slow") ∈ lw_all := lw_g (lw_at lw_m1 134 rfl) rfl
theorem q285 : (Jvm.Cond.laysFinal "TwelveChain$Chain" "TwelveChain$Chain" "moved" "[I") ∈ lw_all := lw_g (lw_at lw_m1 135 rfl) rfl
theorem q286 : (Jvm.Cond.soleField "TwelveChain$Chain" "moved") ∈ lw_all := lw_g (lw_at lw_m1 136 rfl) rfl
theorem q287 : (Jvm.Cond.lays "TwelveChain$Chain" "TwelveChain$Chain" "ready" "I") ∈ lw_all := lw_g (lw_at lw_m1 137 rfl) rfl
theorem q288 : (Jvm.Cond.soleField "TwelveChain$Chain" "ready") ∈ lw_all := lw_g (lw_at lw_m1 138 rfl) rfl
theorem q289 : (Jvm.Cond.lays "TwelveChain$Chain" "TwelveChain$Chain" "out" "I") ∈ lw_all := lw_g (lw_at lw_m1 139 rfl) rfl
theorem q290 : (Jvm.Cond.soleField "TwelveChain$Chain" "out") ∈ lw_all := lw_g (lw_at lw_m1 140 rfl) rfl
theorem q291 : (Jvm.Cond.lays "TwelveChain$Chain" "TwelveChain$Chain" "bridged" "I") ∈ lw_all := lw_g (lw_at lw_m1 141 rfl) rfl
theorem q292 : (Jvm.Cond.soleField "TwelveChain$Chain" "bridged") ∈ lw_all := lw_g (lw_at lw_m1 142 rfl) rfl
theorem q293 : (Jvm.Cond.lays "TwelveChain$Chain" "TwelveChain$Chain" "day" "I") ∈ lw_all := lw_g (lw_at lw_m1 143 rfl) rfl
theorem q294 : (Jvm.Cond.soleField "TwelveChain$Chain" "day") ∈ lw_all := lw_g (lw_at lw_m1 144 rfl) rfl
theorem q295 : (Jvm.Cond.lays "TwelveChain$Chain" "TwelveChain$Chain" "falls" "I") ∈ lw_all := lw_g (lw_at lw_m1 145 rfl) rfl
theorem q296 : (Jvm.Cond.soleField "TwelveChain$Chain" "falls") ∈ lw_all := lw_g (lw_at lw_m1 146 rfl) rfl
theorem q297 : (Jvm.Cond.lays "TwelveChain$Chain" "TwelveChain$Chain" "state" "I") ∈ lw_all := lw_g (lw_at lw_m1 147 rfl) rfl
theorem q298 : (Jvm.Cond.soleField "TwelveChain$Chain" "state") ∈ lw_all := lw_g (lw_at lw_m1 148 rfl) rfl
theorem q299 : (Jvm.Cond.lays "TwelveChain$Chain" "TwelveChain$Chain" "bookMany" "I") ∈ lw_all := lw_g (lw_at lw_m1 149 rfl) rfl
theorem q300 : (Jvm.Cond.soleField "TwelveChain$Chain" "bookMany") ∈ lw_all := lw_g (lw_at lw_m1 150 rfl) rfl
theorem q301 : (Jvm.Cond.lays "TwelveChain$Chain" "TwelveChain$Chain" "isThought" "Z") ∈ lw_all := lw_g (lw_at lw_m1 151 rfl) rfl
theorem q302 : (Jvm.Cond.soleField "TwelveChain$Chain" "isThought") ∈ lw_all := lw_g (lw_at lw_m1 152 rfl) rfl
theorem q303 : (Jvm.Cond.laysFinal "TwelveChain$Chain" "TwelveChain$Chain" "this$0" "LTwelveChain;") ∈ lw_all := lw_g (lw_at lw_m1 153 rfl) rfl
theorem q304 : (Jvm.Cond.soleField "TwelveChain$Chain" "this$0") ∈ lw_all := lw_g (lw_at lw_m1 154 rfl) rfl
theorem q305 : (Jvm.Cond.superclass "TwelveChain$Chain" "java/lang/Object") ∈ lw_all := lw_g (lw_at lw_m1 155 rfl) rfl
theorem q325 : (Jvm.Cond.fieldLinkNest "TwelveChain$Chain" (99 : Nat) "TwelveChain" "lawHas" "[I" "TwelveChain") ∈ lw_tbl := lw_at lw_m1 175 rfl
theorem q327 : (Jvm.Cond.fieldLinkNest "TwelveChain$Chain" (181 : Nat) "TwelveChain" "plan" "[LTwelveChain$Deed;" "TwelveChain") ∈ lw_tbl := lw_at lw_m1 177 rfl
theorem q330 : (Jvm.Cond.fieldLinkNest "TwelveChain$Chain" (75 : Nat) "TwelveChain" "many" "I" "TwelveChain") ∈ lw_tbl := lw_at lw_m1 180 rfl
theorem q843 : (Jvm.Cond.instanceMethod ({ cls := "TwelveChain$Chain", name := "become", desc := "(LTwelveChain$Chain;)V" } : Jvm.MethodName)) ∈ lw_all := lw_g (lw_at lw_m3 213 rfl) rfl
theorem q844 : (Jvm.Cond.selects "TwelveChain$Chain" ({ cls := "TwelveChain$Chain", name := "become", desc := "(LTwelveChain$Chain;)V" } : Jvm.MethodName) ({ cls := "TwelveChain$Chain", name := "become", desc := "(LTwelveChain$Chain;)V" } : Jvm.MethodName)) ∈ lw_all := lw_g (lw_at lw_m3 214 rfl) rfl
theorem q845 : (Jvm.Cond.code ({ cls := "TwelveChain$Chain", name := "become", desc := "(LTwelveChain$Chain;)V" } : Jvm.MethodName) prog_2_method_2_code (2 : Nat) (Option.none : Option Jvm.ClassFile.FieldType)) ∈ lw_all := lw_g (lw_at lw_m3 215 rfl) rfl
theorem q846 : (Jvm.Cond.methodLinkNest "TwelveChain$Chain" (31 : Nat) ({ cls := "TwelveChain", name := "copies", desc := "([I[I)V" } : Jvm.MethodName) "TwelveChain") ∈ lw_tbl := lw_at lw_m3 216 rfl
theorem q876 : (Jvm.Cond.instanceMethod ({ cls := "TwelveChain$Chain", name := "canAsk", desc := "(I)Z" } : Jvm.MethodName)) ∈ lw_all := lw_g (lw_at lw_m4 6 rfl) rfl
theorem q877 : (Jvm.Cond.selects "TwelveChain$Chain" ({ cls := "TwelveChain$Chain", name := "canAsk", desc := "(I)Z" } : Jvm.MethodName) ({ cls := "TwelveChain$Chain", name := "canAsk", desc := "(I)Z" } : Jvm.MethodName)) ∈ lw_all := lw_g (lw_at lw_m4 7 rfl) rfl
theorem q878 : (Jvm.Cond.code ({ cls := "TwelveChain$Chain", name := "canAsk", desc := "(I)Z" } : Jvm.MethodName) prog_2_method_18_code (2 : Nat) (Option.some Jvm.ClassFile.FieldType.boolean)) ∈ lw_all := lw_g (lw_at lw_m4 8 rfl) rfl
theorem q879 : (Jvm.Cond.methodLink "TwelveChain$Chain" (116 : Nat) ({ cls := "TwelveChain$Chain", name := "isThere", desc := "(I)Z" } : Jvm.MethodName)) ∈ lw_all := lw_g (lw_at lw_m4 9 rfl) rfl
theorem q880 : (Jvm.Cond.instanceMethod ({ cls := "TwelveChain$Chain", name := "isThere", desc := "(I)Z" } : Jvm.MethodName)) ∈ lw_all := lw_g (lw_at lw_m4 10 rfl) rfl
theorem q881 : (Jvm.Cond.selects "TwelveChain$Chain" ({ cls := "TwelveChain$Chain", name := "isThere", desc := "(I)Z" } : Jvm.MethodName) ({ cls := "TwelveChain$Chain", name := "isThere", desc := "(I)Z" } : Jvm.MethodName)) ∈ lw_all := lw_g (lw_at lw_m4 11 rfl) rfl
theorem q882 : (Jvm.Cond.code ({ cls := "TwelveChain$Chain", name := "isThere", desc := "(I)Z" } : Jvm.MethodName) prog_2_method_6_code (2 : Nat) (Option.some Jvm.ClassFile.FieldType.boolean)) ∈ lw_all := lw_g (lw_at lw_m4 12 rfl) rfl
theorem q883 : (Jvm.Cond.methodLink "TwelveChain$Chain" (67 : Nat) ({ cls := "TwelveChain$Chain", name := "isMoved", desc := "(I)Z" } : Jvm.MethodName)) ∈ lw_all := lw_g (lw_at lw_m4 13 rfl) rfl
theorem q884 : (Jvm.Cond.instanceMethod ({ cls := "TwelveChain$Chain", name := "isMoved", desc := "(I)Z" } : Jvm.MethodName)) ∈ lw_all := lw_g (lw_at lw_m4 14 rfl) rfl
theorem q885 : (Jvm.Cond.selects "TwelveChain$Chain" ({ cls := "TwelveChain$Chain", name := "isMoved", desc := "(I)Z" } : Jvm.MethodName) ({ cls := "TwelveChain$Chain", name := "isMoved", desc := "(I)Z" } : Jvm.MethodName)) ∈ lw_all := lw_g (lw_at lw_m4 15 rfl) rfl
theorem q886 : (Jvm.Cond.code ({ cls := "TwelveChain$Chain", name := "isMoved", desc := "(I)Z" } : Jvm.MethodName) prog_2_method_5_code (2 : Nat) (Option.some Jvm.ClassFile.FieldType.boolean)) ∈ lw_all := lw_g (lw_at lw_m4 16 rfl) rfl
theorem q887 : (Jvm.Cond.methodLinkNest "TwelveChain$Chain" (71 : Nat) ({ cls := "TwelveChain", name := "has", desc := "(II)Z" } : Jvm.MethodName) "TwelveChain") ∈ lw_tbl := lw_at lw_m4 17 rfl
theorem q895 : (Jvm.Cond.instanceMethod ({ cls := "TwelveChain$Chain", name := "gives", desc := "(II)I" } : Jvm.MethodName)) ∈ lw_all := lw_g (lw_at lw_m4 25 rfl) rfl
theorem q896 : (Jvm.Cond.selects "TwelveChain$Chain" ({ cls := "TwelveChain$Chain", name := "gives", desc := "(II)I" } : Jvm.MethodName) ({ cls := "TwelveChain$Chain", name := "gives", desc := "(II)I" } : Jvm.MethodName)) ∈ lw_all := lw_g (lw_at lw_m4 26 rfl) rfl
theorem q897 : (Jvm.Cond.code ({ cls := "TwelveChain$Chain", name := "gives", desc := "(II)I" } : Jvm.MethodName) prog_2_method_19_code (4 : Nat) (Option.some Jvm.ClassFile.FieldType.int)) ∈ lw_all := lw_g (lw_at lw_m4 27 rfl) rfl
theorem q898 : (Jvm.Cond.methodLink "TwelveChain$Chain" (119 : Nat) ({ cls := "TwelveChain$Chain", name := "giveOf", desc := "(I)I" } : Jvm.MethodName)) ∈ lw_all := lw_g (lw_at lw_m4 28 rfl) rfl
theorem q899 : (Jvm.Cond.instanceMethod ({ cls := "TwelveChain$Chain", name := "giveOf", desc := "(I)I" } : Jvm.MethodName)) ∈ lw_all := lw_g (lw_at lw_m4 29 rfl) rfl
theorem q900 : (Jvm.Cond.selects "TwelveChain$Chain" ({ cls := "TwelveChain$Chain", name := "giveOf", desc := "(I)I" } : Jvm.MethodName) ({ cls := "TwelveChain$Chain", name := "giveOf", desc := "(I)I" } : Jvm.MethodName)) ∈ lw_all := lw_g (lw_at lw_m4 30 rfl) rfl
theorem q901 : (Jvm.Cond.code ({ cls := "TwelveChain$Chain", name := "giveOf", desc := "(I)I" } : Jvm.MethodName) prog_2_method_16_code (2 : Nat) (Option.some Jvm.ClassFile.FieldType.int)) ∈ lw_all := lw_g (lw_at lw_m4 31 rfl) rfl
theorem q902 : (Jvm.Cond.methodLink "TwelveChain$Chain" (105 : Nat) ({ cls := "TwelveChain$Chain", name := "asks", desc := "(I)V" } : Jvm.MethodName)) ∈ lw_all := lw_g (lw_at lw_m4 32 rfl) rfl
theorem q903 : (Jvm.Cond.privateMethod ({ cls := "TwelveChain$Chain", name := "asks", desc := "(I)V" } : Jvm.MethodName)) ∈ lw_tbl := lw_at lw_m4 33 rfl
theorem q904 : (Jvm.Cond.instanceMethod ({ cls := "TwelveChain$Chain", name := "asks", desc := "(I)V" } : Jvm.MethodName)) ∈ lw_all := lw_g (lw_at lw_m4 34 rfl) rfl
theorem q905 : (Jvm.Cond.code ({ cls := "TwelveChain$Chain", name := "asks", desc := "(I)V" } : Jvm.MethodName) prog_2_method_13_code (2 : Nat) (Option.none : Option Jvm.ClassFile.FieldType)) ∈ lw_all := lw_g (lw_at lw_m4 35 rfl) rfl
theorem q906 : (Jvm.Cond.methodLink "TwelveChain$Chain" (102 : Nat) ({ cls := "TwelveChain$Chain", name := "lacksOf", desc := "(I)I" } : Jvm.MethodName)) ∈ lw_all := lw_g (lw_at lw_m4 36 rfl) rfl
theorem q907 : (Jvm.Cond.instanceMethod ({ cls := "TwelveChain$Chain", name := "lacksOf", desc := "(I)I" } : Jvm.MethodName)) ∈ lw_all := lw_g (lw_at lw_m4 37 rfl) rfl
theorem q908 : (Jvm.Cond.selects "TwelveChain$Chain" ({ cls := "TwelveChain$Chain", name := "lacksOf", desc := "(I)I" } : Jvm.MethodName) ({ cls := "TwelveChain$Chain", name := "lacksOf", desc := "(I)I" } : Jvm.MethodName)) ∈ lw_all := lw_g (lw_at lw_m4 38 rfl) rfl
theorem q909 : (Jvm.Cond.code ({ cls := "TwelveChain$Chain", name := "lacksOf", desc := "(I)I" } : Jvm.MethodName) prog_2_method_11_code (4 : Nat) (Option.some Jvm.ClassFile.FieldType.int)) ∈ lw_all := lw_g (lw_at lw_m4 39 rfl) rfl
theorem q910 : (Jvm.Cond.methodLink "TwelveChain$Chain" (87 : Nat) ({ cls := "TwelveChain$Chain", name := "beginsPart", desc := "(II)Z" } : Jvm.MethodName)) ∈ lw_all := lw_g (lw_at lw_m4 40 rfl) rfl
theorem q911 : (Jvm.Cond.instanceMethod ({ cls := "TwelveChain$Chain", name := "beginsPart", desc := "(II)Z" } : Jvm.MethodName)) ∈ lw_all := lw_g (lw_at lw_m4 41 rfl) rfl
theorem q912 : (Jvm.Cond.selects "TwelveChain$Chain" ({ cls := "TwelveChain$Chain", name := "beginsPart", desc := "(II)Z" } : Jvm.MethodName) ({ cls := "TwelveChain$Chain", name := "beginsPart", desc := "(II)Z" } : Jvm.MethodName)) ∈ lw_all := lw_g (lw_at lw_m4 42 rfl) rfl
theorem q913 : (Jvm.Cond.code ({ cls := "TwelveChain$Chain", name := "beginsPart", desc := "(II)Z" } : Jvm.MethodName) prog_2_method_9_code (3 : Nat) (Option.some Jvm.ClassFile.FieldType.boolean)) ∈ lw_all := lw_g (lw_at lw_m4 43 rfl) rfl
theorem q914 : (Jvm.Cond.methodLink "TwelveChain$Chain" (90 : Nat) ({ cls := "TwelveChain$Chain", name := "lacksFrom", desc := "(I)I" } : Jvm.MethodName)) ∈ lw_all := lw_g (lw_at lw_m4 44 rfl) rfl
theorem q915 : (Jvm.Cond.privateMethod ({ cls := "TwelveChain$Chain", name := "lacksFrom", desc := "(I)I" } : Jvm.MethodName)) ∈ lw_tbl := lw_at lw_m4 45 rfl
theorem q916 : (Jvm.Cond.instanceMethod ({ cls := "TwelveChain$Chain", name := "lacksFrom", desc := "(I)I" } : Jvm.MethodName)) ∈ lw_all := lw_g (lw_at lw_m4 46 rfl) rfl
theorem q917 : (Jvm.Cond.code ({ cls := "TwelveChain$Chain", name := "lacksFrom", desc := "(I)I" } : Jvm.MethodName) prog_2_method_10_code (4 : Nat) (Option.some Jvm.ClassFile.FieldType.int)) ∈ lw_all := lw_g (lw_at lw_m4 47 rfl) rfl
theorem q918 : (Jvm.Cond.methodLink "TwelveChain$Chain" (84 : Nat) ({ cls := "TwelveChain$Chain", name := "endOf", desc := "(II)I" } : Jvm.MethodName)) ∈ lw_all := lw_g (lw_at lw_m4 48 rfl) rfl
theorem q919 : (Jvm.Cond.instanceMethod ({ cls := "TwelveChain$Chain", name := "endOf", desc := "(II)I" } : Jvm.MethodName)) ∈ lw_all := lw_g (lw_at lw_m4 49 rfl) rfl
theorem q920 : (Jvm.Cond.selects "TwelveChain$Chain" ({ cls := "TwelveChain$Chain", name := "endOf", desc := "(II)I" } : Jvm.MethodName) ({ cls := "TwelveChain$Chain", name := "endOf", desc := "(II)I" } : Jvm.MethodName)) ∈ lw_all := lw_g (lw_at lw_m4 50 rfl) rfl
theorem q921 : (Jvm.Cond.code ({ cls := "TwelveChain$Chain", name := "endOf", desc := "(II)I" } : Jvm.MethodName) prog_2_method_8_code (4 : Nat) (Option.some Jvm.ClassFile.FieldType.int)) ∈ lw_all := lw_g (lw_at lw_m4 51 rfl) rfl
theorem q922 : (Jvm.Cond.methodLink "TwelveChain$Chain" (78 : Nat) ({ cls := "java/lang/Math", name := "min", desc := "(II)I" } : Jvm.MethodName)) ∈ lw_all := lw_g (lw_at lw_m4 52 rfl) rfl
theorem q923 : (Jvm.Cond.methodLink "TwelveChain$Chain" (94 : Nat) ({ cls := "java/lang/Integer", name := "bitCount", desc := "(I)I" } : Jvm.MethodName)) ∈ lw_all := lw_g (lw_at lw_m4 53 rfl) rfl
theorem q929 : (Jvm.Cond.methodLink "TwelveChain$Chain" (113 : Nat) ({ cls := "java/lang/Math", name := "floorDiv", desc := "(II)I" } : Jvm.MethodName)) ∈ lw_all := lw_g (lw_at lw_m4 59 rfl) rfl
theorem q932 : (Jvm.Cond.methodLinkNest "TwelveChain$Chain" (109 : Nat) ({ cls := "TwelveChain", name := "tells", desc := "(III)I" } : Jvm.MethodName) "TwelveChain") ∈ lw_tbl := lw_at lw_m4 62 rfl
theorem q957 : (Jvm.Cond.methodLink "TwelveChain$Chain" (122 : Nat) ({ cls := "java/lang/Math", name := "max", desc := "(II)I" } : Jvm.MethodName)) ∈ lw_all := lw_g (lw_at lw_m4 87 rfl) rfl
theorem q958 : (Jvm.Cond.methodLink "TwelveChain$Chain" (125 : Nat) ({ cls := "TwelveChain$Chain", name := "notes", desc := "(III)V" } : Jvm.MethodName)) ∈ lw_all := lw_g (lw_at lw_m4 88 rfl) rfl
theorem q959 : (Jvm.Cond.privateMethod ({ cls := "TwelveChain$Chain", name := "notes", desc := "(III)V" } : Jvm.MethodName)) ∈ lw_tbl := lw_at lw_m4 89 rfl
theorem q960 : (Jvm.Cond.instanceMethod ({ cls := "TwelveChain$Chain", name := "notes", desc := "(III)V" } : Jvm.MethodName)) ∈ lw_all := lw_g (lw_at lw_m4 90 rfl) rfl
theorem q961 : (Jvm.Cond.code ({ cls := "TwelveChain$Chain", name := "notes", desc := "(III)V" } : Jvm.MethodName) prog_2_method_34_code (4 : Nat) (Option.none : Option Jvm.ClassFile.FieldType)) ∈ lw_all := lw_g (lw_at lw_m4 91 rfl) rfl
theorem q962 : (Jvm.Cond.methodLinkNest "TwelveChain$Chain" (208 : Nat) ({ cls := "TwelveChain", name := "writes", desc := "(III)V" } : Jvm.MethodName) "TwelveChain") ∈ lw_tbl := lw_at lw_m4 92 rfl
theorem q971 : (Jvm.Cond.instanceMethod ({ cls := "TwelveChain$Chain", name := "canBridge", desc := "(I)Z" } : Jvm.MethodName)) ∈ lw_all := lw_g (lw_at lw_m4 101 rfl) rfl
theorem q972 : (Jvm.Cond.selects "TwelveChain$Chain" ({ cls := "TwelveChain$Chain", name := "canBridge", desc := "(I)Z" } : Jvm.MethodName) ({ cls := "TwelveChain$Chain", name := "canBridge", desc := "(I)Z" } : Jvm.MethodName)) ∈ lw_all := lw_g (lw_at lw_m4 102 rfl) rfl
theorem q973 : (Jvm.Cond.code ({ cls := "TwelveChain$Chain", name := "canBridge", desc := "(I)Z" } : Jvm.MethodName) prog_2_method_20_code (2 : Nat) (Option.some Jvm.ClassFile.FieldType.boolean)) ∈ lw_all := lw_g (lw_at lw_m4 103 rfl) rfl
theorem q975 : (Jvm.Cond.instanceMethod ({ cls := "TwelveChain$Chain", name := "bridges", desc := "(I)V" } : Jvm.MethodName)) ∈ lw_all := lw_g (lw_at lw_m4 105 rfl) rfl
theorem q976 : (Jvm.Cond.selects "TwelveChain$Chain" ({ cls := "TwelveChain$Chain", name := "bridges", desc := "(I)V" } : Jvm.MethodName) ({ cls := "TwelveChain$Chain", name := "bridges", desc := "(I)V" } : Jvm.MethodName)) ∈ lw_all := lw_g (lw_at lw_m4 106 rfl) rfl
theorem q977 : (Jvm.Cond.code ({ cls := "TwelveChain$Chain", name := "bridges", desc := "(I)V" } : Jvm.MethodName) prog_2_method_21_code (2 : Nat) (Option.none : Option Jvm.ClassFile.FieldType)) ∈ lw_all := lw_g (lw_at lw_m4 107 rfl) rfl
theorem q983 : (Jvm.Cond.instanceMethod ({ cls := "TwelveChain$Chain", name := "canPayTo", desc := "(III)Z" } : Jvm.MethodName)) ∈ lw_all := lw_g (lw_at lw_m4 113 rfl) rfl
theorem q984 : (Jvm.Cond.selects "TwelveChain$Chain" ({ cls := "TwelveChain$Chain", name := "canPayTo", desc := "(III)Z" } : Jvm.MethodName) ({ cls := "TwelveChain$Chain", name := "canPayTo", desc := "(III)Z" } : Jvm.MethodName)) ∈ lw_all := lw_g (lw_at lw_m4 114 rfl) rfl
theorem q985 : (Jvm.Cond.code ({ cls := "TwelveChain$Chain", name := "canPayTo", desc := "(III)Z" } : Jvm.MethodName) prog_2_method_22_code (4 : Nat) (Option.some Jvm.ClassFile.FieldType.boolean)) ∈ lw_all := lw_g (lw_at lw_m4 115 rfl) rfl
theorem q987 : (Jvm.Cond.instanceMethod ({ cls := "TwelveChain$Chain", name := "pays", desc := "(III)V" } : Jvm.MethodName)) ∈ lw_all := lw_g (lw_at lw_m4 117 rfl) rfl
theorem q988 : (Jvm.Cond.selects "TwelveChain$Chain" ({ cls := "TwelveChain$Chain", name := "pays", desc := "(III)V" } : Jvm.MethodName) ({ cls := "TwelveChain$Chain", name := "pays", desc := "(III)V" } : Jvm.MethodName)) ∈ lw_all := lw_g (lw_at lw_m4 118 rfl) rfl
theorem q989 : (Jvm.Cond.code ({ cls := "TwelveChain$Chain", name := "pays", desc := "(III)V" } : Jvm.MethodName) prog_2_method_23_code (4 : Nat) (Option.none : Option Jvm.ClassFile.FieldType)) ∈ lw_all := lw_g (lw_at lw_m4 119 rfl) rfl
theorem q995 : (Jvm.Cond.instanceMethod ({ cls := "TwelveChain$Chain", name := "canPaper", desc := "(I)Z" } : Jvm.MethodName)) ∈ lw_all := lw_g (lw_at lw_m4 125 rfl) rfl
theorem q996 : (Jvm.Cond.selects "TwelveChain$Chain" ({ cls := "TwelveChain$Chain", name := "canPaper", desc := "(I)Z" } : Jvm.MethodName) ({ cls := "TwelveChain$Chain", name := "canPaper", desc := "(I)Z" } : Jvm.MethodName)) ∈ lw_all := lw_g (lw_at lw_m4 126 rfl) rfl
theorem q997 : (Jvm.Cond.code ({ cls := "TwelveChain$Chain", name := "canPaper", desc := "(I)Z" } : Jvm.MethodName) prog_2_method_24_code (2 : Nat) (Option.some Jvm.ClassFile.FieldType.boolean)) ∈ lw_all := lw_g (lw_at lw_m4 127 rfl) rfl
theorem q999 : (Jvm.Cond.instanceMethod ({ cls := "TwelveChain$Chain", name := "papers", desc := "(I)V" } : Jvm.MethodName)) ∈ lw_all := lw_g (lw_at lw_m4 129 rfl) rfl
theorem q1000 : (Jvm.Cond.selects "TwelveChain$Chain" ({ cls := "TwelveChain$Chain", name := "papers", desc := "(I)V" } : Jvm.MethodName) ({ cls := "TwelveChain$Chain", name := "papers", desc := "(I)V" } : Jvm.MethodName)) ∈ lw_all := lw_g (lw_at lw_m4 130 rfl) rfl
theorem q1001 : (Jvm.Cond.code ({ cls := "TwelveChain$Chain", name := "papers", desc := "(I)V" } : Jvm.MethodName) prog_2_method_25_code (2 : Nat) (Option.none : Option Jvm.ClassFile.FieldType)) ∈ lw_all := lw_g (lw_at lw_m4 131 rfl) rfl
theorem q1008 : (Jvm.Cond.instanceMethod ({ cls := "TwelveChain$Chain", name := "joins", desc := "(I)V" } : Jvm.MethodName)) ∈ lw_all := lw_g (lw_at lw_m4 138 rfl) rfl
theorem q1009 : (Jvm.Cond.selects "TwelveChain$Chain" ({ cls := "TwelveChain$Chain", name := "joins", desc := "(I)V" } : Jvm.MethodName) ({ cls := "TwelveChain$Chain", name := "joins", desc := "(I)V" } : Jvm.MethodName)) ∈ lw_all := lw_g (lw_at lw_m4 139 rfl) rfl
theorem q1010 : (Jvm.Cond.code ({ cls := "TwelveChain$Chain", name := "joins", desc := "(I)V" } : Jvm.MethodName) prog_2_method_26_code (2 : Nat) (Option.none : Option Jvm.ClassFile.FieldType)) ∈ lw_all := lw_g (lw_at lw_m4 140 rfl) rfl
theorem q1016 : (Jvm.Cond.instanceMethod ({ cls := "TwelveChain$Chain", name := "goesBy", desc := "()I" } : Jvm.MethodName)) ∈ lw_all := lw_g (lw_at lw_m4 146 rfl) rfl
theorem q1017 : (Jvm.Cond.selects "TwelveChain$Chain" ({ cls := "TwelveChain$Chain", name := "goesBy", desc := "()I" } : Jvm.MethodName) ({ cls := "TwelveChain$Chain", name := "goesBy", desc := "()I" } : Jvm.MethodName)) ∈ lw_all := lw_g (lw_at lw_m4 147 rfl) rfl
theorem q1018 : (Jvm.Cond.code ({ cls := "TwelveChain$Chain", name := "goesBy", desc := "()I" } : Jvm.MethodName) prog_2_method_33_code (3 : Nat) (Option.some Jvm.ClassFile.FieldType.int)) ∈ lw_all := lw_g (lw_at lw_m4 148 rfl) rfl
theorem q1019 : (Jvm.Cond.methodLink "TwelveChain$Chain" (185 : Nat) ({ cls := "TwelveChain$Deed", name := "day", desc := "()I" } : Jvm.MethodName)) ∈ lw_all := lw_g (lw_at lw_m4 149 rfl) rfl
theorem q1023 : (Jvm.Cond.methodLink "TwelveChain$Chain" (187 : Nat) ({ cls := "TwelveChain$Chain", name := "does", desc := "(LTwelveChain$Deed;)V" } : Jvm.MethodName)) ∈ lw_all := lw_g (lw_at lw_m4 153 rfl) rfl
theorem q1024 : (Jvm.Cond.privateMethod ({ cls := "TwelveChain$Chain", name := "does", desc := "(LTwelveChain$Deed;)V" } : Jvm.MethodName)) ∈ lw_tbl := lw_at lw_m4 154 rfl
theorem q1025 : (Jvm.Cond.instanceMethod ({ cls := "TwelveChain$Chain", name := "does", desc := "(LTwelveChain$Deed;)V" } : Jvm.MethodName)) ∈ lw_all := lw_g (lw_at lw_m4 155 rfl) rfl
theorem q1026 : (Jvm.Cond.code ({ cls := "TwelveChain$Chain", name := "does", desc := "(LTwelveChain$Deed;)V" } : Jvm.MethodName) prog_2_method_27_code (2 : Nat) (Option.none : Option Jvm.ClassFile.FieldType)) ∈ lw_all := lw_g (lw_at lw_m4 156 rfl) rfl
theorem q1027 : (Jvm.Cond.methodLink "TwelveChain$Chain" (129 : Nat) ({ cls := "TwelveChain$Deed", name := "what", desc := "()I" } : Jvm.MethodName)) ∈ lw_all := lw_g (lw_at lw_m4 157 rfl) rfl
theorem q1031 : (Jvm.Cond.methodLink "TwelveChain$Chain" (135 : Nat) ({ cls := "TwelveChain$Deed", name := "a", desc := "()I" } : Jvm.MethodName)) ∈ lw_all := lw_g (lw_at lw_m4 161 rfl) rfl
theorem q1035 : (Jvm.Cond.methodLink "TwelveChain$Chain" (138 : Nat) ({ cls := "TwelveChain$Chain", name := "canAsk", desc := "(I)Z" } : Jvm.MethodName)) ∈ lw_all := lw_g (lw_at lw_m4 165 rfl) rfl
theorem q1036 : (Jvm.Cond.methodLink "TwelveChain$Chain" (141 : Nat) ({ cls := "TwelveChain$Deed", name := "n", desc := "()I" } : Jvm.MethodName)) ∈ lw_all := lw_g (lw_at lw_m4 166 rfl) rfl
theorem q1040 : (Jvm.Cond.methodLink "TwelveChain$Chain" (144 : Nat) ({ cls := "TwelveChain$Chain", name := "gives", desc := "(II)I" } : Jvm.MethodName)) ∈ lw_all := lw_g (lw_at lw_m4 170 rfl) rfl
theorem q1041 : (Jvm.Cond.methodLink "TwelveChain$Chain" (147 : Nat) ({ cls := "TwelveChain$Chain", name := "canBridge", desc := "(I)Z" } : Jvm.MethodName)) ∈ lw_all := lw_g (lw_at lw_m4 171 rfl) rfl
theorem q1042 : (Jvm.Cond.methodLink "TwelveChain$Chain" (150 : Nat) ({ cls := "TwelveChain$Chain", name := "bridges", desc := "(I)V" } : Jvm.MethodName)) ∈ lw_all := lw_g (lw_at lw_m4 172 rfl) rfl
theorem q1043 : (Jvm.Cond.methodLink "TwelveChain$Chain" (153 : Nat) ({ cls := "TwelveChain$Deed", name := "b", desc := "()I" } : Jvm.MethodName)) ∈ lw_all := lw_g (lw_at lw_m4 173 rfl) rfl
theorem q1047 : (Jvm.Cond.methodLink "TwelveChain$Chain" (156 : Nat) ({ cls := "TwelveChain$Chain", name := "canPayTo", desc := "(III)Z" } : Jvm.MethodName)) ∈ lw_all := lw_g (lw_at lw_m4 177 rfl) rfl
theorem q1048 : (Jvm.Cond.methodLink "TwelveChain$Chain" (160 : Nat) ({ cls := "TwelveChain$Chain", name := "pays", desc := "(III)V" } : Jvm.MethodName)) ∈ lw_all := lw_g (lw_at lw_m4 178 rfl) rfl
theorem q1049 : (Jvm.Cond.methodLink "TwelveChain$Chain" (163 : Nat) ({ cls := "TwelveChain$Chain", name := "canPaper", desc := "(I)Z" } : Jvm.MethodName)) ∈ lw_all := lw_g (lw_at lw_m4 179 rfl) rfl
theorem q1050 : (Jvm.Cond.methodLink "TwelveChain$Chain" (166 : Nat) ({ cls := "TwelveChain$Chain", name := "papers", desc := "(I)V" } : Jvm.MethodName)) ∈ lw_all := lw_g (lw_at lw_m4 180 rfl) rfl
theorem q1051 : (Jvm.Cond.methodLink "TwelveChain$Chain" (191 : Nat) ({ cls := "TwelveChain$Chain", name := "readyOf", desc := "(I)I" } : Jvm.MethodName)) ∈ lw_all := lw_g (lw_at lw_m4 181 rfl) rfl
theorem q1052 : (Jvm.Cond.instanceMethod ({ cls := "TwelveChain$Chain", name := "readyOf", desc := "(I)I" } : Jvm.MethodName)) ∈ lw_all := lw_g (lw_at lw_m4 182 rfl) rfl
theorem q1053 : (Jvm.Cond.selects "TwelveChain$Chain" ({ cls := "TwelveChain$Chain", name := "readyOf", desc := "(I)I" } : Jvm.MethodName) ({ cls := "TwelveChain$Chain", name := "readyOf", desc := "(I)I" } : Jvm.MethodName)) ∈ lw_all := lw_g (lw_at lw_m4 183 rfl) rfl
theorem q1054 : (Jvm.Cond.code ({ cls := "TwelveChain$Chain", name := "readyOf", desc := "(I)I" } : Jvm.MethodName) prog_2_method_14_code (2 : Nat) (Option.some Jvm.ClassFile.FieldType.int)) ∈ lw_all := lw_g (lw_at lw_m4 184 rfl) rfl
theorem q1055 : (Jvm.Cond.methodLink "TwelveChain$Chain" (194 : Nat) ({ cls := "TwelveChain$Chain", name := "comes", desc := "(I)Z" } : Jvm.MethodName)) ∈ lw_all := lw_g (lw_at lw_m4 185 rfl) rfl
theorem q1056 : (Jvm.Cond.privateMethod ({ cls := "TwelveChain$Chain", name := "comes", desc := "(I)Z" } : Jvm.MethodName)) ∈ lw_tbl := lw_at lw_m4 186 rfl
theorem q1057 : (Jvm.Cond.instanceMethod ({ cls := "TwelveChain$Chain", name := "comes", desc := "(I)Z" } : Jvm.MethodName)) ∈ lw_all := lw_g (lw_at lw_m4 187 rfl) rfl
theorem q1058 : (Jvm.Cond.code ({ cls := "TwelveChain$Chain", name := "comes", desc := "(I)Z" } : Jvm.MethodName) prog_2_method_28_code (2 : Nat) (Option.some Jvm.ClassFile.FieldType.boolean)) ∈ lw_all := lw_g (lw_at lw_m4 188 rfl) rfl
theorem q1059 : (Jvm.Cond.methodLink "TwelveChain$Chain" (169 : Nat) ({ cls := "TwelveChain$Chain", name := "draw", desc := "(I)I" } : Jvm.MethodName)) ∈ lw_all := lw_g (lw_at lw_m4 189 rfl) rfl
theorem q1060 : (Jvm.Cond.privateMethod ({ cls := "TwelveChain$Chain", name := "draw", desc := "(I)I" } : Jvm.MethodName)) ∈ lw_tbl := lw_at lw_m4 190 rfl
theorem q1061 : (Jvm.Cond.instanceMethod ({ cls := "TwelveChain$Chain", name := "draw", desc := "(I)I" } : Jvm.MethodName)) ∈ lw_all := lw_g (lw_at lw_m4 191 rfl) rfl
theorem q1062 : (Jvm.Cond.code ({ cls := "TwelveChain$Chain", name := "draw", desc := "(I)I" } : Jvm.MethodName) prog_2_method_4_code (2 : Nat) (Option.some Jvm.ClassFile.FieldType.int)) ∈ lw_all := lw_g (lw_at lw_m4 192 rfl) rfl
theorem q1063 : (Jvm.Cond.constant "TwelveChain$Chain" (65 : Nat) (1664525 : Int32)) ∈ lw_all := lw_g (lw_at lw_m4 193 rfl) rfl
theorem q1064 : (Jvm.Cond.constant "TwelveChain$Chain" (66 : Nat) (1013904223 : Int32)) ∈ lw_all := lw_g (lw_at lw_m4 194 rfl) rfl
theorem q1065 : (Jvm.Cond.methodLink "TwelveChain$Chain" (197 : Nat) ({ cls := "TwelveChain$Chain", name := "leaveOf", desc := "(I)I" } : Jvm.MethodName)) ∈ lw_all := lw_g (lw_at lw_m4 195 rfl) rfl
theorem q1066 : (Jvm.Cond.instanceMethod ({ cls := "TwelveChain$Chain", name := "leaveOf", desc := "(I)I" } : Jvm.MethodName)) ∈ lw_all := lw_g (lw_at lw_m4 196 rfl) rfl
theorem q1067 : (Jvm.Cond.selects "TwelveChain$Chain" ({ cls := "TwelveChain$Chain", name := "leaveOf", desc := "(I)I" } : Jvm.MethodName) ({ cls := "TwelveChain$Chain", name := "leaveOf", desc := "(I)I" } : Jvm.MethodName)) ∈ lw_all := lw_g (lw_at lw_m4 197 rfl) rfl
theorem q1068 : (Jvm.Cond.code ({ cls := "TwelveChain$Chain", name := "leaveOf", desc := "(I)I" } : Jvm.MethodName) prog_2_method_15_code (2 : Nat) (Option.some Jvm.ClassFile.FieldType.int)) ∈ lw_all := lw_g (lw_at lw_m4 198 rfl) rfl
theorem q1069 : (Jvm.Cond.methodLink "TwelveChain$Chain" (200 : Nat) ({ cls := "TwelveChain$Chain", name := "falls", desc := "(I)V" } : Jvm.MethodName)) ∈ lw_all := lw_g (lw_at lw_m4 199 rfl) rfl
theorem q1070 : (Jvm.Cond.privateMethod ({ cls := "TwelveChain$Chain", name := "falls", desc := "(I)V" } : Jvm.MethodName)) ∈ lw_tbl := lw_at lw_m4 200 rfl
theorem q1071 : (Jvm.Cond.instanceMethod ({ cls := "TwelveChain$Chain", name := "falls", desc := "(I)V" } : Jvm.MethodName)) ∈ lw_all := lw_g (lw_at lw_m4 201 rfl) rfl
theorem q1072 : (Jvm.Cond.code ({ cls := "TwelveChain$Chain", name := "falls", desc := "(I)V" } : Jvm.MethodName) prog_2_method_30_code (3 : Nat) (Option.none : Option Jvm.ClassFile.FieldType)) ∈ lw_all := lw_g (lw_at lw_m4 202 rfl) rfl
theorem q1073 : (Jvm.Cond.methodLink "TwelveChain$Chain" (172 : Nat) ({ cls := "TwelveChain$Chain", name := "losesReady", desc := "(I)V" } : Jvm.MethodName)) ∈ lw_all := lw_g (lw_at lw_m4 203 rfl) rfl
theorem q1074 : (Jvm.Cond.privateMethod ({ cls := "TwelveChain$Chain", name := "losesReady", desc := "(I)V" } : Jvm.MethodName)) ∈ lw_tbl := lw_at lw_m4 204 rfl
theorem q1075 : (Jvm.Cond.instanceMethod ({ cls := "TwelveChain$Chain", name := "losesReady", desc := "(I)V" } : Jvm.MethodName)) ∈ lw_all := lw_g (lw_at lw_m4 205 rfl) rfl
theorem q1076 : (Jvm.Cond.code ({ cls := "TwelveChain$Chain", name := "losesReady", desc := "(I)V" } : Jvm.MethodName) prog_2_method_29_code (2 : Nat) (Option.none : Option Jvm.ClassFile.FieldType)) ∈ lw_all := lw_g (lw_at lw_m4 206 rfl) rfl
theorem q1077 : (Jvm.Cond.methodLink "TwelveChain$Chain" (202 : Nat) ({ cls := "TwelveChain$Chain", name := "movesParts", desc := "()I" } : Jvm.MethodName)) ∈ lw_all := lw_g (lw_at lw_m4 207 rfl) rfl
theorem q1078 : (Jvm.Cond.privateMethod ({ cls := "TwelveChain$Chain", name := "movesParts", desc := "()I" } : Jvm.MethodName)) ∈ lw_tbl := lw_at lw_m4 208 rfl
theorem q1079 : (Jvm.Cond.instanceMethod ({ cls := "TwelveChain$Chain", name := "movesParts", desc := "()I" } : Jvm.MethodName)) ∈ lw_all := lw_g (lw_at lw_m4 209 rfl) rfl
theorem q1080 : (Jvm.Cond.code ({ cls := "TwelveChain$Chain", name := "movesParts", desc := "()I" } : Jvm.MethodName) prog_2_method_32_code (5 : Nat) (Option.some Jvm.ClassFile.FieldType.int)) ∈ lw_all := lw_g (lw_at lw_m4 210 rfl) rfl
theorem q1081 : (Jvm.Cond.methodLink "TwelveChain$Chain" (178 : Nat) ({ cls := "TwelveChain$Chain", name := "canMove", desc := "(II)Z" } : Jvm.MethodName)) ∈ lw_all := lw_g (lw_at lw_m4 211 rfl) rfl
theorem q1082 : (Jvm.Cond.privateMethod ({ cls := "TwelveChain$Chain", name := "canMove", desc := "(II)Z" } : Jvm.MethodName)) ∈ lw_tbl := lw_at lw_m4 212 rfl
theorem q1083 : (Jvm.Cond.instanceMethod ({ cls := "TwelveChain$Chain", name := "canMove", desc := "(II)Z" } : Jvm.MethodName)) ∈ lw_all := lw_g (lw_at lw_m4 213 rfl) rfl
theorem q1084 : (Jvm.Cond.code ({ cls := "TwelveChain$Chain", name := "canMove", desc := "(II)Z" } : Jvm.MethodName) prog_2_method_31_code (4 : Nat) (Option.some Jvm.ClassFile.FieldType.boolean)) ∈ lw_all := lw_g (lw_at lw_m4 214 rfl) rfl
theorem q1085 : (Jvm.Cond.methodLink "TwelveChain$Chain" (175 : Nat) ({ cls := "TwelveChain$Chain", name := "canPay", desc := "(I)Z" } : Jvm.MethodName)) ∈ lw_all := lw_g (lw_at lw_m4 215 rfl) rfl
theorem q1086 : (Jvm.Cond.instanceMethod ({ cls := "TwelveChain$Chain", name := "canPay", desc := "(I)Z" } : Jvm.MethodName)) ∈ lw_all := lw_g (lw_at lw_m4 216 rfl) rfl
theorem q1087 : (Jvm.Cond.selects "TwelveChain$Chain" ({ cls := "TwelveChain$Chain", name := "canPay", desc := "(I)Z" } : Jvm.MethodName) ({ cls := "TwelveChain$Chain", name := "canPay", desc := "(I)Z" } : Jvm.MethodName)) ∈ lw_all := lw_g (lw_at lw_m4 217 rfl) rfl
theorem q1088 : (Jvm.Cond.code ({ cls := "TwelveChain$Chain", name := "canPay", desc := "(I)Z" } : Jvm.MethodName) prog_2_method_12_code (2 : Nat) (Option.some Jvm.ClassFile.FieldType.boolean)) ∈ lw_all := lw_g (lw_at lw_m4 218 rfl) rfl
theorem q1089 : (Jvm.Cond.methodLink "TwelveChain$Chain" (205 : Nat) ({ cls := "TwelveChain$Chain", name := "costOf", desc := "(I)I" } : Jvm.MethodName)) ∈ lw_all := lw_g (lw_at lw_m4 219 rfl) rfl
theorem q1090 : (Jvm.Cond.instanceMethod ({ cls := "TwelveChain$Chain", name := "costOf", desc := "(I)I" } : Jvm.MethodName)) ∈ lw_all := lw_g (lw_at lw_m4 220 rfl) rfl
theorem q1091 : (Jvm.Cond.selects "TwelveChain$Chain" ({ cls := "TwelveChain$Chain", name := "costOf", desc := "(I)I" } : Jvm.MethodName) ({ cls := "TwelveChain$Chain", name := "costOf", desc := "(I)I" } : Jvm.MethodName)) ∈ lw_all := lw_g (lw_at lw_m4 221 rfl) rfl
theorem q1092 : (Jvm.Cond.code ({ cls := "TwelveChain$Chain", name := "costOf", desc := "(I)I" } : Jvm.MethodName) prog_2_method_17_code (2 : Nat) (Option.some Jvm.ClassFile.FieldType.int)) ∈ lw_all := lw_g (lw_at lw_m4 222 rfl) rfl
theorem q1145 : (Jvm.Cond.instanceMethod ({ cls := "TwelveChain$Chain", name := "thinks", desc := "(LTwelveChain$Chain;)LTwelveChain$Chain;" } : Jvm.MethodName)) ∈ lw_all := lw_g (lw_at lw_m5 35 rfl) rfl
theorem q1146 : (Jvm.Cond.selects "TwelveChain$Chain" ({ cls := "TwelveChain$Chain", name := "thinks", desc := "(LTwelveChain$Chain;)LTwelveChain$Chain;" } : Jvm.MethodName) ({ cls := "TwelveChain$Chain", name := "thinks", desc := "(LTwelveChain$Chain;)LTwelveChain$Chain;" } : Jvm.MethodName)) ∈ lw_all := lw_g (lw_at lw_m5 36 rfl) rfl
theorem q1147 : (Jvm.Cond.code ({ cls := "TwelveChain$Chain", name := "thinks", desc := "(LTwelveChain$Chain;)LTwelveChain$Chain;" } : Jvm.MethodName) prog_2_method_3_code (2 : Nat) (Option.some (Jvm.ClassFile.FieldType.object "TwelveChain$Chain"))) ∈ lw_all := lw_g (lw_at lw_m5 37 rfl) rfl
theorem q1148 : (Jvm.Cond.methodLink "TwelveChain$Chain" (57 : Nat) ({ cls := "TwelveChain$Chain", name := "become", desc := "(LTwelveChain$Chain;)V" } : Jvm.MethodName)) ∈ lw_all := lw_g (lw_at lw_m5 38 rfl) rfl
theorem q1150 : (Jvm.Cond.instanceMethod ({ cls := "TwelveChain$Chain", name := "movedSet", desc := "()I" } : Jvm.MethodName)) ∈ lw_all := lw_g (lw_at lw_m5 40 rfl) rfl
theorem q1151 : (Jvm.Cond.selects "TwelveChain$Chain" ({ cls := "TwelveChain$Chain", name := "movedSet", desc := "()I" } : Jvm.MethodName) ({ cls := "TwelveChain$Chain", name := "movedSet", desc := "()I" } : Jvm.MethodName)) ∈ lw_all := lw_g (lw_at lw_m5 41 rfl) rfl
theorem q1152 : (Jvm.Cond.code ({ cls := "TwelveChain$Chain", name := "movedSet", desc := "()I" } : Jvm.MethodName) prog_2_method_7_code (3 : Nat) (Option.some Jvm.ClassFile.FieldType.int)) ∈ lw_all := lw_g (lw_at lw_m5 42 rfl) rfl
theorem in_X2 : ∀ w ∈ wsX20, w ∈ lw_all := lw_in wsX20 [277, 279, 281, 283, 285, 287, 289, 291, 293, 295, 297, 299, 301, 303] (by decide +kernel) (by decide +kernel)
