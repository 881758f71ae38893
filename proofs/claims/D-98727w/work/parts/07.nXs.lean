section
/-! BallotFruit$Party -/
set_option maxRecDepth 100000
def RX2 : String := "BallotFruit$Party"
def TX2 : u_T := fun k => match k with
  | 0 => ("BallotFruit$Party", "store", "I", false)
  | 1 => ("BallotFruit$Party", "votes", "I", false)
  | _ => ("BallotFruit$Party", "seats", "I", false)
def tyX2 : Nat → FieldType := fun k => match k with
  | 0 => .int
  | 1 => .int
  | _ => .int
abbrev wsX20 : List Cond := u_ws RX2 TX2 3
theorem nmX2 : ∀ a, a < 3 → ∀ b, b < 3 → a ≠ b → (TX2 a).2.1 ≠ (TX2 b).2.1 := by decide +kernel
theorem tyX2_ok : ∀ k, k < 3 → parseFieldDescriptor (TX2 k).2.2.1 = some (tyX2 k) := by decide +kernel
abbrev cX2_init : ByteArray := prog_15_method_1_code
def yX2_init : MethodName := ⟨RX2, "<init>", "()V"⟩
theorem dX2_init_0 : decode cX2_init 0 = .ok (.aload_n 0, 1) := by decide +kernel
theorem dX2_init_1 : decode cX2_init 1 = .ok (.invokespecial 1, 3) := by decide +kernel
theorem dX2_init_4 : decode cX2_init 4 = .ok (.return_, 1) := by decide +kernel
abbrev cX2_takes : ByteArray := prog_15_method_2_code
def yX2_takes : MethodName := ⟨RX2, "takes", "(LBallotFruit$Party;)V"⟩
def dkwX2_takes_1 : List UInt8 := [177]
abbrev dktX2_takes_1 : List UInt8 := dkwX2_takes_1 ++ []
def dkwX2_takes_0 : List UInt8 := [42, 43, 180, 0, 7, 181, 0, 7, 42, 43, 180, 0, 13, 181, 0, 13, 42, 43, 180, 0, 16, 181, 0, 16]
abbrev dktX2_takes_0 : List UInt8 := dkwX2_takes_0 ++ dktX2_takes_1
theorem dksX2_takes_0 : cX2_takes.data.toList.drop 0 = dktX2_takes_0 := by decide +kernel
theorem dksX2_takes_1 : cX2_takes.data.toList.drop 24 = dktX2_takes_1 := dk_seg dksX2_takes_0 24 rfl rfl
theorem dX2_takes_0 : decode cX2_takes 0 = .ok (.aload_n 0, 1) := dk_42 (dk_at dksX2_takes_0 0 rfl rfl)
theorem dX2_takes_1 : decode cX2_takes 1 = .ok (.aload_n 1, 1) := dk_43 (dk_at dksX2_takes_0 1 rfl rfl)
theorem dX2_takes_2 : decode cX2_takes 2 = .ok (.getfield 7, 3) := dk_180 0 7 (dk_at dksX2_takes_0 2 rfl rfl)
theorem dX2_takes_5 : decode cX2_takes 5 = .ok (.putfield 7, 3) := dk_181 0 7 (dk_at dksX2_takes_0 5 rfl rfl)
theorem dX2_takes_8 : decode cX2_takes 8 = .ok (.aload_n 0, 1) := dk_42 (dk_at dksX2_takes_0 8 rfl rfl)
theorem dX2_takes_9 : decode cX2_takes 9 = .ok (.aload_n 1, 1) := dk_43 (dk_at dksX2_takes_0 9 rfl rfl)
theorem dX2_takes_10 : decode cX2_takes 10 = .ok (.getfield 13, 3) := dk_180 0 13 (dk_at dksX2_takes_0 10 rfl rfl)
theorem dX2_takes_13 : decode cX2_takes 13 = .ok (.putfield 13, 3) := dk_181 0 13 (dk_at dksX2_takes_0 13 rfl rfl)
theorem dX2_takes_16 : decode cX2_takes 16 = .ok (.aload_n 0, 1) := dk_42 (dk_at dksX2_takes_0 16 rfl rfl)
theorem dX2_takes_17 : decode cX2_takes 17 = .ok (.aload_n 1, 1) := dk_43 (dk_at dksX2_takes_0 17 rfl rfl)
theorem dX2_takes_18 : decode cX2_takes 18 = .ok (.getfield 16, 3) := dk_180 0 16 (dk_at dksX2_takes_0 18 rfl rfl)
theorem dX2_takes_21 : decode cX2_takes 21 = .ok (.putfield 16, 3) := dk_181 0 16 (dk_at dksX2_takes_0 21 rfl rfl)
theorem dX2_takes_24 : decode cX2_takes 24 = .ok (.return_, 1) := dk_177 (dk_at dksX2_takes_1 0 rfl rfl)
theorem q153 : (Jvm.Cond.initialized "BallotFruit$Party") ∈ lw_all := lw_g (lw_at lw_m1 6 rfl) rfl
theorem q235 : (Jvm.Cond.instantiable "BallotFruit$Party" (3 : Nat)) ∈ lw_all := lw_g (lw_at lw_m1 88 rfl) rfl
theorem q237 : (Jvm.Cond.instanceMethod ({ cls := "BallotFruit$Party", name := "<init>", desc := "()V" } : Jvm.MethodName)) ∈ lw_all := lw_g (lw_at lw_m1 90 rfl) rfl
theorem q238 : (Jvm.Cond.code ({ cls := "BallotFruit$Party", name := "<init>", desc := "()V" } : Jvm.MethodName) prog_15_method_1_code (1 : Nat) (Option.none : Option Jvm.ClassFile.FieldType)) ∈ lw_all := lw_g (lw_at lw_m1 91 rfl) rfl
theorem q239 : (Jvm.Cond.methodLink "BallotFruit$Party" (1 : Nat) ({ cls := "java/lang/Object", name := "<init>", desc := "()V" } : Jvm.MethodName)) ∈ lw_all := lw_g (lw_at lw_m1 92 rfl) rfl
theorem q240 : (Jvm.Cond.fieldLink "BallotFruit$Party" (7 : Nat) "BallotFruit$Party" "store" "I") ∈ lw_all := lw_g (lw_at lw_m1 93 rfl) rfl
theorem q243 : (Jvm.Cond.fieldLink "BallotFruit$Party" (13 : Nat) "BallotFruit$Party" "votes" "I") ∈ lw_all := lw_g (lw_at lw_m1 96 rfl) rfl
theorem q246 : (Jvm.Cond.fieldLink "BallotFruit$Party" (16 : Nat) "BallotFruit$Party" "seats" "I") ∈ lw_all := lw_g (lw_at lw_m1 99 rfl) rfl
theorem q249 : (Jvm.Cond.lays "BallotFruit$Party" "BallotFruit$Party" "store" "I") ∈ lw_all := lw_g (lw_at lw_m1 102 rfl) rfl
theorem q250 : (Jvm.Cond.soleField "BallotFruit$Party" "store") ∈ lw_all := lw_g (lw_at lw_m1 103 rfl) rfl
theorem q251 : (Jvm.Cond.lays "BallotFruit$Party" "BallotFruit$Party" "votes" "I") ∈ lw_all := lw_g (lw_at lw_m1 104 rfl) rfl
theorem q252 : (Jvm.Cond.soleField "BallotFruit$Party" "votes") ∈ lw_all := lw_g (lw_at lw_m1 105 rfl) rfl
theorem q253 : (Jvm.Cond.lays "BallotFruit$Party" "BallotFruit$Party" "seats" "I") ∈ lw_all := lw_g (lw_at lw_m1 106 rfl) rfl
theorem q254 : (Jvm.Cond.soleField "BallotFruit$Party" "seats") ∈ lw_all := lw_g (lw_at lw_m1 107 rfl) rfl
theorem q255 : (Jvm.Cond.superclass "BallotFruit$Party" "java/lang/Object") ∈ lw_all := lw_g (lw_at lw_m1 108 rfl) rfl
theorem q860 : (Jvm.Cond.selects "BallotFruit$Party" ({ cls := "java/lang/Object", name := "getClass", desc := "()Ljava/lang/Class;" } : Jvm.MethodName) ({ cls := "java/lang/Object", name := "getClass", desc := "()Ljava/lang/Class;" } : Jvm.MethodName)) ∈ lw_all := lw_g (lw_at lw_m3 233 rfl) rfl
theorem q983 : (Jvm.Cond.instanceMethod ({ cls := "BallotFruit$Party", name := "takes", desc := "(LBallotFruit$Party;)V" } : Jvm.MethodName)) ∈ lw_all := lw_g (lw_at lw_m4 116 rfl) rfl
theorem q984 : (Jvm.Cond.selects "BallotFruit$Party" ({ cls := "BallotFruit$Party", name := "takes", desc := "(LBallotFruit$Party;)V" } : Jvm.MethodName) ({ cls := "BallotFruit$Party", name := "takes", desc := "(LBallotFruit$Party;)V" } : Jvm.MethodName)) ∈ lw_all := lw_g (lw_at lw_m4 117 rfl) rfl
theorem q985 : (Jvm.Cond.code ({ cls := "BallotFruit$Party", name := "takes", desc := "(LBallotFruit$Party;)V" } : Jvm.MethodName) prog_15_method_2_code (2 : Nat) (Option.none : Option Jvm.ClassFile.FieldType)) ∈ lw_all := lw_g (lw_at lw_m4 118 rfl) rfl
theorem q2062 : (Jvm.Cond.castable "BallotFruit$Party" "java/lang/Object") ∈ lw_tbl := lw_at lw_m8 235 rfl
theorem in_X2 : ∀ w ∈ wsX20, w ∈ lw_all := lw_in wsX20 [249, 251, 253] (by decide +kernel) (by decide +kernel)
end

section
/-! BallotFruit$Tree -/
set_option maxRecDepth 100000
def RX3 : String := "BallotFruit$Tree"
def TX3 : u_T := fun k => match k with
  | 0 => ("BallotFruit$Tree", "party", "I", false)
  | 1 => ("BallotFruit$Tree", "place", "I", false)
  | 2 => ("BallotFruit$Tree", "age", "I", false)
  | _ => ("BallotFruit$Tree", "hanging", "I", false)
def tyX3 : Nat → FieldType := fun k => match k with
  | 0 => .int
  | 1 => .int
  | 2 => .int
  | _ => .int
abbrev wsX30 : List Cond := u_ws RX3 TX3 4
theorem nmX3 : ∀ a, a < 4 → ∀ b, b < 4 → a ≠ b → (TX3 a).2.1 ≠ (TX3 b).2.1 := by decide +kernel
theorem tyX3_ok : ∀ k, k < 4 → parseFieldDescriptor (TX3 k).2.2.1 = some (tyX3 k) := by decide +kernel
abbrev cX3_init : ByteArray := prog_20_method_1_code
def yX3_init : MethodName := ⟨RX3, "<init>", "()V"⟩
theorem dX3_init_0 : decode cX3_init 0 = .ok (.aload_n 0, 1) := by decide +kernel
theorem dX3_init_1 : decode cX3_init 1 = .ok (.invokespecial 1, 3) := by decide +kernel
theorem dX3_init_4 : decode cX3_init 4 = .ok (.return_, 1) := by decide +kernel
abbrev cX3_takes : ByteArray := prog_20_method_2_code
def yX3_takes : MethodName := ⟨RX3, "takes", "(LBallotFruit$Tree;)V"⟩
def dkwX3_takes_1 : List UInt8 := [42, 43, 180, 0, 19, 181, 0, 19, 177]
abbrev dktX3_takes_1 : List UInt8 := dkwX3_takes_1 ++ []
def dkwX3_takes_0 : List UInt8 := [42, 43, 180, 0, 7, 181, 0, 7, 42, 43, 180, 0, 13, 181, 0, 13, 42, 43, 180, 0, 16, 181, 0, 16]
abbrev dktX3_takes_0 : List UInt8 := dkwX3_takes_0 ++ dktX3_takes_1
theorem dksX3_takes_0 : cX3_takes.data.toList.drop 0 = dktX3_takes_0 := by decide +kernel
theorem dksX3_takes_1 : cX3_takes.data.toList.drop 24 = dktX3_takes_1 := dk_seg dksX3_takes_0 24 rfl rfl
theorem dX3_takes_0 : decode cX3_takes 0 = .ok (.aload_n 0, 1) := dk_42 (dk_at dksX3_takes_0 0 rfl rfl)
theorem dX3_takes_1 : decode cX3_takes 1 = .ok (.aload_n 1, 1) := dk_43 (dk_at dksX3_takes_0 1 rfl rfl)
theorem dX3_takes_2 : decode cX3_takes 2 = .ok (.getfield 7, 3) := dk_180 0 7 (dk_at dksX3_takes_0 2 rfl rfl)
theorem dX3_takes_5 : decode cX3_takes 5 = .ok (.putfield 7, 3) := dk_181 0 7 (dk_at dksX3_takes_0 5 rfl rfl)
theorem dX3_takes_8 : decode cX3_takes 8 = .ok (.aload_n 0, 1) := dk_42 (dk_at dksX3_takes_0 8 rfl rfl)
theorem dX3_takes_9 : decode cX3_takes 9 = .ok (.aload_n 1, 1) := dk_43 (dk_at dksX3_takes_0 9 rfl rfl)
theorem dX3_takes_10 : decode cX3_takes 10 = .ok (.getfield 13, 3) := dk_180 0 13 (dk_at dksX3_takes_0 10 rfl rfl)
theorem dX3_takes_13 : decode cX3_takes 13 = .ok (.putfield 13, 3) := dk_181 0 13 (dk_at dksX3_takes_0 13 rfl rfl)
theorem dX3_takes_16 : decode cX3_takes 16 = .ok (.aload_n 0, 1) := dk_42 (dk_at dksX3_takes_0 16 rfl rfl)
theorem dX3_takes_17 : decode cX3_takes 17 = .ok (.aload_n 1, 1) := dk_43 (dk_at dksX3_takes_0 17 rfl rfl)
theorem dX3_takes_18 : decode cX3_takes 18 = .ok (.getfield 16, 3) := dk_180 0 16 (dk_at dksX3_takes_0 18 rfl rfl)
theorem dX3_takes_21 : decode cX3_takes 21 = .ok (.putfield 16, 3) := dk_181 0 16 (dk_at dksX3_takes_0 21 rfl rfl)
theorem dX3_takes_24 : decode cX3_takes 24 = .ok (.aload_n 0, 1) := dk_42 (dk_at dksX3_takes_1 0 rfl rfl)
theorem dX3_takes_25 : decode cX3_takes 25 = .ok (.aload_n 1, 1) := dk_43 (dk_at dksX3_takes_1 1 rfl rfl)
theorem dX3_takes_26 : decode cX3_takes 26 = .ok (.getfield 19, 3) := dk_180 0 19 (dk_at dksX3_takes_1 2 rfl rfl)
theorem dX3_takes_29 : decode cX3_takes 29 = .ok (.putfield 19, 3) := dk_181 0 19 (dk_at dksX3_takes_1 5 rfl rfl)
theorem dX3_takes_32 : decode cX3_takes 32 = .ok (.return_, 1) := dk_177 (dk_at dksX3_takes_1 8 rfl rfl)
theorem q154 : (Jvm.Cond.initialized "BallotFruit$Tree") ∈ lw_all := lw_g (lw_at lw_m1 7 rfl) rfl
theorem q256 : (Jvm.Cond.instantiable "BallotFruit$Tree" (4 : Nat)) ∈ lw_all := lw_g (lw_at lw_m1 109 rfl) rfl
theorem q258 : (Jvm.Cond.instanceMethod ({ cls := "BallotFruit$Tree", name := "<init>", desc := "()V" } : Jvm.MethodName)) ∈ lw_all := lw_g (lw_at lw_m1 111 rfl) rfl
theorem q259 : (Jvm.Cond.code ({ cls := "BallotFruit$Tree", name := "<init>", desc := "()V" } : Jvm.MethodName) prog_20_method_1_code (1 : Nat) (Option.none : Option Jvm.ClassFile.FieldType)) ∈ lw_all := lw_g (lw_at lw_m1 112 rfl) rfl
theorem q260 : (Jvm.Cond.methodLink "BallotFruit$Tree" (1 : Nat) ({ cls := "java/lang/Object", name := "<init>", desc := "()V" } : Jvm.MethodName)) ∈ lw_all := lw_g (lw_at lw_m1 113 rfl) rfl
theorem q261 : (Jvm.Cond.fieldLink "BallotFruit$Tree" (7 : Nat) "BallotFruit$Tree" "party" "I") ∈ lw_all := lw_g (lw_at lw_m1 114 rfl) rfl
theorem q264 : (Jvm.Cond.fieldLink "BallotFruit$Tree" (13 : Nat) "BallotFruit$Tree" "place" "I") ∈ lw_all := lw_g (lw_at lw_m1 117 rfl) rfl
theorem q267 : (Jvm.Cond.fieldLink "BallotFruit$Tree" (16 : Nat) "BallotFruit$Tree" "age" "I") ∈ lw_all := lw_g (lw_at lw_m1 120 rfl) rfl
theorem q270 : (Jvm.Cond.fieldLink "BallotFruit$Tree" (19 : Nat) "BallotFruit$Tree" "hanging" "I") ∈ lw_all := lw_g (lw_at lw_m1 123 rfl) rfl
theorem q273 : (Jvm.Cond.lays "BallotFruit$Tree" "BallotFruit$Tree" "party" "I") ∈ lw_all := lw_g (lw_at lw_m1 126 rfl) rfl
theorem q274 : (Jvm.Cond.soleField "BallotFruit$Tree" "party") ∈ lw_all := lw_g (lw_at lw_m1 127 rfl) rfl
theorem q275 : (Jvm.Cond.lays "BallotFruit$Tree" "BallotFruit$Tree" "place" "I") ∈ lw_all := lw_g (lw_at lw_m1 128 rfl) rfl
theorem q276 : (Jvm.Cond.soleField "BallotFruit$Tree" "place") ∈ lw_all := lw_g (lw_at lw_m1 129 rfl) rfl
theorem q277 : (Jvm.Cond.lays "BallotFruit$Tree" "BallotFruit$Tree" "age" "I") ∈ lw_all := lw_g (lw_at lw_m1 130 rfl) rfl
theorem q278 : (Jvm.Cond.soleField "BallotFruit$Tree" "age") ∈ lw_all := lw_g (lw_at lw_m1 131 rfl) rfl
theorem q279 : (Jvm.Cond.lays "BallotFruit$Tree" "BallotFruit$Tree" "hanging" "I") ∈ lw_all := lw_g (lw_at lw_m1 132 rfl) rfl
theorem q280 : (Jvm.Cond.soleField "BallotFruit$Tree" "hanging") ∈ lw_all := lw_g (lw_at lw_m1 133 rfl) rfl
theorem q281 : (Jvm.Cond.superclass "BallotFruit$Tree" "java/lang/Object") ∈ lw_all := lw_g (lw_at lw_m1 134 rfl) rfl
theorem q864 : (Jvm.Cond.selects "BallotFruit$Tree" ({ cls := "java/lang/Object", name := "getClass", desc := "()Ljava/lang/Class;" } : Jvm.MethodName) ({ cls := "java/lang/Object", name := "getClass", desc := "()Ljava/lang/Class;" } : Jvm.MethodName)) ∈ lw_all := lw_g (lw_at lw_m3 237 rfl) rfl
theorem q987 : (Jvm.Cond.instanceMethod ({ cls := "BallotFruit$Tree", name := "takes", desc := "(LBallotFruit$Tree;)V" } : Jvm.MethodName)) ∈ lw_all := lw_g (lw_at lw_m4 120 rfl) rfl
theorem q988 : (Jvm.Cond.selects "BallotFruit$Tree" ({ cls := "BallotFruit$Tree", name := "takes", desc := "(LBallotFruit$Tree;)V" } : Jvm.MethodName) ({ cls := "BallotFruit$Tree", name := "takes", desc := "(LBallotFruit$Tree;)V" } : Jvm.MethodName)) ∈ lw_all := lw_g (lw_at lw_m4 121 rfl) rfl
theorem q989 : (Jvm.Cond.code ({ cls := "BallotFruit$Tree", name := "takes", desc := "(LBallotFruit$Tree;)V" } : Jvm.MethodName) prog_20_method_2_code (2 : Nat) (Option.none : Option Jvm.ClassFile.FieldType)) ∈ lw_all := lw_g (lw_at lw_m4 122 rfl) rfl
theorem q2063 : (Jvm.Cond.castable "BallotFruit$Tree" "java/lang/Object") ∈ lw_tbl := lw_at lw_m8 236 rfl
theorem in_X3 : ∀ w ∈ wsX30, w ∈ lw_all := lw_in wsX30 [273, 275, 277, 279] (by decide +kernel) (by decide +kernel)
end

section
/-! BallotFruit$Eater -/
set_option maxRecDepth 100000
def RX4 : String := "BallotFruit$Eater"
def TX4 : u_T := fun k => match k with
  | 0 => ("BallotFruit$Eater", "taste", "[I", true)
  | _ => ("BallotFruit$Eater", "hunger", "I", false)
def tyX4 : Nat → FieldType := fun k => match k with
  | 0 => .array .int
  | _ => .int
abbrev wsX40 : List Cond := u_ws RX4 TX4 2
theorem nmX4 : ∀ a, a < 2 → ∀ b, b < 2 → a ≠ b → (TX4 a).2.1 ≠ (TX4 b).2.1 := by decide +kernel
theorem tyX4_ok : ∀ k, k < 2 → parseFieldDescriptor (TX4 k).2.2.1 = some (tyX4 k) := by decide +kernel
abbrev cX4_init : ByteArray := prog_7_method_1_code
def yX4_init : MethodName := ⟨RX4, "<init>", "()V"⟩
def dkwX4_init_0 : List UInt8 := [42, 183, 0, 3, 42, 8, 188, 10, 181, 0, 9, 177]
abbrev dktX4_init_0 : List UInt8 := dkwX4_init_0 ++ []
theorem dksX4_init_0 : cX4_init.data.toList.drop 0 = dktX4_init_0 := by decide +kernel
theorem dX4_init_0 : decode cX4_init 0 = .ok (.aload_n 0, 1) := dk_42 (dk_at dksX4_init_0 0 rfl rfl)
theorem dX4_init_1 : decode cX4_init 1 = .ok (.invokespecial 3, 3) := dk_183 0 3 (dk_at dksX4_init_0 1 rfl rfl)
theorem dX4_init_4 : decode cX4_init 4 = .ok (.aload_n 0, 1) := dk_42 (dk_at dksX4_init_0 4 rfl rfl)
theorem dX4_init_5 : decode cX4_init 5 = .ok (.iconst 5, 1) := dk_8 (dk_at dksX4_init_0 5 rfl rfl)
theorem dX4_init_6 : decode cX4_init 6 = .ok (.newarray .int, 2) := dk_188_10 (dk_at dksX4_init_0 6 rfl rfl)
theorem dX4_init_8 : decode cX4_init 8 = .ok (.putfield 9, 3) := dk_181 0 9 (dk_at dksX4_init_0 8 rfl rfl)
theorem dX4_init_11 : decode cX4_init 11 = .ok (.return_, 1) := dk_177 (dk_at dksX4_init_0 11 rfl rfl)
abbrev cX4_takes : ByteArray := prog_7_method_2_code
def yX4_takes : MethodName := ⟨RX4, "takes", "(LBallotFruit$Eater;)V"⟩
def dkwX4_takes_1 : List UInt8 := [28, 46, 79, 132, 2, 1, 167, 255, 236, 177]
abbrev dktX4_takes_1 : List UInt8 := dkwX4_takes_1 ++ []
def dkwX4_takes_0 : List UInt8 := [42, 43, 180, 0, 15, 181, 0, 15, 3, 61, 28, 8, 162, 0, 21, 42, 180, 0, 9, 28, 43, 180, 0, 9]
abbrev dktX4_takes_0 : List UInt8 := dkwX4_takes_0 ++ dktX4_takes_1
theorem dksX4_takes_0 : cX4_takes.data.toList.drop 0 = dktX4_takes_0 := by decide +kernel
theorem dksX4_takes_1 : cX4_takes.data.toList.drop 24 = dktX4_takes_1 := dk_seg dksX4_takes_0 24 rfl rfl
theorem dX4_takes_0 : decode cX4_takes 0 = .ok (.aload_n 0, 1) := dk_42 (dk_at dksX4_takes_0 0 rfl rfl)
theorem dX4_takes_1 : decode cX4_takes 1 = .ok (.aload_n 1, 1) := dk_43 (dk_at dksX4_takes_0 1 rfl rfl)
theorem dX4_takes_2 : decode cX4_takes 2 = .ok (.getfield 15, 3) := dk_180 0 15 (dk_at dksX4_takes_0 2 rfl rfl)
theorem dX4_takes_5 : decode cX4_takes 5 = .ok (.putfield 15, 3) := dk_181 0 15 (dk_at dksX4_takes_0 5 rfl rfl)
theorem dX4_takes_8 : decode cX4_takes 8 = .ok (.iconst 0, 1) := dk_3 (dk_at dksX4_takes_0 8 rfl rfl)
theorem dX4_takes_9 : decode cX4_takes 9 = .ok (.istore_n 2, 1) := dk_61 (dk_at dksX4_takes_0 9 rfl rfl)
theorem dX4_takes_10 : decode cX4_takes 10 = .ok (.iload_n 2, 1) := dk_28 (dk_at dksX4_takes_0 10 rfl rfl)
theorem dX4_takes_11 : decode cX4_takes 11 = .ok (.iconst 5, 1) := dk_8 (dk_at dksX4_takes_0 11 rfl rfl)
theorem dX4_takes_12 : decode cX4_takes 12 = .ok (.if_icmp .ge 21, 3) := dk_162 0 21 (dk_at dksX4_takes_0 12 rfl rfl)
theorem dX4_takes_15 : decode cX4_takes 15 = .ok (.aload_n 0, 1) := dk_42 (dk_at dksX4_takes_0 15 rfl rfl)
theorem dX4_takes_16 : decode cX4_takes 16 = .ok (.getfield 9, 3) := dk_180 0 9 (dk_at dksX4_takes_0 16 rfl rfl)
theorem dX4_takes_19 : decode cX4_takes 19 = .ok (.iload_n 2, 1) := dk_28 (dk_at dksX4_takes_0 19 rfl rfl)
theorem dX4_takes_20 : decode cX4_takes 20 = .ok (.aload_n 1, 1) := dk_43 (dk_at dksX4_takes_0 20 rfl rfl)
theorem dX4_takes_21 : decode cX4_takes 21 = .ok (.getfield 9, 3) := dk_180 0 9 (dk_at dksX4_takes_0 21 rfl rfl)
theorem dX4_takes_24 : decode cX4_takes 24 = .ok (.iload_n 2, 1) := dk_28 (dk_at dksX4_takes_1 0 rfl rfl)
theorem dX4_takes_25 : decode cX4_takes 25 = .ok (.iaload, 1) := dk_46 (dk_at dksX4_takes_1 1 rfl rfl)
theorem dX4_takes_26 : decode cX4_takes 26 = .ok (.iastore, 1) := dk_79 (dk_at dksX4_takes_1 2 rfl rfl)
theorem dX4_takes_27 : decode cX4_takes 27 = .ok (.iinc 2 1, 3) := dk_132 2 1 (dk_at dksX4_takes_1 3 rfl rfl)
theorem dX4_takes_30 : decode cX4_takes 30 = .ok (.goto (-20), 3) := dk_167 255 236 (dk_at dksX4_takes_1 6 rfl rfl)
theorem dX4_takes_33 : decode cX4_takes 33 = .ok (.return_, 1) := dk_177 (dk_at dksX4_takes_1 9 rfl rfl)
theorem q155 : (Jvm.Cond.initialized "BallotFruit$Eater") ∈ lw_all := lw_g (lw_at lw_m1 8 rfl) rfl
theorem q282 : (Jvm.Cond.instantiable "BallotFruit$Eater" (2 : Nat)) ∈ lw_all := lw_g (lw_at lw_m1 135 rfl) rfl
theorem q284 : (Jvm.Cond.instanceMethod ({ cls := "BallotFruit$Eater", name := "<init>", desc := "()V" } : Jvm.MethodName)) ∈ lw_all := lw_g (lw_at lw_m1 137 rfl) rfl
theorem q285 : (Jvm.Cond.code ({ cls := "BallotFruit$Eater", name := "<init>", desc := "()V" } : Jvm.MethodName) prog_7_method_1_code (1 : Nat) (Option.none : Option Jvm.ClassFile.FieldType)) ∈ lw_all := lw_g (lw_at lw_m1 138 rfl) rfl
theorem q286 : (Jvm.Cond.methodLink "BallotFruit$Eater" (3 : Nat) ({ cls := "java/lang/Object", name := "<init>", desc := "()V" } : Jvm.MethodName)) ∈ lw_all := lw_g (lw_at lw_m1 139 rfl) rfl
theorem q287 : (Jvm.Cond.fieldLink "BallotFruit$Eater" (9 : Nat) "BallotFruit$Eater" "taste" "[I") ∈ lw_all := lw_g (lw_at lw_m1 140 rfl) rfl
theorem q290 : (Jvm.Cond.fieldLink "BallotFruit$Eater" (15 : Nat) "BallotFruit$Eater" "hunger" "I") ∈ lw_all := lw_g (lw_at lw_m1 143 rfl) rfl
theorem q294 : (Jvm.Cond.laysFinal "BallotFruit$Eater" "BallotFruit$Eater" "taste" "[I") ∈ lw_all := lw_g (lw_at lw_m1 147 rfl) rfl
theorem q295 : (Jvm.Cond.soleField "BallotFruit$Eater" "taste") ∈ lw_all := lw_g (lw_at lw_m1 148 rfl) rfl
theorem q296 : (Jvm.Cond.lays "BallotFruit$Eater" "BallotFruit$Eater" "hunger" "I") ∈ lw_all := lw_g (lw_at lw_m1 149 rfl) rfl
theorem q297 : (Jvm.Cond.soleField "BallotFruit$Eater" "hunger") ∈ lw_all := lw_g (lw_at lw_m1 150 rfl) rfl
theorem q298 : (Jvm.Cond.superclass "BallotFruit$Eater" "java/lang/Object") ∈ lw_all := lw_g (lw_at lw_m1 151 rfl) rfl
theorem q852 : (Jvm.Cond.selects "BallotFruit$Eater" ({ cls := "java/lang/Object", name := "getClass", desc := "()Ljava/lang/Class;" } : Jvm.MethodName) ({ cls := "java/lang/Object", name := "getClass", desc := "()Ljava/lang/Class;" } : Jvm.MethodName)) ∈ lw_all := lw_g (lw_at lw_m3 225 rfl) rfl
theorem q991 : (Jvm.Cond.instanceMethod ({ cls := "BallotFruit$Eater", name := "takes", desc := "(LBallotFruit$Eater;)V" } : Jvm.MethodName)) ∈ lw_all := lw_g (lw_at lw_m4 124 rfl) rfl
theorem q992 : (Jvm.Cond.selects "BallotFruit$Eater" ({ cls := "BallotFruit$Eater", name := "takes", desc := "(LBallotFruit$Eater;)V" } : Jvm.MethodName) ({ cls := "BallotFruit$Eater", name := "takes", desc := "(LBallotFruit$Eater;)V" } : Jvm.MethodName)) ∈ lw_all := lw_g (lw_at lw_m4 125 rfl) rfl
theorem q993 : (Jvm.Cond.code ({ cls := "BallotFruit$Eater", name := "takes", desc := "(LBallotFruit$Eater;)V" } : Jvm.MethodName) prog_7_method_2_code (3 : Nat) (Option.none : Option Jvm.ClassFile.FieldType)) ∈ lw_all := lw_g (lw_at lw_m4 126 rfl) rfl
theorem q2064 : (Jvm.Cond.castable "BallotFruit$Eater" "java/lang/Object") ∈ lw_tbl := lw_at lw_m8 237 rfl
theorem in_X4 : ∀ w ∈ wsX40, w ∈ lw_all := lw_in wsX40 [294, 296] (by decide +kernel) (by decide +kernel)
end

section
/-! BallotFruit$Fault -/
set_option maxRecDepth 100000
def RX7 : String := "BallotFruit$Fault"
def TX7 : u_T := fun k => match k with
  | 0 => ("java/lang/Throwable", "cause", "Ljava/lang/Throwable;", false)
  | 1 => ("java/lang/Throwable", "stackTrace", "[Ljava/lang/StackTraceElement;", false)
  | 2 => ("java/lang/Throwable", "suppressedExceptions", "Ljava/util/List;", false)
  | 3 => ("java/lang/Throwable", "detailMessage", "Ljava/lang/String;", false)
  | 4 => ("java/lang/Throwable", "backtrace", "Ljava/lang/Object;", false)
  | 5 => ("java/lang/Throwable", "depth", "I", false)
  | 6 => ("BallotFruit$Fault", "kind", "I", true)
  | _ => ("BallotFruit$Fault", "place", "I", true)
def tyX7 : Nat → FieldType := fun k => match k with
  | 0 => .object "java/lang/Throwable"
  | 1 => .array (.object "java/lang/StackTraceElement")
  | 2 => .object "java/util/List"
  | 3 => .object "java/lang/String"
  | 4 => .object "java/lang/Object"
  | 5 => .int
  | 6 => .int
  | _ => .int
abbrev wsX70 : List Cond := u_ws RX7 TX7 8
theorem nmX7 : ∀ a, a < 8 → ∀ b, b < 8 → a ≠ b → (TX7 a).2.1 ≠ (TX7 b).2.1 := by decide +kernel
theorem tyX7_ok : ∀ k, k < 8 → parseFieldDescriptor (TX7 k).2.2.1 = some (tyX7 k) := by decide +kernel
abbrev cX7_init : ByteArray := prog_8_method_1_code
def yX7_init : MethodName := ⟨RX7, "<init>", "(II)V"⟩
def dkwX7_init_0 : List UInt8 := [42, 183, 0, 1, 42, 27, 181, 0, 7, 42, 28, 181, 0, 13, 177]
abbrev dktX7_init_0 : List UInt8 := dkwX7_init_0 ++ []
theorem dksX7_init_0 : cX7_init.data.toList.drop 0 = dktX7_init_0 := by decide +kernel
theorem dX7_init_0 : decode cX7_init 0 = .ok (.aload_n 0, 1) := dk_42 (dk_at dksX7_init_0 0 rfl rfl)
theorem dX7_init_1 : decode cX7_init 1 = .ok (.invokespecial 1, 3) := dk_183 0 1 (dk_at dksX7_init_0 1 rfl rfl)
theorem dX7_init_4 : decode cX7_init 4 = .ok (.aload_n 0, 1) := dk_42 (dk_at dksX7_init_0 4 rfl rfl)
theorem dX7_init_5 : decode cX7_init 5 = .ok (.iload_n 1, 1) := dk_27 (dk_at dksX7_init_0 5 rfl rfl)
theorem dX7_init_6 : decode cX7_init 6 = .ok (.putfield 7, 3) := dk_181 0 7 (dk_at dksX7_init_0 6 rfl rfl)
theorem dX7_init_9 : decode cX7_init 9 = .ok (.aload_n 0, 1) := dk_42 (dk_at dksX7_init_0 9 rfl rfl)
theorem dX7_init_10 : decode cX7_init 10 = .ok (.iload_n 2, 1) := dk_28 (dk_at dksX7_init_0 10 rfl rfl)
theorem dX7_init_11 : decode cX7_init 11 = .ok (.putfield 13, 3) := dk_181 0 13 (dk_at dksX7_init_0 11 rfl rfl)
theorem dX7_init_14 : decode cX7_init 14 = .ok (.return_, 1) := dk_177 (dk_at dksX7_init_0 14 rfl rfl)
theorem q166 : (Jvm.Cond.initialized "BallotFruit$Fault") ∈ lw_all := lw_g (lw_at lw_m1 19 rfl) rfl
theorem q645 : (Jvm.Cond.instantiable "BallotFruit$Fault" (8 : Nat)) ∈ lw_all := lw_g (lw_at lw_m3 18 rfl) rfl
theorem q646 : (Jvm.Cond.castable "BallotFruit$Fault" "BallotFruit$Fault") ∈ lw_tbl := lw_at lw_m3 19 rfl
theorem q651 : (Jvm.Cond.selects "BallotFruit$Fault" ({ cls := "java/lang/Throwable", name := "fillInStackTrace", desc := "(I)Ljava/lang/Throwable;" } : Jvm.MethodName) ({ cls := "java/lang/Throwable", name := "fillInStackTrace", desc := "(I)Ljava/lang/Throwable;" } : Jvm.MethodName)) ∈ lw_all := lw_g (lw_at lw_m3 24 rfl) rfl
theorem q652 : (Jvm.Cond.selects "BallotFruit$Fault" ({ cls := "java/lang/Throwable", name := "fillInStackTrace", desc := "()Ljava/lang/Throwable;" } : Jvm.MethodName) ({ cls := "java/lang/Throwable", name := "fillInStackTrace", desc := "()Ljava/lang/Throwable;" } : Jvm.MethodName)) ∈ lw_all := lw_g (lw_at lw_m3 25 rfl) rfl
theorem q653 : (Jvm.Cond.lays "BallotFruit$Fault" "java/lang/Throwable" "cause" "Ljava/lang/Throwable;") ∈ lw_all := lw_g (lw_at lw_m3 26 rfl) rfl
theorem q655 : (Jvm.Cond.lays "BallotFruit$Fault" "java/lang/Throwable" "stackTrace" "[Ljava/lang/StackTraceElement;") ∈ lw_all := lw_g (lw_at lw_m3 28 rfl) rfl
theorem q657 : (Jvm.Cond.lays "BallotFruit$Fault" "java/lang/Throwable" "suppressedExceptions" "Ljava/util/List;") ∈ lw_all := lw_g (lw_at lw_m3 30 rfl) rfl
theorem q659 : (Jvm.Cond.lays "BallotFruit$Fault" "java/lang/Throwable" "detailMessage" "Ljava/lang/String;") ∈ lw_all := lw_g (lw_at lw_m3 32 rfl) rfl
theorem q661 : (Jvm.Cond.lays "BallotFruit$Fault" "java/lang/Throwable" "backtrace" "Ljava/lang/Object;") ∈ lw_all := lw_g (lw_at lw_m3 34 rfl) rfl
theorem q682 : (Jvm.Cond.instanceMethod ({ cls := "BallotFruit$Fault", name := "<init>", desc := "(II)V" } : Jvm.MethodName)) ∈ lw_all := lw_g (lw_at lw_m3 55 rfl) rfl
theorem q683 : (Jvm.Cond.code ({ cls := "BallotFruit$Fault", name := "<init>", desc := "(II)V" } : Jvm.MethodName) prog_8_method_1_code (3 : Nat) (Option.none : Option Jvm.ClassFile.FieldType)) ∈ lw_all := lw_g (lw_at lw_m3 56 rfl) rfl
theorem q684 : (Jvm.Cond.methodLink "BallotFruit$Fault" (1 : Nat) ({ cls := "java/lang/Exception", name := "<init>", desc := "()V" } : Jvm.MethodName)) ∈ lw_all := lw_g (lw_at lw_m3 57 rfl) rfl
theorem q688 : (Jvm.Cond.fieldLink "BallotFruit$Fault" (7 : Nat) "BallotFruit$Fault" "kind" "I") ∈ lw_all := lw_g (lw_at lw_m3 61 rfl) rfl
theorem q690 : (Jvm.Cond.fieldLink "BallotFruit$Fault" (13 : Nat) "BallotFruit$Fault" "place" "I") ∈ lw_all := lw_g (lw_at lw_m3 63 rfl) rfl
theorem q696 : (Jvm.Cond.laysFinal "BallotFruit$Fault" "BallotFruit$Fault" "kind" "I") ∈ lw_all := lw_g (lw_at lw_m3 69 rfl) rfl
theorem q697 : (Jvm.Cond.soleField "BallotFruit$Fault" "kind") ∈ lw_all := lw_g (lw_at lw_m3 70 rfl) rfl
theorem q698 : (Jvm.Cond.laysFinal "BallotFruit$Fault" "BallotFruit$Fault" "place" "I") ∈ lw_all := lw_g (lw_at lw_m3 71 rfl) rfl
theorem q699 : (Jvm.Cond.soleField "BallotFruit$Fault" "place") ∈ lw_all := lw_g (lw_at lw_m3 72 rfl) rfl
theorem q704 : (Jvm.Cond.lays "BallotFruit$Fault" "java/lang/Throwable" "depth" "I") ∈ lw_all := lw_g (lw_at lw_m3 77 rfl) rfl
theorem q707 : (Jvm.Cond.superclass "BallotFruit$Fault" "java/lang/Exception") ∈ lw_all := lw_g (lw_at lw_m3 80 rfl) rfl
theorem q853 : (Jvm.Cond.selects "BallotFruit$Fault" ({ cls := "java/lang/Object", name := "getClass", desc := "()Ljava/lang/Class;" } : Jvm.MethodName) ({ cls := "java/lang/Object", name := "getClass", desc := "()Ljava/lang/Class;" } : Jvm.MethodName)) ∈ lw_all := lw_g (lw_at lw_m3 226 rfl) rfl
theorem q2071 : (Jvm.Cond.castable "BallotFruit$Fault" "java/lang/Object") ∈ lw_tbl := lw_at lw_m9 4 rfl
theorem in_X7 : ∀ w ∈ wsX70, w ∈ lw_all := lw_in wsX70 [653, 655, 657, 659, 661, 704, 696, 698] (by decide +kernel) (by decide +kernel)
end

section
/-! BallotFruit$Term -/
set_option maxRecDepth 100000
def RX8 : String := "BallotFruit$Term"
abbrev cX8_init : ByteArray := prog_19_method_1_code
def yX8_init : MethodName := ⟨RX8, "<init>", "()V"⟩
theorem dX8_init_0 : decode cX8_init 0 = .ok (.aload_n 0, 1) := by decide +kernel
theorem dX8_init_1 : decode cX8_init 1 = .ok (.invokespecial 1, 3) := by decide +kernel
theorem dX8_init_4 : decode cX8_init 4 = .ok (.return_, 1) := by decide +kernel
theorem q167 : (Jvm.Cond.initialized "BallotFruit$Term") ∈ lw_all := lw_g (lw_at lw_m1 20 rfl) rfl
theorem q734 : (Jvm.Cond.instanceMethod ({ cls := "BallotFruit$Term", name := "<init>", desc := "()V" } : Jvm.MethodName)) ∈ lw_all := lw_g (lw_at lw_m3 107 rfl) rfl
theorem q735 : (Jvm.Cond.code ({ cls := "BallotFruit$Term", name := "<init>", desc := "()V" } : Jvm.MethodName) prog_19_method_1_code (1 : Nat) (Option.none : Option Jvm.ClassFile.FieldType)) ∈ lw_all := lw_g (lw_at lw_m3 108 rfl) rfl
theorem q736 : (Jvm.Cond.methodLink "BallotFruit$Term" (1 : Nat) ({ cls := "java/lang/Object", name := "<init>", desc := "()V" } : Jvm.MethodName)) ∈ lw_all := lw_g (lw_at lw_m3 109 rfl) rfl
theorem q1145 : (Jvm.Cond.declares ({ cls := "BallotFruit$Term", name := "of", desc := "(LBallotFruit$Asker;)I" } : Jvm.MethodName)) ∈ lw_tbl := lw_at lw_m5 38 rfl
theorem q1146 : (Jvm.Cond.sameMethod "BallotFruit$Term" "BallotFruit$Term" "of" "(LBallotFruit$Asker;)I") ∈ lw_all := lw_g (lw_at lw_m5 39 rfl) rfl
end

section
/-! BallotFruit$Fixed -/
set_option maxRecDepth 100000
def RX9 : String := "BallotFruit$Fixed"
def TX9 : u_T := fun k => match k with
  | _ => ("BallotFruit$Fixed", "value", "I", true)
def tyX9 : Nat → FieldType := fun k => match k with
  | _ => .int
abbrev wsX90 : List Cond := u_ws RX9 TX9 1
theorem nmX9 : ∀ a, a < 1 → ∀ b, b < 1 → a ≠ b → (TX9 a).2.1 ≠ (TX9 b).2.1 := by decide +kernel
theorem tyX9_ok : ∀ k, k < 1 → parseFieldDescriptor (TX9 k).2.2.1 = some (tyX9 k) := by decide +kernel
abbrev cX9_init : ByteArray := prog_10_method_1_code
def yX9_init : MethodName := ⟨RX9, "<init>", "(I)V"⟩
def dkwX9_init_0 : List UInt8 := [42, 183, 0, 1, 42, 27, 181, 0, 7, 177]
abbrev dktX9_init_0 : List UInt8 := dkwX9_init_0 ++ []
theorem dksX9_init_0 : cX9_init.data.toList.drop 0 = dktX9_init_0 := by decide +kernel
theorem dX9_init_0 : decode cX9_init 0 = .ok (.aload_n 0, 1) := dk_42 (dk_at dksX9_init_0 0 rfl rfl)
theorem dX9_init_1 : decode cX9_init 1 = .ok (.invokespecial 1, 3) := dk_183 0 1 (dk_at dksX9_init_0 1 rfl rfl)
theorem dX9_init_4 : decode cX9_init 4 = .ok (.aload_n 0, 1) := dk_42 (dk_at dksX9_init_0 4 rfl rfl)
theorem dX9_init_5 : decode cX9_init 5 = .ok (.iload_n 1, 1) := dk_27 (dk_at dksX9_init_0 5 rfl rfl)
theorem dX9_init_6 : decode cX9_init 6 = .ok (.putfield 7, 3) := dk_181 0 7 (dk_at dksX9_init_0 6 rfl rfl)
theorem dX9_init_9 : decode cX9_init 9 = .ok (.return_, 1) := dk_177 (dk_at dksX9_init_0 9 rfl rfl)
abbrev cX9_of : ByteArray := prog_10_method_2_code
def yX9_of : MethodName := ⟨RX9, "of", "(LBallotFruit$Asker;)I"⟩
theorem dX9_of_0 : decode cX9_of 0 = .ok (.aload_n 0, 1) := by decide +kernel
theorem dX9_of_1 : decode cX9_of 1 = .ok (.getfield 7, 3) := by decide +kernel
theorem dX9_of_4 : decode cX9_of 4 = .ok (.ireturn, 1) := by decide +kernel
theorem q168 : (Jvm.Cond.initialized "BallotFruit$Fixed") ∈ lw_all := lw_g (lw_at lw_m1 21 rfl) rfl
theorem q725 : (Jvm.Cond.instantiable "BallotFruit$Fixed" (1 : Nat)) ∈ lw_all := lw_g (lw_at lw_m3 98 rfl) rfl
theorem q731 : (Jvm.Cond.instanceMethod ({ cls := "BallotFruit$Fixed", name := "<init>", desc := "(I)V" } : Jvm.MethodName)) ∈ lw_all := lw_g (lw_at lw_m3 104 rfl) rfl
theorem q732 : (Jvm.Cond.code ({ cls := "BallotFruit$Fixed", name := "<init>", desc := "(I)V" } : Jvm.MethodName) prog_10_method_1_code (2 : Nat) (Option.none : Option Jvm.ClassFile.FieldType)) ∈ lw_all := lw_g (lw_at lw_m3 105 rfl) rfl
theorem q733 : (Jvm.Cond.methodLinkNest "BallotFruit$Fixed" (1 : Nat) ({ cls := "BallotFruit$Term", name := "<init>", desc := "()V" } : Jvm.MethodName) "BallotFruit") ∈ lw_tbl := lw_at lw_m3 106 rfl
theorem q737 : (Jvm.Cond.fieldLink "BallotFruit$Fixed" (7 : Nat) "BallotFruit$Fixed" "value" "I") ∈ lw_all := lw_g (lw_at lw_m3 110 rfl) rfl
theorem q738 : (Jvm.Cond.laysFinal "BallotFruit$Fixed" "BallotFruit$Fixed" "value" "I") ∈ lw_all := lw_g (lw_at lw_m3 111 rfl) rfl
theorem q739 : (Jvm.Cond.soleField "BallotFruit$Fixed" "value") ∈ lw_all := lw_g (lw_at lw_m3 112 rfl) rfl
theorem q740 : (Jvm.Cond.superclass "BallotFruit$Fixed" "BallotFruit$Term") ∈ lw_all := lw_g (lw_at lw_m3 113 rfl) rfl
theorem q855 : (Jvm.Cond.selects "BallotFruit$Fixed" ({ cls := "java/lang/Object", name := "getClass", desc := "()Ljava/lang/Class;" } : Jvm.MethodName) ({ cls := "java/lang/Object", name := "getClass", desc := "()Ljava/lang/Class;" } : Jvm.MethodName)) ∈ lw_all := lw_g (lw_at lw_m3 228 rfl) rfl
theorem q1147 : (Jvm.Cond.selects "BallotFruit$Fixed" ({ cls := "BallotFruit$Term", name := "of", desc := "(LBallotFruit$Asker;)I" } : Jvm.MethodName) ({ cls := "BallotFruit$Fixed", name := "of", desc := "(LBallotFruit$Asker;)I" } : Jvm.MethodName)) ∈ lw_all := lw_g (lw_at lw_m5 40 rfl) rfl
theorem q1148 : (Jvm.Cond.instanceMethod ({ cls := "BallotFruit$Fixed", name := "of", desc := "(LBallotFruit$Asker;)I" } : Jvm.MethodName)) ∈ lw_all := lw_g (lw_at lw_m5 41 rfl) rfl
theorem q1149 : (Jvm.Cond.code ({ cls := "BallotFruit$Fixed", name := "of", desc := "(LBallotFruit$Asker;)I" } : Jvm.MethodName) prog_10_method_2_code (2 : Nat) (Option.some Jvm.ClassFile.FieldType.int)) ∈ lw_all := lw_g (lw_at lw_m5 42 rfl) rfl
theorem q2072 : (Jvm.Cond.castable "BallotFruit$Fixed" "java/lang/Object") ∈ lw_tbl := lw_at lw_m9 5 rfl
theorem in_X9 : ∀ w ∈ wsX90, w ∈ lw_all := lw_in wsX90 [738] (by decide +kernel) (by decide +kernel)
end

section
/-! BallotFruit$Known -/
set_option maxRecDepth 100000
def RX10 : String := "BallotFruit$Known"
def TX10 : u_T := fun k => match k with
  | _ => ("BallotFruit$Known", "what", "I", true)
def tyX10 : Nat → FieldType := fun k => match k with
  | _ => .int
abbrev wsX100 : List Cond := u_ws RX10 TX10 1
theorem nmX10 : ∀ a, a < 1 → ∀ b, b < 1 → a ≠ b → (TX10 a).2.1 ≠ (TX10 b).2.1 := by decide +kernel
theorem tyX10_ok : ∀ k, k < 1 → parseFieldDescriptor (TX10 k).2.2.1 = some (tyX10 k) := by decide +kernel
abbrev cX10_init : ByteArray := prog_12_method_1_code
def yX10_init : MethodName := ⟨RX10, "<init>", "(I)V"⟩
def dkwX10_init_0 : List UInt8 := [42, 183, 0, 1, 42, 27, 181, 0, 7, 177]
abbrev dktX10_init_0 : List UInt8 := dkwX10_init_0 ++ []
theorem dksX10_init_0 : cX10_init.data.toList.drop 0 = dktX10_init_0 := by decide +kernel
theorem dX10_init_0 : decode cX10_init 0 = .ok (.aload_n 0, 1) := dk_42 (dk_at dksX10_init_0 0 rfl rfl)
theorem dX10_init_1 : decode cX10_init 1 = .ok (.invokespecial 1, 3) := dk_183 0 1 (dk_at dksX10_init_0 1 rfl rfl)
theorem dX10_init_4 : decode cX10_init 4 = .ok (.aload_n 0, 1) := dk_42 (dk_at dksX10_init_0 4 rfl rfl)
theorem dX10_init_5 : decode cX10_init 5 = .ok (.iload_n 1, 1) := dk_27 (dk_at dksX10_init_0 5 rfl rfl)
theorem dX10_init_6 : decode cX10_init 6 = .ok (.putfield 7, 3) := dk_181 0 7 (dk_at dksX10_init_0 6 rfl rfl)
theorem dX10_init_9 : decode cX10_init 9 = .ok (.return_, 1) := dk_177 (dk_at dksX10_init_0 9 rfl rfl)
abbrev cX10_of : ByteArray := prog_12_method_2_code
def yX10_of : MethodName := ⟨RX10, "of", "(LBallotFruit$Asker;)I"⟩
def dkwX10_of_0 : List UInt8 := [43, 42, 180, 0, 7, 185, 0, 13, 2, 0, 172]
abbrev dktX10_of_0 : List UInt8 := dkwX10_of_0 ++ []
theorem dksX10_of_0 : cX10_of.data.toList.drop 0 = dktX10_of_0 := by decide +kernel
theorem dX10_of_0 : decode cX10_of 0 = .ok (.aload_n 1, 1) := dk_43 (dk_at dksX10_of_0 0 rfl rfl)
theorem dX10_of_1 : decode cX10_of 1 = .ok (.aload_n 0, 1) := dk_42 (dk_at dksX10_of_0 1 rfl rfl)
theorem dX10_of_2 : decode cX10_of 2 = .ok (.getfield 7, 3) := dk_180 0 7 (dk_at dksX10_of_0 2 rfl rfl)
theorem dX10_of_5 : decode cX10_of 5 = .ok (.invokeinterface 13 2, 5) := by decide +kernel
theorem dX10_of_10 : decode cX10_of 10 = .ok (.ireturn, 1) := dk_172 (dk_at dksX10_of_0 10 rfl rfl)
theorem q169 : (Jvm.Cond.initialized "BallotFruit$Known") ∈ lw_all := lw_g (lw_at lw_m1 22 rfl) rfl
theorem q742 : (Jvm.Cond.instantiable "BallotFruit$Known" (1 : Nat)) ∈ lw_all := lw_g (lw_at lw_m3 115 rfl) rfl
theorem q744 : (Jvm.Cond.instanceMethod ({ cls := "BallotFruit$Known", name := "<init>", desc := "(I)V" } : Jvm.MethodName)) ∈ lw_all := lw_g (lw_at lw_m3 117 rfl) rfl
theorem q745 : (Jvm.Cond.code ({ cls := "BallotFruit$Known", name := "<init>", desc := "(I)V" } : Jvm.MethodName) prog_12_method_1_code (2 : Nat) (Option.none : Option Jvm.ClassFile.FieldType)) ∈ lw_all := lw_g (lw_at lw_m3 118 rfl) rfl
theorem q746 : (Jvm.Cond.methodLinkNest "BallotFruit$Known" (1 : Nat) ({ cls := "BallotFruit$Term", name := "<init>", desc := "()V" } : Jvm.MethodName) "BallotFruit") ∈ lw_tbl := lw_at lw_m3 119 rfl
theorem q747 : (Jvm.Cond.fieldLink "BallotFruit$Known" (7 : Nat) "BallotFruit$Known" "what" "I") ∈ lw_all := lw_g (lw_at lw_m3 120 rfl) rfl
theorem q748 : (Jvm.Cond.laysFinal "BallotFruit$Known" "BallotFruit$Known" "what" "I") ∈ lw_all := lw_g (lw_at lw_m3 121 rfl) rfl
theorem q749 : (Jvm.Cond.soleField "BallotFruit$Known" "what") ∈ lw_all := lw_g (lw_at lw_m3 122 rfl) rfl
theorem q750 : (Jvm.Cond.superclass "BallotFruit$Known" "BallotFruit$Term") ∈ lw_all := lw_g (lw_at lw_m3 123 rfl) rfl
theorem q857 : (Jvm.Cond.selects "BallotFruit$Known" ({ cls := "java/lang/Object", name := "getClass", desc := "()Ljava/lang/Class;" } : Jvm.MethodName) ({ cls := "java/lang/Object", name := "getClass", desc := "()Ljava/lang/Class;" } : Jvm.MethodName)) ∈ lw_all := lw_g (lw_at lw_m3 230 rfl) rfl
theorem q1154 : (Jvm.Cond.instanceMethod ({ cls := "BallotFruit$Known", name := "of", desc := "(LBallotFruit$Asker;)I" } : Jvm.MethodName)) ∈ lw_all := lw_g (lw_at lw_m5 47 rfl) rfl
theorem q1155 : (Jvm.Cond.code ({ cls := "BallotFruit$Known", name := "of", desc := "(LBallotFruit$Asker;)I" } : Jvm.MethodName) prog_12_method_2_code (2 : Nat) (Option.some Jvm.ClassFile.FieldType.int)) ∈ lw_all := lw_g (lw_at lw_m5 48 rfl) rfl
theorem q1156 : (Jvm.Cond.interfaceEntry "BallotFruit$Known" (13 : Nat)) ∈ lw_tbl := lw_at lw_m5 49 rfl
theorem q1157 : (Jvm.Cond.methodLink "BallotFruit$Known" (13 : Nat) ({ cls := "BallotFruit$Asker", name := "fact", desc := "(I)I" } : Jvm.MethodName)) ∈ lw_all := lw_g (lw_at lw_m5 50 rfl) rfl
theorem q1169 : (Jvm.Cond.selects "BallotFruit$Known" ({ cls := "BallotFruit$Term", name := "of", desc := "(LBallotFruit$Asker;)I" } : Jvm.MethodName) ({ cls := "BallotFruit$Known", name := "of", desc := "(LBallotFruit$Asker;)I" } : Jvm.MethodName)) ∈ lw_all := lw_g (lw_at lw_m5 62 rfl) rfl
theorem q2073 : (Jvm.Cond.castable "BallotFruit$Known" "java/lang/Object") ∈ lw_tbl := lw_at lw_m9 6 rfl
theorem in_X10 : ∀ w ∈ wsX100, w ∈ lw_all := lw_in wsX100 [748] (by decide +kernel) (by decide +kernel)
end

section
/-! BallotFruit$Joined -/
set_option maxRecDepth 100000
def RX11 : String := "BallotFruit$Joined"
def TX11 : u_T := fun k => match k with
  | 0 => ("BallotFruit$Joined", "left", "LBallotFruit$Term;", true)
  | 1 => ("BallotFruit$Joined", "right", "LBallotFruit$Term;", true)
  | _ => ("BallotFruit$Joined", "how", "I", true)
def tyX11 : Nat → FieldType := fun k => match k with
  | 0 => .object "BallotFruit$Term"
  | 1 => .object "BallotFruit$Term"
  | _ => .int
abbrev wsX110 : List Cond := u_ws RX11 TX11 3
theorem nmX11 : ∀ a, a < 3 → ∀ b, b < 3 → a ≠ b → (TX11 a).2.1 ≠ (TX11 b).2.1 := by decide +kernel
theorem tyX11_ok : ∀ k, k < 3 → parseFieldDescriptor (TX11 k).2.2.1 = some (tyX11 k) := by decide +kernel
abbrev cX11_init : ByteArray := prog_11_method_1_code
def yX11_init : MethodName := ⟨RX11, "<init>", "(LBallotFruit$Term;ILBallotFruit$Term;)V"⟩
def dkwX11_init_0 : List UInt8 := [42, 183, 0, 3, 42, 43, 181, 0, 9, 42, 28, 181, 0, 15, 42, 45, 181, 0, 19, 177]
abbrev dktX11_init_0 : List UInt8 := dkwX11_init_0 ++ []
theorem dksX11_init_0 : cX11_init.data.toList.drop 0 = dktX11_init_0 := by decide +kernel
theorem dX11_init_0 : decode cX11_init 0 = .ok (.aload_n 0, 1) := dk_42 (dk_at dksX11_init_0 0 rfl rfl)
theorem dX11_init_1 : decode cX11_init 1 = .ok (.invokespecial 3, 3) := dk_183 0 3 (dk_at dksX11_init_0 1 rfl rfl)
theorem dX11_init_4 : decode cX11_init 4 = .ok (.aload_n 0, 1) := dk_42 (dk_at dksX11_init_0 4 rfl rfl)
theorem dX11_init_5 : decode cX11_init 5 = .ok (.aload_n 1, 1) := dk_43 (dk_at dksX11_init_0 5 rfl rfl)
theorem dX11_init_6 : decode cX11_init 6 = .ok (.putfield 9, 3) := dk_181 0 9 (dk_at dksX11_init_0 6 rfl rfl)
theorem dX11_init_9 : decode cX11_init 9 = .ok (.aload_n 0, 1) := dk_42 (dk_at dksX11_init_0 9 rfl rfl)
theorem dX11_init_10 : decode cX11_init 10 = .ok (.iload_n 2, 1) := dk_28 (dk_at dksX11_init_0 10 rfl rfl)
theorem dX11_init_11 : decode cX11_init 11 = .ok (.putfield 15, 3) := dk_181 0 15 (dk_at dksX11_init_0 11 rfl rfl)
theorem dX11_init_14 : decode cX11_init 14 = .ok (.aload_n 0, 1) := dk_42 (dk_at dksX11_init_0 14 rfl rfl)
theorem dX11_init_15 : decode cX11_init 15 = .ok (.aload_n 3, 1) := dk_45 (dk_at dksX11_init_0 15 rfl rfl)
theorem dX11_init_16 : decode cX11_init 16 = .ok (.putfield 19, 3) := dk_181 0 19 (dk_at dksX11_init_0 16 rfl rfl)
theorem dX11_init_19 : decode cX11_init 19 = .ok (.return_, 1) := dk_177 (dk_at dksX11_init_0 19 rfl rfl)
abbrev cX11_of : ByteArray := prog_11_method_2_code
def yX11_of : MethodName := ⟨RX11, "of", "(LBallotFruit$Asker;)I"⟩
def dkwX11_of_4 : List UInt8 := [167, 0, 4, 3, 172, 28, 29, 126, 172, 28, 29, 128, 172]
abbrev dktX11_of_4 : List UInt8 := dkwX11_of_4 ++ []
def dkwX11_of_3 : List UInt8 := [167, 0, 4, 3, 172, 28, 29, 160, 0, 7, 4, 167, 0, 4, 3, 172, 28, 29, 164, 0, 7, 4]
abbrev dktX11_of_3 : List UInt8 := dkwX11_of_3 ++ dktX11_of_4
def dkwX11_of_2 : List UInt8 := [28, 29, 96, 172, 28, 29, 100, 172, 28, 29, 104, 172, 28, 29, 108, 172, 28, 29, 162, 0, 7, 4]
abbrev dktX11_of_2 : List UInt8 := dkwX11_of_2 ++ dktX11_of_3
def dkwX11_of_1 : List UInt8 := [171, 0, 0, 0, 0, 127, 0, 0, 0, 8, 0, 0, 0, 5, 0, 0, 0, 123, 0, 0, 0, 42, 0, 0, 0, 82, 0, 0, 0, 43, 0, 0, 0, 74, 0, 0, 0, 45, 0, 0, 0, 78, 0, 0, 0, 47, 0, 0, 0, 86, 0, 0, 0, 60, 0, 0, 0, 90, 0, 0, 0, 61, 0, 0, 0, 101, 0, 0, 0, 62, 0, 0, 0, 112]
abbrev dktX11_of_1 : List UInt8 := dkwX11_of_1 ++ dktX11_of_2
def dkwX11_of_0 : List UInt8 := [42, 180, 0, 9, 43, 182, 0, 22, 61, 42, 180, 0, 19, 43, 182, 0, 22, 62, 42, 180, 0, 15]
abbrev dktX11_of_0 : List UInt8 := dkwX11_of_0 ++ dktX11_of_1
theorem dksX11_of_0 : cX11_of.data.toList.drop 0 = dktX11_of_0 := by decide +kernel
theorem dksX11_of_1 : cX11_of.data.toList.drop 22 = dktX11_of_1 := dk_seg dksX11_of_0 22 rfl rfl
theorem dksX11_of_2 : cX11_of.data.toList.drop 96 = dktX11_of_2 := dk_seg dksX11_of_1 74 rfl rfl
theorem dksX11_of_3 : cX11_of.data.toList.drop 118 = dktX11_of_3 := dk_seg dksX11_of_2 22 rfl rfl
theorem dksX11_of_4 : cX11_of.data.toList.drop 140 = dktX11_of_4 := dk_seg dksX11_of_3 22 rfl rfl
theorem dX11_of_0 : decode cX11_of 0 = .ok (.aload_n 0, 1) := dk_42 (dk_at dksX11_of_0 0 rfl rfl)
theorem dX11_of_1 : decode cX11_of 1 = .ok (.getfield 9, 3) := dk_180 0 9 (dk_at dksX11_of_0 1 rfl rfl)
theorem dX11_of_4 : decode cX11_of 4 = .ok (.aload_n 1, 1) := dk_43 (dk_at dksX11_of_0 4 rfl rfl)
theorem dX11_of_5 : decode cX11_of 5 = .ok (.invokevirtual 22, 3) := dk_182 0 22 (dk_at dksX11_of_0 5 rfl rfl)
theorem dX11_of_8 : decode cX11_of 8 = .ok (.istore_n 2, 1) := dk_61 (dk_at dksX11_of_0 8 rfl rfl)
theorem dX11_of_9 : decode cX11_of 9 = .ok (.aload_n 0, 1) := dk_42 (dk_at dksX11_of_0 9 rfl rfl)
theorem dX11_of_10 : decode cX11_of 10 = .ok (.getfield 19, 3) := dk_180 0 19 (dk_at dksX11_of_0 10 rfl rfl)
theorem dX11_of_13 : decode cX11_of 13 = .ok (.aload_n 1, 1) := dk_43 (dk_at dksX11_of_0 13 rfl rfl)
theorem dX11_of_14 : decode cX11_of 14 = .ok (.invokevirtual 22, 3) := dk_182 0 22 (dk_at dksX11_of_0 14 rfl rfl)
theorem dX11_of_17 : decode cX11_of 17 = .ok (.istore_n 3, 1) := dk_62 (dk_at dksX11_of_0 17 rfl rfl)
theorem dX11_of_18 : decode cX11_of 18 = .ok (.aload_n 0, 1) := dk_42 (dk_at dksX11_of_0 18 rfl rfl)
theorem dX11_of_19 : decode cX11_of 19 = .ok (.getfield 15, 3) := dk_180 0 15 (dk_at dksX11_of_0 19 rfl rfl)
theorem dX11_of_22 : decode cX11_of 22 = .ok (.lookupswitch 127 #[(5, 123), (42, 82), (43, 74), (45, 78), (47, 86), (60, 90), (61, 101), (62, 112)], 74) := by decide +kernel
theorem dX11_of_96 : decode cX11_of 96 = .ok (.iload_n 2, 1) := dk_28 (dk_at dksX11_of_2 0 rfl rfl)
theorem dX11_of_97 : decode cX11_of 97 = .ok (.iload_n 3, 1) := dk_29 (dk_at dksX11_of_2 1 rfl rfl)
theorem dX11_of_98 : decode cX11_of 98 = .ok (.iadd, 1) := dk_96 (dk_at dksX11_of_2 2 rfl rfl)
theorem dX11_of_99 : decode cX11_of 99 = .ok (.ireturn, 1) := dk_172 (dk_at dksX11_of_2 3 rfl rfl)
theorem dX11_of_100 : decode cX11_of 100 = .ok (.iload_n 2, 1) := dk_28 (dk_at dksX11_of_2 4 rfl rfl)
theorem dX11_of_101 : decode cX11_of 101 = .ok (.iload_n 3, 1) := dk_29 (dk_at dksX11_of_2 5 rfl rfl)
theorem dX11_of_102 : decode cX11_of 102 = .ok (.isub, 1) := dk_100 (dk_at dksX11_of_2 6 rfl rfl)
theorem dX11_of_103 : decode cX11_of 103 = .ok (.ireturn, 1) := dk_172 (dk_at dksX11_of_2 7 rfl rfl)
theorem dX11_of_104 : decode cX11_of 104 = .ok (.iload_n 2, 1) := dk_28 (dk_at dksX11_of_2 8 rfl rfl)
theorem dX11_of_105 : decode cX11_of 105 = .ok (.iload_n 3, 1) := dk_29 (dk_at dksX11_of_2 9 rfl rfl)
theorem dX11_of_106 : decode cX11_of 106 = .ok (.imul, 1) := dk_104 (dk_at dksX11_of_2 10 rfl rfl)
theorem dX11_of_107 : decode cX11_of 107 = .ok (.ireturn, 1) := dk_172 (dk_at dksX11_of_2 11 rfl rfl)
theorem dX11_of_108 : decode cX11_of 108 = .ok (.iload_n 2, 1) := dk_28 (dk_at dksX11_of_2 12 rfl rfl)
theorem dX11_of_109 : decode cX11_of 109 = .ok (.iload_n 3, 1) := dk_29 (dk_at dksX11_of_2 13 rfl rfl)
theorem dX11_of_110 : decode cX11_of 110 = .ok (.idiv, 1) := dk_108 (dk_at dksX11_of_2 14 rfl rfl)
theorem dX11_of_111 : decode cX11_of 111 = .ok (.ireturn, 1) := dk_172 (dk_at dksX11_of_2 15 rfl rfl)
theorem dX11_of_112 : decode cX11_of 112 = .ok (.iload_n 2, 1) := dk_28 (dk_at dksX11_of_2 16 rfl rfl)
theorem dX11_of_113 : decode cX11_of 113 = .ok (.iload_n 3, 1) := dk_29 (dk_at dksX11_of_2 17 rfl rfl)
theorem dX11_of_114 : decode cX11_of 114 = .ok (.if_icmp .ge 7, 3) := dk_162 0 7 (dk_at dksX11_of_2 18 rfl rfl)
theorem dX11_of_117 : decode cX11_of 117 = .ok (.iconst 1, 1) := dk_4 (dk_at dksX11_of_2 21 rfl rfl)
theorem dX11_of_118 : decode cX11_of 118 = .ok (.goto 4, 3) := dk_167 0 4 (dk_at dksX11_of_3 0 rfl rfl)
theorem dX11_of_121 : decode cX11_of 121 = .ok (.iconst 0, 1) := dk_3 (dk_at dksX11_of_3 3 rfl rfl)
theorem dX11_of_122 : decode cX11_of 122 = .ok (.ireturn, 1) := dk_172 (dk_at dksX11_of_3 4 rfl rfl)
theorem dX11_of_123 : decode cX11_of 123 = .ok (.iload_n 2, 1) := dk_28 (dk_at dksX11_of_3 5 rfl rfl)
theorem dX11_of_124 : decode cX11_of 124 = .ok (.iload_n 3, 1) := dk_29 (dk_at dksX11_of_3 6 rfl rfl)
theorem dX11_of_125 : decode cX11_of 125 = .ok (.if_icmp .ne 7, 3) := dk_160 0 7 (dk_at dksX11_of_3 7 rfl rfl)
theorem dX11_of_128 : decode cX11_of 128 = .ok (.iconst 1, 1) := dk_4 (dk_at dksX11_of_3 10 rfl rfl)
theorem dX11_of_129 : decode cX11_of 129 = .ok (.goto 4, 3) := dk_167 0 4 (dk_at dksX11_of_3 11 rfl rfl)
theorem dX11_of_132 : decode cX11_of 132 = .ok (.iconst 0, 1) := dk_3 (dk_at dksX11_of_3 14 rfl rfl)
theorem dX11_of_133 : decode cX11_of 133 = .ok (.ireturn, 1) := dk_172 (dk_at dksX11_of_3 15 rfl rfl)
theorem dX11_of_134 : decode cX11_of 134 = .ok (.iload_n 2, 1) := dk_28 (dk_at dksX11_of_3 16 rfl rfl)
theorem dX11_of_135 : decode cX11_of 135 = .ok (.iload_n 3, 1) := dk_29 (dk_at dksX11_of_3 17 rfl rfl)
theorem dX11_of_136 : decode cX11_of 136 = .ok (.if_icmp .le 7, 3) := dk_164 0 7 (dk_at dksX11_of_3 18 rfl rfl)
theorem dX11_of_139 : decode cX11_of 139 = .ok (.iconst 1, 1) := dk_4 (dk_at dksX11_of_3 21 rfl rfl)
theorem dX11_of_140 : decode cX11_of 140 = .ok (.goto 4, 3) := dk_167 0 4 (dk_at dksX11_of_4 0 rfl rfl)
theorem dX11_of_143 : decode cX11_of 143 = .ok (.iconst 0, 1) := dk_3 (dk_at dksX11_of_4 3 rfl rfl)
theorem dX11_of_144 : decode cX11_of 144 = .ok (.ireturn, 1) := dk_172 (dk_at dksX11_of_4 4 rfl rfl)
theorem dX11_of_145 : decode cX11_of 145 = .ok (.iload_n 2, 1) := dk_28 (dk_at dksX11_of_4 5 rfl rfl)
theorem dX11_of_146 : decode cX11_of 146 = .ok (.iload_n 3, 1) := dk_29 (dk_at dksX11_of_4 6 rfl rfl)
theorem dX11_of_147 : decode cX11_of 147 = .ok (.iand, 1) := dk_126 (dk_at dksX11_of_4 7 rfl rfl)
theorem dX11_of_148 : decode cX11_of 148 = .ok (.ireturn, 1) := dk_172 (dk_at dksX11_of_4 8 rfl rfl)
theorem dX11_of_149 : decode cX11_of 149 = .ok (.iload_n 2, 1) := dk_28 (dk_at dksX11_of_4 9 rfl rfl)
theorem dX11_of_150 : decode cX11_of 150 = .ok (.iload_n 3, 1) := dk_29 (dk_at dksX11_of_4 10 rfl rfl)
theorem dX11_of_151 : decode cX11_of 151 = .ok (.ior, 1) := dk_128 (dk_at dksX11_of_4 11 rfl rfl)
theorem dX11_of_152 : decode cX11_of 152 = .ok (.ireturn, 1) := dk_172 (dk_at dksX11_of_4 12 rfl rfl)
theorem q170 : (Jvm.Cond.initialized "BallotFruit$Joined") ∈ lw_all := lw_g (lw_at lw_m1 23 rfl) rfl
theorem q752 : (Jvm.Cond.instantiable "BallotFruit$Joined" (3 : Nat)) ∈ lw_all := lw_g (lw_at lw_m3 125 rfl) rfl
theorem q754 : (Jvm.Cond.instanceMethod ({ cls := "BallotFruit$Joined", name := "<init>", desc := "(LBallotFruit$Term;ILBallotFruit$Term;)V" } : Jvm.MethodName)) ∈ lw_all := lw_g (lw_at lw_m3 127 rfl) rfl
theorem q755 : (Jvm.Cond.code ({ cls := "BallotFruit$Joined", name := "<init>", desc := "(LBallotFruit$Term;ILBallotFruit$Term;)V" } : Jvm.MethodName) prog_11_method_1_code (4 : Nat) (Option.none : Option Jvm.ClassFile.FieldType)) ∈ lw_all := lw_g (lw_at lw_m3 128 rfl) rfl
theorem q756 : (Jvm.Cond.methodLinkNest "BallotFruit$Joined" (3 : Nat) ({ cls := "BallotFruit$Term", name := "<init>", desc := "()V" } : Jvm.MethodName) "BallotFruit") ∈ lw_tbl := lw_at lw_m3 129 rfl
theorem q757 : (Jvm.Cond.fieldLink "BallotFruit$Joined" (9 : Nat) "BallotFruit$Joined" "left" "LBallotFruit$Term;") ∈ lw_all := lw_g (lw_at lw_m3 130 rfl) rfl
theorem q758 : (Jvm.Cond.fieldLink "BallotFruit$Joined" (19 : Nat) "BallotFruit$Joined" "right" "LBallotFruit$Term;") ∈ lw_all := lw_g (lw_at lw_m3 131 rfl) rfl
theorem q759 : (Jvm.Cond.fieldLink "BallotFruit$Joined" (15 : Nat) "BallotFruit$Joined" "how" "I") ∈ lw_all := lw_g (lw_at lw_m3 132 rfl) rfl
theorem q760 : (Jvm.Cond.laysFinal "BallotFruit$Joined" "BallotFruit$Joined" "left" "LBallotFruit$Term;") ∈ lw_all := lw_g (lw_at lw_m3 133 rfl) rfl
theorem q761 : (Jvm.Cond.soleField "BallotFruit$Joined" "left") ∈ lw_all := lw_g (lw_at lw_m3 134 rfl) rfl
theorem q762 : (Jvm.Cond.laysFinal "BallotFruit$Joined" "BallotFruit$Joined" "right" "LBallotFruit$Term;") ∈ lw_all := lw_g (lw_at lw_m3 135 rfl) rfl
theorem q763 : (Jvm.Cond.soleField "BallotFruit$Joined" "right") ∈ lw_all := lw_g (lw_at lw_m3 136 rfl) rfl
theorem q764 : (Jvm.Cond.laysFinal "BallotFruit$Joined" "BallotFruit$Joined" "how" "I") ∈ lw_all := lw_g (lw_at lw_m3 137 rfl) rfl
theorem q765 : (Jvm.Cond.soleField "BallotFruit$Joined" "how") ∈ lw_all := lw_g (lw_at lw_m3 138 rfl) rfl
theorem q766 : (Jvm.Cond.superclass "BallotFruit$Joined" "BallotFruit$Term") ∈ lw_all := lw_g (lw_at lw_m3 139 rfl) rfl
theorem q856 : (Jvm.Cond.selects "BallotFruit$Joined" ({ cls := "java/lang/Object", name := "getClass", desc := "()Ljava/lang/Class;" } : Jvm.MethodName) ({ cls := "java/lang/Object", name := "getClass", desc := "()Ljava/lang/Class;" } : Jvm.MethodName)) ∈ lw_all := lw_g (lw_at lw_m3 229 rfl) rfl
theorem q1150 : (Jvm.Cond.selects "BallotFruit$Joined" ({ cls := "BallotFruit$Term", name := "of", desc := "(LBallotFruit$Asker;)I" } : Jvm.MethodName) ({ cls := "BallotFruit$Joined", name := "of", desc := "(LBallotFruit$Asker;)I" } : Jvm.MethodName)) ∈ lw_all := lw_g (lw_at lw_m5 43 rfl) rfl
theorem q1151 : (Jvm.Cond.instanceMethod ({ cls := "BallotFruit$Joined", name := "of", desc := "(LBallotFruit$Asker;)I" } : Jvm.MethodName)) ∈ lw_all := lw_g (lw_at lw_m5 44 rfl) rfl
theorem q1152 : (Jvm.Cond.code ({ cls := "BallotFruit$Joined", name := "of", desc := "(LBallotFruit$Asker;)I" } : Jvm.MethodName) prog_11_method_2_code (4 : Nat) (Option.some Jvm.ClassFile.FieldType.int)) ∈ lw_all := lw_g (lw_at lw_m5 45 rfl) rfl
theorem q1153 : (Jvm.Cond.methodLink "BallotFruit$Joined" (22 : Nat) ({ cls := "BallotFruit$Term", name := "of", desc := "(LBallotFruit$Asker;)I" } : Jvm.MethodName)) ∈ lw_all := lw_g (lw_at lw_m5 46 rfl) rfl
theorem q2074 : (Jvm.Cond.castable "BallotFruit$Joined" "java/lang/Object") ∈ lw_tbl := lw_at lw_m9 7 rfl
theorem in_X11 : ∀ w ∈ wsX110, w ∈ lw_all := lw_in wsX110 [760, 762, 764] (by decide +kernel) (by decide +kernel)
end

section
/-! BallotFruit$Not -/
set_option maxRecDepth 100000
def RX12 : String := "BallotFruit$Not"
def TX12 : u_T := fun k => match k with
  | _ => ("BallotFruit$Not", "term", "LBallotFruit$Term;", true)
def tyX12 : Nat → FieldType := fun k => match k with
  | _ => .object "BallotFruit$Term"
abbrev wsX120 : List Cond := u_ws RX12 TX12 1
theorem nmX12 : ∀ a, a < 1 → ∀ b, b < 1 → a ≠ b → (TX12 a).2.1 ≠ (TX12 b).2.1 := by decide +kernel
theorem tyX12_ok : ∀ k, k < 1 → parseFieldDescriptor (TX12 k).2.2.1 = some (tyX12 k) := by decide +kernel
abbrev cX12_init : ByteArray := prog_14_method_1_code
def yX12_init : MethodName := ⟨RX12, "<init>", "(LBallotFruit$Term;)V"⟩
def dkwX12_init_0 : List UInt8 := [42, 183, 0, 1, 42, 43, 181, 0, 7, 177]
abbrev dktX12_init_0 : List UInt8 := dkwX12_init_0 ++ []
theorem dksX12_init_0 : cX12_init.data.toList.drop 0 = dktX12_init_0 := by decide +kernel
theorem dX12_init_0 : decode cX12_init 0 = .ok (.aload_n 0, 1) := dk_42 (dk_at dksX12_init_0 0 rfl rfl)
theorem dX12_init_1 : decode cX12_init 1 = .ok (.invokespecial 1, 3) := dk_183 0 1 (dk_at dksX12_init_0 1 rfl rfl)
theorem dX12_init_4 : decode cX12_init 4 = .ok (.aload_n 0, 1) := dk_42 (dk_at dksX12_init_0 4 rfl rfl)
theorem dX12_init_5 : decode cX12_init 5 = .ok (.aload_n 1, 1) := dk_43 (dk_at dksX12_init_0 5 rfl rfl)
theorem dX12_init_6 : decode cX12_init 6 = .ok (.putfield 7, 3) := dk_181 0 7 (dk_at dksX12_init_0 6 rfl rfl)
theorem dX12_init_9 : decode cX12_init 9 = .ok (.return_, 1) := dk_177 (dk_at dksX12_init_0 9 rfl rfl)
abbrev cX12_of : ByteArray := prog_14_method_2_code
def yX12_of : MethodName := ⟨RX12, "of", "(LBallotFruit$Asker;)I"⟩
def dkwX12_of_0 : List UInt8 := [4, 42, 180, 0, 7, 43, 182, 0, 13, 100, 172]
abbrev dktX12_of_0 : List UInt8 := dkwX12_of_0 ++ []
theorem dksX12_of_0 : cX12_of.data.toList.drop 0 = dktX12_of_0 := by decide +kernel
theorem dX12_of_0 : decode cX12_of 0 = .ok (.iconst 1, 1) := dk_4 (dk_at dksX12_of_0 0 rfl rfl)
theorem dX12_of_1 : decode cX12_of 1 = .ok (.aload_n 0, 1) := dk_42 (dk_at dksX12_of_0 1 rfl rfl)
theorem dX12_of_2 : decode cX12_of 2 = .ok (.getfield 7, 3) := dk_180 0 7 (dk_at dksX12_of_0 2 rfl rfl)
theorem dX12_of_5 : decode cX12_of 5 = .ok (.aload_n 1, 1) := dk_43 (dk_at dksX12_of_0 5 rfl rfl)
theorem dX12_of_6 : decode cX12_of 6 = .ok (.invokevirtual 13, 3) := dk_182 0 13 (dk_at dksX12_of_0 6 rfl rfl)
theorem dX12_of_9 : decode cX12_of 9 = .ok (.isub, 1) := dk_100 (dk_at dksX12_of_0 9 rfl rfl)
theorem dX12_of_10 : decode cX12_of 10 = .ok (.ireturn, 1) := dk_172 (dk_at dksX12_of_0 10 rfl rfl)
theorem q171 : (Jvm.Cond.initialized "BallotFruit$Not") ∈ lw_all := lw_g (lw_at lw_m1 24 rfl) rfl
theorem q784 : (Jvm.Cond.instantiable "BallotFruit$Not" (1 : Nat)) ∈ lw_all := lw_g (lw_at lw_m3 157 rfl) rfl
theorem q786 : (Jvm.Cond.instanceMethod ({ cls := "BallotFruit$Not", name := "<init>", desc := "(LBallotFruit$Term;)V" } : Jvm.MethodName)) ∈ lw_all := lw_g (lw_at lw_m3 159 rfl) rfl
theorem q787 : (Jvm.Cond.code ({ cls := "BallotFruit$Not", name := "<init>", desc := "(LBallotFruit$Term;)V" } : Jvm.MethodName) prog_14_method_1_code (2 : Nat) (Option.none : Option Jvm.ClassFile.FieldType)) ∈ lw_all := lw_g (lw_at lw_m3 160 rfl) rfl
theorem q788 : (Jvm.Cond.methodLinkNest "BallotFruit$Not" (1 : Nat) ({ cls := "BallotFruit$Term", name := "<init>", desc := "()V" } : Jvm.MethodName) "BallotFruit") ∈ lw_tbl := lw_at lw_m3 161 rfl
theorem q789 : (Jvm.Cond.fieldLink "BallotFruit$Not" (7 : Nat) "BallotFruit$Not" "term" "LBallotFruit$Term;") ∈ lw_all := lw_g (lw_at lw_m3 162 rfl) rfl
theorem q790 : (Jvm.Cond.laysFinal "BallotFruit$Not" "BallotFruit$Not" "term" "LBallotFruit$Term;") ∈ lw_all := lw_g (lw_at lw_m3 163 rfl) rfl
theorem q791 : (Jvm.Cond.soleField "BallotFruit$Not" "term") ∈ lw_all := lw_g (lw_at lw_m3 164 rfl) rfl
theorem q792 : (Jvm.Cond.superclass "BallotFruit$Not" "BallotFruit$Term") ∈ lw_all := lw_g (lw_at lw_m3 165 rfl) rfl
theorem q859 : (Jvm.Cond.selects "BallotFruit$Not" ({ cls := "java/lang/Object", name := "getClass", desc := "()Ljava/lang/Class;" } : Jvm.MethodName) ({ cls := "java/lang/Object", name := "getClass", desc := "()Ljava/lang/Class;" } : Jvm.MethodName)) ∈ lw_all := lw_g (lw_at lw_m3 232 rfl) rfl
theorem q1166 : (Jvm.Cond.instanceMethod ({ cls := "BallotFruit$Not", name := "of", desc := "(LBallotFruit$Asker;)I" } : Jvm.MethodName)) ∈ lw_all := lw_g (lw_at lw_m5 59 rfl) rfl
theorem q1167 : (Jvm.Cond.code ({ cls := "BallotFruit$Not", name := "of", desc := "(LBallotFruit$Asker;)I" } : Jvm.MethodName) prog_14_method_2_code (2 : Nat) (Option.some Jvm.ClassFile.FieldType.int)) ∈ lw_all := lw_g (lw_at lw_m5 60 rfl) rfl
theorem q1168 : (Jvm.Cond.methodLink "BallotFruit$Not" (13 : Nat) ({ cls := "BallotFruit$Term", name := "of", desc := "(LBallotFruit$Asker;)I" } : Jvm.MethodName)) ∈ lw_all := lw_g (lw_at lw_m5 61 rfl) rfl
theorem q1170 : (Jvm.Cond.selects "BallotFruit$Not" ({ cls := "BallotFruit$Term", name := "of", desc := "(LBallotFruit$Asker;)I" } : Jvm.MethodName) ({ cls := "BallotFruit$Not", name := "of", desc := "(LBallotFruit$Asker;)I" } : Jvm.MethodName)) ∈ lw_all := lw_g (lw_at lw_m5 63 rfl) rfl
theorem q2075 : (Jvm.Cond.castable "BallotFruit$Not" "java/lang/Object") ∈ lw_tbl := lw_at lw_m9 8 rfl
theorem in_X12 : ∀ w ∈ wsX120, w ∈ lw_all := lw_in wsX120 [790] (by decide +kernel) (by decide +kernel)
end

section
/-! BallotFruit$Line -/
set_option maxRecDepth 100000
def RX13 : String := "BallotFruit$Line"
def TX13 : u_T := fun k => match k with
  | 0 => ("BallotFruit$Line", "word", "I", true)
  | 1 => ("BallotFruit$Line", "comesTo", "LBallotFruit$Term;", true)
  | _ => ("BallotFruit$Line", "when", "LBallotFruit$Term;", true)
def tyX13 : Nat → FieldType := fun k => match k with
  | 0 => .int
  | 1 => .object "BallotFruit$Term"
  | _ => .object "BallotFruit$Term"
abbrev wsX130 : List Cond := u_ws RX13 TX13 3
theorem nmX13 : ∀ a, a < 3 → ∀ b, b < 3 → a ≠ b → (TX13 a).2.1 ≠ (TX13 b).2.1 := by decide +kernel
theorem tyX13_ok : ∀ k, k < 3 → parseFieldDescriptor (TX13 k).2.2.1 = some (tyX13 k) := by decide +kernel
abbrev cX13_init : ByteArray := prog_13_method_1_code
def yX13_init : MethodName := ⟨RX13, "<init>", "(ILBallotFruit$Term;LBallotFruit$Term;)V"⟩
def dkwX13_init_0 : List UInt8 := [42, 183, 0, 1, 42, 27, 181, 0, 7, 42, 44, 181, 0, 13, 42, 45, 181, 0, 17, 177]
abbrev dktX13_init_0 : List UInt8 := dkwX13_init_0 ++ []
theorem dksX13_init_0 : cX13_init.data.toList.drop 0 = dktX13_init_0 := by decide +kernel
theorem dX13_init_0 : decode cX13_init 0 = .ok (.aload_n 0, 1) := dk_42 (dk_at dksX13_init_0 0 rfl rfl)
theorem dX13_init_1 : decode cX13_init 1 = .ok (.invokespecial 1, 3) := dk_183 0 1 (dk_at dksX13_init_0 1 rfl rfl)
theorem dX13_init_4 : decode cX13_init 4 = .ok (.aload_n 0, 1) := dk_42 (dk_at dksX13_init_0 4 rfl rfl)
theorem dX13_init_5 : decode cX13_init 5 = .ok (.iload_n 1, 1) := dk_27 (dk_at dksX13_init_0 5 rfl rfl)
theorem dX13_init_6 : decode cX13_init 6 = .ok (.putfield 7, 3) := dk_181 0 7 (dk_at dksX13_init_0 6 rfl rfl)
theorem dX13_init_9 : decode cX13_init 9 = .ok (.aload_n 0, 1) := dk_42 (dk_at dksX13_init_0 9 rfl rfl)
theorem dX13_init_10 : decode cX13_init 10 = .ok (.aload_n 2, 1) := dk_44 (dk_at dksX13_init_0 10 rfl rfl)
theorem dX13_init_11 : decode cX13_init 11 = .ok (.putfield 13, 3) := dk_181 0 13 (dk_at dksX13_init_0 11 rfl rfl)
theorem dX13_init_14 : decode cX13_init 14 = .ok (.aload_n 0, 1) := dk_42 (dk_at dksX13_init_0 14 rfl rfl)
theorem dX13_init_15 : decode cX13_init 15 = .ok (.aload_n 3, 1) := dk_45 (dk_at dksX13_init_0 15 rfl rfl)
theorem dX13_init_16 : decode cX13_init 16 = .ok (.putfield 17, 3) := dk_181 0 17 (dk_at dksX13_init_0 16 rfl rfl)
theorem dX13_init_19 : decode cX13_init 19 = .ok (.return_, 1) := dk_177 (dk_at dksX13_init_0 19 rfl rfl)
theorem q172 : (Jvm.Cond.initialized "BallotFruit$Line") ∈ lw_all := lw_g (lw_at lw_m1 25 rfl) rfl
theorem q798 : (Jvm.Cond.instantiable "BallotFruit$Line" (3 : Nat)) ∈ lw_all := lw_g (lw_at lw_m3 171 rfl) rfl
theorem q800 : (Jvm.Cond.instanceMethod ({ cls := "BallotFruit$Line", name := "<init>", desc := "(ILBallotFruit$Term;LBallotFruit$Term;)V" } : Jvm.MethodName)) ∈ lw_all := lw_g (lw_at lw_m3 173 rfl) rfl
theorem q801 : (Jvm.Cond.code ({ cls := "BallotFruit$Line", name := "<init>", desc := "(ILBallotFruit$Term;LBallotFruit$Term;)V" } : Jvm.MethodName) prog_13_method_1_code (4 : Nat) (Option.none : Option Jvm.ClassFile.FieldType)) ∈ lw_all := lw_g (lw_at lw_m3 174 rfl) rfl
theorem q802 : (Jvm.Cond.methodLink "BallotFruit$Line" (1 : Nat) ({ cls := "java/lang/Object", name := "<init>", desc := "()V" } : Jvm.MethodName)) ∈ lw_all := lw_g (lw_at lw_m3 175 rfl) rfl
theorem q803 : (Jvm.Cond.fieldLink "BallotFruit$Line" (7 : Nat) "BallotFruit$Line" "word" "I") ∈ lw_all := lw_g (lw_at lw_m3 176 rfl) rfl
theorem q805 : (Jvm.Cond.fieldLink "BallotFruit$Line" (13 : Nat) "BallotFruit$Line" "comesTo" "LBallotFruit$Term;") ∈ lw_all := lw_g (lw_at lw_m3 178 rfl) rfl
theorem q807 : (Jvm.Cond.fieldLink "BallotFruit$Line" (17 : Nat) "BallotFruit$Line" "when" "LBallotFruit$Term;") ∈ lw_all := lw_g (lw_at lw_m3 180 rfl) rfl
theorem q809 : (Jvm.Cond.laysFinal "BallotFruit$Line" "BallotFruit$Line" "word" "I") ∈ lw_all := lw_g (lw_at lw_m3 182 rfl) rfl
theorem q810 : (Jvm.Cond.soleField "BallotFruit$Line" "word") ∈ lw_all := lw_g (lw_at lw_m3 183 rfl) rfl
theorem q811 : (Jvm.Cond.laysFinal "BallotFruit$Line" "BallotFruit$Line" "comesTo" "LBallotFruit$Term;") ∈ lw_all := lw_g (lw_at lw_m3 184 rfl) rfl
theorem q812 : (Jvm.Cond.soleField "BallotFruit$Line" "comesTo") ∈ lw_all := lw_g (lw_at lw_m3 185 rfl) rfl
theorem q813 : (Jvm.Cond.laysFinal "BallotFruit$Line" "BallotFruit$Line" "when" "LBallotFruit$Term;") ∈ lw_all := lw_g (lw_at lw_m3 186 rfl) rfl
theorem q814 : (Jvm.Cond.soleField "BallotFruit$Line" "when") ∈ lw_all := lw_g (lw_at lw_m3 187 rfl) rfl
theorem q815 : (Jvm.Cond.superclass "BallotFruit$Line" "java/lang/Object") ∈ lw_all := lw_g (lw_at lw_m3 188 rfl) rfl
theorem q858 : (Jvm.Cond.selects "BallotFruit$Line" ({ cls := "java/lang/Object", name := "getClass", desc := "()Ljava/lang/Class;" } : Jvm.MethodName) ({ cls := "java/lang/Object", name := "getClass", desc := "()Ljava/lang/Class;" } : Jvm.MethodName)) ∈ lw_all := lw_g (lw_at lw_m3 231 rfl) rfl
theorem q2076 : (Jvm.Cond.castable "BallotFruit$Line" "java/lang/Object") ∈ lw_tbl := lw_at lw_m9 9 rfl
theorem in_X13 : ∀ w ∈ wsX130, w ∈ lw_all := lw_in wsX130 [809, 811, 813] (by decide +kernel) (by decide +kernel)
end

section
/-! BallotFruit$Path -/
set_option maxRecDepth 100000
def RX14 : String := "BallotFruit$Path"
def TX14 : u_T := fun k => match k with
  | _ => ("BallotFruit$Path", "place", "[I", true)
def tyX14 : Nat → FieldType := fun k => match k with
  | _ => .array .int
abbrev wsX140 : List Cond := u_ws RX14 TX14 1
theorem nmX14 : ∀ a, a < 1 → ∀ b, b < 1 → a ≠ b → (TX14 a).2.1 ≠ (TX14 b).2.1 := by decide +kernel
theorem tyX14_ok : ∀ k, k < 1 → parseFieldDescriptor (TX14 k).2.2.1 = some (tyX14 k) := by decide +kernel
abbrev cX14_init : ByteArray := prog_16_method_1_code
def yX14_init : MethodName := ⟨RX14, "<init>", "([II)V"⟩
def dkwX14_init_1 : List UInt8 := [29, 46, 79, 132, 3, 1, 167, 255, 239, 177]
abbrev dktX14_init_1 : List UInt8 := dkwX14_init_1 ++ []
def dkwX14_init_0 : List UInt8 := [42, 183, 0, 1, 42, 28, 188, 10, 181, 0, 7, 3, 62, 29, 28, 162, 0, 18, 42, 180, 0, 7, 29, 43]
abbrev dktX14_init_0 : List UInt8 := dkwX14_init_0 ++ dktX14_init_1
theorem dksX14_init_0 : cX14_init.data.toList.drop 0 = dktX14_init_0 := by decide +kernel
theorem dksX14_init_1 : cX14_init.data.toList.drop 24 = dktX14_init_1 := dk_seg dksX14_init_0 24 rfl rfl
theorem dX14_init_0 : decode cX14_init 0 = .ok (.aload_n 0, 1) := dk_42 (dk_at dksX14_init_0 0 rfl rfl)
theorem dX14_init_1 : decode cX14_init 1 = .ok (.invokespecial 1, 3) := dk_183 0 1 (dk_at dksX14_init_0 1 rfl rfl)
theorem dX14_init_4 : decode cX14_init 4 = .ok (.aload_n 0, 1) := dk_42 (dk_at dksX14_init_0 4 rfl rfl)
theorem dX14_init_5 : decode cX14_init 5 = .ok (.iload_n 2, 1) := dk_28 (dk_at dksX14_init_0 5 rfl rfl)
theorem dX14_init_6 : decode cX14_init 6 = .ok (.newarray .int, 2) := dk_188_10 (dk_at dksX14_init_0 6 rfl rfl)
theorem dX14_init_8 : decode cX14_init 8 = .ok (.putfield 7, 3) := dk_181 0 7 (dk_at dksX14_init_0 8 rfl rfl)
theorem dX14_init_11 : decode cX14_init 11 = .ok (.iconst 0, 1) := dk_3 (dk_at dksX14_init_0 11 rfl rfl)
theorem dX14_init_12 : decode cX14_init 12 = .ok (.istore_n 3, 1) := dk_62 (dk_at dksX14_init_0 12 rfl rfl)
theorem dX14_init_13 : decode cX14_init 13 = .ok (.iload_n 3, 1) := dk_29 (dk_at dksX14_init_0 13 rfl rfl)
theorem dX14_init_14 : decode cX14_init 14 = .ok (.iload_n 2, 1) := dk_28 (dk_at dksX14_init_0 14 rfl rfl)
theorem dX14_init_15 : decode cX14_init 15 = .ok (.if_icmp .ge 18, 3) := dk_162 0 18 (dk_at dksX14_init_0 15 rfl rfl)
theorem dX14_init_18 : decode cX14_init 18 = .ok (.aload_n 0, 1) := dk_42 (dk_at dksX14_init_0 18 rfl rfl)
theorem dX14_init_19 : decode cX14_init 19 = .ok (.getfield 7, 3) := dk_180 0 7 (dk_at dksX14_init_0 19 rfl rfl)
theorem dX14_init_22 : decode cX14_init 22 = .ok (.iload_n 3, 1) := dk_29 (dk_at dksX14_init_0 22 rfl rfl)
theorem dX14_init_23 : decode cX14_init 23 = .ok (.aload_n 1, 1) := dk_43 (dk_at dksX14_init_0 23 rfl rfl)
theorem dX14_init_24 : decode cX14_init 24 = .ok (.iload_n 3, 1) := dk_29 (dk_at dksX14_init_1 0 rfl rfl)
theorem dX14_init_25 : decode cX14_init 25 = .ok (.iaload, 1) := dk_46 (dk_at dksX14_init_1 1 rfl rfl)
theorem dX14_init_26 : decode cX14_init 26 = .ok (.iastore, 1) := dk_79 (dk_at dksX14_init_1 2 rfl rfl)
theorem dX14_init_27 : decode cX14_init 27 = .ok (.iinc 3 1, 3) := dk_132 3 1 (dk_at dksX14_init_1 3 rfl rfl)
theorem dX14_init_30 : decode cX14_init 30 = .ok (.goto (-17), 3) := dk_167 255 239 (dk_at dksX14_init_1 6 rfl rfl)
theorem dX14_init_33 : decode cX14_init 33 = .ok (.return_, 1) := dk_177 (dk_at dksX14_init_1 9 rfl rfl)
abbrev cX14_places : ByteArray := prog_16_method_2_code
def yX14_places : MethodName := ⟨RX14, "places", "()I"⟩
def dkwX14_places_1 : List UInt8 := [132, 2, 1, 167, 255, 233, 27, 172]
abbrev dktX14_places_1 : List UInt8 := dkwX14_places_1 ++ []
def dkwX14_places_0 : List UInt8 := [3, 60, 3, 61, 28, 42, 180, 0, 7, 190, 162, 0, 20, 27, 4, 42, 180, 0, 7, 28, 46, 120, 128, 60]
abbrev dktX14_places_0 : List UInt8 := dkwX14_places_0 ++ dktX14_places_1
theorem dksX14_places_0 : cX14_places.data.toList.drop 0 = dktX14_places_0 := by decide +kernel
theorem dksX14_places_1 : cX14_places.data.toList.drop 24 = dktX14_places_1 := dk_seg dksX14_places_0 24 rfl rfl
theorem dX14_places_0 : decode cX14_places 0 = .ok (.iconst 0, 1) := dk_3 (dk_at dksX14_places_0 0 rfl rfl)
theorem dX14_places_1 : decode cX14_places 1 = .ok (.istore_n 1, 1) := dk_60 (dk_at dksX14_places_0 1 rfl rfl)
theorem dX14_places_2 : decode cX14_places 2 = .ok (.iconst 0, 1) := dk_3 (dk_at dksX14_places_0 2 rfl rfl)
theorem dX14_places_3 : decode cX14_places 3 = .ok (.istore_n 2, 1) := dk_61 (dk_at dksX14_places_0 3 rfl rfl)
theorem dX14_places_4 : decode cX14_places 4 = .ok (.iload_n 2, 1) := dk_28 (dk_at dksX14_places_0 4 rfl rfl)
theorem dX14_places_5 : decode cX14_places 5 = .ok (.aload_n 0, 1) := dk_42 (dk_at dksX14_places_0 5 rfl rfl)
theorem dX14_places_6 : decode cX14_places 6 = .ok (.getfield 7, 3) := dk_180 0 7 (dk_at dksX14_places_0 6 rfl rfl)
theorem dX14_places_9 : decode cX14_places 9 = .ok (.arraylength, 1) := dk_190 (dk_at dksX14_places_0 9 rfl rfl)
theorem dX14_places_10 : decode cX14_places 10 = .ok (.if_icmp .ge 20, 3) := dk_162 0 20 (dk_at dksX14_places_0 10 rfl rfl)
theorem dX14_places_13 : decode cX14_places 13 = .ok (.iload_n 1, 1) := dk_27 (dk_at dksX14_places_0 13 rfl rfl)
theorem dX14_places_14 : decode cX14_places 14 = .ok (.iconst 1, 1) := dk_4 (dk_at dksX14_places_0 14 rfl rfl)
theorem dX14_places_15 : decode cX14_places 15 = .ok (.aload_n 0, 1) := dk_42 (dk_at dksX14_places_0 15 rfl rfl)
theorem dX14_places_16 : decode cX14_places 16 = .ok (.getfield 7, 3) := dk_180 0 7 (dk_at dksX14_places_0 16 rfl rfl)
theorem dX14_places_19 : decode cX14_places 19 = .ok (.iload_n 2, 1) := dk_28 (dk_at dksX14_places_0 19 rfl rfl)
theorem dX14_places_20 : decode cX14_places 20 = .ok (.iaload, 1) := dk_46 (dk_at dksX14_places_0 20 rfl rfl)
theorem dX14_places_21 : decode cX14_places 21 = .ok (.ishl, 1) := dk_120 (dk_at dksX14_places_0 21 rfl rfl)
theorem dX14_places_22 : decode cX14_places 22 = .ok (.ior, 1) := dk_128 (dk_at dksX14_places_0 22 rfl rfl)
theorem dX14_places_23 : decode cX14_places 23 = .ok (.istore_n 1, 1) := dk_60 (dk_at dksX14_places_0 23 rfl rfl)
theorem dX14_places_24 : decode cX14_places 24 = .ok (.iinc 2 1, 3) := dk_132 2 1 (dk_at dksX14_places_1 0 rfl rfl)
theorem dX14_places_27 : decode cX14_places 27 = .ok (.goto (-23), 3) := dk_167 255 233 (dk_at dksX14_places_1 3 rfl rfl)
theorem dX14_places_30 : decode cX14_places 30 = .ok (.iload_n 1, 1) := dk_27 (dk_at dksX14_places_1 6 rfl rfl)
theorem dX14_places_31 : decode cX14_places 31 = .ok (.ireturn, 1) := dk_172 (dk_at dksX14_places_1 7 rfl rfl)
theorem q176 : (Jvm.Cond.initialized "BallotFruit$Path") ∈ lw_all := lw_g (lw_at lw_m1 29 rfl) rfl
theorem q861 : (Jvm.Cond.selects "BallotFruit$Path" ({ cls := "java/lang/Object", name := "getClass", desc := "()Ljava/lang/Class;" } : Jvm.MethodName) ({ cls := "java/lang/Object", name := "getClass", desc := "()Ljava/lang/Class;" } : Jvm.MethodName)) ∈ lw_all := lw_g (lw_at lw_m3 234 rfl) rfl
theorem q891 : (Jvm.Cond.instantiable "BallotFruit$Path" (1 : Nat)) ∈ lw_all := lw_g (lw_at lw_m4 24 rfl) rfl
theorem q893 : (Jvm.Cond.instanceMethod ({ cls := "BallotFruit$Path", name := "<init>", desc := "([II)V" } : Jvm.MethodName)) ∈ lw_all := lw_g (lw_at lw_m4 26 rfl) rfl
theorem q894 : (Jvm.Cond.code ({ cls := "BallotFruit$Path", name := "<init>", desc := "([II)V" } : Jvm.MethodName) prog_16_method_1_code (4 : Nat) (Option.none : Option Jvm.ClassFile.FieldType)) ∈ lw_all := lw_g (lw_at lw_m4 27 rfl) rfl
theorem q895 : (Jvm.Cond.methodLink "BallotFruit$Path" (1 : Nat) ({ cls := "java/lang/Object", name := "<init>", desc := "()V" } : Jvm.MethodName)) ∈ lw_all := lw_g (lw_at lw_m4 28 rfl) rfl
theorem q896 : (Jvm.Cond.fieldLink "BallotFruit$Path" (7 : Nat) "BallotFruit$Path" "place" "[I") ∈ lw_all := lw_g (lw_at lw_m4 29 rfl) rfl
theorem q899 : (Jvm.Cond.laysFinal "BallotFruit$Path" "BallotFruit$Path" "place" "[I") ∈ lw_all := lw_g (lw_at lw_m4 32 rfl) rfl
theorem q900 : (Jvm.Cond.soleField "BallotFruit$Path" "place") ∈ lw_all := lw_g (lw_at lw_m4 33 rfl) rfl
theorem q901 : (Jvm.Cond.superclass "BallotFruit$Path" "java/lang/Object") ∈ lw_all := lw_g (lw_at lw_m4 34 rfl) rfl
theorem q1311 : (Jvm.Cond.instanceMethod ({ cls := "BallotFruit$Path", name := "places", desc := "()I" } : Jvm.MethodName)) ∈ lw_all := lw_g (lw_at lw_m5 204 rfl) rfl
theorem q1312 : (Jvm.Cond.selects "BallotFruit$Path" ({ cls := "BallotFruit$Path", name := "places", desc := "()I" } : Jvm.MethodName) ({ cls := "BallotFruit$Path", name := "places", desc := "()I" } : Jvm.MethodName)) ∈ lw_all := lw_g (lw_at lw_m5 205 rfl) rfl
theorem q1313 : (Jvm.Cond.code ({ cls := "BallotFruit$Path", name := "places", desc := "()I" } : Jvm.MethodName) prog_16_method_2_code (3 : Nat) (Option.some Jvm.ClassFile.FieldType.int)) ∈ lw_all := lw_g (lw_at lw_m5 206 rfl) rfl
theorem q2065 : (Jvm.Cond.castable "BallotFruit$Path" "java/lang/Object") ∈ lw_tbl := lw_at lw_m8 238 rfl
theorem in_X14 : ∀ w ∈ wsX140, w ∈ lw_all := lw_in wsX140 [899] (by decide +kernel) (by decide +kernel)
end

section
/-! BallotFruit$Deed -/
set_option maxRecDepth 100000
def RX15 : String := "BallotFruit$Deed"
abbrev cX15_init : ByteArray := prog_6_method_1_code
def yX15_init : MethodName := ⟨RX15, "<init>", "(II)V"⟩
def dkwX15_init_0 : List UInt8 := [42, 183, 0, 1, 42, 27, 181, 0, 7, 42, 28, 181, 0, 13, 177]
abbrev dktX15_init_0 : List UInt8 := dkwX15_init_0 ++ []
theorem dksX15_init_0 : cX15_init.data.toList.drop 0 = dktX15_init_0 := by decide +kernel
theorem dX15_init_0 : decode cX15_init 0 = .ok (.aload_n 0, 1) := dk_42 (dk_at dksX15_init_0 0 rfl rfl)
theorem dX15_init_1 : decode cX15_init 1 = .ok (.invokespecial 1, 3) := dk_183 0 1 (dk_at dksX15_init_0 1 rfl rfl)
theorem dX15_init_4 : decode cX15_init 4 = .ok (.aload_n 0, 1) := dk_42 (dk_at dksX15_init_0 4 rfl rfl)
theorem dX15_init_5 : decode cX15_init 5 = .ok (.iload_n 1, 1) := dk_27 (dk_at dksX15_init_0 5 rfl rfl)
theorem dX15_init_6 : decode cX15_init 6 = .ok (.putfield 7, 3) := dk_181 0 7 (dk_at dksX15_init_0 6 rfl rfl)
theorem dX15_init_9 : decode cX15_init 9 = .ok (.aload_n 0, 1) := dk_42 (dk_at dksX15_init_0 9 rfl rfl)
theorem dX15_init_10 : decode cX15_init 10 = .ok (.iload_n 2, 1) := dk_28 (dk_at dksX15_init_0 10 rfl rfl)
theorem dX15_init_11 : decode cX15_init 11 = .ok (.putfield 13, 3) := dk_181 0 13 (dk_at dksX15_init_0 11 rfl rfl)
theorem dX15_init_14 : decode cX15_init 14 = .ok (.return_, 1) := dk_177 (dk_at dksX15_init_0 14 rfl rfl)
abbrev cX15_isOf : ByteArray := prog_6_method_2_code
def yX15_isOf : MethodName := ⟨RX15, "isOf", "(I)Z"⟩
def dkwX15_isOf_0 : List UInt8 := [42, 180, 0, 7, 27, 160, 0, 7, 4, 167, 0, 4, 3, 172]
abbrev dktX15_isOf_0 : List UInt8 := dkwX15_isOf_0 ++ []
theorem dksX15_isOf_0 : cX15_isOf.data.toList.drop 0 = dktX15_isOf_0 := by decide +kernel
theorem dX15_isOf_0 : decode cX15_isOf 0 = .ok (.aload_n 0, 1) := dk_42 (dk_at dksX15_isOf_0 0 rfl rfl)
theorem dX15_isOf_1 : decode cX15_isOf 1 = .ok (.getfield 7, 3) := dk_180 0 7 (dk_at dksX15_isOf_0 1 rfl rfl)
theorem dX15_isOf_4 : decode cX15_isOf 4 = .ok (.iload_n 1, 1) := dk_27 (dk_at dksX15_isOf_0 4 rfl rfl)
theorem dX15_isOf_5 : decode cX15_isOf 5 = .ok (.if_icmp .ne 7, 3) := dk_160 0 7 (dk_at dksX15_isOf_0 5 rfl rfl)
theorem dX15_isOf_8 : decode cX15_isOf 8 = .ok (.iconst 1, 1) := dk_4 (dk_at dksX15_isOf_0 8 rfl rfl)
theorem dX15_isOf_9 : decode cX15_isOf 9 = .ok (.goto 4, 3) := dk_167 0 4 (dk_at dksX15_isOf_0 9 rfl rfl)
theorem dX15_isOf_12 : decode cX15_isOf 12 = .ok (.iconst 0, 1) := dk_3 (dk_at dksX15_isOf_0 12 rfl rfl)
theorem dX15_isOf_13 : decode cX15_isOf 13 = .ok (.ireturn, 1) := dk_172 (dk_at dksX15_isOf_0 13 rfl rfl)
abbrev cX15_one : ByteArray := prog_6_method_3_code
def yX15_one : MethodName := ⟨RX15, "one", "()I"⟩
theorem dX15_one_0 : decode cX15_one 0 = .ok (.aload_n 0, 1) := by decide +kernel
theorem dX15_one_1 : decode cX15_one 1 = .ok (.getfield 13, 3) := by decide +kernel
theorem dX15_one_4 : decode cX15_one 4 = .ok (.ireturn, 1) := by decide +kernel
theorem q177 : (Jvm.Cond.initialized "BallotFruit$Deed") ∈ lw_all := lw_g (lw_at lw_m1 30 rfl) rfl
theorem q924 : (Jvm.Cond.instanceMethod ({ cls := "BallotFruit$Deed", name := "<init>", desc := "(II)V" } : Jvm.MethodName)) ∈ lw_all := lw_g (lw_at lw_m4 57 rfl) rfl
theorem q925 : (Jvm.Cond.code ({ cls := "BallotFruit$Deed", name := "<init>", desc := "(II)V" } : Jvm.MethodName) prog_6_method_1_code (3 : Nat) (Option.none : Option Jvm.ClassFile.FieldType)) ∈ lw_all := lw_g (lw_at lw_m4 58 rfl) rfl
theorem q926 : (Jvm.Cond.methodLink "BallotFruit$Deed" (1 : Nat) ({ cls := "java/lang/Object", name := "<init>", desc := "()V" } : Jvm.MethodName)) ∈ lw_all := lw_g (lw_at lw_m4 59 rfl) rfl
theorem q928 : (Jvm.Cond.fieldLink "BallotFruit$Deed" (7 : Nat) "BallotFruit$Deed" "week" "I") ∈ lw_all := lw_g (lw_at lw_m4 61 rfl) rfl
theorem q929 : (Jvm.Cond.fieldLink "BallotFruit$Deed" (13 : Nat) "BallotFruit$Deed" "one" "I") ∈ lw_all := lw_g (lw_at lw_m4 62 rfl) rfl
theorem q933 : (Jvm.Cond.soleField "BallotFruit$Deed" "week") ∈ lw_all := lw_g (lw_at lw_m4 66 rfl) rfl
theorem q935 : (Jvm.Cond.soleField "BallotFruit$Deed" "one") ∈ lw_all := lw_g (lw_at lw_m4 68 rfl) rfl
theorem q1089 : (Jvm.Cond.instanceMethod ({ cls := "BallotFruit$Deed", name := "isOf", desc := "(I)Z" } : Jvm.MethodName)) ∈ lw_all := lw_g (lw_at lw_m4 222 rfl) rfl
theorem q1090 : (Jvm.Cond.sameMethod "BallotFruit$Deed" "BallotFruit$Deed" "isOf" "(I)Z") ∈ lw_all := lw_g (lw_at lw_m4 223 rfl) rfl
theorem q1095 : (Jvm.Cond.code ({ cls := "BallotFruit$Deed", name := "isOf", desc := "(I)Z" } : Jvm.MethodName) prog_6_method_2_code (2 : Nat) (Option.some Jvm.ClassFile.FieldType.boolean)) ∈ lw_all := lw_g (lw_at lw_m4 228 rfl) rfl
theorem q1097 : (Jvm.Cond.declares ({ cls := "BallotFruit$Deed", name := "does", desc := "(LBallotFruit$Commune;)V" } : Jvm.MethodName)) ∈ lw_tbl := lw_at lw_m4 230 rfl
theorem q1098 : (Jvm.Cond.sameMethod "BallotFruit$Deed" "BallotFruit$Deed" "does" "(LBallotFruit$Commune;)V") ∈ lw_all := lw_g (lw_at lw_m4 231 rfl) rfl
theorem q1104 : (Jvm.Cond.declares ({ cls := "BallotFruit$Deed", name := "one", desc := "()I" } : Jvm.MethodName)) ∈ lw_tbl := lw_at lw_m4 237 rfl
theorem q1106 : (Jvm.Cond.instanceMethod ({ cls := "BallotFruit$Deed", name := "one", desc := "()I" } : Jvm.MethodName)) ∈ lw_all := lw_g (lw_at lw_m4 239 rfl) rfl
theorem q1107 : (Jvm.Cond.code ({ cls := "BallotFruit$Deed", name := "one", desc := "()I" } : Jvm.MethodName) prog_6_method_3_code (1 : Nat) (Option.some Jvm.ClassFile.FieldType.int)) ∈ lw_all := lw_g (lw_at lw_m5 0 rfl) rfl
end

section
/-! BallotFruit$Plant -/
set_option maxRecDepth 100000
def RX16 : String := "BallotFruit$Plant"
def TX16 : u_T := fun k => match k with
  | 0 => ("BallotFruit$Deed", "week", "I", true)
  | 1 => ("BallotFruit$Deed", "one", "I", true)
  | _ => ("BallotFruit$Plant", "place", "I", true)
def tyX16 : Nat → FieldType := fun k => match k with
  | 0 => .int
  | 1 => .int
  | _ => .int
abbrev wsX160 : List Cond := u_ws RX16 TX16 3
theorem nmX16 : ∀ a, a < 3 → ∀ b, b < 3 → a ≠ b → (TX16 a).2.1 ≠ (TX16 b).2.1 := by decide +kernel
theorem tyX16_ok : ∀ k, k < 3 → parseFieldDescriptor (TX16 k).2.2.1 = some (tyX16 k) := by decide +kernel
abbrev cX16_init : ByteArray := prog_17_method_1_code
def yX16_init : MethodName := ⟨RX16, "<init>", "(III)V"⟩
def dkwX16_init_0 : List UInt8 := [42, 27, 28, 183, 0, 3, 42, 29, 181, 0, 9, 177]
abbrev dktX16_init_0 : List UInt8 := dkwX16_init_0 ++ []
theorem dksX16_init_0 : cX16_init.data.toList.drop 0 = dktX16_init_0 := by decide +kernel
theorem dX16_init_0 : decode cX16_init 0 = .ok (.aload_n 0, 1) := dk_42 (dk_at dksX16_init_0 0 rfl rfl)
theorem dX16_init_1 : decode cX16_init 1 = .ok (.iload_n 1, 1) := dk_27 (dk_at dksX16_init_0 1 rfl rfl)
theorem dX16_init_2 : decode cX16_init 2 = .ok (.iload_n 2, 1) := dk_28 (dk_at dksX16_init_0 2 rfl rfl)
theorem dX16_init_3 : decode cX16_init 3 = .ok (.invokespecial 3, 3) := dk_183 0 3 (dk_at dksX16_init_0 3 rfl rfl)
theorem dX16_init_6 : decode cX16_init 6 = .ok (.aload_n 0, 1) := dk_42 (dk_at dksX16_init_0 6 rfl rfl)
theorem dX16_init_7 : decode cX16_init 7 = .ok (.iload_n 3, 1) := dk_29 (dk_at dksX16_init_0 7 rfl rfl)
theorem dX16_init_8 : decode cX16_init 8 = .ok (.putfield 9, 3) := dk_181 0 9 (dk_at dksX16_init_0 8 rfl rfl)
theorem dX16_init_11 : decode cX16_init 11 = .ok (.return_, 1) := dk_177 (dk_at dksX16_init_0 11 rfl rfl)
abbrev cX16_does : ByteArray := prog_17_method_2_code
def yX16_does : MethodName := ⟨RX16, "does", "(LBallotFruit$Commune;)V"⟩
def dkwX16_does_0 : List UInt8 := [43, 180, 0, 15, 16, 14, 162, 0, 17, 43, 42, 182, 0, 20, 42, 180, 0, 9, 3, 182, 0, 24, 87, 177]
abbrev dktX16_does_0 : List UInt8 := dkwX16_does_0 ++ []
theorem dksX16_does_0 : cX16_does.data.toList.drop 0 = dktX16_does_0 := by decide +kernel
theorem dX16_does_0 : decode cX16_does 0 = .ok (.aload_n 1, 1) := dk_43 (dk_at dksX16_does_0 0 rfl rfl)
theorem dX16_does_1 : decode cX16_does 1 = .ok (.getfield 15, 3) := dk_180 0 15 (dk_at dksX16_does_0 1 rfl rfl)
theorem dX16_does_4 : decode cX16_does 4 = .ok (.bipush 14, 2) := dk_16 14 (dk_at dksX16_does_0 4 rfl rfl)
theorem dX16_does_6 : decode cX16_does 6 = .ok (.if_icmp .ge 17, 3) := dk_162 0 17 (dk_at dksX16_does_0 6 rfl rfl)
theorem dX16_does_9 : decode cX16_does 9 = .ok (.aload_n 1, 1) := dk_43 (dk_at dksX16_does_0 9 rfl rfl)
theorem dX16_does_10 : decode cX16_does 10 = .ok (.aload_n 0, 1) := dk_42 (dk_at dksX16_does_0 10 rfl rfl)
theorem dX16_does_11 : decode cX16_does 11 = .ok (.invokevirtual 20, 3) := dk_182 0 20 (dk_at dksX16_does_0 11 rfl rfl)
theorem dX16_does_14 : decode cX16_does 14 = .ok (.aload_n 0, 1) := dk_42 (dk_at dksX16_does_0 14 rfl rfl)
theorem dX16_does_15 : decode cX16_does 15 = .ok (.getfield 9, 3) := dk_180 0 9 (dk_at dksX16_does_0 15 rfl rfl)
theorem dX16_does_18 : decode cX16_does 18 = .ok (.iconst 0, 1) := dk_3 (dk_at dksX16_does_0 18 rfl rfl)
theorem dX16_does_19 : decode cX16_does 19 = .ok (.invokevirtual 24, 3) := dk_182 0 24 (dk_at dksX16_does_0 19 rfl rfl)
theorem dX16_does_22 : decode cX16_does 22 = .ok (.pop, 1) := dk_87 (dk_at dksX16_does_0 22 rfl rfl)
theorem dX16_does_23 : decode cX16_does 23 = .ok (.return_, 1) := dk_177 (dk_at dksX16_does_0 23 rfl rfl)
theorem q178 : (Jvm.Cond.initialized "BallotFruit$Plant") ∈ lw_all := lw_g (lw_at lw_m1 31 rfl) rfl
theorem q323 : (Jvm.Cond.fieldLinkNest "BallotFruit$Plant" (15 : Nat) "BallotFruit$Commune" "trees" "I" "BallotFruit") ∈ lw_tbl := lw_at lw_m1 176 rfl
theorem q862 : (Jvm.Cond.selects "BallotFruit$Plant" ({ cls := "java/lang/Object", name := "getClass", desc := "()Ljava/lang/Class;" } : Jvm.MethodName) ({ cls := "java/lang/Object", name := "getClass", desc := "()Ljava/lang/Class;" } : Jvm.MethodName)) ∈ lw_all := lw_g (lw_at lw_m3 235 rfl) rfl
theorem q915 : (Jvm.Cond.instantiable "BallotFruit$Plant" (3 : Nat)) ∈ lw_all := lw_g (lw_at lw_m4 48 rfl) rfl
theorem q921 : (Jvm.Cond.instanceMethod ({ cls := "BallotFruit$Plant", name := "<init>", desc := "(III)V" } : Jvm.MethodName)) ∈ lw_all := lw_g (lw_at lw_m4 54 rfl) rfl
theorem q922 : (Jvm.Cond.code ({ cls := "BallotFruit$Plant", name := "<init>", desc := "(III)V" } : Jvm.MethodName) prog_17_method_1_code (4 : Nat) (Option.none : Option Jvm.ClassFile.FieldType)) ∈ lw_all := lw_g (lw_at lw_m4 55 rfl) rfl
theorem q923 : (Jvm.Cond.methodLink "BallotFruit$Plant" (3 : Nat) ({ cls := "BallotFruit$Deed", name := "<init>", desc := "(II)V" } : Jvm.MethodName)) ∈ lw_all := lw_g (lw_at lw_m4 56 rfl) rfl
theorem q927 : (Jvm.Cond.fieldLink "BallotFruit$Plant" (9 : Nat) "BallotFruit$Plant" "place" "I") ∈ lw_all := lw_g (lw_at lw_m4 60 rfl) rfl
theorem q930 : (Jvm.Cond.laysFinal "BallotFruit$Plant" "BallotFruit$Plant" "place" "I") ∈ lw_all := lw_g (lw_at lw_m4 63 rfl) rfl
theorem q931 : (Jvm.Cond.soleField "BallotFruit$Plant" "place") ∈ lw_all := lw_g (lw_at lw_m4 64 rfl) rfl
theorem q932 : (Jvm.Cond.laysFinal "BallotFruit$Plant" "BallotFruit$Deed" "week" "I") ∈ lw_all := lw_g (lw_at lw_m4 65 rfl) rfl
theorem q934 : (Jvm.Cond.laysFinal "BallotFruit$Plant" "BallotFruit$Deed" "one" "I") ∈ lw_all := lw_g (lw_at lw_m4 67 rfl) rfl
theorem q936 : (Jvm.Cond.superclass "BallotFruit$Plant" "BallotFruit$Deed") ∈ lw_all := lw_g (lw_at lw_m4 69 rfl) rfl
theorem q1094 : (Jvm.Cond.selects "BallotFruit$Plant" ({ cls := "BallotFruit$Deed", name := "isOf", desc := "(I)Z" } : Jvm.MethodName) ({ cls := "BallotFruit$Deed", name := "isOf", desc := "(I)Z" } : Jvm.MethodName)) ∈ lw_all := lw_g (lw_at lw_m4 227 rfl) rfl
theorem q1124 : (Jvm.Cond.selects "BallotFruit$Plant" ({ cls := "BallotFruit$Deed", name := "does", desc := "(LBallotFruit$Commune;)V" } : Jvm.MethodName) ({ cls := "BallotFruit$Plant", name := "does", desc := "(LBallotFruit$Commune;)V" } : Jvm.MethodName)) ∈ lw_all := lw_g (lw_at lw_m5 17 rfl) rfl
theorem q1125 : (Jvm.Cond.instanceMethod ({ cls := "BallotFruit$Plant", name := "does", desc := "(LBallotFruit$Commune;)V" } : Jvm.MethodName)) ∈ lw_all := lw_g (lw_at lw_m5 18 rfl) rfl
theorem q1126 : (Jvm.Cond.code ({ cls := "BallotFruit$Plant", name := "does", desc := "(LBallotFruit$Commune;)V" } : Jvm.MethodName) prog_17_method_2_code (2 : Nat) (Option.none : Option Jvm.ClassFile.FieldType)) ∈ lw_all := lw_g (lw_at lw_m5 19 rfl) rfl
theorem q1127 : (Jvm.Cond.methodLink "BallotFruit$Plant" (20 : Nat) ({ cls := "BallotFruit$Plant", name := "one", desc := "()I" } : Jvm.MethodName)) ∈ lw_all := lw_g (lw_at lw_m5 20 rfl) rfl
theorem q1128 : (Jvm.Cond.sameMethod "BallotFruit$Plant" "BallotFruit$Deed" "one" "()I") ∈ lw_all := lw_g (lw_at lw_m5 21 rfl) rfl
theorem q1129 : (Jvm.Cond.selects "BallotFruit$Plant" ({ cls := "BallotFruit$Plant", name := "one", desc := "()I" } : Jvm.MethodName) ({ cls := "BallotFruit$Deed", name := "one", desc := "()I" } : Jvm.MethodName)) ∈ lw_all := lw_g (lw_at lw_m5 22 rfl) rfl
theorem q1130 : (Jvm.Cond.methodLink "BallotFruit$Plant" (24 : Nat) ({ cls := "BallotFruit$Commune", name := "plants", desc := "(III)I" } : Jvm.MethodName)) ∈ lw_all := lw_g (lw_at lw_m5 23 rfl) rfl
theorem q2061 : (Jvm.Cond.castable "BallotFruit$Plant" "BallotFruit$Deed") ∈ lw_tbl := lw_at lw_m8 234 rfl
theorem q2077 : (Jvm.Cond.castable "BallotFruit$Plant" "java/lang/Object") ∈ lw_tbl := lw_at lw_m9 10 rfl
theorem in_X16 : ∀ w ∈ wsX160, w ∈ lw_all := lw_in wsX160 [932, 934, 930] (by decide +kernel) (by decide +kernel)
end

section
/-! BallotFruit$Fence -/
set_option maxRecDepth 100000
def RX17 : String := "BallotFruit$Fence"
def TX17 : u_T := fun k => match k with
  | 0 => ("BallotFruit$Deed", "week", "I", true)
  | 1 => ("BallotFruit$Deed", "one", "I", true)
  | _ => ("BallotFruit$Fence", "is", "Z", true)
def tyX17 : Nat → FieldType := fun k => match k with
  | 0 => .int
  | 1 => .int
  | _ => .boolean
abbrev wsX170 : List Cond := u_ws RX17 TX17 3
theorem nmX17 : ∀ a, a < 3 → ∀ b, b < 3 → a ≠ b → (TX17 a).2.1 ≠ (TX17 b).2.1 := by decide +kernel
theorem tyX17_ok : ∀ k, k < 3 → parseFieldDescriptor (TX17 k).2.2.1 = some (tyX17 k) := by decide +kernel
abbrev cX17_init : ByteArray := prog_9_method_1_code
def yX17_init : MethodName := ⟨RX17, "<init>", "(IIZ)V"⟩
def dkwX17_init_0 : List UInt8 := [42, 27, 28, 183, 0, 1, 42, 29, 181, 0, 7, 177]
abbrev dktX17_init_0 : List UInt8 := dkwX17_init_0 ++ []
theorem dksX17_init_0 : cX17_init.data.toList.drop 0 = dktX17_init_0 := by decide +kernel
theorem dX17_init_0 : decode cX17_init 0 = .ok (.aload_n 0, 1) := dk_42 (dk_at dksX17_init_0 0 rfl rfl)
theorem dX17_init_1 : decode cX17_init 1 = .ok (.iload_n 1, 1) := dk_27 (dk_at dksX17_init_0 1 rfl rfl)
theorem dX17_init_2 : decode cX17_init 2 = .ok (.iload_n 2, 1) := dk_28 (dk_at dksX17_init_0 2 rfl rfl)
theorem dX17_init_3 : decode cX17_init 3 = .ok (.invokespecial 1, 3) := dk_183 0 1 (dk_at dksX17_init_0 3 rfl rfl)
theorem dX17_init_6 : decode cX17_init 6 = .ok (.aload_n 0, 1) := dk_42 (dk_at dksX17_init_0 6 rfl rfl)
theorem dX17_init_7 : decode cX17_init 7 = .ok (.iload_n 3, 1) := dk_29 (dk_at dksX17_init_0 7 rfl rfl)
theorem dX17_init_8 : decode cX17_init 8 = .ok (.putfield 7, 3) := dk_181 0 7 (dk_at dksX17_init_0 8 rfl rfl)
theorem dX17_init_11 : decode cX17_init 11 = .ok (.return_, 1) := dk_177 (dk_at dksX17_init_0 11 rfl rfl)
abbrev cX17_does : ByteArray := prog_9_method_2_code
def yX17_does : MethodName := ⟨RX17, "does", "(LBallotFruit$Commune;)V"⟩
def dkwX17_does_1 : List UInt8 := [182, 0, 23, 177]
abbrev dktX17_does_1 : List UInt8 := dkwX17_does_1 ++ []
def dkwX17_does_0 : List UInt8 := [43, 42, 182, 0, 13, 182, 0, 17, 42, 180, 0, 7, 159, 0, 15, 43, 42, 182, 0, 13, 42, 180, 0, 7]
abbrev dktX17_does_0 : List UInt8 := dkwX17_does_0 ++ dktX17_does_1
theorem dksX17_does_0 : cX17_does.data.toList.drop 0 = dktX17_does_0 := by decide +kernel
theorem dksX17_does_1 : cX17_does.data.toList.drop 24 = dktX17_does_1 := dk_seg dksX17_does_0 24 rfl rfl
theorem dX17_does_0 : decode cX17_does 0 = .ok (.aload_n 1, 1) := dk_43 (dk_at dksX17_does_0 0 rfl rfl)
theorem dX17_does_1 : decode cX17_does 1 = .ok (.aload_n 0, 1) := dk_42 (dk_at dksX17_does_0 1 rfl rfl)
theorem dX17_does_2 : decode cX17_does 2 = .ok (.invokevirtual 13, 3) := dk_182 0 13 (dk_at dksX17_does_0 2 rfl rfl)
theorem dX17_does_5 : decode cX17_does 5 = .ok (.invokevirtual 17, 3) := dk_182 0 17 (dk_at dksX17_does_0 5 rfl rfl)
theorem dX17_does_8 : decode cX17_does 8 = .ok (.aload_n 0, 1) := dk_42 (dk_at dksX17_does_0 8 rfl rfl)
theorem dX17_does_9 : decode cX17_does 9 = .ok (.getfield 7, 3) := dk_180 0 7 (dk_at dksX17_does_0 9 rfl rfl)
theorem dX17_does_12 : decode cX17_does 12 = .ok (.if_icmp .eq 15, 3) := dk_159 0 15 (dk_at dksX17_does_0 12 rfl rfl)
theorem dX17_does_15 : decode cX17_does 15 = .ok (.aload_n 1, 1) := dk_43 (dk_at dksX17_does_0 15 rfl rfl)
theorem dX17_does_16 : decode cX17_does 16 = .ok (.aload_n 0, 1) := dk_42 (dk_at dksX17_does_0 16 rfl rfl)
theorem dX17_does_17 : decode cX17_does 17 = .ok (.invokevirtual 13, 3) := dk_182 0 13 (dk_at dksX17_does_0 17 rfl rfl)
theorem dX17_does_20 : decode cX17_does 20 = .ok (.aload_n 0, 1) := dk_42 (dk_at dksX17_does_0 20 rfl rfl)
theorem dX17_does_21 : decode cX17_does 21 = .ok (.getfield 7, 3) := dk_180 0 7 (dk_at dksX17_does_0 21 rfl rfl)
theorem dX17_does_24 : decode cX17_does 24 = .ok (.invokevirtual 23, 3) := dk_182 0 23 (dk_at dksX17_does_1 0 rfl rfl)
theorem dX17_does_27 : decode cX17_does 27 = .ok (.return_, 1) := dk_177 (dk_at dksX17_does_1 3 rfl rfl)
theorem q179 : (Jvm.Cond.initialized "BallotFruit$Fence") ∈ lw_all := lw_g (lw_at lw_m1 32 rfl) rfl
theorem q854 : (Jvm.Cond.selects "BallotFruit$Fence" ({ cls := "java/lang/Object", name := "getClass", desc := "()Ljava/lang/Class;" } : Jvm.MethodName) ({ cls := "java/lang/Object", name := "getClass", desc := "()Ljava/lang/Class;" } : Jvm.MethodName)) ∈ lw_all := lw_g (lw_at lw_m3 227 rfl) rfl
theorem q938 : (Jvm.Cond.instantiable "BallotFruit$Fence" (3 : Nat)) ∈ lw_all := lw_g (lw_at lw_m4 71 rfl) rfl
theorem q940 : (Jvm.Cond.instanceMethod ({ cls := "BallotFruit$Fence", name := "<init>", desc := "(IIZ)V" } : Jvm.MethodName)) ∈ lw_all := lw_g (lw_at lw_m4 73 rfl) rfl
theorem q941 : (Jvm.Cond.code ({ cls := "BallotFruit$Fence", name := "<init>", desc := "(IIZ)V" } : Jvm.MethodName) prog_9_method_1_code (4 : Nat) (Option.none : Option Jvm.ClassFile.FieldType)) ∈ lw_all := lw_g (lw_at lw_m4 74 rfl) rfl
theorem q942 : (Jvm.Cond.methodLink "BallotFruit$Fence" (1 : Nat) ({ cls := "BallotFruit$Deed", name := "<init>", desc := "(II)V" } : Jvm.MethodName)) ∈ lw_all := lw_g (lw_at lw_m4 75 rfl) rfl
theorem q943 : (Jvm.Cond.fieldLink "BallotFruit$Fence" (7 : Nat) "BallotFruit$Fence" "is" "Z") ∈ lw_all := lw_g (lw_at lw_m4 76 rfl) rfl
theorem q944 : (Jvm.Cond.laysFinal "BallotFruit$Fence" "BallotFruit$Fence" "is" "Z") ∈ lw_all := lw_g (lw_at lw_m4 77 rfl) rfl
theorem q945 : (Jvm.Cond.soleField "BallotFruit$Fence" "is") ∈ lw_all := lw_g (lw_at lw_m4 78 rfl) rfl
theorem q946 : (Jvm.Cond.laysFinal "BallotFruit$Fence" "BallotFruit$Deed" "week" "I") ∈ lw_all := lw_g (lw_at lw_m4 79 rfl) rfl
theorem q947 : (Jvm.Cond.laysFinal "BallotFruit$Fence" "BallotFruit$Deed" "one" "I") ∈ lw_all := lw_g (lw_at lw_m4 80 rfl) rfl
theorem q948 : (Jvm.Cond.superclass "BallotFruit$Fence" "BallotFruit$Deed") ∈ lw_all := lw_g (lw_at lw_m4 81 rfl) rfl
theorem q1093 : (Jvm.Cond.selects "BallotFruit$Fence" ({ cls := "BallotFruit$Deed", name := "isOf", desc := "(I)Z" } : Jvm.MethodName) ({ cls := "BallotFruit$Deed", name := "isOf", desc := "(I)Z" } : Jvm.MethodName)) ∈ lw_all := lw_g (lw_at lw_m4 226 rfl) rfl
theorem q1116 : (Jvm.Cond.selects "BallotFruit$Fence" ({ cls := "BallotFruit$Deed", name := "does", desc := "(LBallotFruit$Commune;)V" } : Jvm.MethodName) ({ cls := "BallotFruit$Fence", name := "does", desc := "(LBallotFruit$Commune;)V" } : Jvm.MethodName)) ∈ lw_all := lw_g (lw_at lw_m5 9 rfl) rfl
theorem q1117 : (Jvm.Cond.instanceMethod ({ cls := "BallotFruit$Fence", name := "does", desc := "(LBallotFruit$Commune;)V" } : Jvm.MethodName)) ∈ lw_all := lw_g (lw_at lw_m5 10 rfl) rfl
theorem q1118 : (Jvm.Cond.code ({ cls := "BallotFruit$Fence", name := "does", desc := "(LBallotFruit$Commune;)V" } : Jvm.MethodName) prog_9_method_2_code (2 : Nat) (Option.none : Option Jvm.ClassFile.FieldType)) ∈ lw_all := lw_g (lw_at lw_m5 11 rfl) rfl
theorem q1119 : (Jvm.Cond.methodLink "BallotFruit$Fence" (13 : Nat) ({ cls := "BallotFruit$Fence", name := "one", desc := "()I" } : Jvm.MethodName)) ∈ lw_all := lw_g (lw_at lw_m5 12 rfl) rfl
theorem q1120 : (Jvm.Cond.sameMethod "BallotFruit$Fence" "BallotFruit$Deed" "one" "()I") ∈ lw_all := lw_g (lw_at lw_m5 13 rfl) rfl
theorem q1121 : (Jvm.Cond.selects "BallotFruit$Fence" ({ cls := "BallotFruit$Fence", name := "one", desc := "()I" } : Jvm.MethodName) ({ cls := "BallotFruit$Deed", name := "one", desc := "()I" } : Jvm.MethodName)) ∈ lw_all := lw_g (lw_at lw_m5 14 rfl) rfl
theorem q1122 : (Jvm.Cond.methodLink "BallotFruit$Fence" (17 : Nat) ({ cls := "BallotFruit$Commune", name := "isFenced", desc := "(I)Z" } : Jvm.MethodName)) ∈ lw_all := lw_g (lw_at lw_m5 15 rfl) rfl
theorem q1123 : (Jvm.Cond.methodLink "BallotFruit$Fence" (23 : Nat) ({ cls := "BallotFruit$Commune", name := "fences", desc := "(IZ)V" } : Jvm.MethodName)) ∈ lw_all := lw_g (lw_at lw_m5 16 rfl) rfl
theorem q2060 : (Jvm.Cond.castable "BallotFruit$Fence" "BallotFruit$Deed") ∈ lw_tbl := lw_at lw_m8 233 rfl
theorem q2078 : (Jvm.Cond.castable "BallotFruit$Fence" "java/lang/Object") ∈ lw_tbl := lw_at lw_m9 11 rfl
theorem in_X17 : ∀ w ∈ wsX170, w ∈ lw_all := lw_in wsX170 [946, 947, 944] (by decide +kernel) (by decide +kernel)
end

section
/-! BallotFruit$Boil -/
set_option maxRecDepth 100000
def RX18 : String := "BallotFruit$Boil"
def TX18 : u_T := fun k => match k with
  | 0 => ("BallotFruit$Deed", "week", "I", true)
  | 1 => ("BallotFruit$Deed", "one", "I", true)
  | _ => ("BallotFruit$Boil", "many", "I", true)
def tyX18 : Nat → FieldType := fun k => match k with
  | 0 => .int
  | 1 => .int
  | _ => .int
abbrev wsX180 : List Cond := u_ws RX18 TX18 3
theorem nmX18 : ∀ a, a < 3 → ∀ b, b < 3 → a ≠ b → (TX18 a).2.1 ≠ (TX18 b).2.1 := by decide +kernel
theorem tyX18_ok : ∀ k, k < 3 → parseFieldDescriptor (TX18 k).2.2.1 = some (tyX18 k) := by decide +kernel
abbrev cX18_init : ByteArray := prog_3_method_1_code
def yX18_init : MethodName := ⟨RX18, "<init>", "(III)V"⟩
def dkwX18_init_0 : List UInt8 := [42, 27, 28, 183, 0, 1, 42, 29, 181, 0, 7, 177]
abbrev dktX18_init_0 : List UInt8 := dkwX18_init_0 ++ []
theorem dksX18_init_0 : cX18_init.data.toList.drop 0 = dktX18_init_0 := by decide +kernel
theorem dX18_init_0 : decode cX18_init 0 = .ok (.aload_n 0, 1) := dk_42 (dk_at dksX18_init_0 0 rfl rfl)
theorem dX18_init_1 : decode cX18_init 1 = .ok (.iload_n 1, 1) := dk_27 (dk_at dksX18_init_0 1 rfl rfl)
theorem dX18_init_2 : decode cX18_init 2 = .ok (.iload_n 2, 1) := dk_28 (dk_at dksX18_init_0 2 rfl rfl)
theorem dX18_init_3 : decode cX18_init 3 = .ok (.invokespecial 1, 3) := dk_183 0 1 (dk_at dksX18_init_0 3 rfl rfl)
theorem dX18_init_6 : decode cX18_init 6 = .ok (.aload_n 0, 1) := dk_42 (dk_at dksX18_init_0 6 rfl rfl)
theorem dX18_init_7 : decode cX18_init 7 = .ok (.iload_n 3, 1) := dk_29 (dk_at dksX18_init_0 7 rfl rfl)
theorem dX18_init_8 : decode cX18_init 8 = .ok (.putfield 7, 3) := dk_181 0 7 (dk_at dksX18_init_0 8 rfl rfl)
theorem dX18_init_11 : decode cX18_init 11 = .ok (.return_, 1) := dk_177 (dk_at dksX18_init_0 11 rfl rfl)
abbrev cX18_does : ByteArray := prog_3_method_2_code
def yX18_does : MethodName := ⟨RX18, "does", "(LBallotFruit$Commune;)V"⟩
def dkwX18_does_0 : List UInt8 := [43, 42, 182, 0, 13, 42, 180, 0, 7, 182, 0, 17, 87, 177]
abbrev dktX18_does_0 : List UInt8 := dkwX18_does_0 ++ []
theorem dksX18_does_0 : cX18_does.data.toList.drop 0 = dktX18_does_0 := by decide +kernel
theorem dX18_does_0 : decode cX18_does 0 = .ok (.aload_n 1, 1) := dk_43 (dk_at dksX18_does_0 0 rfl rfl)
theorem dX18_does_1 : decode cX18_does 1 = .ok (.aload_n 0, 1) := dk_42 (dk_at dksX18_does_0 1 rfl rfl)
theorem dX18_does_2 : decode cX18_does 2 = .ok (.invokevirtual 13, 3) := dk_182 0 13 (dk_at dksX18_does_0 2 rfl rfl)
theorem dX18_does_5 : decode cX18_does 5 = .ok (.aload_n 0, 1) := dk_42 (dk_at dksX18_does_0 5 rfl rfl)
theorem dX18_does_6 : decode cX18_does 6 = .ok (.getfield 7, 3) := dk_180 0 7 (dk_at dksX18_does_0 6 rfl rfl)
theorem dX18_does_9 : decode cX18_does 9 = .ok (.invokevirtual 17, 3) := dk_182 0 17 (dk_at dksX18_does_0 9 rfl rfl)
theorem dX18_does_12 : decode cX18_does 12 = .ok (.pop, 1) := dk_87 (dk_at dksX18_does_0 12 rfl rfl)
theorem dX18_does_13 : decode cX18_does 13 = .ok (.return_, 1) := dk_177 (dk_at dksX18_does_0 13 rfl rfl)
theorem q180 : (Jvm.Cond.initialized "BallotFruit$Boil") ∈ lw_all := lw_g (lw_at lw_m1 33 rfl) rfl
theorem q849 : (Jvm.Cond.selects "BallotFruit$Boil" ({ cls := "java/lang/Object", name := "getClass", desc := "()Ljava/lang/Class;" } : Jvm.MethodName) ({ cls := "java/lang/Object", name := "getClass", desc := "()Ljava/lang/Class;" } : Jvm.MethodName)) ∈ lw_all := lw_g (lw_at lw_m3 222 rfl) rfl
theorem q950 : (Jvm.Cond.instantiable "BallotFruit$Boil" (3 : Nat)) ∈ lw_all := lw_g (lw_at lw_m4 83 rfl) rfl
theorem q952 : (Jvm.Cond.instanceMethod ({ cls := "BallotFruit$Boil", name := "<init>", desc := "(III)V" } : Jvm.MethodName)) ∈ lw_all := lw_g (lw_at lw_m4 85 rfl) rfl
theorem q953 : (Jvm.Cond.code ({ cls := "BallotFruit$Boil", name := "<init>", desc := "(III)V" } : Jvm.MethodName) prog_3_method_1_code (4 : Nat) (Option.none : Option Jvm.ClassFile.FieldType)) ∈ lw_all := lw_g (lw_at lw_m4 86 rfl) rfl
theorem q954 : (Jvm.Cond.methodLink "BallotFruit$Boil" (1 : Nat) ({ cls := "BallotFruit$Deed", name := "<init>", desc := "(II)V" } : Jvm.MethodName)) ∈ lw_all := lw_g (lw_at lw_m4 87 rfl) rfl
theorem q955 : (Jvm.Cond.fieldLink "BallotFruit$Boil" (7 : Nat) "BallotFruit$Boil" "many" "I") ∈ lw_all := lw_g (lw_at lw_m4 88 rfl) rfl
theorem q956 : (Jvm.Cond.laysFinal "BallotFruit$Boil" "BallotFruit$Boil" "many" "I") ∈ lw_all := lw_g (lw_at lw_m4 89 rfl) rfl
theorem q957 : (Jvm.Cond.soleField "BallotFruit$Boil" "many") ∈ lw_all := lw_g (lw_at lw_m4 90 rfl) rfl
theorem q958 : (Jvm.Cond.laysFinal "BallotFruit$Boil" "BallotFruit$Deed" "week" "I") ∈ lw_all := lw_g (lw_at lw_m4 91 rfl) rfl
theorem q959 : (Jvm.Cond.laysFinal "BallotFruit$Boil" "BallotFruit$Deed" "one" "I") ∈ lw_all := lw_g (lw_at lw_m4 92 rfl) rfl
theorem q960 : (Jvm.Cond.superclass "BallotFruit$Boil" "BallotFruit$Deed") ∈ lw_all := lw_g (lw_at lw_m4 93 rfl) rfl
theorem q1091 : (Jvm.Cond.selects "BallotFruit$Boil" ({ cls := "BallotFruit$Deed", name := "isOf", desc := "(I)Z" } : Jvm.MethodName) ({ cls := "BallotFruit$Deed", name := "isOf", desc := "(I)Z" } : Jvm.MethodName)) ∈ lw_all := lw_g (lw_at lw_m4 224 rfl) rfl
theorem q1099 : (Jvm.Cond.selects "BallotFruit$Boil" ({ cls := "BallotFruit$Deed", name := "does", desc := "(LBallotFruit$Commune;)V" } : Jvm.MethodName) ({ cls := "BallotFruit$Boil", name := "does", desc := "(LBallotFruit$Commune;)V" } : Jvm.MethodName)) ∈ lw_all := lw_g (lw_at lw_m4 232 rfl) rfl
theorem q1100 : (Jvm.Cond.instanceMethod ({ cls := "BallotFruit$Boil", name := "does", desc := "(LBallotFruit$Commune;)V" } : Jvm.MethodName)) ∈ lw_all := lw_g (lw_at lw_m4 233 rfl) rfl
theorem q1101 : (Jvm.Cond.code ({ cls := "BallotFruit$Boil", name := "does", desc := "(LBallotFruit$Commune;)V" } : Jvm.MethodName) prog_3_method_2_code (2 : Nat) (Option.none : Option Jvm.ClassFile.FieldType)) ∈ lw_all := lw_g (lw_at lw_m4 234 rfl) rfl
theorem q1102 : (Jvm.Cond.methodLink "BallotFruit$Boil" (13 : Nat) ({ cls := "BallotFruit$Boil", name := "one", desc := "()I" } : Jvm.MethodName)) ∈ lw_all := lw_g (lw_at lw_m4 235 rfl) rfl
theorem q1103 : (Jvm.Cond.sameMethod "BallotFruit$Boil" "BallotFruit$Deed" "one" "()I") ∈ lw_all := lw_g (lw_at lw_m4 236 rfl) rfl
theorem q1105 : (Jvm.Cond.selects "BallotFruit$Boil" ({ cls := "BallotFruit$Boil", name := "one", desc := "()I" } : Jvm.MethodName) ({ cls := "BallotFruit$Deed", name := "one", desc := "()I" } : Jvm.MethodName)) ∈ lw_all := lw_g (lw_at lw_m4 238 rfl) rfl
theorem q1108 : (Jvm.Cond.methodLink "BallotFruit$Boil" (17 : Nat) ({ cls := "BallotFruit$Commune", name := "boils", desc := "(II)I" } : Jvm.MethodName)) ∈ lw_all := lw_g (lw_at lw_m5 1 rfl) rfl
theorem q2058 : (Jvm.Cond.castable "BallotFruit$Boil" "BallotFruit$Deed") ∈ lw_tbl := lw_at lw_m8 231 rfl
theorem q2079 : (Jvm.Cond.castable "BallotFruit$Boil" "java/lang/Object") ∈ lw_tbl := lw_at lw_m9 12 rfl
theorem in_X18 : ∀ w ∈ wsX180, w ∈ lw_all := lw_in wsX180 [958, 959, 956] (by decide +kernel) (by decide +kernel)
end

section
/-! BallotFruit$Cheese -/
set_option maxRecDepth 100000
def RX19 : String := "BallotFruit$Cheese"
def TX19 : u_T := fun k => match k with
  | 0 => ("BallotFruit$Deed", "week", "I", true)
  | _ => ("BallotFruit$Deed", "one", "I", true)
def tyX19 : Nat → FieldType := fun k => match k with
  | 0 => .int
  | _ => .int
abbrev wsX190 : List Cond := u_ws RX19 TX19 2
theorem nmX19 : ∀ a, a < 2 → ∀ b, b < 2 → a ≠ b → (TX19 a).2.1 ≠ (TX19 b).2.1 := by decide +kernel
theorem tyX19_ok : ∀ k, k < 2 → parseFieldDescriptor (TX19 k).2.2.1 = some (tyX19 k) := by decide +kernel
abbrev cX19_init : ByteArray := prog_4_method_1_code
def yX19_init : MethodName := ⟨RX19, "<init>", "(II)V"⟩
def dkwX19_init_0 : List UInt8 := [42, 27, 28, 183, 0, 3, 177]
abbrev dktX19_init_0 : List UInt8 := dkwX19_init_0 ++ []
theorem dksX19_init_0 : cX19_init.data.toList.drop 0 = dktX19_init_0 := by decide +kernel
theorem dX19_init_0 : decode cX19_init 0 = .ok (.aload_n 0, 1) := dk_42 (dk_at dksX19_init_0 0 rfl rfl)
theorem dX19_init_1 : decode cX19_init 1 = .ok (.iload_n 1, 1) := dk_27 (dk_at dksX19_init_0 1 rfl rfl)
theorem dX19_init_2 : decode cX19_init 2 = .ok (.iload_n 2, 1) := dk_28 (dk_at dksX19_init_0 2 rfl rfl)
theorem dX19_init_3 : decode cX19_init 3 = .ok (.invokespecial 3, 3) := dk_183 0 3 (dk_at dksX19_init_0 3 rfl rfl)
theorem dX19_init_6 : decode cX19_init 6 = .ok (.return_, 1) := dk_177 (dk_at dksX19_init_0 6 rfl rfl)
abbrev cX19_does : ByteArray := prog_4_method_2_code
def yX19_does : MethodName := ⟨RX19, "does", "(LBallotFruit$Commune;)V"⟩
def dkwX19_does_1 : List UInt8 := [104, 184, 0, 27, 181, 0, 21, 177]
abbrev dktX19_does_1 : List UInt8 := dkwX19_does_1 ++ []
def dkwX19_does_0 : List UInt8 := [43, 180, 0, 9, 42, 182, 0, 15, 50, 16, 20, 5, 43, 180, 0, 9, 42, 182, 0, 15, 50, 180, 0, 21]
abbrev dktX19_does_0 : List UInt8 := dkwX19_does_0 ++ dktX19_does_1
theorem dksX19_does_0 : cX19_does.data.toList.drop 0 = dktX19_does_0 := by decide +kernel
theorem dksX19_does_1 : cX19_does.data.toList.drop 24 = dktX19_does_1 := dk_seg dksX19_does_0 24 rfl rfl
theorem dX19_does_0 : decode cX19_does 0 = .ok (.aload_n 1, 1) := dk_43 (dk_at dksX19_does_0 0 rfl rfl)
theorem dX19_does_1 : decode cX19_does 1 = .ok (.getfield 9, 3) := dk_180 0 9 (dk_at dksX19_does_0 1 rfl rfl)
theorem dX19_does_4 : decode cX19_does 4 = .ok (.aload_n 0, 1) := dk_42 (dk_at dksX19_does_0 4 rfl rfl)
theorem dX19_does_5 : decode cX19_does 5 = .ok (.invokevirtual 15, 3) := dk_182 0 15 (dk_at dksX19_does_0 5 rfl rfl)
theorem dX19_does_8 : decode cX19_does 8 = .ok (.aaload, 1) := dk_50 (dk_at dksX19_does_0 8 rfl rfl)
theorem dX19_does_9 : decode cX19_does 9 = .ok (.bipush 20, 2) := dk_16 20 (dk_at dksX19_does_0 9 rfl rfl)
theorem dX19_does_11 : decode cX19_does 11 = .ok (.iconst 2, 1) := dk_5 (dk_at dksX19_does_0 11 rfl rfl)
theorem dX19_does_12 : decode cX19_does 12 = .ok (.aload_n 1, 1) := dk_43 (dk_at dksX19_does_0 12 rfl rfl)
theorem dX19_does_13 : decode cX19_does 13 = .ok (.getfield 9, 3) := dk_180 0 9 (dk_at dksX19_does_0 13 rfl rfl)
theorem dX19_does_16 : decode cX19_does 16 = .ok (.aload_n 0, 1) := dk_42 (dk_at dksX19_does_0 16 rfl rfl)
theorem dX19_does_17 : decode cX19_does 17 = .ok (.invokevirtual 15, 3) := dk_182 0 15 (dk_at dksX19_does_0 17 rfl rfl)
theorem dX19_does_20 : decode cX19_does 20 = .ok (.aaload, 1) := dk_50 (dk_at dksX19_does_0 20 rfl rfl)
theorem dX19_does_21 : decode cX19_does 21 = .ok (.getfield 21, 3) := dk_180 0 21 (dk_at dksX19_does_0 21 rfl rfl)
theorem dX19_does_24 : decode cX19_does 24 = .ok (.imul, 1) := dk_104 (dk_at dksX19_does_1 0 rfl rfl)
theorem dX19_does_25 : decode cX19_does 25 = .ok (.invokestatic 27, 3) := dk_184 0 27 (dk_at dksX19_does_1 1 rfl rfl)
theorem dX19_does_28 : decode cX19_does 28 = .ok (.putfield 21, 3) := dk_181 0 21 (dk_at dksX19_does_1 4 rfl rfl)
theorem dX19_does_31 : decode cX19_does 31 = .ok (.return_, 1) := dk_177 (dk_at dksX19_does_1 7 rfl rfl)
theorem q181 : (Jvm.Cond.initialized "BallotFruit$Cheese") ∈ lw_all := lw_g (lw_at lw_m1 34 rfl) rfl
theorem q291 : (Jvm.Cond.fieldLinkNest "BallotFruit$Cheese" (21 : Nat) "BallotFruit$Eater" "hunger" "I" "BallotFruit") ∈ lw_tbl := lw_at lw_m1 144 rfl
theorem q304 : (Jvm.Cond.fieldLinkNest "BallotFruit$Cheese" (9 : Nat) "BallotFruit$Commune" "eater" "[LBallotFruit$Eater;" "BallotFruit") ∈ lw_tbl := lw_at lw_m1 157 rfl
theorem q850 : (Jvm.Cond.selects "BallotFruit$Cheese" ({ cls := "java/lang/Object", name := "getClass", desc := "()Ljava/lang/Class;" } : Jvm.MethodName) ({ cls := "java/lang/Object", name := "getClass", desc := "()Ljava/lang/Class;" } : Jvm.MethodName)) ∈ lw_all := lw_g (lw_at lw_m3 223 rfl) rfl
theorem q962 : (Jvm.Cond.instantiable "BallotFruit$Cheese" (2 : Nat)) ∈ lw_all := lw_g (lw_at lw_m4 95 rfl) rfl
theorem q964 : (Jvm.Cond.instanceMethod ({ cls := "BallotFruit$Cheese", name := "<init>", desc := "(II)V" } : Jvm.MethodName)) ∈ lw_all := lw_g (lw_at lw_m4 97 rfl) rfl
theorem q965 : (Jvm.Cond.code ({ cls := "BallotFruit$Cheese", name := "<init>", desc := "(II)V" } : Jvm.MethodName) prog_4_method_1_code (3 : Nat) (Option.none : Option Jvm.ClassFile.FieldType)) ∈ lw_all := lw_g (lw_at lw_m4 98 rfl) rfl
theorem q966 : (Jvm.Cond.methodLink "BallotFruit$Cheese" (3 : Nat) ({ cls := "BallotFruit$Deed", name := "<init>", desc := "(II)V" } : Jvm.MethodName)) ∈ lw_all := lw_g (lw_at lw_m4 99 rfl) rfl
theorem q967 : (Jvm.Cond.laysFinal "BallotFruit$Cheese" "BallotFruit$Deed" "week" "I") ∈ lw_all := lw_g (lw_at lw_m4 100 rfl) rfl
theorem q968 : (Jvm.Cond.laysFinal "BallotFruit$Cheese" "BallotFruit$Deed" "one" "I") ∈ lw_all := lw_g (lw_at lw_m4 101 rfl) rfl
theorem q969 : (Jvm.Cond.superclass "BallotFruit$Cheese" "BallotFruit$Deed") ∈ lw_all := lw_g (lw_at lw_m4 102 rfl) rfl
theorem q1092 : (Jvm.Cond.selects "BallotFruit$Cheese" ({ cls := "BallotFruit$Deed", name := "isOf", desc := "(I)Z" } : Jvm.MethodName) ({ cls := "BallotFruit$Deed", name := "isOf", desc := "(I)Z" } : Jvm.MethodName)) ∈ lw_all := lw_g (lw_at lw_m4 225 rfl) rfl
theorem q1109 : (Jvm.Cond.selects "BallotFruit$Cheese" ({ cls := "BallotFruit$Deed", name := "does", desc := "(LBallotFruit$Commune;)V" } : Jvm.MethodName) ({ cls := "BallotFruit$Cheese", name := "does", desc := "(LBallotFruit$Commune;)V" } : Jvm.MethodName)) ∈ lw_all := lw_g (lw_at lw_m5 2 rfl) rfl
theorem q1110 : (Jvm.Cond.instanceMethod ({ cls := "BallotFruit$Cheese", name := "does", desc := "(LBallotFruit$Commune;)V" } : Jvm.MethodName)) ∈ lw_all := lw_g (lw_at lw_m5 3 rfl) rfl
theorem q1111 : (Jvm.Cond.code ({ cls := "BallotFruit$Cheese", name := "does", desc := "(LBallotFruit$Commune;)V" } : Jvm.MethodName) prog_4_method_2_code (2 : Nat) (Option.none : Option Jvm.ClassFile.FieldType)) ∈ lw_all := lw_g (lw_at lw_m5 4 rfl) rfl
theorem q1112 : (Jvm.Cond.methodLink "BallotFruit$Cheese" (15 : Nat) ({ cls := "BallotFruit$Cheese", name := "one", desc := "()I" } : Jvm.MethodName)) ∈ lw_all := lw_g (lw_at lw_m5 5 rfl) rfl
theorem q1113 : (Jvm.Cond.sameMethod "BallotFruit$Cheese" "BallotFruit$Deed" "one" "()I") ∈ lw_all := lw_g (lw_at lw_m5 6 rfl) rfl
theorem q1114 : (Jvm.Cond.selects "BallotFruit$Cheese" ({ cls := "BallotFruit$Cheese", name := "one", desc := "()I" } : Jvm.MethodName) ({ cls := "BallotFruit$Deed", name := "one", desc := "()I" } : Jvm.MethodName)) ∈ lw_all := lw_g (lw_at lw_m5 7 rfl) rfl
theorem q1115 : (Jvm.Cond.methodLink "BallotFruit$Cheese" (27 : Nat) ({ cls := "java/lang/Math", name := "min", desc := "(II)I" } : Jvm.MethodName)) ∈ lw_all := lw_g (lw_at lw_m5 8 rfl) rfl
theorem q2059 : (Jvm.Cond.castable "BallotFruit$Cheese" "BallotFruit$Deed") ∈ lw_tbl := lw_at lw_m8 232 rfl
theorem q2080 : (Jvm.Cond.castable "BallotFruit$Cheese" "java/lang/Object") ∈ lw_tbl := lw_at lw_m9 13 rfl
theorem in_X19 : ∀ w ∈ wsX190, w ∈ lw_all := lw_in wsX190 [967, 968] (by decide +kernel) (by decide +kernel)
end
