/-! NineKeysRound$Facts -/
set_option maxRecDepth 100000
def RX1 : String := "NineKeysRound$Facts"
def TX1 : u_T := fun k => match k with
  | _ => ("NineKeysRound$Facts", "named", "[I", true)
def tyX1 : Nat → FieldType := fun k => match k with
  | _ => .array .int
abbrev wsX10 : List Cond := u_ws RX1 TX1 1
theorem nmX1 : ∀ a, a < 1 → ∀ b, b < 1 → a ≠ b → (TX1 a).2.1 ≠ (TX1 b).2.1 := by decide +kernel
theorem tyX1_ok : ∀ k, k < 1 → parseFieldDescriptor (TX1 k).2.2.1 = some (tyX1 k) := by decide +kernel
abbrev cX1_init : ByteArray := prog_9_method_1_code
def yX1_init : MethodName := ⟨RX1, "<init>", "()V"⟩
def dkwX1_init_0 : List UInt8 := [42, 183, 0, 1, 42, 17, 0, 128, 188, 10, 181, 0, 7, 177]
abbrev dktX1_init_0 : List UInt8 := dkwX1_init_0 ++ []
theorem dksX1_init_0 : cX1_init.data.toList.drop 0 = dktX1_init_0 := by decide +kernel
theorem dX1_init_0 : decode cX1_init 0 = .ok (.aload_n 0, 1) := dk_42 (dk_at dksX1_init_0 0 rfl rfl)
theorem dX1_init_1 : decode cX1_init 1 = .ok (.invokespecial 1, 3) := dk_183 0 1 (dk_at dksX1_init_0 1 rfl rfl)
theorem dX1_init_4 : decode cX1_init 4 = .ok (.aload_n 0, 1) := dk_42 (dk_at dksX1_init_0 4 rfl rfl)
theorem dX1_init_5 : decode cX1_init 5 = .ok (.sipush 128, 3) := dk_17 0 128 (dk_at dksX1_init_0 5 rfl rfl)
theorem dX1_init_8 : decode cX1_init 8 = .ok (.newarray .int, 2) := dk_188_10 (dk_at dksX1_init_0 8 rfl rfl)
theorem dX1_init_10 : decode cX1_init 10 = .ok (.putfield 7, 3) := dk_181 0 7 (dk_at dksX1_init_0 10 rfl rfl)
theorem dX1_init_13 : decode cX1_init 13 = .ok (.return_, 1) := dk_177 (dk_at dksX1_init_0 13 rfl rfl)
abbrev cX1_clear : ByteArray := prog_9_method_2_code
def yX1_clear : MethodName := ⟨RX1, "clear", "()V"⟩
def dkwX1_clear_1 : List UInt8 := [177]
abbrev dktX1_clear_1 : List UInt8 := dkwX1_clear_1 ++ []
def dkwX1_clear_0 : List UInt8 := [3, 60, 27, 42, 180, 0, 7, 190, 162, 0, 16, 42, 180, 0, 7, 27, 3, 79, 132, 1, 1, 167, 255, 237]
abbrev dktX1_clear_0 : List UInt8 := dkwX1_clear_0 ++ dktX1_clear_1
theorem dksX1_clear_0 : cX1_clear.data.toList.drop 0 = dktX1_clear_0 := by decide +kernel
theorem dksX1_clear_1 : cX1_clear.data.toList.drop 24 = dktX1_clear_1 := dk_seg dksX1_clear_0 24 rfl rfl
theorem dX1_clear_0 : decode cX1_clear 0 = .ok (.iconst 0, 1) := dk_3 (dk_at dksX1_clear_0 0 rfl rfl)
theorem dX1_clear_1 : decode cX1_clear 1 = .ok (.istore_n 1, 1) := dk_60 (dk_at dksX1_clear_0 1 rfl rfl)
theorem dX1_clear_2 : decode cX1_clear 2 = .ok (.iload_n 1, 1) := dk_27 (dk_at dksX1_clear_0 2 rfl rfl)
theorem dX1_clear_3 : decode cX1_clear 3 = .ok (.aload_n 0, 1) := dk_42 (dk_at dksX1_clear_0 3 rfl rfl)
theorem dX1_clear_4 : decode cX1_clear 4 = .ok (.getfield 7, 3) := dk_180 0 7 (dk_at dksX1_clear_0 4 rfl rfl)
theorem dX1_clear_7 : decode cX1_clear 7 = .ok (.arraylength, 1) := dk_190 (dk_at dksX1_clear_0 7 rfl rfl)
theorem dX1_clear_8 : decode cX1_clear 8 = .ok (.if_icmp .ge 16, 3) := dk_162 0 16 (dk_at dksX1_clear_0 8 rfl rfl)
theorem dX1_clear_11 : decode cX1_clear 11 = .ok (.aload_n 0, 1) := dk_42 (dk_at dksX1_clear_0 11 rfl rfl)
theorem dX1_clear_12 : decode cX1_clear 12 = .ok (.getfield 7, 3) := dk_180 0 7 (dk_at dksX1_clear_0 12 rfl rfl)
theorem dX1_clear_15 : decode cX1_clear 15 = .ok (.iload_n 1, 1) := dk_27 (dk_at dksX1_clear_0 15 rfl rfl)
theorem dX1_clear_16 : decode cX1_clear 16 = .ok (.iconst 0, 1) := dk_3 (dk_at dksX1_clear_0 16 rfl rfl)
theorem dX1_clear_17 : decode cX1_clear 17 = .ok (.iastore, 1) := dk_79 (dk_at dksX1_clear_0 17 rfl rfl)
theorem dX1_clear_18 : decode cX1_clear 18 = .ok (.iinc 1 1, 3) := dk_132 1 1 (dk_at dksX1_clear_0 18 rfl rfl)
theorem dX1_clear_21 : decode cX1_clear 21 = .ok (.goto (-19), 3) := dk_167 255 237 (dk_at dksX1_clear_0 21 rfl rfl)
theorem dX1_clear_24 : decode cX1_clear 24 = .ok (.return_, 1) := dk_177 (dk_at dksX1_clear_1 0 rfl rfl)
theorem q114 : (Jvm.Cond.initialized "NineKeysRound$Facts") ∈ lw_all := lw_g (lw_at lw_m1 2 rfl) rfl
theorem q170 : (Jvm.Cond.instantiable "NineKeysRound$Facts" (1 : Nat)) ∈ lw_all := lw_g (lw_at lw_m1 58 rfl) rfl
theorem q172 : (Jvm.Cond.instanceMethod ({ cls := "NineKeysRound$Facts", name := "<init>", desc := "()V" } : Jvm.MethodName)) ∈ lw_all := lw_g (lw_at lw_m1 60 rfl) rfl
theorem q173 : (Jvm.Cond.code ({ cls := "NineKeysRound$Facts", name := "<init>", desc := "()V" } : Jvm.MethodName) prog_9_method_1_code (1 : Nat) (Option.none : Option Jvm.ClassFile.FieldType)) ∈ lw_all := lw_g (lw_at lw_m1 61 rfl) rfl
theorem q174 : (Jvm.Cond.methodLink "NineKeysRound$Facts" (1 : Nat) ({ cls := "java/lang/Object", name := "<init>", desc := "()V" } : Jvm.MethodName)) ∈ lw_all := lw_g (lw_at lw_m1 62 rfl) rfl
theorem q175 : (Jvm.Cond.fieldLink "NineKeysRound$Facts" (7 : Nat) "NineKeysRound$Facts" "named" "[I") ∈ lw_all := lw_g (lw_at lw_m1 63 rfl) rfl
theorem q178 : (Jvm.Cond.laysFinal "NineKeysRound$Facts" "NineKeysRound$Facts" "named" "[I") ∈ lw_all := lw_g (lw_at lw_m1 66 rfl) rfl
theorem q179 : (Jvm.Cond.soleField "NineKeysRound$Facts" "named") ∈ lw_all := lw_g (lw_at lw_m1 67 rfl) rfl
theorem q180 : (Jvm.Cond.superclass "NineKeysRound$Facts" "java/lang/Object") ∈ lw_all := lw_g (lw_at lw_m1 68 rfl) rfl
theorem q916 : (Jvm.Cond.instanceMethod ({ cls := "NineKeysRound$Facts", name := "clear", desc := "()V" } : Jvm.MethodName)) ∈ lw_all := lw_g (lw_at lw_m4 84 rfl) rfl
theorem q917 : (Jvm.Cond.selects "NineKeysRound$Facts" ({ cls := "NineKeysRound$Facts", name := "clear", desc := "()V" } : Jvm.MethodName) ({ cls := "NineKeysRound$Facts", name := "clear", desc := "()V" } : Jvm.MethodName)) ∈ lw_all := lw_g (lw_at lw_m4 85 rfl) rfl
theorem q918 : (Jvm.Cond.code ({ cls := "NineKeysRound$Facts", name := "clear", desc := "()V" } : Jvm.MethodName) prog_9_method_2_code (2 : Nat) (Option.none : Option Jvm.ClassFile.FieldType)) ∈ lw_all := lw_g (lw_at lw_m4 86 rfl) rfl
theorem in_X1 : ∀ w ∈ wsX10, w ∈ lw_all := lw_in wsX10 [178] (by decide +kernel) (by decide +kernel)
/-! NineKeysRound$Post -/
set_option maxRecDepth 100000
def RX3 : String := "NineKeysRound$Post"
def TX3 : u_T := fun k => match k with
  | 0 => ("NineKeysRound$Post", "x", "I", false)
  | 1 => ("NineKeysRound$Post", "y", "I", false)
  | 2 => ("NineKeysRound$Post", "value", "I", false)
  | 3 => ("NineKeysRound$Post", "due", "I", false)
  | _ => ("NineKeysRound$Post", "dents", "I", false)
def tyX3 : Nat → FieldType := fun k => match k with
  | 0 => .int
  | 1 => .int
  | 2 => .int
  | 3 => .int
  | _ => .int
abbrev wsX30 : List Cond := u_ws RX3 TX3 5
theorem nmX3 : ∀ a, a < 5 → ∀ b, b < 5 → a ≠ b → (TX3 a).2.1 ≠ (TX3 b).2.1 := by decide +kernel
theorem tyX3_ok : ∀ k, k < 5 → parseFieldDescriptor (TX3 k).2.2.1 = some (tyX3 k) := by decide +kernel
abbrev cX3_init : ByteArray := prog_21_method_1_code
def yX3_init : MethodName := ⟨RX3, "<init>", "(II)V"⟩
def dkwX3_init_1 : List UInt8 := [181, 0, 19, 177]
abbrev dktX3_init_1 : List UInt8 := dkwX3_init_1 ++ []
def dkwX3_init_0 : List UInt8 := [42, 183, 0, 1, 42, 4, 181, 0, 7, 42, 16, 60, 181, 0, 13, 42, 27, 181, 0, 16, 42, 28]
abbrev dktX3_init_0 : List UInt8 := dkwX3_init_0 ++ dktX3_init_1
theorem dksX3_init_0 : cX3_init.data.toList.drop 0 = dktX3_init_0 := by decide +kernel
theorem dksX3_init_1 : cX3_init.data.toList.drop 22 = dktX3_init_1 := dk_seg dksX3_init_0 22 rfl rfl
theorem dX3_init_0 : decode cX3_init 0 = .ok (.aload_n 0, 1) := dk_42 (dk_at dksX3_init_0 0 rfl rfl)
theorem dX3_init_1 : decode cX3_init 1 = .ok (.invokespecial 1, 3) := dk_183 0 1 (dk_at dksX3_init_0 1 rfl rfl)
theorem dX3_init_4 : decode cX3_init 4 = .ok (.aload_n 0, 1) := dk_42 (dk_at dksX3_init_0 4 rfl rfl)
theorem dX3_init_5 : decode cX3_init 5 = .ok (.iconst 1, 1) := dk_4 (dk_at dksX3_init_0 5 rfl rfl)
theorem dX3_init_6 : decode cX3_init 6 = .ok (.putfield 7, 3) := dk_181 0 7 (dk_at dksX3_init_0 6 rfl rfl)
theorem dX3_init_9 : decode cX3_init 9 = .ok (.aload_n 0, 1) := dk_42 (dk_at dksX3_init_0 9 rfl rfl)
theorem dX3_init_10 : decode cX3_init 10 = .ok (.bipush 60, 2) := dk_16 60 (dk_at dksX3_init_0 10 rfl rfl)
theorem dX3_init_12 : decode cX3_init 12 = .ok (.putfield 13, 3) := dk_181 0 13 (dk_at dksX3_init_0 12 rfl rfl)
theorem dX3_init_15 : decode cX3_init 15 = .ok (.aload_n 0, 1) := dk_42 (dk_at dksX3_init_0 15 rfl rfl)
theorem dX3_init_16 : decode cX3_init 16 = .ok (.iload_n 1, 1) := dk_27 (dk_at dksX3_init_0 16 rfl rfl)
theorem dX3_init_17 : decode cX3_init 17 = .ok (.putfield 16, 3) := dk_181 0 16 (dk_at dksX3_init_0 17 rfl rfl)
theorem dX3_init_20 : decode cX3_init 20 = .ok (.aload_n 0, 1) := dk_42 (dk_at dksX3_init_0 20 rfl rfl)
theorem dX3_init_21 : decode cX3_init 21 = .ok (.iload_n 2, 1) := dk_28 (dk_at dksX3_init_0 21 rfl rfl)
theorem dX3_init_22 : decode cX3_init 22 = .ok (.putfield 19, 3) := dk_181 0 19 (dk_at dksX3_init_1 0 rfl rfl)
theorem dX3_init_25 : decode cX3_init 25 = .ok (.return_, 1) := dk_177 (dk_at dksX3_init_1 3 rfl rfl)
abbrev cX3_fromPost : ByteArray := prog_21_method_3_code
def yX3_fromPost : MethodName := ⟨RX3, "fromPost", "(LNineKeysRound$Post;)I"⟩
def dkwX3_fromPost_0 : List UInt8 := [42, 43, 180, 0, 16, 43, 180, 0, 19, 182, 0, 28, 172]
abbrev dktX3_fromPost_0 : List UInt8 := dkwX3_fromPost_0 ++ []
theorem dksX3_fromPost_0 : cX3_fromPost.data.toList.drop 0 = dktX3_fromPost_0 := by decide +kernel
theorem dX3_fromPost_0 : decode cX3_fromPost 0 = .ok (.aload_n 0, 1) := dk_42 (dk_at dksX3_fromPost_0 0 rfl rfl)
theorem dX3_fromPost_1 : decode cX3_fromPost 1 = .ok (.aload_n 1, 1) := dk_43 (dk_at dksX3_fromPost_0 1 rfl rfl)
theorem dX3_fromPost_2 : decode cX3_fromPost 2 = .ok (.getfield 16, 3) := dk_180 0 16 (dk_at dksX3_fromPost_0 2 rfl rfl)
theorem dX3_fromPost_5 : decode cX3_fromPost 5 = .ok (.aload_n 1, 1) := dk_43 (dk_at dksX3_fromPost_0 5 rfl rfl)
theorem dX3_fromPost_6 : decode cX3_fromPost 6 = .ok (.getfield 19, 3) := dk_180 0 19 (dk_at dksX3_fromPost_0 6 rfl rfl)
theorem dX3_fromPost_9 : decode cX3_fromPost 9 = .ok (.invokevirtual 28, 3) := dk_182 0 28 (dk_at dksX3_fromPost_0 9 rfl rfl)
theorem dX3_fromPost_12 : decode cX3_fromPost 12 = .ok (.ireturn, 1) := dk_172 (dk_at dksX3_fromPost_0 12 rfl rfl)
abbrev cX3_farFrom : ByteArray := prog_21_method_2_code
def yX3_farFrom : MethodName := ⟨RX3, "farFrom", "(II)I"⟩
def dkwX3_farFrom_0 : List UInt8 := [42, 180, 0, 16, 27, 100, 184, 0, 22, 42, 180, 0, 19, 28, 100, 184, 0, 22, 96, 172]
abbrev dktX3_farFrom_0 : List UInt8 := dkwX3_farFrom_0 ++ []
theorem dksX3_farFrom_0 : cX3_farFrom.data.toList.drop 0 = dktX3_farFrom_0 := by decide +kernel
theorem dX3_farFrom_0 : decode cX3_farFrom 0 = .ok (.aload_n 0, 1) := dk_42 (dk_at dksX3_farFrom_0 0 rfl rfl)
theorem dX3_farFrom_1 : decode cX3_farFrom 1 = .ok (.getfield 16, 3) := dk_180 0 16 (dk_at dksX3_farFrom_0 1 rfl rfl)
theorem dX3_farFrom_4 : decode cX3_farFrom 4 = .ok (.iload_n 1, 1) := dk_27 (dk_at dksX3_farFrom_0 4 rfl rfl)
theorem dX3_farFrom_5 : decode cX3_farFrom 5 = .ok (.isub, 1) := dk_100 (dk_at dksX3_farFrom_0 5 rfl rfl)
theorem dX3_farFrom_6 : decode cX3_farFrom 6 = .ok (.invokestatic 22, 3) := dk_184 0 22 (dk_at dksX3_farFrom_0 6 rfl rfl)
theorem dX3_farFrom_9 : decode cX3_farFrom 9 = .ok (.aload_n 0, 1) := dk_42 (dk_at dksX3_farFrom_0 9 rfl rfl)
theorem dX3_farFrom_10 : decode cX3_farFrom 10 = .ok (.getfield 19, 3) := dk_180 0 19 (dk_at dksX3_farFrom_0 10 rfl rfl)
theorem dX3_farFrom_13 : decode cX3_farFrom 13 = .ok (.iload_n 2, 1) := dk_28 (dk_at dksX3_farFrom_0 13 rfl rfl)
theorem dX3_farFrom_14 : decode cX3_farFrom 14 = .ok (.isub, 1) := dk_100 (dk_at dksX3_farFrom_0 14 rfl rfl)
theorem dX3_farFrom_15 : decode cX3_farFrom 15 = .ok (.invokestatic 22, 3) := dk_184 0 22 (dk_at dksX3_farFrom_0 15 rfl rfl)
theorem dX3_farFrom_18 : decode cX3_farFrom 18 = .ok (.iadd, 1) := dk_96 (dk_at dksX3_farFrom_0 18 rfl rfl)
theorem dX3_farFrom_19 : decode cX3_farFrom 19 = .ok (.ireturn, 1) := dk_172 (dk_at dksX3_farFrom_0 19 rfl rfl)
theorem q116 : (Jvm.Cond.initialized "NineKeysRound$Post") ∈ lw_all := lw_g (lw_at lw_m1 4 rfl) rfl
theorem q352 : (Jvm.Cond.instantiable "NineKeysRound$Post" (5 : Nat)) ∈ lw_all := lw_g (lw_at lw_m2 0 rfl) rfl
theorem q354 : (Jvm.Cond.instanceMethod ({ cls := "NineKeysRound$Post", name := "<init>", desc := "(II)V" } : Jvm.MethodName)) ∈ lw_all := lw_g (lw_at lw_m2 2 rfl) rfl
theorem q355 : (Jvm.Cond.code ({ cls := "NineKeysRound$Post", name := "<init>", desc := "(II)V" } : Jvm.MethodName) prog_21_method_1_code (3 : Nat) (Option.none : Option Jvm.ClassFile.FieldType)) ∈ lw_all := lw_g (lw_at lw_m2 3 rfl) rfl
theorem q356 : (Jvm.Cond.methodLink "NineKeysRound$Post" (1 : Nat) ({ cls := "java/lang/Object", name := "<init>", desc := "()V" } : Jvm.MethodName)) ∈ lw_all := lw_g (lw_at lw_m2 4 rfl) rfl
theorem q357 : (Jvm.Cond.fieldLink "NineKeysRound$Post" (16 : Nat) "NineKeysRound$Post" "x" "I") ∈ lw_all := lw_g (lw_at lw_m2 5 rfl) rfl
theorem q359 : (Jvm.Cond.fieldLink "NineKeysRound$Post" (19 : Nat) "NineKeysRound$Post" "y" "I") ∈ lw_all := lw_g (lw_at lw_m2 7 rfl) rfl
theorem q361 : (Jvm.Cond.fieldLink "NineKeysRound$Post" (7 : Nat) "NineKeysRound$Post" "value" "I") ∈ lw_all := lw_g (lw_at lw_m2 9 rfl) rfl
theorem q363 : (Jvm.Cond.fieldLink "NineKeysRound$Post" (13 : Nat) "NineKeysRound$Post" "due" "I") ∈ lw_all := lw_g (lw_at lw_m2 11 rfl) rfl
theorem q366 : (Jvm.Cond.lays "NineKeysRound$Post" "NineKeysRound$Post" "x" "I") ∈ lw_all := lw_g (lw_at lw_m2 14 rfl) rfl
theorem q367 : (Jvm.Cond.soleField "NineKeysRound$Post" "x") ∈ lw_all := lw_g (lw_at lw_m2 15 rfl) rfl
theorem q368 : (Jvm.Cond.lays "NineKeysRound$Post" "NineKeysRound$Post" "y" "I") ∈ lw_all := lw_g (lw_at lw_m2 16 rfl) rfl
theorem q369 : (Jvm.Cond.soleField "NineKeysRound$Post" "y") ∈ lw_all := lw_g (lw_at lw_m2 17 rfl) rfl
theorem q370 : (Jvm.Cond.lays "NineKeysRound$Post" "NineKeysRound$Post" "value" "I") ∈ lw_all := lw_g (lw_at lw_m2 18 rfl) rfl
theorem q371 : (Jvm.Cond.soleField "NineKeysRound$Post" "value") ∈ lw_all := lw_g (lw_at lw_m2 19 rfl) rfl
theorem q372 : (Jvm.Cond.lays "NineKeysRound$Post" "NineKeysRound$Post" "due" "I") ∈ lw_all := lw_g (lw_at lw_m2 20 rfl) rfl
theorem q373 : (Jvm.Cond.soleField "NineKeysRound$Post" "due") ∈ lw_all := lw_g (lw_at lw_m2 21 rfl) rfl
theorem q374 : (Jvm.Cond.lays "NineKeysRound$Post" "NineKeysRound$Post" "dents" "I") ∈ lw_all := lw_g (lw_at lw_m2 22 rfl) rfl
theorem q375 : (Jvm.Cond.soleField "NineKeysRound$Post" "dents") ∈ lw_all := lw_g (lw_at lw_m2 23 rfl) rfl
theorem q376 : (Jvm.Cond.superclass "NineKeysRound$Post" "java/lang/Object") ∈ lw_all := lw_g (lw_at lw_m2 24 rfl) rfl
theorem q852 : (Jvm.Cond.instanceMethod ({ cls := "NineKeysRound$Post", name := "fromPost", desc := "(LNineKeysRound$Post;)I" } : Jvm.MethodName)) ∈ lw_all := lw_g (lw_at lw_m4 20 rfl) rfl
theorem q853 : (Jvm.Cond.selects "NineKeysRound$Post" ({ cls := "NineKeysRound$Post", name := "fromPost", desc := "(LNineKeysRound$Post;)I" } : Jvm.MethodName) ({ cls := "NineKeysRound$Post", name := "fromPost", desc := "(LNineKeysRound$Post;)I" } : Jvm.MethodName)) ∈ lw_all := lw_g (lw_at lw_m4 21 rfl) rfl
theorem q854 : (Jvm.Cond.code ({ cls := "NineKeysRound$Post", name := "fromPost", desc := "(LNineKeysRound$Post;)I" } : Jvm.MethodName) prog_21_method_3_code (2 : Nat) (Option.some Jvm.ClassFile.FieldType.int)) ∈ lw_all := lw_g (lw_at lw_m4 22 rfl) rfl
theorem q855 : (Jvm.Cond.methodLink "NineKeysRound$Post" (28 : Nat) ({ cls := "NineKeysRound$Post", name := "farFrom", desc := "(II)I" } : Jvm.MethodName)) ∈ lw_all := lw_g (lw_at lw_m4 23 rfl) rfl
theorem q856 : (Jvm.Cond.instanceMethod ({ cls := "NineKeysRound$Post", name := "farFrom", desc := "(II)I" } : Jvm.MethodName)) ∈ lw_all := lw_g (lw_at lw_m4 24 rfl) rfl
theorem q857 : (Jvm.Cond.selects "NineKeysRound$Post" ({ cls := "NineKeysRound$Post", name := "farFrom", desc := "(II)I" } : Jvm.MethodName) ({ cls := "NineKeysRound$Post", name := "farFrom", desc := "(II)I" } : Jvm.MethodName)) ∈ lw_all := lw_g (lw_at lw_m4 25 rfl) rfl
theorem q858 : (Jvm.Cond.code ({ cls := "NineKeysRound$Post", name := "farFrom", desc := "(II)I" } : Jvm.MethodName) prog_21_method_2_code (3 : Nat) (Option.some Jvm.ClassFile.FieldType.int)) ∈ lw_all := lw_g (lw_at lw_m4 26 rfl) rfl
theorem q859 : (Jvm.Cond.methodLink "NineKeysRound$Post" (22 : Nat) ({ cls := "java/lang/Math", name := "abs", desc := "(I)I" } : Jvm.MethodName)) ∈ lw_all := lw_g (lw_at lw_m4 27 rfl) rfl
theorem in_X3 : ∀ w ∈ wsX30, w ∈ lw_all := lw_in wsX30 [366, 368, 370, 372, 374] (by decide +kernel) (by decide +kernel)
/-! java/lang/Throwable -/
set_option maxRecDepth 100000
def RJ0 : String := "java/lang/Throwable"
def TJ0 : u_T := fun k => match k with
  | 0 => ("java/lang/Throwable", "cause", "Ljava/lang/Throwable;", false)
  | 1 => ("java/lang/Throwable", "stackTrace", "[Ljava/lang/StackTraceElement;", false)
  | 2 => ("java/lang/Throwable", "suppressedExceptions", "Ljava/util/List;", false)
  | 3 => ("java/lang/Throwable", "detailMessage", "Ljava/lang/String;", false)
  | _ => ("java/lang/Throwable", "backtrace", "Ljava/lang/Object;", false)
def tyJ0 : Nat → FieldType := fun k => match k with
  | 0 => .object "java/lang/Throwable"
  | 1 => .array (.object "java/lang/StackTraceElement")
  | 2 => .object "java/util/List"
  | 3 => .object "java/lang/String"
  | _ => .object "java/lang/Object"
abbrev wsJ00 : List Cond := u_ws RJ0 TJ0 5
theorem nmJ0 : ∀ a, a < 5 → ∀ b, b < 5 → a ≠ b → (TJ0 a).2.1 ≠ (TJ0 b).2.1 := by decide +kernel
theorem tyJ0_ok : ∀ k, k < 5 → parseFieldDescriptor (TJ0 k).2.2.1 = some (tyJ0 k) := by decide +kernel
abbrev cJ0_init : ByteArray := prog_46_method_2_code
def yJ0_init : MethodName := ⟨RJ0, "<init>", "(Ljava/lang/String;)V"⟩
def dkwJ0_init_1 : List UInt8 := [182, 0, 27, 87, 42, 43, 181, 0, 31, 177]
abbrev dktJ0_init_1 : List UInt8 := dkwJ0_init_1 ++ []
def dkwJ0_init_0 : List UInt8 := [42, 183, 0, 1, 42, 42, 181, 0, 7, 42, 178, 0, 13, 181, 0, 17, 42, 178, 0, 20, 181, 0, 24, 42]
abbrev dktJ0_init_0 : List UInt8 := dkwJ0_init_0 ++ dktJ0_init_1
theorem dksJ0_init_0 : cJ0_init.data.toList.drop 0 = dktJ0_init_0 := by decide +kernel
theorem dksJ0_init_1 : cJ0_init.data.toList.drop 24 = dktJ0_init_1 := dk_seg dksJ0_init_0 24 rfl rfl
theorem dJ0_init_0 : decode cJ0_init 0 = .ok (.aload_n 0, 1) := dk_42 (dk_at dksJ0_init_0 0 rfl rfl)
theorem dJ0_init_1 : decode cJ0_init 1 = .ok (.invokespecial 1, 3) := dk_183 0 1 (dk_at dksJ0_init_0 1 rfl rfl)
theorem dJ0_init_4 : decode cJ0_init 4 = .ok (.aload_n 0, 1) := dk_42 (dk_at dksJ0_init_0 4 rfl rfl)
theorem dJ0_init_5 : decode cJ0_init 5 = .ok (.aload_n 0, 1) := dk_42 (dk_at dksJ0_init_0 5 rfl rfl)
theorem dJ0_init_6 : decode cJ0_init 6 = .ok (.putfield 7, 3) := dk_181 0 7 (dk_at dksJ0_init_0 6 rfl rfl)
theorem dJ0_init_9 : decode cJ0_init 9 = .ok (.aload_n 0, 1) := dk_42 (dk_at dksJ0_init_0 9 rfl rfl)
theorem dJ0_init_10 : decode cJ0_init 10 = .ok (.getstatic 13, 3) := dk_178 0 13 (dk_at dksJ0_init_0 10 rfl rfl)
theorem dJ0_init_13 : decode cJ0_init 13 = .ok (.putfield 17, 3) := dk_181 0 17 (dk_at dksJ0_init_0 13 rfl rfl)
theorem dJ0_init_16 : decode cJ0_init 16 = .ok (.aload_n 0, 1) := dk_42 (dk_at dksJ0_init_0 16 rfl rfl)
theorem dJ0_init_17 : decode cJ0_init 17 = .ok (.getstatic 20, 3) := dk_178 0 20 (dk_at dksJ0_init_0 17 rfl rfl)
theorem dJ0_init_20 : decode cJ0_init 20 = .ok (.putfield 24, 3) := dk_181 0 24 (dk_at dksJ0_init_0 20 rfl rfl)
theorem dJ0_init_23 : decode cJ0_init 23 = .ok (.aload_n 0, 1) := dk_42 (dk_at dksJ0_init_0 23 rfl rfl)
theorem dJ0_init_24 : decode cJ0_init 24 = .ok (.invokevirtual 27, 3) := dk_182 0 27 (dk_at dksJ0_init_1 0 rfl rfl)
theorem dJ0_init_27 : decode cJ0_init 27 = .ok (.pop, 1) := dk_87 (dk_at dksJ0_init_1 3 rfl rfl)
theorem dJ0_init_28 : decode cJ0_init 28 = .ok (.aload_n 0, 1) := dk_42 (dk_at dksJ0_init_1 4 rfl rfl)
theorem dJ0_init_29 : decode cJ0_init 29 = .ok (.aload_n 1, 1) := dk_43 (dk_at dksJ0_init_1 5 rfl rfl)
theorem dJ0_init_30 : decode cJ0_init 30 = .ok (.putfield 31, 3) := dk_181 0 31 (dk_at dksJ0_init_1 6 rfl rfl)
theorem dJ0_init_33 : decode cJ0_init 33 = .ok (.return_, 1) := dk_177 (dk_at dksJ0_init_1 9 rfl rfl)
abbrev cJ0_init_2 : ByteArray := prog_46_method_1_code
def yJ0_init_2 : MethodName := ⟨RJ0, "<init>", "()V"⟩
def dkwJ0_init_2_1 : List UInt8 := [182, 0, 27, 87, 177]
abbrev dktJ0_init_2_1 : List UInt8 := dkwJ0_init_2_1 ++ []
def dkwJ0_init_2_0 : List UInt8 := [42, 183, 0, 1, 42, 42, 181, 0, 7, 42, 178, 0, 13, 181, 0, 17, 42, 178, 0, 20, 181, 0, 24, 42]
abbrev dktJ0_init_2_0 : List UInt8 := dkwJ0_init_2_0 ++ dktJ0_init_2_1
theorem dksJ0_init_2_0 : cJ0_init_2.data.toList.drop 0 = dktJ0_init_2_0 := by decide +kernel
theorem dksJ0_init_2_1 : cJ0_init_2.data.toList.drop 24 = dktJ0_init_2_1 := dk_seg dksJ0_init_2_0 24 rfl rfl
theorem dJ0_init_2_0 : decode cJ0_init_2 0 = .ok (.aload_n 0, 1) := dk_42 (dk_at dksJ0_init_2_0 0 rfl rfl)
theorem dJ0_init_2_1 : decode cJ0_init_2 1 = .ok (.invokespecial 1, 3) := dk_183 0 1 (dk_at dksJ0_init_2_0 1 rfl rfl)
theorem dJ0_init_2_4 : decode cJ0_init_2 4 = .ok (.aload_n 0, 1) := dk_42 (dk_at dksJ0_init_2_0 4 rfl rfl)
theorem dJ0_init_2_5 : decode cJ0_init_2 5 = .ok (.aload_n 0, 1) := dk_42 (dk_at dksJ0_init_2_0 5 rfl rfl)
theorem dJ0_init_2_6 : decode cJ0_init_2 6 = .ok (.putfield 7, 3) := dk_181 0 7 (dk_at dksJ0_init_2_0 6 rfl rfl)
theorem dJ0_init_2_9 : decode cJ0_init_2 9 = .ok (.aload_n 0, 1) := dk_42 (dk_at dksJ0_init_2_0 9 rfl rfl)
theorem dJ0_init_2_10 : decode cJ0_init_2 10 = .ok (.getstatic 13, 3) := dk_178 0 13 (dk_at dksJ0_init_2_0 10 rfl rfl)
theorem dJ0_init_2_13 : decode cJ0_init_2 13 = .ok (.putfield 17, 3) := dk_181 0 17 (dk_at dksJ0_init_2_0 13 rfl rfl)
theorem dJ0_init_2_16 : decode cJ0_init_2 16 = .ok (.aload_n 0, 1) := dk_42 (dk_at dksJ0_init_2_0 16 rfl rfl)
theorem dJ0_init_2_17 : decode cJ0_init_2 17 = .ok (.getstatic 20, 3) := dk_178 0 20 (dk_at dksJ0_init_2_0 17 rfl rfl)
theorem dJ0_init_2_20 : decode cJ0_init_2 20 = .ok (.putfield 24, 3) := dk_181 0 24 (dk_at dksJ0_init_2_0 20 rfl rfl)
theorem dJ0_init_2_23 : decode cJ0_init_2 23 = .ok (.aload_n 0, 1) := dk_42 (dk_at dksJ0_init_2_0 23 rfl rfl)
theorem dJ0_init_2_24 : decode cJ0_init_2 24 = .ok (.invokevirtual 27, 3) := dk_182 0 27 (dk_at dksJ0_init_2_1 0 rfl rfl)
theorem dJ0_init_2_27 : decode cJ0_init_2 27 = .ok (.pop, 1) := dk_87 (dk_at dksJ0_init_2_1 3 rfl rfl)
theorem dJ0_init_2_28 : decode cJ0_init_2 28 = .ok (.return_, 1) := dk_177 (dk_at dksJ0_init_2_1 4 rfl rfl)
theorem q117 : (Jvm.Cond.initialized "java/lang/Throwable") ∈ lw_all := lw_g (lw_at lw_m1 5 rfl) rfl
theorem q392 : (Jvm.Cond.instanceMethod ({ cls := "java/lang/Throwable", name := "<init>", desc := "(Ljava/lang/String;)V" } : Jvm.MethodName)) ∈ lw_all := lw_g (lw_at lw_m2 40 rfl) rfl
theorem q393 : (Jvm.Cond.code ({ cls := "java/lang/Throwable", name := "<init>", desc := "(Ljava/lang/String;)V" } : Jvm.MethodName) prog_46_method_2_code (2 : Nat) (Option.none : Option Jvm.ClassFile.FieldType)) ∈ lw_all := lw_g (lw_at lw_m2 41 rfl) rfl
theorem q394 : (Jvm.Cond.methodLink "java/lang/Throwable" (1 : Nat) ({ cls := "java/lang/Object", name := "<init>", desc := "()V" } : Jvm.MethodName)) ∈ lw_all := lw_g (lw_at lw_m2 42 rfl) rfl
theorem q395 : (Jvm.Cond.fieldLink "java/lang/Throwable" (13 : Nat) "java/lang/Throwable" "UNASSIGNED_STACK" "[Ljava/lang/StackTraceElement;") ∈ lw_all := lw_g (lw_at lw_m2 43 rfl) rfl
theorem q396 : (Jvm.Cond.laysStatic "java/lang/Throwable" "UNASSIGNED_STACK" "[Ljava/lang/StackTraceElement;") ∈ lw_tbl := lw_at lw_m2 44 rfl
theorem q397 : (Jvm.Cond.fieldLink "java/lang/Throwable" (20 : Nat) "java/lang/Throwable" "SUPPRESSED_SENTINEL" "Ljava/util/List;") ∈ lw_all := lw_g (lw_at lw_m2 45 rfl) rfl
theorem q398 : (Jvm.Cond.laysStatic "java/lang/Throwable" "SUPPRESSED_SENTINEL" "Ljava/util/List;") ∈ lw_tbl := lw_at lw_m2 46 rfl
theorem q399 : (Jvm.Cond.methodLink "java/lang/Throwable" (27 : Nat) ({ cls := "java/lang/Throwable", name := "fillInStackTrace", desc := "()Ljava/lang/Throwable;" } : Jvm.MethodName)) ∈ lw_all := lw_g (lw_at lw_m2 47 rfl) rfl
theorem q400 : (Jvm.Cond.instanceMethod ({ cls := "java/lang/Throwable", name := "fillInStackTrace", desc := "()Ljava/lang/Throwable;" } : Jvm.MethodName)) ∈ lw_all := lw_g (lw_at lw_m2 48 rfl) rfl
theorem q401 : (Jvm.Cond.sameMethod "java/lang/Throwable" "java/lang/Throwable" "fillInStackTrace" "()Ljava/lang/Throwable;") ∈ lw_all := lw_g (lw_at lw_m2 49 rfl) rfl
theorem q415 : (Jvm.Cond.declares ({ cls := "java/lang/Throwable", name := "fillInStackTrace", desc := "()Ljava/lang/Throwable;" } : Jvm.MethodName)) ∈ lw_tbl := lw_at lw_m2 63 rfl
theorem q419 : (Jvm.Cond.codeSync ({ cls := "java/lang/Throwable", name := "fillInStackTrace", desc := "()Ljava/lang/Throwable;" } : Jvm.MethodName) prog_46_method_18_code (1 : Nat) (Option.some (Jvm.ClassFile.FieldType.object "java/lang/Throwable"))) ∈ lw_all := lw_g (lw_at lw_m2 67 rfl) rfl
theorem q420 : (Jvm.Cond.methodLink "java/lang/Throwable" (202 : Nat) ({ cls := "java/lang/Throwable", name := "fillInStackTrace", desc := "(I)Ljava/lang/Throwable;" } : Jvm.MethodName)) ∈ lw_all := lw_g (lw_at lw_m2 68 rfl) rfl
theorem q421 : (Jvm.Cond.privateMethod ({ cls := "java/lang/Throwable", name := "fillInStackTrace", desc := "(I)Ljava/lang/Throwable;" } : Jvm.MethodName)) ∈ lw_tbl := lw_at lw_m2 69 rfl
theorem q422 : (Jvm.Cond.instanceMethod ({ cls := "java/lang/Throwable", name := "fillInStackTrace", desc := "(I)Ljava/lang/Throwable;" } : Jvm.MethodName)) ∈ lw_all := lw_g (lw_at lw_m2 70 rfl) rfl
theorem q423 : (Jvm.Cond.instantiable "java/lang/Throwable" (6 : Nat)) ∈ lw_all := lw_g (lw_at lw_m2 71 rfl) rfl
theorem q424 : (Jvm.Cond.native ({ cls := "java/lang/Throwable", name := "fillInStackTrace", desc := "(I)Ljava/lang/Throwable;" } : Jvm.MethodName)) ∈ lw_all := lw_g (lw_at lw_m2 72 rfl) rfl
theorem q425 : (Jvm.Cond.fieldLink "java/lang/Throwable" (198 : Nat) "java/lang/Throwable" "backtrace" "Ljava/lang/Object;") ∈ lw_all := lw_g (lw_at lw_m2 73 rfl) rfl
theorem q426 : (Jvm.Cond.fieldLink "java/lang/Throwable" (31 : Nat) "java/lang/Throwable" "detailMessage" "Ljava/lang/String;") ∈ lw_all := lw_g (lw_at lw_m2 74 rfl) rfl
theorem q427 : (Jvm.Cond.fieldLink "java/lang/Throwable" (7 : Nat) "java/lang/Throwable" "cause" "Ljava/lang/Throwable;") ∈ lw_all := lw_g (lw_at lw_m2 75 rfl) rfl
theorem q428 : (Jvm.Cond.fieldLink "java/lang/Throwable" (17 : Nat) "java/lang/Throwable" "stackTrace" "[Ljava/lang/StackTraceElement;") ∈ lw_all := lw_g (lw_at lw_m2 76 rfl) rfl
theorem q429 : (Jvm.Cond.fieldLink "java/lang/Throwable" (24 : Nat) "java/lang/Throwable" "suppressedExceptions" "Ljava/util/List;") ∈ lw_all := lw_g (lw_at lw_m2 77 rfl) rfl
theorem q431 : (Jvm.Cond.soleField "java/lang/Throwable" "backtrace") ∈ lw_all := lw_g (lw_at lw_m2 79 rfl) rfl
theorem q433 : (Jvm.Cond.soleField "java/lang/Throwable" "detailMessage") ∈ lw_all := lw_g (lw_at lw_m2 81 rfl) rfl
theorem q435 : (Jvm.Cond.soleField "java/lang/Throwable" "cause") ∈ lw_all := lw_g (lw_at lw_m2 83 rfl) rfl
theorem q437 : (Jvm.Cond.soleField "java/lang/Throwable" "stackTrace") ∈ lw_all := lw_g (lw_at lw_m2 85 rfl) rfl
theorem q439 : (Jvm.Cond.soleField "java/lang/Throwable" "depth") ∈ lw_all := lw_g (lw_at lw_m2 87 rfl) rfl
theorem q441 : (Jvm.Cond.soleField "java/lang/Throwable" "suppressedExceptions") ∈ lw_all := lw_g (lw_at lw_m2 89 rfl) rfl
theorem q448 : (Jvm.Cond.declares ({ cls := "java/lang/Throwable", name := "<init>", desc := "()V" } : Jvm.MethodName)) ∈ lw_tbl := lw_at lw_m2 96 rfl
theorem q449 : (Jvm.Cond.declares ({ cls := "java/lang/Throwable", name := "<init>", desc := "(Ljava/lang/String;)V" } : Jvm.MethodName)) ∈ lw_tbl := lw_at lw_m2 97 rfl
theorem q451 : (Jvm.Cond.lays "java/lang/Throwable" "java/lang/Throwable" "cause" "Ljava/lang/Throwable;") ∈ lw_all := lw_g (lw_at lw_m2 99 rfl) rfl
theorem q452 : (Jvm.Cond.lays "java/lang/Throwable" "java/lang/Throwable" "stackTrace" "[Ljava/lang/StackTraceElement;") ∈ lw_all := lw_g (lw_at lw_m2 100 rfl) rfl
theorem q453 : (Jvm.Cond.lays "java/lang/Throwable" "java/lang/Throwable" "suppressedExceptions" "Ljava/util/List;") ∈ lw_all := lw_g (lw_at lw_m2 101 rfl) rfl
theorem q454 : (Jvm.Cond.lays "java/lang/Throwable" "java/lang/Throwable" "detailMessage" "Ljava/lang/String;") ∈ lw_all := lw_g (lw_at lw_m2 102 rfl) rfl
theorem q455 : (Jvm.Cond.lays "java/lang/Throwable" "java/lang/Throwable" "backtrace" "Ljava/lang/Object;") ∈ lw_all := lw_g (lw_at lw_m2 103 rfl) rfl
theorem q456 : (Jvm.Cond.fieldLink "java/lang/Throwable" (198 : Nat) "java/lang/Throwable" "backtrace" "Ljava/lang/Object;") ∈ lw_all := lw_g (lw_at lw_m2 104 rfl) rfl
theorem q457 : (Jvm.Cond.superclass "java/lang/Throwable" "java/lang/Object") ∈ lw_all := lw_g (lw_at lw_m2 105 rfl) rfl
theorem q458 : (Jvm.Cond.instanceMethod ({ cls := "java/lang/Throwable", name := "<init>", desc := "()V" } : Jvm.MethodName)) ∈ lw_all := lw_g (lw_at lw_m2 106 rfl) rfl
theorem q459 : (Jvm.Cond.code ({ cls := "java/lang/Throwable", name := "<init>", desc := "()V" } : Jvm.MethodName) prog_46_method_1_code (1 : Nat) (Option.none : Option Jvm.ClassFile.FieldType)) ∈ lw_all := lw_g (lw_at lw_m2 107 rfl) rfl
theorem q2231 : (Jvm.Cond.sameMethod "java/lang/Throwable" "java/lang/Throwable" "fillInStackTrace" "(I)Ljava/lang/Throwable;") ∈ lw_all := lw_g (lw_at lw_m9 199 rfl) rfl
theorem in_J0 : ∀ w ∈ wsJ00, w ∈ lw_all := lw_in wsJ00 [451, 452, 453, 454, 455] (by decide +kernel) (by decide +kernel)
/-! java/lang/Exception -/
set_option maxRecDepth 100000
def RJ1 : String := "java/lang/Exception"
abbrev cJ1_init : ByteArray := prog_35_method_2_code
def yJ1_init : MethodName := ⟨RJ1, "<init>", "(Ljava/lang/String;)V"⟩
def dkwJ1_init_0 : List UInt8 := [42, 43, 183, 0, 7, 177]
abbrev dktJ1_init_0 : List UInt8 := dkwJ1_init_0 ++ []
theorem dksJ1_init_0 : cJ1_init.data.toList.drop 0 = dktJ1_init_0 := by decide +kernel
theorem dJ1_init_0 : decode cJ1_init 0 = .ok (.aload_n 0, 1) := dk_42 (dk_at dksJ1_init_0 0 rfl rfl)
theorem dJ1_init_1 : decode cJ1_init 1 = .ok (.aload_n 1, 1) := dk_43 (dk_at dksJ1_init_0 1 rfl rfl)
theorem dJ1_init_2 : decode cJ1_init 2 = .ok (.invokespecial 7, 3) := dk_183 0 7 (dk_at dksJ1_init_0 2 rfl rfl)
theorem dJ1_init_5 : decode cJ1_init 5 = .ok (.return_, 1) := dk_177 (dk_at dksJ1_init_0 5 rfl rfl)
abbrev cJ1_init_2 : ByteArray := prog_35_method_1_code
def yJ1_init_2 : MethodName := ⟨RJ1, "<init>", "()V"⟩
theorem dJ1_init_2_0 : decode cJ1_init_2 0 = .ok (.aload_n 0, 1) := by decide +kernel
theorem dJ1_init_2_1 : decode cJ1_init_2 1 = .ok (.invokespecial 1, 3) := by decide +kernel
theorem dJ1_init_2_4 : decode cJ1_init_2 4 = .ok (.return_, 1) := by decide +kernel
theorem q118 : (Jvm.Cond.initialized "java/lang/Exception") ∈ lw_all := lw_g (lw_at lw_m1 6 rfl) rfl
theorem q389 : (Jvm.Cond.instanceMethod ({ cls := "java/lang/Exception", name := "<init>", desc := "(Ljava/lang/String;)V" } : Jvm.MethodName)) ∈ lw_all := lw_g (lw_at lw_m2 37 rfl) rfl
theorem q390 : (Jvm.Cond.code ({ cls := "java/lang/Exception", name := "<init>", desc := "(Ljava/lang/String;)V" } : Jvm.MethodName) prog_35_method_2_code (2 : Nat) (Option.none : Option Jvm.ClassFile.FieldType)) ∈ lw_all := lw_g (lw_at lw_m2 38 rfl) rfl
theorem q391 : (Jvm.Cond.methodLink "java/lang/Exception" (7 : Nat) ({ cls := "java/lang/Throwable", name := "<init>", desc := "(Ljava/lang/String;)V" } : Jvm.MethodName)) ∈ lw_all := lw_g (lw_at lw_m2 39 rfl) rfl
theorem q418 : (Jvm.Cond.superclass "java/lang/Exception" "java/lang/Throwable") ∈ lw_all := lw_g (lw_at lw_m2 66 rfl) rfl
theorem q446 : (Jvm.Cond.declares ({ cls := "java/lang/Exception", name := "<init>", desc := "()V" } : Jvm.MethodName)) ∈ lw_tbl := lw_at lw_m2 94 rfl
theorem q447 : (Jvm.Cond.declares ({ cls := "java/lang/Exception", name := "<init>", desc := "(Ljava/lang/String;)V" } : Jvm.MethodName)) ∈ lw_tbl := lw_at lw_m2 95 rfl
theorem q472 : (Jvm.Cond.instanceMethod ({ cls := "java/lang/Exception", name := "<init>", desc := "()V" } : Jvm.MethodName)) ∈ lw_all := lw_g (lw_at lw_m2 120 rfl) rfl
theorem q473 : (Jvm.Cond.code ({ cls := "java/lang/Exception", name := "<init>", desc := "()V" } : Jvm.MethodName) prog_35_method_1_code (1 : Nat) (Option.none : Option Jvm.ClassFile.FieldType)) ∈ lw_all := lw_g (lw_at lw_m2 121 rfl) rfl
theorem q474 : (Jvm.Cond.methodLink "java/lang/Exception" (1 : Nat) ({ cls := "java/lang/Throwable", name := "<init>", desc := "()V" } : Jvm.MethodName)) ∈ lw_all := lw_g (lw_at lw_m2 122 rfl) rfl
/-! java/lang/RuntimeException -/
set_option maxRecDepth 100000
def RJ2 : String := "java/lang/RuntimeException"
abbrev cJ2_init : ByteArray := prog_41_method_2_code
def yJ2_init : MethodName := ⟨RJ2, "<init>", "(Ljava/lang/String;)V"⟩
def dkwJ2_init_0 : List UInt8 := [42, 43, 183, 0, 7, 177]
abbrev dktJ2_init_0 : List UInt8 := dkwJ2_init_0 ++ []
theorem dksJ2_init_0 : cJ2_init.data.toList.drop 0 = dktJ2_init_0 := by decide +kernel
theorem dJ2_init_0 : decode cJ2_init 0 = .ok (.aload_n 0, 1) := dk_42 (dk_at dksJ2_init_0 0 rfl rfl)
theorem dJ2_init_1 : decode cJ2_init 1 = .ok (.aload_n 1, 1) := dk_43 (dk_at dksJ2_init_0 1 rfl rfl)
theorem dJ2_init_2 : decode cJ2_init 2 = .ok (.invokespecial 7, 3) := dk_183 0 7 (dk_at dksJ2_init_0 2 rfl rfl)
theorem dJ2_init_5 : decode cJ2_init 5 = .ok (.return_, 1) := dk_177 (dk_at dksJ2_init_0 5 rfl rfl)
abbrev cJ2_init_2 : ByteArray := prog_41_method_1_code
def yJ2_init_2 : MethodName := ⟨RJ2, "<init>", "()V"⟩
theorem dJ2_init_2_0 : decode cJ2_init_2 0 = .ok (.aload_n 0, 1) := by decide +kernel
theorem dJ2_init_2_1 : decode cJ2_init_2 1 = .ok (.invokespecial 1, 3) := by decide +kernel
theorem dJ2_init_2_4 : decode cJ2_init_2 4 = .ok (.return_, 1) := by decide +kernel
theorem q119 : (Jvm.Cond.initialized "java/lang/RuntimeException") ∈ lw_all := lw_g (lw_at lw_m1 7 rfl) rfl
theorem q386 : (Jvm.Cond.instanceMethod ({ cls := "java/lang/RuntimeException", name := "<init>", desc := "(Ljava/lang/String;)V" } : Jvm.MethodName)) ∈ lw_all := lw_g (lw_at lw_m2 34 rfl) rfl
theorem q387 : (Jvm.Cond.code ({ cls := "java/lang/RuntimeException", name := "<init>", desc := "(Ljava/lang/String;)V" } : Jvm.MethodName) prog_41_method_2_code (2 : Nat) (Option.none : Option Jvm.ClassFile.FieldType)) ∈ lw_all := lw_g (lw_at lw_m2 35 rfl) rfl
theorem q388 : (Jvm.Cond.methodLink "java/lang/RuntimeException" (7 : Nat) ({ cls := "java/lang/Exception", name := "<init>", desc := "(Ljava/lang/String;)V" } : Jvm.MethodName)) ∈ lw_all := lw_g (lw_at lw_m2 36 rfl) rfl
theorem q414 : (Jvm.Cond.sameMethod "java/lang/RuntimeException" "java/lang/Throwable" "fillInStackTrace" "()Ljava/lang/Throwable;") ∈ lw_all := lw_g (lw_at lw_m2 62 rfl) rfl
theorem q417 : (Jvm.Cond.superclass "java/lang/RuntimeException" "java/lang/Exception") ∈ lw_all := lw_g (lw_at lw_m2 65 rfl) rfl
theorem q444 : (Jvm.Cond.declares ({ cls := "java/lang/RuntimeException", name := "<init>", desc := "()V" } : Jvm.MethodName)) ∈ lw_tbl := lw_at lw_m2 92 rfl
theorem q445 : (Jvm.Cond.declares ({ cls := "java/lang/RuntimeException", name := "<init>", desc := "(Ljava/lang/String;)V" } : Jvm.MethodName)) ∈ lw_tbl := lw_at lw_m2 93 rfl
theorem q469 : (Jvm.Cond.instanceMethod ({ cls := "java/lang/RuntimeException", name := "<init>", desc := "()V" } : Jvm.MethodName)) ∈ lw_all := lw_g (lw_at lw_m2 117 rfl) rfl
theorem q470 : (Jvm.Cond.code ({ cls := "java/lang/RuntimeException", name := "<init>", desc := "()V" } : Jvm.MethodName) prog_41_method_1_code (1 : Nat) (Option.none : Option Jvm.ClassFile.FieldType)) ∈ lw_all := lw_g (lw_at lw_m2 118 rfl) rfl
theorem q471 : (Jvm.Cond.methodLink "java/lang/RuntimeException" (1 : Nat) ({ cls := "java/lang/Exception", name := "<init>", desc := "()V" } : Jvm.MethodName)) ∈ lw_all := lw_g (lw_at lw_m2 119 rfl) rfl
theorem q489 : (Jvm.Cond.castable "java/lang/RuntimeException" "java/lang/Throwable") ∈ lw_tbl := lw_at lw_m2 137 rfl
/-! java/lang/ClassCastException -/
set_option maxRecDepth 100000
def RJ3 : String := "java/lang/ClassCastException"
def TJ3 : u_T := fun k => match k with
  | 0 => ("java/lang/Throwable", "backtrace", "Ljava/lang/Object;", false)
  | 1 => ("java/lang/Throwable", "detailMessage", "Ljava/lang/String;", false)
  | 2 => ("java/lang/Throwable", "cause", "Ljava/lang/Throwable;", false)
  | 3 => ("java/lang/Throwable", "stackTrace", "[Ljava/lang/StackTraceElement;", false)
  | 4 => ("java/lang/Throwable", "depth", "I", false)
  | _ => ("java/lang/Throwable", "suppressedExceptions", "Ljava/util/List;", false)
def tyJ3 : Nat → FieldType := fun k => match k with
  | 0 => .object "java/lang/Object"
  | 1 => .object "java/lang/String"
  | 2 => .object "java/lang/Throwable"
  | 3 => .array (.object "java/lang/StackTraceElement")
  | 4 => .int
  | _ => .object "java/util/List"
abbrev wsJ30 : List Cond := u_ws RJ3 TJ3 6
theorem nmJ3 : ∀ a, a < 6 → ∀ b, b < 6 → a ≠ b → (TJ3 a).2.1 ≠ (TJ3 b).2.1 := by decide +kernel
theorem tyJ3_ok : ∀ k, k < 6 → parseFieldDescriptor (TJ3 k).2.2.1 = some (tyJ3 k) := by decide +kernel
abbrev cJ3_init : ByteArray := prog_34_method_2_code
def yJ3_init : MethodName := ⟨RJ3, "<init>", "(Ljava/lang/String;)V"⟩
def dkwJ3_init_0 : List UInt8 := [42, 43, 183, 0, 7, 177]
abbrev dktJ3_init_0 : List UInt8 := dkwJ3_init_0 ++ []
theorem dksJ3_init_0 : cJ3_init.data.toList.drop 0 = dktJ3_init_0 := by decide +kernel
theorem dJ3_init_0 : decode cJ3_init 0 = .ok (.aload_n 0, 1) := dk_42 (dk_at dksJ3_init_0 0 rfl rfl)
theorem dJ3_init_1 : decode cJ3_init 1 = .ok (.aload_n 1, 1) := dk_43 (dk_at dksJ3_init_0 1 rfl rfl)
theorem dJ3_init_2 : decode cJ3_init 2 = .ok (.invokespecial 7, 3) := dk_183 0 7 (dk_at dksJ3_init_0 2 rfl rfl)
theorem dJ3_init_5 : decode cJ3_init 5 = .ok (.return_, 1) := dk_177 (dk_at dksJ3_init_0 5 rfl rfl)
theorem q120 : (Jvm.Cond.initialized "java/lang/ClassCastException") ∈ lw_all := lw_g (lw_at lw_m1 8 rfl) rfl
theorem q382 : (Jvm.Cond.instantiable "java/lang/ClassCastException" (6 : Nat)) ∈ lw_all := lw_g (lw_at lw_m2 30 rfl) rfl
theorem q383 : (Jvm.Cond.instanceMethod ({ cls := "java/lang/ClassCastException", name := "<init>", desc := "(Ljava/lang/String;)V" } : Jvm.MethodName)) ∈ lw_all := lw_g (lw_at lw_m2 31 rfl) rfl
theorem q384 : (Jvm.Cond.code ({ cls := "java/lang/ClassCastException", name := "<init>", desc := "(Ljava/lang/String;)V" } : Jvm.MethodName) prog_34_method_2_code (2 : Nat) (Option.none : Option Jvm.ClassFile.FieldType)) ∈ lw_all := lw_g (lw_at lw_m2 32 rfl) rfl
theorem q385 : (Jvm.Cond.methodLink "java/lang/ClassCastException" (7 : Nat) ({ cls := "java/lang/RuntimeException", name := "<init>", desc := "(Ljava/lang/String;)V" } : Jvm.MethodName)) ∈ lw_all := lw_g (lw_at lw_m2 33 rfl) rfl
theorem q403 : (Jvm.Cond.selects "java/lang/ClassCastException" ({ cls := "java/lang/Throwable", name := "fillInStackTrace", desc := "()Ljava/lang/Throwable;" } : Jvm.MethodName) ({ cls := "java/lang/Throwable", name := "fillInStackTrace", desc := "()Ljava/lang/Throwable;" } : Jvm.MethodName)) ∈ lw_all := lw_g (lw_at lw_m2 51 rfl) rfl
theorem q430 : (Jvm.Cond.lays "java/lang/ClassCastException" "java/lang/Throwable" "backtrace" "Ljava/lang/Object;") ∈ lw_all := lw_g (lw_at lw_m2 78 rfl) rfl
theorem q432 : (Jvm.Cond.lays "java/lang/ClassCastException" "java/lang/Throwable" "detailMessage" "Ljava/lang/String;") ∈ lw_all := lw_g (lw_at lw_m2 80 rfl) rfl
theorem q434 : (Jvm.Cond.lays "java/lang/ClassCastException" "java/lang/Throwable" "cause" "Ljava/lang/Throwable;") ∈ lw_all := lw_g (lw_at lw_m2 82 rfl) rfl
theorem q436 : (Jvm.Cond.lays "java/lang/ClassCastException" "java/lang/Throwable" "stackTrace" "[Ljava/lang/StackTraceElement;") ∈ lw_all := lw_g (lw_at lw_m2 84 rfl) rfl
theorem q438 : (Jvm.Cond.lays "java/lang/ClassCastException" "java/lang/Throwable" "depth" "I") ∈ lw_all := lw_g (lw_at lw_m2 86 rfl) rfl
theorem q440 : (Jvm.Cond.lays "java/lang/ClassCastException" "java/lang/Throwable" "suppressedExceptions" "Ljava/util/List;") ∈ lw_all := lw_g (lw_at lw_m2 88 rfl) rfl
theorem q442 : (Jvm.Cond.superclass "java/lang/ClassCastException" "java/lang/RuntimeException") ∈ lw_all := lw_g (lw_at lw_m2 90 rfl) rfl
theorem q443 : (Jvm.Cond.castable "java/lang/ClassCastException" "java/lang/ClassCastException") ∈ lw_tbl := lw_at lw_m2 91 rfl
theorem q450 : (Jvm.Cond.selects "java/lang/ClassCastException" ({ cls := "java/lang/Throwable", name := "fillInStackTrace", desc := "(I)Ljava/lang/Throwable;" } : Jvm.MethodName) ({ cls := "java/lang/Throwable", name := "fillInStackTrace", desc := "(I)Ljava/lang/Throwable;" } : Jvm.MethodName)) ∈ lw_all := lw_g (lw_at lw_m2 98 rfl) rfl
theorem in_J3 : ∀ w ∈ wsJ30, w ∈ lw_all := lw_in wsJ30 [430, 432, 434, 436, 438, 440] (by decide +kernel) (by decide +kernel)
/-! java/lang/String -/
set_option maxRecDepth 100000
def RJ4 : String := "java/lang/String"
def TJ4 : u_T := fun k => match k with
  | 0 => ("java/lang/String", "value", "[B", true)
  | _ => ("java/lang/String", "coder", "B", true)
def tyJ4 : Nat → FieldType := fun k => match k with
  | 0 => .array .byte
  | _ => .byte
abbrev wsJ40 : List Cond := u_ws RJ4 TJ4 2
theorem nmJ4 : ∀ a, a < 2 → ∀ b, b < 2 → a ≠ b → (TJ4 a).2.1 ≠ (TJ4 b).2.1 := by decide +kernel
theorem tyJ4_ok : ∀ k, k < 2 → parseFieldDescriptor (TJ4 k).2.2.1 = some (tyJ4 k) := by decide +kernel
abbrev cJ4_indexOf : ByteArray := prog_42_method_79_code
def yJ4_indexOf : MethodName := ⟨RJ4, "indexOf", "(I)I"⟩
def dkwJ4_indexOf_0 : List UInt8 := [42, 27, 3, 182, 2, 121, 172]
abbrev dktJ4_indexOf_0 : List UInt8 := dkwJ4_indexOf_0 ++ []
theorem dksJ4_indexOf_0 : cJ4_indexOf.data.toList.drop 0 = dktJ4_indexOf_0 := by decide +kernel
theorem dJ4_indexOf_0 : decode cJ4_indexOf 0 = .ok (.aload_n 0, 1) := dk_42 (dk_at dksJ4_indexOf_0 0 rfl rfl)
theorem dJ4_indexOf_1 : decode cJ4_indexOf 1 = .ok (.iload_n 1, 1) := dk_27 (dk_at dksJ4_indexOf_0 1 rfl rfl)
theorem dJ4_indexOf_2 : decode cJ4_indexOf 2 = .ok (.iconst 0, 1) := dk_3 (dk_at dksJ4_indexOf_0 2 rfl rfl)
theorem dJ4_indexOf_3 : decode cJ4_indexOf 3 = .ok (.invokevirtual 633, 3) := dk_182 2 121 (dk_at dksJ4_indexOf_0 3 rfl rfl)
theorem dJ4_indexOf_6 : decode cJ4_indexOf 6 = .ok (.ireturn, 1) := dk_172 (dk_at dksJ4_indexOf_0 6 rfl rfl)
abbrev cJ4_indexOf_2 : ByteArray := prog_42_method_80_code
def yJ4_indexOf_2 : MethodName := ⟨RJ4, "indexOf", "(II)I"⟩
def dkwJ4_indexOf_2_1 : List UInt8 := [180, 0, 9, 27, 28, 42, 182, 1, 249, 184, 2, 128, 172]
abbrev dktJ4_indexOf_2_1 : List UInt8 := dkwJ4_indexOf_2_1 ++ []
def dkwJ4_indexOf_2_0 : List UInt8 := [42, 182, 1, 236, 153, 0, 19, 42, 180, 0, 9, 27, 28, 42, 182, 1, 249, 184, 2, 125, 167, 0, 16, 42]
abbrev dktJ4_indexOf_2_0 : List UInt8 := dkwJ4_indexOf_2_0 ++ dktJ4_indexOf_2_1
theorem dksJ4_indexOf_2_0 : cJ4_indexOf_2.data.toList.drop 0 = dktJ4_indexOf_2_0 := by decide +kernel
theorem dksJ4_indexOf_2_1 : cJ4_indexOf_2.data.toList.drop 24 = dktJ4_indexOf_2_1 := dk_seg dksJ4_indexOf_2_0 24 rfl rfl
theorem dJ4_indexOf_2_0 : decode cJ4_indexOf_2 0 = .ok (.aload_n 0, 1) := dk_42 (dk_at dksJ4_indexOf_2_0 0 rfl rfl)
theorem dJ4_indexOf_2_1 : decode cJ4_indexOf_2 1 = .ok (.invokevirtual 492, 3) := dk_182 1 236 (dk_at dksJ4_indexOf_2_0 1 rfl rfl)
theorem dJ4_indexOf_2_4 : decode cJ4_indexOf_2 4 = .ok (.ifCond .eq 19, 3) := dk_153 0 19 (dk_at dksJ4_indexOf_2_0 4 rfl rfl)
theorem dJ4_indexOf_2_7 : decode cJ4_indexOf_2 7 = .ok (.aload_n 0, 1) := dk_42 (dk_at dksJ4_indexOf_2_0 7 rfl rfl)
theorem dJ4_indexOf_2_8 : decode cJ4_indexOf_2 8 = .ok (.getfield 9, 3) := dk_180 0 9 (dk_at dksJ4_indexOf_2_0 8 rfl rfl)
theorem dJ4_indexOf_2_11 : decode cJ4_indexOf_2 11 = .ok (.iload_n 1, 1) := dk_27 (dk_at dksJ4_indexOf_2_0 11 rfl rfl)
theorem dJ4_indexOf_2_12 : decode cJ4_indexOf_2 12 = .ok (.iload_n 2, 1) := dk_28 (dk_at dksJ4_indexOf_2_0 12 rfl rfl)
theorem dJ4_indexOf_2_13 : decode cJ4_indexOf_2 13 = .ok (.aload_n 0, 1) := dk_42 (dk_at dksJ4_indexOf_2_0 13 rfl rfl)
theorem dJ4_indexOf_2_14 : decode cJ4_indexOf_2 14 = .ok (.invokevirtual 505, 3) := dk_182 1 249 (dk_at dksJ4_indexOf_2_0 14 rfl rfl)
theorem dJ4_indexOf_2_17 : decode cJ4_indexOf_2 17 = .ok (.invokestatic 637, 3) := dk_184 2 125 (dk_at dksJ4_indexOf_2_0 17 rfl rfl)
theorem dJ4_indexOf_2_20 : decode cJ4_indexOf_2 20 = .ok (.goto 16, 3) := dk_167 0 16 (dk_at dksJ4_indexOf_2_0 20 rfl rfl)
theorem dJ4_indexOf_2_23 : decode cJ4_indexOf_2 23 = .ok (.aload_n 0, 1) := dk_42 (dk_at dksJ4_indexOf_2_0 23 rfl rfl)
theorem dJ4_indexOf_2_24 : decode cJ4_indexOf_2 24 = .ok (.getfield 9, 3) := dk_180 0 9 (dk_at dksJ4_indexOf_2_1 0 rfl rfl)
theorem dJ4_indexOf_2_27 : decode cJ4_indexOf_2 27 = .ok (.iload_n 1, 1) := dk_27 (dk_at dksJ4_indexOf_2_1 3 rfl rfl)
theorem dJ4_indexOf_2_28 : decode cJ4_indexOf_2 28 = .ok (.iload_n 2, 1) := dk_28 (dk_at dksJ4_indexOf_2_1 4 rfl rfl)
theorem dJ4_indexOf_2_29 : decode cJ4_indexOf_2 29 = .ok (.aload_n 0, 1) := dk_42 (dk_at dksJ4_indexOf_2_1 5 rfl rfl)
theorem dJ4_indexOf_2_30 : decode cJ4_indexOf_2 30 = .ok (.invokevirtual 505, 3) := dk_182 1 249 (dk_at dksJ4_indexOf_2_1 6 rfl rfl)
theorem dJ4_indexOf_2_33 : decode cJ4_indexOf_2 33 = .ok (.invokestatic 640, 3) := dk_184 2 128 (dk_at dksJ4_indexOf_2_1 9 rfl rfl)
theorem dJ4_indexOf_2_36 : decode cJ4_indexOf_2 36 = .ok (.ireturn, 1) := dk_172 (dk_at dksJ4_indexOf_2_1 12 rfl rfl)
abbrev cJ4_isLatin1 : ByteArray := prog_42_method_154_code
def yJ4_isLatin1 : MethodName := ⟨RJ4, "isLatin1", "()Z"⟩
def dkwJ4_isLatin1_0 : List UInt8 := [178, 0, 38, 153, 0, 14, 42, 180, 0, 15, 154, 0, 7, 4, 167, 0, 4, 3, 172]
abbrev dktJ4_isLatin1_0 : List UInt8 := dkwJ4_isLatin1_0 ++ []
theorem dksJ4_isLatin1_0 : cJ4_isLatin1.data.toList.drop 0 = dktJ4_isLatin1_0 := by decide +kernel
theorem dJ4_isLatin1_0 : decode cJ4_isLatin1 0 = .ok (.getstatic 38, 3) := dk_178 0 38 (dk_at dksJ4_isLatin1_0 0 rfl rfl)
theorem dJ4_isLatin1_3 : decode cJ4_isLatin1 3 = .ok (.ifCond .eq 14, 3) := dk_153 0 14 (dk_at dksJ4_isLatin1_0 3 rfl rfl)
theorem dJ4_isLatin1_6 : decode cJ4_isLatin1 6 = .ok (.aload_n 0, 1) := dk_42 (dk_at dksJ4_isLatin1_0 6 rfl rfl)
theorem dJ4_isLatin1_7 : decode cJ4_isLatin1 7 = .ok (.getfield 15, 3) := dk_180 0 15 (dk_at dksJ4_isLatin1_0 7 rfl rfl)
theorem dJ4_isLatin1_10 : decode cJ4_isLatin1 10 = .ok (.ifCond .ne 7, 3) := dk_154 0 7 (dk_at dksJ4_isLatin1_0 10 rfl rfl)
theorem dJ4_isLatin1_13 : decode cJ4_isLatin1 13 = .ok (.iconst 1, 1) := dk_4 (dk_at dksJ4_isLatin1_0 13 rfl rfl)
theorem dJ4_isLatin1_14 : decode cJ4_isLatin1 14 = .ok (.goto 4, 3) := dk_167 0 4 (dk_at dksJ4_isLatin1_0 14 rfl rfl)
theorem dJ4_isLatin1_17 : decode cJ4_isLatin1 17 = .ok (.iconst 0, 1) := dk_3 (dk_at dksJ4_isLatin1_0 17 rfl rfl)
theorem dJ4_isLatin1_18 : decode cJ4_isLatin1 18 = .ok (.ireturn, 1) := dk_172 (dk_at dksJ4_isLatin1_0 18 rfl rfl)
abbrev cJ4_length : ByteArray := prog_42_method_54_code
def yJ4_length : MethodName := ⟨RJ4, "length", "()I"⟩
def dkwJ4_length_0 : List UInt8 := [42, 180, 0, 9, 190, 42, 182, 1, 79, 122, 172]
abbrev dktJ4_length_0 : List UInt8 := dkwJ4_length_0 ++ []
theorem dksJ4_length_0 : cJ4_length.data.toList.drop 0 = dktJ4_length_0 := by decide +kernel
theorem dJ4_length_0 : decode cJ4_length 0 = .ok (.aload_n 0, 1) := dk_42 (dk_at dksJ4_length_0 0 rfl rfl)
theorem dJ4_length_1 : decode cJ4_length 1 = .ok (.getfield 9, 3) := dk_180 0 9 (dk_at dksJ4_length_0 1 rfl rfl)
theorem dJ4_length_4 : decode cJ4_length 4 = .ok (.arraylength, 1) := dk_190 (dk_at dksJ4_length_0 4 rfl rfl)
theorem dJ4_length_5 : decode cJ4_length 5 = .ok (.aload_n 0, 1) := dk_42 (dk_at dksJ4_length_0 5 rfl rfl)
theorem dJ4_length_6 : decode cJ4_length 6 = .ok (.invokevirtual 335, 3) := dk_182 1 79 (dk_at dksJ4_length_0 6 rfl rfl)
theorem dJ4_length_9 : decode cJ4_length 9 = .ok (.ishr, 1) := dk_122 (dk_at dksJ4_length_0 9 rfl rfl)
theorem dJ4_length_10 : decode cJ4_length 10 = .ok (.ireturn, 1) := dk_172 (dk_at dksJ4_length_0 10 rfl rfl)
abbrev cJ4_coder : ByteArray := prog_42_method_152_code
def yJ4_coder : MethodName := ⟨RJ4, "coder", "()B"⟩
def dkwJ4_coder_0 : List UInt8 := [178, 0, 38, 153, 0, 10, 42, 180, 0, 15, 167, 0, 4, 4, 172]
abbrev dktJ4_coder_0 : List UInt8 := dkwJ4_coder_0 ++ []
theorem dksJ4_coder_0 : cJ4_coder.data.toList.drop 0 = dktJ4_coder_0 := by decide +kernel
theorem dJ4_coder_0 : decode cJ4_coder 0 = .ok (.getstatic 38, 3) := dk_178 0 38 (dk_at dksJ4_coder_0 0 rfl rfl)
theorem dJ4_coder_3 : decode cJ4_coder 3 = .ok (.ifCond .eq 10, 3) := dk_153 0 10 (dk_at dksJ4_coder_0 3 rfl rfl)
theorem dJ4_coder_6 : decode cJ4_coder 6 = .ok (.aload_n 0, 1) := dk_42 (dk_at dksJ4_coder_0 6 rfl rfl)
theorem dJ4_coder_7 : decode cJ4_coder 7 = .ok (.getfield 15, 3) := dk_180 0 15 (dk_at dksJ4_coder_0 7 rfl rfl)
theorem dJ4_coder_10 : decode cJ4_coder 10 = .ok (.goto 4, 3) := dk_167 0 4 (dk_at dksJ4_coder_0 10 rfl rfl)
theorem dJ4_coder_13 : decode cJ4_coder 13 = .ok (.iconst 1, 1) := dk_4 (dk_at dksJ4_coder_0 13 rfl rfl)
theorem dJ4_coder_14 : decode cJ4_coder 14 = .ok (.ireturn, 1) := dk_172 (dk_at dksJ4_coder_0 14 rfl rfl)
abbrev cJ4_checkBoundsBeginEnd : ByteArray := prog_42_method_158_code
def yJ4_checkBoundsBeginEnd : MethodName := ⟨RJ4, "checkBoundsBeginEnd", "(III)V"⟩
def dkwJ4_checkBoundsBeginEnd_0 : List UInt8 := [26, 27, 28, 178, 4, 29, 184, 4, 38, 87, 177]
abbrev dktJ4_checkBoundsBeginEnd_0 : List UInt8 := dkwJ4_checkBoundsBeginEnd_0 ++ []
theorem dksJ4_checkBoundsBeginEnd_0 : cJ4_checkBoundsBeginEnd.data.toList.drop 0 = dktJ4_checkBoundsBeginEnd_0 := by decide +kernel
theorem dJ4_checkBoundsBeginEnd_0 : decode cJ4_checkBoundsBeginEnd 0 = .ok (.iload_n 0, 1) := dk_26 (dk_at dksJ4_checkBoundsBeginEnd_0 0 rfl rfl)
theorem dJ4_checkBoundsBeginEnd_1 : decode cJ4_checkBoundsBeginEnd 1 = .ok (.iload_n 1, 1) := dk_27 (dk_at dksJ4_checkBoundsBeginEnd_0 1 rfl rfl)
theorem dJ4_checkBoundsBeginEnd_2 : decode cJ4_checkBoundsBeginEnd 2 = .ok (.iload_n 2, 1) := dk_28 (dk_at dksJ4_checkBoundsBeginEnd_0 2 rfl rfl)
theorem dJ4_checkBoundsBeginEnd_3 : decode cJ4_checkBoundsBeginEnd 3 = .ok (.getstatic 1053, 3) := dk_178 4 29 (dk_at dksJ4_checkBoundsBeginEnd_0 3 rfl rfl)
theorem dJ4_checkBoundsBeginEnd_6 : decode cJ4_checkBoundsBeginEnd 6 = .ok (.invokestatic 1062, 3) := dk_184 4 38 (dk_at dksJ4_checkBoundsBeginEnd_0 6 rfl rfl)
theorem dJ4_checkBoundsBeginEnd_9 : decode cJ4_checkBoundsBeginEnd 9 = .ok (.pop, 1) := dk_87 (dk_at dksJ4_checkBoundsBeginEnd_0 9 rfl rfl)
theorem dJ4_checkBoundsBeginEnd_10 : decode cJ4_checkBoundsBeginEnd 10 = .ok (.return_, 1) := dk_177 (dk_at dksJ4_checkBoundsBeginEnd_0 10 rfl rfl)
theorem q121 : (Jvm.Cond.initialized "java/lang/String") ∈ lw_all := lw_g (lw_at lw_m1 9 rfl) rfl
theorem q460 : (Jvm.Cond.instantiable "java/lang/String" (4 : Nat)) ∈ lw_all := lw_g (lw_at lw_m2 108 rfl) rfl
theorem q461 : (Jvm.Cond.laysFinal "java/lang/String" "java/lang/String" "value" "[B") ∈ lw_all := lw_g (lw_at lw_m2 109 rfl) rfl
theorem q462 : (Jvm.Cond.soleField "java/lang/String" "value") ∈ lw_all := lw_g (lw_at lw_m2 110 rfl) rfl
theorem q463 : (Jvm.Cond.laysFinal "java/lang/String" "java/lang/String" "coder" "B") ∈ lw_all := lw_g (lw_at lw_m2 111 rfl) rfl
theorem q464 : (Jvm.Cond.soleField "java/lang/String" "coder") ∈ lw_all := lw_g (lw_at lw_m2 112 rfl) rfl
theorem q667 : (Jvm.Cond.instanceMethod ({ cls := "java/lang/String", name := "indexOf", desc := "(I)I" } : Jvm.MethodName)) ∈ lw_all := lw_g (lw_at lw_m3 75 rfl) rfl
theorem q668 : (Jvm.Cond.selects "java/lang/String" ({ cls := "java/lang/String", name := "indexOf", desc := "(I)I" } : Jvm.MethodName) ({ cls := "java/lang/String", name := "indexOf", desc := "(I)I" } : Jvm.MethodName)) ∈ lw_all := lw_g (lw_at lw_m3 76 rfl) rfl
theorem q669 : (Jvm.Cond.code ({ cls := "java/lang/String", name := "indexOf", desc := "(I)I" } : Jvm.MethodName) prog_42_method_79_code (2 : Nat) (Option.some Jvm.ClassFile.FieldType.int)) ∈ lw_all := lw_g (lw_at lw_m3 77 rfl) rfl
theorem q670 : (Jvm.Cond.methodLink "java/lang/String" (633 : Nat) ({ cls := "java/lang/String", name := "indexOf", desc := "(II)I" } : Jvm.MethodName)) ∈ lw_all := lw_g (lw_at lw_m3 78 rfl) rfl
theorem q671 : (Jvm.Cond.instanceMethod ({ cls := "java/lang/String", name := "indexOf", desc := "(II)I" } : Jvm.MethodName)) ∈ lw_all := lw_g (lw_at lw_m3 79 rfl) rfl
theorem q672 : (Jvm.Cond.selects "java/lang/String" ({ cls := "java/lang/String", name := "indexOf", desc := "(II)I" } : Jvm.MethodName) ({ cls := "java/lang/String", name := "indexOf", desc := "(II)I" } : Jvm.MethodName)) ∈ lw_all := lw_g (lw_at lw_m3 80 rfl) rfl
theorem q673 : (Jvm.Cond.code ({ cls := "java/lang/String", name := "indexOf", desc := "(II)I" } : Jvm.MethodName) prog_42_method_80_code (3 : Nat) (Option.some Jvm.ClassFile.FieldType.int)) ∈ lw_all := lw_g (lw_at lw_m3 81 rfl) rfl
theorem q674 : (Jvm.Cond.methodLink "java/lang/String" (492 : Nat) ({ cls := "java/lang/String", name := "isLatin1", desc := "()Z" } : Jvm.MethodName)) ∈ lw_all := lw_g (lw_at lw_m3 82 rfl) rfl
theorem q675 : (Jvm.Cond.instanceMethod ({ cls := "java/lang/String", name := "isLatin1", desc := "()Z" } : Jvm.MethodName)) ∈ lw_all := lw_g (lw_at lw_m3 83 rfl) rfl
theorem q676 : (Jvm.Cond.selects "java/lang/String" ({ cls := "java/lang/String", name := "isLatin1", desc := "()Z" } : Jvm.MethodName) ({ cls := "java/lang/String", name := "isLatin1", desc := "()Z" } : Jvm.MethodName)) ∈ lw_all := lw_g (lw_at lw_m3 84 rfl) rfl
theorem q677 : (Jvm.Cond.code ({ cls := "java/lang/String", name := "isLatin1", desc := "()Z" } : Jvm.MethodName) prog_42_method_154_code (1 : Nat) (Option.some Jvm.ClassFile.FieldType.boolean)) ∈ lw_all := lw_g (lw_at lw_m3 85 rfl) rfl
theorem q678 : (Jvm.Cond.fieldLink "java/lang/String" (38 : Nat) "java/lang/String" "COMPACT_STRINGS" "Z") ∈ lw_all := lw_g (lw_at lw_m3 86 rfl) rfl
theorem q679 : (Jvm.Cond.laysStatic "java/lang/String" "COMPACT_STRINGS" "Z") ∈ lw_tbl := lw_at lw_m3 87 rfl
theorem q680 : (Jvm.Cond.methodLink "java/lang/String" (505 : Nat) ({ cls := "java/lang/String", name := "length", desc := "()I" } : Jvm.MethodName)) ∈ lw_all := lw_g (lw_at lw_m3 88 rfl) rfl
theorem q681 : (Jvm.Cond.instanceMethod ({ cls := "java/lang/String", name := "length", desc := "()I" } : Jvm.MethodName)) ∈ lw_all := lw_g (lw_at lw_m3 89 rfl) rfl
theorem q682 : (Jvm.Cond.selects "java/lang/String" ({ cls := "java/lang/String", name := "length", desc := "()I" } : Jvm.MethodName) ({ cls := "java/lang/String", name := "length", desc := "()I" } : Jvm.MethodName)) ∈ lw_all := lw_g (lw_at lw_m3 90 rfl) rfl
theorem q683 : (Jvm.Cond.code ({ cls := "java/lang/String", name := "length", desc := "()I" } : Jvm.MethodName) prog_42_method_54_code (1 : Nat) (Option.some Jvm.ClassFile.FieldType.int)) ∈ lw_all := lw_g (lw_at lw_m3 91 rfl) rfl
theorem q684 : (Jvm.Cond.methodLink "java/lang/String" (335 : Nat) ({ cls := "java/lang/String", name := "coder", desc := "()B" } : Jvm.MethodName)) ∈ lw_all := lw_g (lw_at lw_m3 92 rfl) rfl
theorem q685 : (Jvm.Cond.instanceMethod ({ cls := "java/lang/String", name := "coder", desc := "()B" } : Jvm.MethodName)) ∈ lw_all := lw_g (lw_at lw_m3 93 rfl) rfl
theorem q686 : (Jvm.Cond.selects "java/lang/String" ({ cls := "java/lang/String", name := "coder", desc := "()B" } : Jvm.MethodName) ({ cls := "java/lang/String", name := "coder", desc := "()B" } : Jvm.MethodName)) ∈ lw_all := lw_g (lw_at lw_m3 94 rfl) rfl
theorem q687 : (Jvm.Cond.code ({ cls := "java/lang/String", name := "coder", desc := "()B" } : Jvm.MethodName) prog_42_method_152_code (1 : Nat) (Option.some Jvm.ClassFile.FieldType.byte)) ∈ lw_all := lw_g (lw_at lw_m3 95 rfl) rfl
theorem q688 : (Jvm.Cond.methodLink "java/lang/String" (637 : Nat) ({ cls := "java/lang/StringLatin1", name := "indexOf", desc := "([BIII)I" } : Jvm.MethodName)) ∈ lw_all := lw_g (lw_at lw_m3 96 rfl) rfl
theorem q703 : (Jvm.Cond.methodLink "java/lang/String" (640 : Nat) ({ cls := "java/lang/StringUTF16", name := "indexOf", desc := "([BIII)I" } : Jvm.MethodName)) ∈ lw_all := lw_g (lw_at lw_m3 111 rfl) rfl
theorem q719 : (Jvm.Cond.static ({ cls := "java/lang/String", name := "checkBoundsBeginEnd", desc := "(III)V" } : Jvm.MethodName)) ∈ lw_all := lw_g (lw_at lw_m3 127 rfl) rfl
theorem q720 : (Jvm.Cond.code ({ cls := "java/lang/String", name := "checkBoundsBeginEnd", desc := "(III)V" } : Jvm.MethodName) prog_42_method_158_code (3 : Nat) (Option.none : Option Jvm.ClassFile.FieldType)) ∈ lw_all := lw_g (lw_at lw_m3 128 rfl) rfl
theorem q721 : (Jvm.Cond.fieldLink "java/lang/String" (1053 : Nat) "jdk/internal/util/Preconditions" "SIOOBE_FORMATTER" "Ljava/util/function/BiFunction;") ∈ lw_all := lw_g (lw_at lw_m3 129 rfl) rfl
theorem q723 : (Jvm.Cond.methodLink "java/lang/String" (1062 : Nat) ({ cls := "jdk/internal/util/Preconditions", name := "checkFromToIndex", desc := "(IIILjava/util/function/BiFunction;)I" } : Jvm.MethodName)) ∈ lw_all := lw_g (lw_at lw_m3 131 rfl) rfl
theorem q2279 : (Jvm.Cond.fieldLink "java/lang/String" (15 : Nat) "java/lang/String" "coder" "B") ∈ lw_all := lw_g (lw_at lw_m10 7 rfl) rfl
theorem q2280 : (Jvm.Cond.fieldLink "java/lang/String" (9 : Nat) "java/lang/String" "value" "[B") ∈ lw_all := lw_g (lw_at lw_m10 8 rfl) rfl
theorem in_J4 : ∀ w ∈ wsJ40, w ∈ lw_all := lw_in wsJ40 [461, 463] (by decide +kernel) (by decide +kernel)
/-! java/lang/NullPointerException -/
set_option maxRecDepth 100000
def RJ5 : String := "java/lang/NullPointerException"
def TJ5 : u_T := fun k => match k with
  | 0 => ("java/lang/Throwable", "backtrace", "Ljava/lang/Object;", false)
  | 1 => ("java/lang/Throwable", "detailMessage", "Ljava/lang/String;", false)
  | 2 => ("java/lang/Throwable", "cause", "Ljava/lang/Throwable;", false)
  | 3 => ("java/lang/Throwable", "stackTrace", "[Ljava/lang/StackTraceElement;", false)
  | 4 => ("java/lang/Throwable", "depth", "I", false)
  | 5 => ("java/lang/Throwable", "suppressedExceptions", "Ljava/util/List;", false)
  | 6 => ("java/lang/NullPointerException", "extendedMessageState", "I", false)
  | _ => ("java/lang/NullPointerException", "extendedMessage", "Ljava/lang/String;", false)
def tyJ5 : Nat → FieldType := fun k => match k with
  | 0 => .object "java/lang/Object"
  | 1 => .object "java/lang/String"
  | 2 => .object "java/lang/Throwable"
  | 3 => .array (.object "java/lang/StackTraceElement")
  | 4 => .int
  | 5 => .object "java/util/List"
  | 6 => .int
  | _ => .object "java/lang/String"
abbrev wsJ50 : List Cond := u_ws RJ5 TJ5 8
theorem nmJ5 : ∀ a, a < 8 → ∀ b, b < 8 → a ≠ b → (TJ5 a).2.1 ≠ (TJ5 b).2.1 := by decide +kernel
theorem tyJ5_ok : ∀ k, k < 8 → parseFieldDescriptor (TJ5 k).2.2.1 = some (tyJ5 k) := by decide +kernel
abbrev cJ5_init : ByteArray := prog_40_method_1_code
def yJ5_init : MethodName := ⟨RJ5, "<init>", "()V"⟩
theorem dJ5_init_0 : decode cJ5_init 0 = .ok (.aload_n 0, 1) := by decide +kernel
theorem dJ5_init_1 : decode cJ5_init 1 = .ok (.invokespecial 1, 3) := by decide +kernel
theorem dJ5_init_4 : decode cJ5_init 4 = .ok (.return_, 1) := by decide +kernel
theorem q122 : (Jvm.Cond.initialized "java/lang/NullPointerException") ∈ lw_all := lw_g (lw_at lw_m1 10 rfl) rfl
theorem q405 : (Jvm.Cond.selects "java/lang/NullPointerException" ({ cls := "java/lang/Throwable", name := "fillInStackTrace", desc := "()Ljava/lang/Throwable;" } : Jvm.MethodName) ({ cls := "java/lang/NullPointerException", name := "fillInStackTrace", desc := "()Ljava/lang/Throwable;" } : Jvm.MethodName)) ∈ lw_all := lw_g (lw_at lw_m2 53 rfl) rfl
theorem q406 : (Jvm.Cond.instanceMethod ({ cls := "java/lang/NullPointerException", name := "fillInStackTrace", desc := "()Ljava/lang/Throwable;" } : Jvm.MethodName)) ∈ lw_all := lw_g (lw_at lw_m2 54 rfl) rfl
theorem q407 : (Jvm.Cond.codeSync ({ cls := "java/lang/NullPointerException", name := "fillInStackTrace", desc := "()Ljava/lang/Throwable;" } : Jvm.MethodName) prog_40_method_3_code (1 : Nat) (Option.some (Jvm.ClassFile.FieldType.object "java/lang/Throwable"))) ∈ lw_all := lw_g (lw_at lw_m2 55 rfl) rfl
theorem q408 : (Jvm.Cond.methodLink "java/lang/NullPointerException" (16 : Nat) ({ cls := "java/lang/NullPointerException", name := "getExtendedNPEMessage", desc := "()Ljava/lang/String;" } : Jvm.MethodName)) ∈ lw_all := lw_g (lw_at lw_m2 56 rfl) rfl
theorem q409 : (Jvm.Cond.privateMethod ({ cls := "java/lang/NullPointerException", name := "getExtendedNPEMessage", desc := "()Ljava/lang/String;" } : Jvm.MethodName)) ∈ lw_tbl := lw_at lw_m2 57 rfl
theorem q410 : (Jvm.Cond.instanceMethod ({ cls := "java/lang/NullPointerException", name := "getExtendedNPEMessage", desc := "()Ljava/lang/String;" } : Jvm.MethodName)) ∈ lw_all := lw_g (lw_at lw_m2 58 rfl) rfl
theorem q411 : (Jvm.Cond.instantiable "java/lang/NullPointerException" (8 : Nat)) ∈ lw_all := lw_g (lw_at lw_m2 59 rfl) rfl
theorem q412 : (Jvm.Cond.native ({ cls := "java/lang/NullPointerException", name := "getExtendedNPEMessage", desc := "()Ljava/lang/String;" } : Jvm.MethodName)) ∈ lw_all := lw_g (lw_at lw_m2 60 rfl) rfl
theorem q413 : (Jvm.Cond.methodLink "java/lang/NullPointerException" (24 : Nat) ({ cls := "java/lang/RuntimeException", name := "fillInStackTrace", desc := "()Ljava/lang/Throwable;" } : Jvm.MethodName)) ∈ lw_all := lw_g (lw_at lw_m2 61 rfl) rfl
theorem q416 : (Jvm.Cond.superclass "java/lang/NullPointerException" "java/lang/RuntimeException") ∈ lw_all := lw_g (lw_at lw_m2 64 rfl) rfl
theorem q466 : (Jvm.Cond.instanceMethod ({ cls := "java/lang/NullPointerException", name := "<init>", desc := "()V" } : Jvm.MethodName)) ∈ lw_all := lw_g (lw_at lw_m2 114 rfl) rfl
theorem q467 : (Jvm.Cond.code ({ cls := "java/lang/NullPointerException", name := "<init>", desc := "()V" } : Jvm.MethodName) prog_40_method_1_code (1 : Nat) (Option.none : Option Jvm.ClassFile.FieldType)) ∈ lw_all := lw_g (lw_at lw_m2 115 rfl) rfl
theorem q468 : (Jvm.Cond.methodLink "java/lang/NullPointerException" (1 : Nat) ({ cls := "java/lang/RuntimeException", name := "<init>", desc := "()V" } : Jvm.MethodName)) ∈ lw_all := lw_g (lw_at lw_m2 116 rfl) rfl
theorem q475 : (Jvm.Cond.fieldLink "java/lang/NullPointerException" (10 : Nat) "java/lang/NullPointerException" "extendedMessageState" "I") ∈ lw_all := lw_g (lw_at lw_m2 123 rfl) rfl
theorem q476 : (Jvm.Cond.fieldLink "java/lang/NullPointerException" (20 : Nat) "java/lang/NullPointerException" "extendedMessage" "Ljava/lang/String;") ∈ lw_all := lw_g (lw_at lw_m2 124 rfl) rfl
theorem q477 : (Jvm.Cond.lays "java/lang/NullPointerException" "java/lang/NullPointerException" "extendedMessageState" "I") ∈ lw_all := lw_g (lw_at lw_m2 125 rfl) rfl
theorem q478 : (Jvm.Cond.soleField "java/lang/NullPointerException" "extendedMessageState") ∈ lw_all := lw_g (lw_at lw_m2 126 rfl) rfl
theorem q479 : (Jvm.Cond.lays "java/lang/NullPointerException" "java/lang/NullPointerException" "extendedMessage" "Ljava/lang/String;") ∈ lw_all := lw_g (lw_at lw_m2 127 rfl) rfl
theorem q480 : (Jvm.Cond.soleField "java/lang/NullPointerException" "extendedMessage") ∈ lw_all := lw_g (lw_at lw_m2 128 rfl) rfl
theorem q481 : (Jvm.Cond.lays "java/lang/NullPointerException" "java/lang/Throwable" "backtrace" "Ljava/lang/Object;") ∈ lw_all := lw_g (lw_at lw_m2 129 rfl) rfl
theorem q482 : (Jvm.Cond.lays "java/lang/NullPointerException" "java/lang/Throwable" "detailMessage" "Ljava/lang/String;") ∈ lw_all := lw_g (lw_at lw_m2 130 rfl) rfl
theorem q483 : (Jvm.Cond.lays "java/lang/NullPointerException" "java/lang/Throwable" "cause" "Ljava/lang/Throwable;") ∈ lw_all := lw_g (lw_at lw_m2 131 rfl) rfl
theorem q484 : (Jvm.Cond.lays "java/lang/NullPointerException" "java/lang/Throwable" "stackTrace" "[Ljava/lang/StackTraceElement;") ∈ lw_all := lw_g (lw_at lw_m2 132 rfl) rfl
theorem q485 : (Jvm.Cond.lays "java/lang/NullPointerException" "java/lang/Throwable" "depth" "I") ∈ lw_all := lw_g (lw_at lw_m2 133 rfl) rfl
theorem q486 : (Jvm.Cond.lays "java/lang/NullPointerException" "java/lang/Throwable" "suppressedExceptions" "Ljava/util/List;") ∈ lw_all := lw_g (lw_at lw_m2 134 rfl) rfl
theorem q487 : (Jvm.Cond.castable "java/lang/NullPointerException" "java/lang/NullPointerException") ∈ lw_tbl := lw_at lw_m2 135 rfl
theorem q488 : (Jvm.Cond.selects "java/lang/NullPointerException" ({ cls := "java/lang/Throwable", name := "fillInStackTrace", desc := "(I)Ljava/lang/Throwable;" } : Jvm.MethodName) ({ cls := "java/lang/Throwable", name := "fillInStackTrace", desc := "(I)Ljava/lang/Throwable;" } : Jvm.MethodName)) ∈ lw_all := lw_g (lw_at lw_m2 136 rfl) rfl
theorem in_J5 : ∀ w ∈ wsJ50, w ∈ lw_all := lw_in wsJ50 [481, 482, 483, 484, 485, 486, 477, 479] (by decide +kernel) (by decide +kernel)
/-! java/lang/IndexOutOfBoundsException -/
set_option maxRecDepth 100000
def RJ6 : String := "java/lang/IndexOutOfBoundsException"
abbrev cJ6_init : ByteArray := prog_36_method_2_code
def yJ6_init : MethodName := ⟨RJ6, "<init>", "(Ljava/lang/String;)V"⟩
def dkwJ6_init_0 : List UInt8 := [42, 43, 183, 0, 7, 177]
abbrev dktJ6_init_0 : List UInt8 := dkwJ6_init_0 ++ []
theorem dksJ6_init_0 : cJ6_init.data.toList.drop 0 = dktJ6_init_0 := by decide +kernel
theorem dJ6_init_0 : decode cJ6_init 0 = .ok (.aload_n 0, 1) := dk_42 (dk_at dksJ6_init_0 0 rfl rfl)
theorem dJ6_init_1 : decode cJ6_init 1 = .ok (.aload_n 1, 1) := dk_43 (dk_at dksJ6_init_0 1 rfl rfl)
theorem dJ6_init_2 : decode cJ6_init 2 = .ok (.invokespecial 7, 3) := dk_183 0 7 (dk_at dksJ6_init_0 2 rfl rfl)
theorem dJ6_init_5 : decode cJ6_init 5 = .ok (.return_, 1) := dk_177 (dk_at dksJ6_init_0 5 rfl rfl)
theorem q123 : (Jvm.Cond.initialized "java/lang/IndexOutOfBoundsException") ∈ lw_all := lw_g (lw_at lw_m1 11 rfl) rfl
theorem q495 : (Jvm.Cond.instanceMethod ({ cls := "java/lang/IndexOutOfBoundsException", name := "<init>", desc := "(Ljava/lang/String;)V" } : Jvm.MethodName)) ∈ lw_all := lw_g (lw_at lw_m2 143 rfl) rfl
theorem q496 : (Jvm.Cond.code ({ cls := "java/lang/IndexOutOfBoundsException", name := "<init>", desc := "(Ljava/lang/String;)V" } : Jvm.MethodName) prog_36_method_2_code (2 : Nat) (Option.none : Option Jvm.ClassFile.FieldType)) ∈ lw_all := lw_g (lw_at lw_m2 144 rfl) rfl
theorem q497 : (Jvm.Cond.methodLink "java/lang/IndexOutOfBoundsException" (7 : Nat) ({ cls := "java/lang/RuntimeException", name := "<init>", desc := "(Ljava/lang/String;)V" } : Jvm.MethodName)) ∈ lw_all := lw_g (lw_at lw_m2 145 rfl) rfl
theorem q506 : (Jvm.Cond.declares ({ cls := "java/lang/IndexOutOfBoundsException", name := "<init>", desc := "()V" } : Jvm.MethodName)) ∈ lw_tbl := lw_at lw_m2 154 rfl
theorem q507 : (Jvm.Cond.declares ({ cls := "java/lang/IndexOutOfBoundsException", name := "<init>", desc := "(Ljava/lang/String;)V" } : Jvm.MethodName)) ∈ lw_tbl := lw_at lw_m2 155 rfl
/-! java/lang/ArrayIndexOutOfBoundsException -/
set_option maxRecDepth 100000
def RJ7 : String := "java/lang/ArrayIndexOutOfBoundsException"
def TJ7 : u_T := fun k => match k with
  | 0 => ("java/lang/Throwable", "backtrace", "Ljava/lang/Object;", false)
  | 1 => ("java/lang/Throwable", "detailMessage", "Ljava/lang/String;", false)
  | 2 => ("java/lang/Throwable", "cause", "Ljava/lang/Throwable;", false)
  | 3 => ("java/lang/Throwable", "stackTrace", "[Ljava/lang/StackTraceElement;", false)
  | 4 => ("java/lang/Throwable", "depth", "I", false)
  | _ => ("java/lang/Throwable", "suppressedExceptions", "Ljava/util/List;", false)
def tyJ7 : Nat → FieldType := fun k => match k with
  | 0 => .object "java/lang/Object"
  | 1 => .object "java/lang/String"
  | 2 => .object "java/lang/Throwable"
  | 3 => .array (.object "java/lang/StackTraceElement")
  | 4 => .int
  | _ => .object "java/util/List"
abbrev wsJ70 : List Cond := u_ws RJ7 TJ7 6
theorem nmJ7 : ∀ a, a < 6 → ∀ b, b < 6 → a ≠ b → (TJ7 a).2.1 ≠ (TJ7 b).2.1 := by decide +kernel
theorem tyJ7_ok : ∀ k, k < 6 → parseFieldDescriptor (TJ7 k).2.2.1 = some (tyJ7 k) := by decide +kernel
abbrev cJ7_init : ByteArray := prog_32_method_2_code
def yJ7_init : MethodName := ⟨RJ7, "<init>", "(Ljava/lang/String;)V"⟩
def dkwJ7_init_0 : List UInt8 := [42, 43, 183, 0, 7, 177]
abbrev dktJ7_init_0 : List UInt8 := dkwJ7_init_0 ++ []
theorem dksJ7_init_0 : cJ7_init.data.toList.drop 0 = dktJ7_init_0 := by decide +kernel
theorem dJ7_init_0 : decode cJ7_init 0 = .ok (.aload_n 0, 1) := dk_42 (dk_at dksJ7_init_0 0 rfl rfl)
theorem dJ7_init_1 : decode cJ7_init 1 = .ok (.aload_n 1, 1) := dk_43 (dk_at dksJ7_init_0 1 rfl rfl)
theorem dJ7_init_2 : decode cJ7_init 2 = .ok (.invokespecial 7, 3) := dk_183 0 7 (dk_at dksJ7_init_0 2 rfl rfl)
theorem dJ7_init_5 : decode cJ7_init 5 = .ok (.return_, 1) := dk_177 (dk_at dksJ7_init_0 5 rfl rfl)
theorem q124 : (Jvm.Cond.initialized "java/lang/ArrayIndexOutOfBoundsException") ∈ lw_all := lw_g (lw_at lw_m1 12 rfl) rfl
theorem q402 : (Jvm.Cond.selects "java/lang/ArrayIndexOutOfBoundsException" ({ cls := "java/lang/Throwable", name := "fillInStackTrace", desc := "()Ljava/lang/Throwable;" } : Jvm.MethodName) ({ cls := "java/lang/Throwable", name := "fillInStackTrace", desc := "()Ljava/lang/Throwable;" } : Jvm.MethodName)) ∈ lw_all := lw_g (lw_at lw_m2 50 rfl) rfl
theorem q491 : (Jvm.Cond.instantiable "java/lang/ArrayIndexOutOfBoundsException" (6 : Nat)) ∈ lw_all := lw_g (lw_at lw_m2 139 rfl) rfl
theorem q492 : (Jvm.Cond.instanceMethod ({ cls := "java/lang/ArrayIndexOutOfBoundsException", name := "<init>", desc := "(Ljava/lang/String;)V" } : Jvm.MethodName)) ∈ lw_all := lw_g (lw_at lw_m2 140 rfl) rfl
theorem q493 : (Jvm.Cond.code ({ cls := "java/lang/ArrayIndexOutOfBoundsException", name := "<init>", desc := "(Ljava/lang/String;)V" } : Jvm.MethodName) prog_32_method_2_code (2 : Nat) (Option.none : Option Jvm.ClassFile.FieldType)) ∈ lw_all := lw_g (lw_at lw_m2 141 rfl) rfl
theorem q494 : (Jvm.Cond.methodLink "java/lang/ArrayIndexOutOfBoundsException" (7 : Nat) ({ cls := "java/lang/IndexOutOfBoundsException", name := "<init>", desc := "(Ljava/lang/String;)V" } : Jvm.MethodName)) ∈ lw_all := lw_g (lw_at lw_m2 142 rfl) rfl
theorem q498 : (Jvm.Cond.lays "java/lang/ArrayIndexOutOfBoundsException" "java/lang/Throwable" "backtrace" "Ljava/lang/Object;") ∈ lw_all := lw_g (lw_at lw_m2 146 rfl) rfl
theorem q499 : (Jvm.Cond.lays "java/lang/ArrayIndexOutOfBoundsException" "java/lang/Throwable" "detailMessage" "Ljava/lang/String;") ∈ lw_all := lw_g (lw_at lw_m2 147 rfl) rfl
theorem q500 : (Jvm.Cond.lays "java/lang/ArrayIndexOutOfBoundsException" "java/lang/Throwable" "cause" "Ljava/lang/Throwable;") ∈ lw_all := lw_g (lw_at lw_m2 148 rfl) rfl
theorem q501 : (Jvm.Cond.lays "java/lang/ArrayIndexOutOfBoundsException" "java/lang/Throwable" "stackTrace" "[Ljava/lang/StackTraceElement;") ∈ lw_all := lw_g (lw_at lw_m2 149 rfl) rfl
theorem q502 : (Jvm.Cond.lays "java/lang/ArrayIndexOutOfBoundsException" "java/lang/Throwable" "depth" "I") ∈ lw_all := lw_g (lw_at lw_m2 150 rfl) rfl
theorem q503 : (Jvm.Cond.lays "java/lang/ArrayIndexOutOfBoundsException" "java/lang/Throwable" "suppressedExceptions" "Ljava/util/List;") ∈ lw_all := lw_g (lw_at lw_m2 151 rfl) rfl
theorem q504 : (Jvm.Cond.superclass "java/lang/ArrayIndexOutOfBoundsException" "java/lang/IndexOutOfBoundsException") ∈ lw_all := lw_g (lw_at lw_m2 152 rfl) rfl
theorem q505 : (Jvm.Cond.castable "java/lang/ArrayIndexOutOfBoundsException" "java/lang/ArrayIndexOutOfBoundsException") ∈ lw_tbl := lw_at lw_m2 153 rfl
theorem q508 : (Jvm.Cond.selects "java/lang/ArrayIndexOutOfBoundsException" ({ cls := "java/lang/Throwable", name := "fillInStackTrace", desc := "(I)Ljava/lang/Throwable;" } : Jvm.MethodName) ({ cls := "java/lang/Throwable", name := "fillInStackTrace", desc := "(I)Ljava/lang/Throwable;" } : Jvm.MethodName)) ∈ lw_all := lw_g (lw_at lw_m2 156 rfl) rfl
theorem q2253 : (Jvm.Cond.castable "java/lang/ArrayIndexOutOfBoundsException" "java/lang/IndexOutOfBoundsException") ∈ lw_tbl := lw_at lw_m9 221 rfl
theorem in_J7 : ∀ w ∈ wsJ70, w ∈ lw_all := lw_in wsJ70 [498, 499, 500, 501, 502, 503] (by decide +kernel) (by decide +kernel)
/-! NineKeysRound$Change -/
set_option maxRecDepth 100000
def RX4 : String := "NineKeysRound$Change"
def TX4 : u_T := fun k => match k with
  | 0 => ("NineKeysRound$Change", "of", "I", true)
  | 1 => ("NineKeysRound$Change", "at", "I", true)
  | 2 => ("NineKeysRound$Change", "before", "I", true)
  | _ => ("NineKeysRound$Change", "behind", "I", true)
def tyX4 : Nat → FieldType := fun k => match k with
  | 0 => .int
  | 1 => .int
  | 2 => .int
  | _ => .int
abbrev wsX40 : List Cond := u_ws RX4 TX4 4
theorem nmX4 : ∀ a, a < 4 → ∀ b, b < 4 → a ≠ b → (TX4 a).2.1 ≠ (TX4 b).2.1 := by decide +kernel
theorem tyX4_ok : ∀ k, k < 4 → parseFieldDescriptor (TX4 k).2.2.1 = some (tyX4 k) := by decide +kernel
abbrev cX4_init : ByteArray := prog_4_method_1_code
def yX4_init : MethodName := ⟨RX4, "<init>", "(IIII)V"⟩
def dkwX4_init_1 : List UInt8 := [181, 0, 19, 177]
abbrev dktX4_init_1 : List UInt8 := dkwX4_init_1 ++ []
def dkwX4_init_0 : List UInt8 := [42, 183, 0, 1, 42, 27, 181, 0, 7, 42, 28, 181, 0, 13, 42, 29, 181, 0, 16, 42, 21, 4]
abbrev dktX4_init_0 : List UInt8 := dkwX4_init_0 ++ dktX4_init_1
theorem dksX4_init_0 : cX4_init.data.toList.drop 0 = dktX4_init_0 := by decide +kernel
theorem dksX4_init_1 : cX4_init.data.toList.drop 22 = dktX4_init_1 := dk_seg dksX4_init_0 22 rfl rfl
theorem dX4_init_0 : decode cX4_init 0 = .ok (.aload_n 0, 1) := dk_42 (dk_at dksX4_init_0 0 rfl rfl)
theorem dX4_init_1 : decode cX4_init 1 = .ok (.invokespecial 1, 3) := dk_183 0 1 (dk_at dksX4_init_0 1 rfl rfl)
theorem dX4_init_4 : decode cX4_init 4 = .ok (.aload_n 0, 1) := dk_42 (dk_at dksX4_init_0 4 rfl rfl)
theorem dX4_init_5 : decode cX4_init 5 = .ok (.iload_n 1, 1) := dk_27 (dk_at dksX4_init_0 5 rfl rfl)
theorem dX4_init_6 : decode cX4_init 6 = .ok (.putfield 7, 3) := dk_181 0 7 (dk_at dksX4_init_0 6 rfl rfl)
theorem dX4_init_9 : decode cX4_init 9 = .ok (.aload_n 0, 1) := dk_42 (dk_at dksX4_init_0 9 rfl rfl)
theorem dX4_init_10 : decode cX4_init 10 = .ok (.iload_n 2, 1) := dk_28 (dk_at dksX4_init_0 10 rfl rfl)
theorem dX4_init_11 : decode cX4_init 11 = .ok (.putfield 13, 3) := dk_181 0 13 (dk_at dksX4_init_0 11 rfl rfl)
theorem dX4_init_14 : decode cX4_init 14 = .ok (.aload_n 0, 1) := dk_42 (dk_at dksX4_init_0 14 rfl rfl)
theorem dX4_init_15 : decode cX4_init 15 = .ok (.iload_n 3, 1) := dk_29 (dk_at dksX4_init_0 15 rfl rfl)
theorem dX4_init_16 : decode cX4_init 16 = .ok (.putfield 16, 3) := dk_181 0 16 (dk_at dksX4_init_0 16 rfl rfl)
theorem dX4_init_19 : decode cX4_init 19 = .ok (.aload_n 0, 1) := dk_42 (dk_at dksX4_init_0 19 rfl rfl)
theorem dX4_init_20 : decode cX4_init 20 = .ok (.iload 4, 2) := dk_21 4 (dk_at dksX4_init_0 20 rfl rfl)
theorem dX4_init_22 : decode cX4_init 22 = .ok (.putfield 19, 3) := dk_181 0 19 (dk_at dksX4_init_1 0 rfl rfl)
theorem dX4_init_25 : decode cX4_init 25 = .ok (.return_, 1) := dk_177 (dk_at dksX4_init_1 3 rfl rfl)
theorem q125 : (Jvm.Cond.initialized "NineKeysRound$Change") ∈ lw_all := lw_g (lw_at lw_m1 13 rfl) rfl
theorem q552 : (Jvm.Cond.instantiable "NineKeysRound$Change" (4 : Nat)) ∈ lw_all := lw_g (lw_at lw_m2 200 rfl) rfl
theorem q554 : (Jvm.Cond.instanceMethod ({ cls := "NineKeysRound$Change", name := "<init>", desc := "(IIII)V" } : Jvm.MethodName)) ∈ lw_all := lw_g (lw_at lw_m2 202 rfl) rfl
theorem q555 : (Jvm.Cond.code ({ cls := "NineKeysRound$Change", name := "<init>", desc := "(IIII)V" } : Jvm.MethodName) prog_4_method_1_code (5 : Nat) (Option.none : Option Jvm.ClassFile.FieldType)) ∈ lw_all := lw_g (lw_at lw_m2 203 rfl) rfl
theorem q556 : (Jvm.Cond.methodLink "NineKeysRound$Change" (1 : Nat) ({ cls := "java/lang/Object", name := "<init>", desc := "()V" } : Jvm.MethodName)) ∈ lw_all := lw_g (lw_at lw_m2 204 rfl) rfl
theorem q557 : (Jvm.Cond.fieldLink "NineKeysRound$Change" (7 : Nat) "NineKeysRound$Change" "of" "I") ∈ lw_all := lw_g (lw_at lw_m2 205 rfl) rfl
theorem q559 : (Jvm.Cond.fieldLink "NineKeysRound$Change" (13 : Nat) "NineKeysRound$Change" "at" "I") ∈ lw_all := lw_g (lw_at lw_m2 207 rfl) rfl
theorem q561 : (Jvm.Cond.fieldLink "NineKeysRound$Change" (16 : Nat) "NineKeysRound$Change" "before" "I") ∈ lw_all := lw_g (lw_at lw_m2 209 rfl) rfl
theorem q563 : (Jvm.Cond.fieldLink "NineKeysRound$Change" (19 : Nat) "NineKeysRound$Change" "behind" "I") ∈ lw_all := lw_g (lw_at lw_m2 211 rfl) rfl
theorem q565 : (Jvm.Cond.laysFinal "NineKeysRound$Change" "NineKeysRound$Change" "of" "I") ∈ lw_all := lw_g (lw_at lw_m2 213 rfl) rfl
theorem q566 : (Jvm.Cond.soleField "NineKeysRound$Change" "of") ∈ lw_all := lw_g (lw_at lw_m2 214 rfl) rfl
theorem q567 : (Jvm.Cond.laysFinal "NineKeysRound$Change" "NineKeysRound$Change" "at" "I") ∈ lw_all := lw_g (lw_at lw_m2 215 rfl) rfl
theorem q568 : (Jvm.Cond.soleField "NineKeysRound$Change" "at") ∈ lw_all := lw_g (lw_at lw_m2 216 rfl) rfl
theorem q569 : (Jvm.Cond.laysFinal "NineKeysRound$Change" "NineKeysRound$Change" "before" "I") ∈ lw_all := lw_g (lw_at lw_m2 217 rfl) rfl
theorem q570 : (Jvm.Cond.soleField "NineKeysRound$Change" "before") ∈ lw_all := lw_g (lw_at lw_m2 218 rfl) rfl
theorem q571 : (Jvm.Cond.laysFinal "NineKeysRound$Change" "NineKeysRound$Change" "behind" "I") ∈ lw_all := lw_g (lw_at lw_m2 219 rfl) rfl
theorem q572 : (Jvm.Cond.soleField "NineKeysRound$Change" "behind") ∈ lw_all := lw_g (lw_at lw_m2 220 rfl) rfl
theorem q573 : (Jvm.Cond.superclass "NineKeysRound$Change" "java/lang/Object") ∈ lw_all := lw_g (lw_at lw_m2 221 rfl) rfl
theorem in_X4 : ∀ w ∈ wsX40, w ∈ lw_all := lw_in wsX40 [565, 567, 569, 571] (by decide +kernel) (by decide +kernel)
/-! NineKeysRound$Reader -/
set_option maxRecDepth 100000
def RX5 : String := "NineKeysRound$Reader"
def TX5 : u_T := fun k => match k with
  | 0 => ("NineKeysRound$Reader", "at", "I", false)
  | 1 => ("NineKeysRound$Reader", "fault", "I", false)
  | 2 => ("NineKeysRound$Reader", "open", "I", false)
  | _ => ("NineKeysRound$Reader", "this$0", "LNineKeysRound;", true)
def tyX5 : Nat → FieldType := fun k => match k with
  | 0 => .int
  | 1 => .int
  | 2 => .int
  | _ => .object "NineKeysRound"
abbrev wsX50 : List Cond := u_ws RX5 TX5 4
theorem nmX5 : ∀ a, a < 4 → ∀ b, b < 4 → a ≠ b → (TX5 a).2.1 ≠ (TX5 b).2.1 := by decide +kernel
theorem tyX5_ok : ∀ k, k < 4 → parseFieldDescriptor (TX5 k).2.2.1 = some (tyX5 k) := by decide +kernel
abbrev cX5_init : ByteArray := prog_22_method_1_code
def yX5_init : MethodName := ⟨RX5, "<init>", "(LNineKeysRound;)V"⟩
def dkwX5_init_0 : List UInt8 := [42, 43, 181, 0, 3, 42, 183, 0, 9, 42, 2, 181, 0, 15, 177]
abbrev dktX5_init_0 : List UInt8 := dkwX5_init_0 ++ []
theorem dksX5_init_0 : cX5_init.data.toList.drop 0 = dktX5_init_0 := by decide +kernel
theorem dX5_init_0 : decode cX5_init 0 = .ok (.aload_n 0, 1) := dk_42 (dk_at dksX5_init_0 0 rfl rfl)
theorem dX5_init_1 : decode cX5_init 1 = .ok (.aload_n 1, 1) := dk_43 (dk_at dksX5_init_0 1 rfl rfl)
theorem dX5_init_2 : decode cX5_init 2 = .ok (.putfield 3, 3) := dk_181 0 3 (dk_at dksX5_init_0 2 rfl rfl)
theorem dX5_init_5 : decode cX5_init 5 = .ok (.aload_n 0, 1) := dk_42 (dk_at dksX5_init_0 5 rfl rfl)
theorem dX5_init_6 : decode cX5_init 6 = .ok (.invokespecial 9, 3) := dk_183 0 9 (dk_at dksX5_init_0 6 rfl rfl)
theorem dX5_init_9 : decode cX5_init 9 = .ok (.aload_n 0, 1) := dk_42 (dk_at dksX5_init_0 9 rfl rfl)
theorem dX5_init_10 : decode cX5_init 10 = .ok (.iconst (-1), 1) := dk_2 (dk_at dksX5_init_0 10 rfl rfl)
theorem dX5_init_11 : decode cX5_init 11 = .ok (.putfield 15, 3) := dk_181 0 15 (dk_at dksX5_init_0 11 rfl rfl)
theorem dX5_init_14 : decode cX5_init 14 = .ok (.return_, 1) := dk_177 (dk_at dksX5_init_0 14 rfl rfl)
abbrev cX5_lines : ByteArray := prog_22_method_5_code
def yX5_lines : MethodName := ⟨RX5, "lines", "()LNineKeysRound$Line;"⟩
def dkwX5_lines_3 : List UInt8 := [42, 42, 180, 0, 19, 181, 0, 15, 43, 176]
abbrev dktX5_lines_3 : List UInt8 := dkwX5_lines_3 ++ []
def dkwX5_lines_2 : List UInt8 := [167, 255, 217, 42, 180, 0, 15, 156, 0, 25, 42, 180, 0, 19, 42, 180, 0, 3, 180, 0, 22, 162, 0, 11]
abbrev dktX5_lines_2 : List UInt8 := dkwX5_lines_2 ++ dktX5_lines_3
def dkwX5_lines_1 : List UInt8 := [89, 180, 0, 19, 4, 96, 181, 0, 19, 44, 42, 182, 0, 39, 181, 0, 43, 44, 180, 0, 43, 77]
abbrev dktX5_lines_1 : List UInt8 := dkwX5_lines_1 ++ dktX5_lines_2
def dkwX5_lines_0 : List UInt8 := [42, 182, 0, 39, 76, 43, 77, 42, 180, 0, 15, 156, 0, 38, 42, 182, 0, 29, 16, 59, 160, 0, 29, 42]
abbrev dktX5_lines_0 : List UInt8 := dkwX5_lines_0 ++ dktX5_lines_1
theorem dksX5_lines_0 : cX5_lines.data.toList.drop 0 = dktX5_lines_0 := by decide +kernel
theorem dksX5_lines_1 : cX5_lines.data.toList.drop 24 = dktX5_lines_1 := dk_seg dksX5_lines_0 24 rfl rfl
theorem dksX5_lines_2 : cX5_lines.data.toList.drop 46 = dktX5_lines_2 := dk_seg dksX5_lines_1 22 rfl rfl
theorem dksX5_lines_3 : cX5_lines.data.toList.drop 70 = dktX5_lines_3 := dk_seg dksX5_lines_2 24 rfl rfl
theorem dX5_lines_0 : decode cX5_lines 0 = .ok (.aload_n 0, 1) := dk_42 (dk_at dksX5_lines_0 0 rfl rfl)
theorem dX5_lines_1 : decode cX5_lines 1 = .ok (.invokevirtual 39, 3) := dk_182 0 39 (dk_at dksX5_lines_0 1 rfl rfl)
theorem dX5_lines_4 : decode cX5_lines 4 = .ok (.astore_n 1, 1) := dk_76 (dk_at dksX5_lines_0 4 rfl rfl)
theorem dX5_lines_5 : decode cX5_lines 5 = .ok (.aload_n 1, 1) := dk_43 (dk_at dksX5_lines_0 5 rfl rfl)
theorem dX5_lines_6 : decode cX5_lines 6 = .ok (.astore_n 2, 1) := dk_77 (dk_at dksX5_lines_0 6 rfl rfl)
theorem dX5_lines_7 : decode cX5_lines 7 = .ok (.aload_n 0, 1) := dk_42 (dk_at dksX5_lines_0 7 rfl rfl)
theorem dX5_lines_8 : decode cX5_lines 8 = .ok (.getfield 15, 3) := dk_180 0 15 (dk_at dksX5_lines_0 8 rfl rfl)
theorem dX5_lines_11 : decode cX5_lines 11 = .ok (.ifCond .ge 38, 3) := dk_156 0 38 (dk_at dksX5_lines_0 11 rfl rfl)
theorem dX5_lines_14 : decode cX5_lines 14 = .ok (.aload_n 0, 1) := dk_42 (dk_at dksX5_lines_0 14 rfl rfl)
theorem dX5_lines_15 : decode cX5_lines 15 = .ok (.invokevirtual 29, 3) := dk_182 0 29 (dk_at dksX5_lines_0 15 rfl rfl)
theorem dX5_lines_18 : decode cX5_lines 18 = .ok (.bipush 59, 2) := dk_16 59 (dk_at dksX5_lines_0 18 rfl rfl)
theorem dX5_lines_20 : decode cX5_lines 20 = .ok (.if_icmp .ne 29, 3) := dk_160 0 29 (dk_at dksX5_lines_0 20 rfl rfl)
theorem dX5_lines_23 : decode cX5_lines 23 = .ok (.aload_n 0, 1) := dk_42 (dk_at dksX5_lines_0 23 rfl rfl)
theorem dX5_lines_24 : decode cX5_lines 24 = .ok (.dup, 1) := dk_89 (dk_at dksX5_lines_1 0 rfl rfl)
theorem dX5_lines_25 : decode cX5_lines 25 = .ok (.getfield 19, 3) := dk_180 0 19 (dk_at dksX5_lines_1 1 rfl rfl)
theorem dX5_lines_28 : decode cX5_lines 28 = .ok (.iconst 1, 1) := dk_4 (dk_at dksX5_lines_1 4 rfl rfl)
theorem dX5_lines_29 : decode cX5_lines 29 = .ok (.iadd, 1) := dk_96 (dk_at dksX5_lines_1 5 rfl rfl)
theorem dX5_lines_30 : decode cX5_lines 30 = .ok (.putfield 19, 3) := dk_181 0 19 (dk_at dksX5_lines_1 6 rfl rfl)
theorem dX5_lines_33 : decode cX5_lines 33 = .ok (.aload_n 2, 1) := dk_44 (dk_at dksX5_lines_1 9 rfl rfl)
theorem dX5_lines_34 : decode cX5_lines 34 = .ok (.aload_n 0, 1) := dk_42 (dk_at dksX5_lines_1 10 rfl rfl)
theorem dX5_lines_35 : decode cX5_lines 35 = .ok (.invokevirtual 39, 3) := dk_182 0 39 (dk_at dksX5_lines_1 11 rfl rfl)
theorem dX5_lines_38 : decode cX5_lines 38 = .ok (.putfield 43, 3) := dk_181 0 43 (dk_at dksX5_lines_1 14 rfl rfl)
theorem dX5_lines_41 : decode cX5_lines 41 = .ok (.aload_n 2, 1) := dk_44 (dk_at dksX5_lines_1 17 rfl rfl)
theorem dX5_lines_42 : decode cX5_lines 42 = .ok (.getfield 43, 3) := dk_180 0 43 (dk_at dksX5_lines_1 18 rfl rfl)
theorem dX5_lines_45 : decode cX5_lines 45 = .ok (.astore_n 2, 1) := dk_77 (dk_at dksX5_lines_1 21 rfl rfl)
theorem dX5_lines_46 : decode cX5_lines 46 = .ok (.goto (-39), 3) := dk_167 255 217 (dk_at dksX5_lines_2 0 rfl rfl)
theorem dX5_lines_49 : decode cX5_lines 49 = .ok (.aload_n 0, 1) := dk_42 (dk_at dksX5_lines_2 3 rfl rfl)
theorem dX5_lines_50 : decode cX5_lines 50 = .ok (.getfield 15, 3) := dk_180 0 15 (dk_at dksX5_lines_2 4 rfl rfl)
theorem dX5_lines_53 : decode cX5_lines 53 = .ok (.ifCond .ge 25, 3) := dk_156 0 25 (dk_at dksX5_lines_2 7 rfl rfl)
theorem dX5_lines_56 : decode cX5_lines 56 = .ok (.aload_n 0, 1) := dk_42 (dk_at dksX5_lines_2 10 rfl rfl)
theorem dX5_lines_57 : decode cX5_lines 57 = .ok (.getfield 19, 3) := dk_180 0 19 (dk_at dksX5_lines_2 11 rfl rfl)
theorem dX5_lines_60 : decode cX5_lines 60 = .ok (.aload_n 0, 1) := dk_42 (dk_at dksX5_lines_2 14 rfl rfl)
theorem dX5_lines_61 : decode cX5_lines 61 = .ok (.getfield 3, 3) := dk_180 0 3 (dk_at dksX5_lines_2 15 rfl rfl)
theorem dX5_lines_64 : decode cX5_lines 64 = .ok (.getfield 22, 3) := dk_180 0 22 (dk_at dksX5_lines_2 18 rfl rfl)
theorem dX5_lines_67 : decode cX5_lines 67 = .ok (.if_icmp .ge 11, 3) := dk_162 0 11 (dk_at dksX5_lines_2 21 rfl rfl)
theorem dX5_lines_70 : decode cX5_lines 70 = .ok (.aload_n 0, 1) := dk_42 (dk_at dksX5_lines_3 0 rfl rfl)
theorem dX5_lines_71 : decode cX5_lines 71 = .ok (.aload_n 0, 1) := dk_42 (dk_at dksX5_lines_3 1 rfl rfl)
theorem dX5_lines_72 : decode cX5_lines 72 = .ok (.getfield 19, 3) := dk_180 0 19 (dk_at dksX5_lines_3 2 rfl rfl)
theorem dX5_lines_75 : decode cX5_lines 75 = .ok (.putfield 15, 3) := dk_181 0 15 (dk_at dksX5_lines_3 5 rfl rfl)
theorem dX5_lines_78 : decode cX5_lines 78 = .ok (.aload_n 1, 1) := dk_43 (dk_at dksX5_lines_3 8 rfl rfl)
theorem dX5_lines_79 : decode cX5_lines 79 = .ok (.areturn, 1) := dk_176 (dk_at dksX5_lines_3 9 rfl rfl)
abbrev cX5_line : ByteArray := prog_22_method_6_code
def yX5_line : MethodName := ⟨RX5, "line", "()LNineKeysRound$Line;"⟩
def dkwX5_line_2 : List UInt8 := [180, 0, 54, 181, 0, 58, 43, 42, 182, 0, 50, 181, 0, 54, 43, 176]
abbrev dktX5_line_2 : List UInt8 := dkwX5_line_2 ++ []
def dkwX5_line_1 : List UInt8 := [182, 0, 29, 16, 63, 159, 0, 5, 43, 176, 42, 89, 180, 0, 19, 4, 96, 181, 0, 19, 43, 43]
abbrev dktX5_line_1 : List UInt8 := dkwX5_line_1 ++ dktX5_line_2
def dkwX5_line_0 : List UInt8 := [187, 0, 44, 89, 183, 0, 49, 76, 43, 42, 182, 0, 50, 181, 0, 54, 42, 180, 0, 15, 156, 0, 12, 42]
abbrev dktX5_line_0 : List UInt8 := dkwX5_line_0 ++ dktX5_line_1
theorem dksX5_line_0 : cX5_line.data.toList.drop 0 = dktX5_line_0 := by decide +kernel
theorem dksX5_line_1 : cX5_line.data.toList.drop 24 = dktX5_line_1 := dk_seg dksX5_line_0 24 rfl rfl
theorem dksX5_line_2 : cX5_line.data.toList.drop 46 = dktX5_line_2 := dk_seg dksX5_line_1 22 rfl rfl
theorem dX5_line_0 : decode cX5_line 0 = .ok (.new 44, 3) := dk_187 0 44 (dk_at dksX5_line_0 0 rfl rfl)
theorem dX5_line_3 : decode cX5_line 3 = .ok (.dup, 1) := dk_89 (dk_at dksX5_line_0 3 rfl rfl)
theorem dX5_line_4 : decode cX5_line 4 = .ok (.invokespecial 49, 3) := dk_183 0 49 (dk_at dksX5_line_0 4 rfl rfl)
theorem dX5_line_7 : decode cX5_line 7 = .ok (.astore_n 1, 1) := dk_76 (dk_at dksX5_line_0 7 rfl rfl)
theorem dX5_line_8 : decode cX5_line 8 = .ok (.aload_n 1, 1) := dk_43 (dk_at dksX5_line_0 8 rfl rfl)
theorem dX5_line_9 : decode cX5_line 9 = .ok (.aload_n 0, 1) := dk_42 (dk_at dksX5_line_0 9 rfl rfl)
theorem dX5_line_10 : decode cX5_line 10 = .ok (.invokevirtual 50, 3) := dk_182 0 50 (dk_at dksX5_line_0 10 rfl rfl)
theorem dX5_line_13 : decode cX5_line 13 = .ok (.putfield 54, 3) := dk_181 0 54 (dk_at dksX5_line_0 13 rfl rfl)
theorem dX5_line_16 : decode cX5_line 16 = .ok (.aload_n 0, 1) := dk_42 (dk_at dksX5_line_0 16 rfl rfl)
theorem dX5_line_17 : decode cX5_line 17 = .ok (.getfield 15, 3) := dk_180 0 15 (dk_at dksX5_line_0 17 rfl rfl)
theorem dX5_line_20 : decode cX5_line 20 = .ok (.ifCond .ge 12, 3) := dk_156 0 12 (dk_at dksX5_line_0 20 rfl rfl)
theorem dX5_line_23 : decode cX5_line 23 = .ok (.aload_n 0, 1) := dk_42 (dk_at dksX5_line_0 23 rfl rfl)
theorem dX5_line_24 : decode cX5_line 24 = .ok (.invokevirtual 29, 3) := dk_182 0 29 (dk_at dksX5_line_1 0 rfl rfl)
theorem dX5_line_27 : decode cX5_line 27 = .ok (.bipush 63, 2) := dk_16 63 (dk_at dksX5_line_1 3 rfl rfl)
theorem dX5_line_29 : decode cX5_line 29 = .ok (.if_icmp .eq 5, 3) := dk_159 0 5 (dk_at dksX5_line_1 5 rfl rfl)
theorem dX5_line_32 : decode cX5_line 32 = .ok (.aload_n 1, 1) := dk_43 (dk_at dksX5_line_1 8 rfl rfl)
theorem dX5_line_33 : decode cX5_line 33 = .ok (.areturn, 1) := dk_176 (dk_at dksX5_line_1 9 rfl rfl)
theorem dX5_line_34 : decode cX5_line 34 = .ok (.aload_n 0, 1) := dk_42 (dk_at dksX5_line_1 10 rfl rfl)
theorem dX5_line_35 : decode cX5_line 35 = .ok (.dup, 1) := dk_89 (dk_at dksX5_line_1 11 rfl rfl)
theorem dX5_line_36 : decode cX5_line 36 = .ok (.getfield 19, 3) := dk_180 0 19 (dk_at dksX5_line_1 12 rfl rfl)
theorem dX5_line_39 : decode cX5_line 39 = .ok (.iconst 1, 1) := dk_4 (dk_at dksX5_line_1 15 rfl rfl)
theorem dX5_line_40 : decode cX5_line 40 = .ok (.iadd, 1) := dk_96 (dk_at dksX5_line_1 16 rfl rfl)
theorem dX5_line_41 : decode cX5_line 41 = .ok (.putfield 19, 3) := dk_181 0 19 (dk_at dksX5_line_1 17 rfl rfl)
theorem dX5_line_44 : decode cX5_line 44 = .ok (.aload_n 1, 1) := dk_43 (dk_at dksX5_line_1 20 rfl rfl)
theorem dX5_line_45 : decode cX5_line 45 = .ok (.aload_n 1, 1) := dk_43 (dk_at dksX5_line_1 21 rfl rfl)
theorem dX5_line_46 : decode cX5_line 46 = .ok (.getfield 54, 3) := dk_180 0 54 (dk_at dksX5_line_2 0 rfl rfl)
theorem dX5_line_49 : decode cX5_line 49 = .ok (.putfield 58, 3) := dk_181 0 58 (dk_at dksX5_line_2 3 rfl rfl)
theorem dX5_line_52 : decode cX5_line 52 = .ok (.aload_n 1, 1) := dk_43 (dk_at dksX5_line_2 6 rfl rfl)
theorem dX5_line_53 : decode cX5_line 53 = .ok (.aload_n 0, 1) := dk_42 (dk_at dksX5_line_2 7 rfl rfl)
theorem dX5_line_54 : decode cX5_line 54 = .ok (.invokevirtual 50, 3) := dk_182 0 50 (dk_at dksX5_line_2 8 rfl rfl)
theorem dX5_line_57 : decode cX5_line 57 = .ok (.putfield 54, 3) := dk_181 0 54 (dk_at dksX5_line_2 11 rfl rfl)
theorem dX5_line_60 : decode cX5_line 60 = .ok (.aload_n 1, 1) := dk_43 (dk_at dksX5_line_2 14 rfl rfl)
theorem dX5_line_61 : decode cX5_line 61 = .ok (.areturn, 1) := dk_176 (dk_at dksX5_line_2 15 rfl rfl)
abbrev cX5_either : ByteArray := prog_22_method_8_code
def yX5_either : MethodName := ⟨RX5, "either", "()LNineKeysRound$Node;"⟩
def dkwX5_either_2 : List UInt8 := [176]
abbrev dktX5_either_2 : List UInt8 := dkwX5_either_2 ++ []
def dkwX5_either_1 : List UInt8 := [180, 0, 19, 4, 96, 181, 0, 19, 42, 16, 124, 43, 42, 182, 0, 66, 182, 0, 69, 76, 167, 255, 218, 43]
abbrev dktX5_either_1 : List UInt8 := dkwX5_either_1 ++ dktX5_either_2
def dkwX5_either_0 : List UInt8 := [42, 182, 0, 66, 76, 42, 180, 0, 15, 156, 0, 37, 42, 182, 0, 29, 16, 124, 160, 0, 28, 42, 89]
abbrev dktX5_either_0 : List UInt8 := dkwX5_either_0 ++ dktX5_either_1
theorem dksX5_either_0 : cX5_either.data.toList.drop 0 = dktX5_either_0 := by decide +kernel
theorem dksX5_either_1 : cX5_either.data.toList.drop 23 = dktX5_either_1 := dk_seg dksX5_either_0 23 rfl rfl
theorem dksX5_either_2 : cX5_either.data.toList.drop 47 = dktX5_either_2 := dk_seg dksX5_either_1 24 rfl rfl
theorem dX5_either_0 : decode cX5_either 0 = .ok (.aload_n 0, 1) := dk_42 (dk_at dksX5_either_0 0 rfl rfl)
theorem dX5_either_1 : decode cX5_either 1 = .ok (.invokevirtual 66, 3) := dk_182 0 66 (dk_at dksX5_either_0 1 rfl rfl)
theorem dX5_either_4 : decode cX5_either 4 = .ok (.astore_n 1, 1) := dk_76 (dk_at dksX5_either_0 4 rfl rfl)
theorem dX5_either_5 : decode cX5_either 5 = .ok (.aload_n 0, 1) := dk_42 (dk_at dksX5_either_0 5 rfl rfl)
theorem dX5_either_6 : decode cX5_either 6 = .ok (.getfield 15, 3) := dk_180 0 15 (dk_at dksX5_either_0 6 rfl rfl)
theorem dX5_either_9 : decode cX5_either 9 = .ok (.ifCond .ge 37, 3) := dk_156 0 37 (dk_at dksX5_either_0 9 rfl rfl)
theorem dX5_either_12 : decode cX5_either 12 = .ok (.aload_n 0, 1) := dk_42 (dk_at dksX5_either_0 12 rfl rfl)
theorem dX5_either_13 : decode cX5_either 13 = .ok (.invokevirtual 29, 3) := dk_182 0 29 (dk_at dksX5_either_0 13 rfl rfl)
theorem dX5_either_16 : decode cX5_either 16 = .ok (.bipush 124, 2) := dk_16 124 (dk_at dksX5_either_0 16 rfl rfl)
theorem dX5_either_18 : decode cX5_either 18 = .ok (.if_icmp .ne 28, 3) := dk_160 0 28 (dk_at dksX5_either_0 18 rfl rfl)
theorem dX5_either_21 : decode cX5_either 21 = .ok (.aload_n 0, 1) := dk_42 (dk_at dksX5_either_0 21 rfl rfl)
theorem dX5_either_22 : decode cX5_either 22 = .ok (.dup, 1) := dk_89 (dk_at dksX5_either_0 22 rfl rfl)
theorem dX5_either_23 : decode cX5_either 23 = .ok (.getfield 19, 3) := dk_180 0 19 (dk_at dksX5_either_1 0 rfl rfl)
theorem dX5_either_26 : decode cX5_either 26 = .ok (.iconst 1, 1) := dk_4 (dk_at dksX5_either_1 3 rfl rfl)
theorem dX5_either_27 : decode cX5_either 27 = .ok (.iadd, 1) := dk_96 (dk_at dksX5_either_1 4 rfl rfl)
theorem dX5_either_28 : decode cX5_either 28 = .ok (.putfield 19, 3) := dk_181 0 19 (dk_at dksX5_either_1 5 rfl rfl)
theorem dX5_either_31 : decode cX5_either 31 = .ok (.aload_n 0, 1) := dk_42 (dk_at dksX5_either_1 8 rfl rfl)
theorem dX5_either_32 : decode cX5_either 32 = .ok (.bipush 124, 2) := dk_16 124 (dk_at dksX5_either_1 9 rfl rfl)
theorem dX5_either_34 : decode cX5_either 34 = .ok (.aload_n 1, 1) := dk_43 (dk_at dksX5_either_1 11 rfl rfl)
theorem dX5_either_35 : decode cX5_either 35 = .ok (.aload_n 0, 1) := dk_42 (dk_at dksX5_either_1 12 rfl rfl)
theorem dX5_either_36 : decode cX5_either 36 = .ok (.invokevirtual 66, 3) := dk_182 0 66 (dk_at dksX5_either_1 13 rfl rfl)
theorem dX5_either_39 : decode cX5_either 39 = .ok (.invokevirtual 69, 3) := dk_182 0 69 (dk_at dksX5_either_1 16 rfl rfl)
theorem dX5_either_42 : decode cX5_either 42 = .ok (.astore_n 1, 1) := dk_76 (dk_at dksX5_either_1 19 rfl rfl)
theorem dX5_either_43 : decode cX5_either 43 = .ok (.goto (-38), 3) := dk_167 255 218 (dk_at dksX5_either_1 20 rfl rfl)
theorem dX5_either_46 : decode cX5_either 46 = .ok (.aload_n 1, 1) := dk_43 (dk_at dksX5_either_1 23 rfl rfl)
theorem dX5_either_47 : decode cX5_either 47 = .ok (.areturn, 1) := dk_176 (dk_at dksX5_either_2 0 rfl rfl)
abbrev cX5_all : ByteArray := prog_22_method_9_code
def yX5_all : MethodName := ⟨RX5, "all", "()LNineKeysRound$Node;"⟩
def dkwX5_all_2 : List UInt8 := [176]
abbrev dktX5_all_2 : List UInt8 := dkwX5_all_2 ++ []
def dkwX5_all_1 : List UInt8 := [180, 0, 19, 4, 96, 181, 0, 19, 42, 16, 38, 43, 42, 182, 0, 73, 182, 0, 69, 76, 167, 255, 218, 43]
abbrev dktX5_all_1 : List UInt8 := dkwX5_all_1 ++ dktX5_all_2
def dkwX5_all_0 : List UInt8 := [42, 182, 0, 73, 76, 42, 180, 0, 15, 156, 0, 37, 42, 182, 0, 29, 16, 38, 160, 0, 28, 42, 89]
abbrev dktX5_all_0 : List UInt8 := dkwX5_all_0 ++ dktX5_all_1
theorem dksX5_all_0 : cX5_all.data.toList.drop 0 = dktX5_all_0 := by decide +kernel
theorem dksX5_all_1 : cX5_all.data.toList.drop 23 = dktX5_all_1 := dk_seg dksX5_all_0 23 rfl rfl
theorem dksX5_all_2 : cX5_all.data.toList.drop 47 = dktX5_all_2 := dk_seg dksX5_all_1 24 rfl rfl
theorem dX5_all_0 : decode cX5_all 0 = .ok (.aload_n 0, 1) := dk_42 (dk_at dksX5_all_0 0 rfl rfl)
theorem dX5_all_1 : decode cX5_all 1 = .ok (.invokevirtual 73, 3) := dk_182 0 73 (dk_at dksX5_all_0 1 rfl rfl)
theorem dX5_all_4 : decode cX5_all 4 = .ok (.astore_n 1, 1) := dk_76 (dk_at dksX5_all_0 4 rfl rfl)
theorem dX5_all_5 : decode cX5_all 5 = .ok (.aload_n 0, 1) := dk_42 (dk_at dksX5_all_0 5 rfl rfl)
theorem dX5_all_6 : decode cX5_all 6 = .ok (.getfield 15, 3) := dk_180 0 15 (dk_at dksX5_all_0 6 rfl rfl)
theorem dX5_all_9 : decode cX5_all 9 = .ok (.ifCond .ge 37, 3) := dk_156 0 37 (dk_at dksX5_all_0 9 rfl rfl)
theorem dX5_all_12 : decode cX5_all 12 = .ok (.aload_n 0, 1) := dk_42 (dk_at dksX5_all_0 12 rfl rfl)
theorem dX5_all_13 : decode cX5_all 13 = .ok (.invokevirtual 29, 3) := dk_182 0 29 (dk_at dksX5_all_0 13 rfl rfl)
theorem dX5_all_16 : decode cX5_all 16 = .ok (.bipush 38, 2) := dk_16 38 (dk_at dksX5_all_0 16 rfl rfl)
theorem dX5_all_18 : decode cX5_all 18 = .ok (.if_icmp .ne 28, 3) := dk_160 0 28 (dk_at dksX5_all_0 18 rfl rfl)
theorem dX5_all_21 : decode cX5_all 21 = .ok (.aload_n 0, 1) := dk_42 (dk_at dksX5_all_0 21 rfl rfl)
theorem dX5_all_22 : decode cX5_all 22 = .ok (.dup, 1) := dk_89 (dk_at dksX5_all_0 22 rfl rfl)
theorem dX5_all_23 : decode cX5_all 23 = .ok (.getfield 19, 3) := dk_180 0 19 (dk_at dksX5_all_1 0 rfl rfl)
theorem dX5_all_26 : decode cX5_all 26 = .ok (.iconst 1, 1) := dk_4 (dk_at dksX5_all_1 3 rfl rfl)
theorem dX5_all_27 : decode cX5_all 27 = .ok (.iadd, 1) := dk_96 (dk_at dksX5_all_1 4 rfl rfl)
theorem dX5_all_28 : decode cX5_all 28 = .ok (.putfield 19, 3) := dk_181 0 19 (dk_at dksX5_all_1 5 rfl rfl)
theorem dX5_all_31 : decode cX5_all 31 = .ok (.aload_n 0, 1) := dk_42 (dk_at dksX5_all_1 8 rfl rfl)
theorem dX5_all_32 : decode cX5_all 32 = .ok (.bipush 38, 2) := dk_16 38 (dk_at dksX5_all_1 9 rfl rfl)
theorem dX5_all_34 : decode cX5_all 34 = .ok (.aload_n 1, 1) := dk_43 (dk_at dksX5_all_1 11 rfl rfl)
theorem dX5_all_35 : decode cX5_all 35 = .ok (.aload_n 0, 1) := dk_42 (dk_at dksX5_all_1 12 rfl rfl)
theorem dX5_all_36 : decode cX5_all 36 = .ok (.invokevirtual 73, 3) := dk_182 0 73 (dk_at dksX5_all_1 13 rfl rfl)
theorem dX5_all_39 : decode cX5_all 39 = .ok (.invokevirtual 69, 3) := dk_182 0 69 (dk_at dksX5_all_1 16 rfl rfl)
theorem dX5_all_42 : decode cX5_all 42 = .ok (.astore_n 1, 1) := dk_76 (dk_at dksX5_all_1 19 rfl rfl)
theorem dX5_all_43 : decode cX5_all 43 = .ok (.goto (-38), 3) := dk_167 255 218 (dk_at dksX5_all_1 20 rfl rfl)
theorem dX5_all_46 : decode cX5_all 46 = .ok (.aload_n 1, 1) := dk_43 (dk_at dksX5_all_1 23 rfl rfl)
theorem dX5_all_47 : decode cX5_all 47 = .ok (.areturn, 1) := dk_176 (dk_at dksX5_all_2 0 rfl rfl)
abbrev cX5_compared : ByteArray := prog_22_method_10_code
def yX5_compared : MethodName := ⟨RX5, "compared", "()LNineKeysRound$Node;"⟩
def dkwX5_compared_2 : List UInt8 := [176]
abbrev dktX5_compared_2 : List UInt8 := dkwX5_compared_2 ++ []
def dkwX5_compared_1 : List UInt8 := [182, 0, 29, 61, 42, 89, 180, 0, 19, 4, 96, 181, 0, 19, 42, 28, 43, 42, 182, 0, 76, 182, 0, 69]
abbrev dktX5_compared_1 : List UInt8 := dkwX5_compared_1 ++ dktX5_compared_2
def dkwX5_compared_0 : List UInt8 := [42, 182, 0, 76, 76, 42, 180, 0, 15, 156, 0, 12, 42, 18, 79, 182, 0, 81, 154, 0, 5, 43, 176, 42]
abbrev dktX5_compared_0 : List UInt8 := dkwX5_compared_0 ++ dktX5_compared_1
theorem dksX5_compared_0 : cX5_compared.data.toList.drop 0 = dktX5_compared_0 := by decide +kernel
theorem dksX5_compared_1 : cX5_compared.data.toList.drop 24 = dktX5_compared_1 := dk_seg dksX5_compared_0 24 rfl rfl
theorem dksX5_compared_2 : cX5_compared.data.toList.drop 48 = dktX5_compared_2 := dk_seg dksX5_compared_1 24 rfl rfl
theorem dX5_compared_0 : decode cX5_compared 0 = .ok (.aload_n 0, 1) := dk_42 (dk_at dksX5_compared_0 0 rfl rfl)
theorem dX5_compared_1 : decode cX5_compared 1 = .ok (.invokevirtual 76, 3) := dk_182 0 76 (dk_at dksX5_compared_0 1 rfl rfl)
theorem dX5_compared_4 : decode cX5_compared 4 = .ok (.astore_n 1, 1) := dk_76 (dk_at dksX5_compared_0 4 rfl rfl)
theorem dX5_compared_5 : decode cX5_compared 5 = .ok (.aload_n 0, 1) := dk_42 (dk_at dksX5_compared_0 5 rfl rfl)
theorem dX5_compared_6 : decode cX5_compared 6 = .ok (.getfield 15, 3) := dk_180 0 15 (dk_at dksX5_compared_0 6 rfl rfl)
theorem dX5_compared_9 : decode cX5_compared 9 = .ok (.ifCond .ge 12, 3) := dk_156 0 12 (dk_at dksX5_compared_0 9 rfl rfl)
theorem dX5_compared_12 : decode cX5_compared 12 = .ok (.aload_n 0, 1) := dk_42 (dk_at dksX5_compared_0 12 rfl rfl)
theorem dX5_compared_13 : decode cX5_compared 13 = .ok (.ldc 79, 2) := dk_18 79 (dk_at dksX5_compared_0 13 rfl rfl)
theorem dX5_compared_15 : decode cX5_compared 15 = .ok (.invokevirtual 81, 3) := dk_182 0 81 (dk_at dksX5_compared_0 15 rfl rfl)
theorem dX5_compared_18 : decode cX5_compared 18 = .ok (.ifCond .ne 5, 3) := dk_154 0 5 (dk_at dksX5_compared_0 18 rfl rfl)
theorem dX5_compared_21 : decode cX5_compared 21 = .ok (.aload_n 1, 1) := dk_43 (dk_at dksX5_compared_0 21 rfl rfl)
theorem dX5_compared_22 : decode cX5_compared 22 = .ok (.areturn, 1) := dk_176 (dk_at dksX5_compared_0 22 rfl rfl)
theorem dX5_compared_23 : decode cX5_compared 23 = .ok (.aload_n 0, 1) := dk_42 (dk_at dksX5_compared_0 23 rfl rfl)
theorem dX5_compared_24 : decode cX5_compared 24 = .ok (.invokevirtual 29, 3) := dk_182 0 29 (dk_at dksX5_compared_1 0 rfl rfl)
theorem dX5_compared_27 : decode cX5_compared 27 = .ok (.istore_n 2, 1) := dk_61 (dk_at dksX5_compared_1 3 rfl rfl)
theorem dX5_compared_28 : decode cX5_compared 28 = .ok (.aload_n 0, 1) := dk_42 (dk_at dksX5_compared_1 4 rfl rfl)
theorem dX5_compared_29 : decode cX5_compared 29 = .ok (.dup, 1) := dk_89 (dk_at dksX5_compared_1 5 rfl rfl)
theorem dX5_compared_30 : decode cX5_compared 30 = .ok (.getfield 19, 3) := dk_180 0 19 (dk_at dksX5_compared_1 6 rfl rfl)
theorem dX5_compared_33 : decode cX5_compared 33 = .ok (.iconst 1, 1) := dk_4 (dk_at dksX5_compared_1 9 rfl rfl)
theorem dX5_compared_34 : decode cX5_compared 34 = .ok (.iadd, 1) := dk_96 (dk_at dksX5_compared_1 10 rfl rfl)
theorem dX5_compared_35 : decode cX5_compared 35 = .ok (.putfield 19, 3) := dk_181 0 19 (dk_at dksX5_compared_1 11 rfl rfl)
theorem dX5_compared_38 : decode cX5_compared 38 = .ok (.aload_n 0, 1) := dk_42 (dk_at dksX5_compared_1 14 rfl rfl)
theorem dX5_compared_39 : decode cX5_compared 39 = .ok (.iload_n 2, 1) := dk_28 (dk_at dksX5_compared_1 15 rfl rfl)
theorem dX5_compared_40 : decode cX5_compared 40 = .ok (.aload_n 1, 1) := dk_43 (dk_at dksX5_compared_1 16 rfl rfl)
theorem dX5_compared_41 : decode cX5_compared 41 = .ok (.aload_n 0, 1) := dk_42 (dk_at dksX5_compared_1 17 rfl rfl)
theorem dX5_compared_42 : decode cX5_compared 42 = .ok (.invokevirtual 76, 3) := dk_182 0 76 (dk_at dksX5_compared_1 18 rfl rfl)
theorem dX5_compared_45 : decode cX5_compared 45 = .ok (.invokevirtual 69, 3) := dk_182 0 69 (dk_at dksX5_compared_1 21 rfl rfl)
theorem dX5_compared_48 : decode cX5_compared 48 = .ok (.areturn, 1) := dk_176 (dk_at dksX5_compared_2 0 rfl rfl)
abbrev cX5_sum : ByteArray := prog_22_method_11_code
def yX5_sum : MethodName := ⟨RX5, "sum", "()LNineKeysRound$Node;"⟩
def dkwX5_sum_2 : List UInt8 := [76, 167, 255, 214, 43, 176]
abbrev dktX5_sum_2 : List UInt8 := dkwX5_sum_2 ++ []
def dkwX5_sum_1 : List UInt8 := [182, 0, 29, 61, 42, 89, 180, 0, 19, 4, 96, 181, 0, 19, 42, 28, 43, 42, 182, 0, 85, 182, 0, 69]
abbrev dktX5_sum_1 : List UInt8 := dkwX5_sum_1 ++ dktX5_sum_2
def dkwX5_sum_0 : List UInt8 := [42, 182, 0, 85, 76, 42, 180, 0, 15, 156, 0, 41, 42, 18, 88, 182, 0, 81, 153, 0, 32, 42]
abbrev dktX5_sum_0 : List UInt8 := dkwX5_sum_0 ++ dktX5_sum_1
theorem dksX5_sum_0 : cX5_sum.data.toList.drop 0 = dktX5_sum_0 := by decide +kernel
theorem dksX5_sum_1 : cX5_sum.data.toList.drop 22 = dktX5_sum_1 := dk_seg dksX5_sum_0 22 rfl rfl
theorem dksX5_sum_2 : cX5_sum.data.toList.drop 46 = dktX5_sum_2 := dk_seg dksX5_sum_1 24 rfl rfl
theorem dX5_sum_0 : decode cX5_sum 0 = .ok (.aload_n 0, 1) := dk_42 (dk_at dksX5_sum_0 0 rfl rfl)
theorem dX5_sum_1 : decode cX5_sum 1 = .ok (.invokevirtual 85, 3) := dk_182 0 85 (dk_at dksX5_sum_0 1 rfl rfl)
theorem dX5_sum_4 : decode cX5_sum 4 = .ok (.astore_n 1, 1) := dk_76 (dk_at dksX5_sum_0 4 rfl rfl)
theorem dX5_sum_5 : decode cX5_sum 5 = .ok (.aload_n 0, 1) := dk_42 (dk_at dksX5_sum_0 5 rfl rfl)
theorem dX5_sum_6 : decode cX5_sum 6 = .ok (.getfield 15, 3) := dk_180 0 15 (dk_at dksX5_sum_0 6 rfl rfl)
theorem dX5_sum_9 : decode cX5_sum 9 = .ok (.ifCond .ge 41, 3) := dk_156 0 41 (dk_at dksX5_sum_0 9 rfl rfl)
theorem dX5_sum_12 : decode cX5_sum 12 = .ok (.aload_n 0, 1) := dk_42 (dk_at dksX5_sum_0 12 rfl rfl)
theorem dX5_sum_13 : decode cX5_sum 13 = .ok (.ldc 88, 2) := dk_18 88 (dk_at dksX5_sum_0 13 rfl rfl)
theorem dX5_sum_15 : decode cX5_sum 15 = .ok (.invokevirtual 81, 3) := dk_182 0 81 (dk_at dksX5_sum_0 15 rfl rfl)
theorem dX5_sum_18 : decode cX5_sum 18 = .ok (.ifCond .eq 32, 3) := dk_153 0 32 (dk_at dksX5_sum_0 18 rfl rfl)
theorem dX5_sum_21 : decode cX5_sum 21 = .ok (.aload_n 0, 1) := dk_42 (dk_at dksX5_sum_0 21 rfl rfl)
theorem dX5_sum_22 : decode cX5_sum 22 = .ok (.invokevirtual 29, 3) := dk_182 0 29 (dk_at dksX5_sum_1 0 rfl rfl)
theorem dX5_sum_25 : decode cX5_sum 25 = .ok (.istore_n 2, 1) := dk_61 (dk_at dksX5_sum_1 3 rfl rfl)
theorem dX5_sum_26 : decode cX5_sum 26 = .ok (.aload_n 0, 1) := dk_42 (dk_at dksX5_sum_1 4 rfl rfl)
theorem dX5_sum_27 : decode cX5_sum 27 = .ok (.dup, 1) := dk_89 (dk_at dksX5_sum_1 5 rfl rfl)
theorem dX5_sum_28 : decode cX5_sum 28 = .ok (.getfield 19, 3) := dk_180 0 19 (dk_at dksX5_sum_1 6 rfl rfl)
theorem dX5_sum_31 : decode cX5_sum 31 = .ok (.iconst 1, 1) := dk_4 (dk_at dksX5_sum_1 9 rfl rfl)
theorem dX5_sum_32 : decode cX5_sum 32 = .ok (.iadd, 1) := dk_96 (dk_at dksX5_sum_1 10 rfl rfl)
theorem dX5_sum_33 : decode cX5_sum 33 = .ok (.putfield 19, 3) := dk_181 0 19 (dk_at dksX5_sum_1 11 rfl rfl)
theorem dX5_sum_36 : decode cX5_sum 36 = .ok (.aload_n 0, 1) := dk_42 (dk_at dksX5_sum_1 14 rfl rfl)
theorem dX5_sum_37 : decode cX5_sum 37 = .ok (.iload_n 2, 1) := dk_28 (dk_at dksX5_sum_1 15 rfl rfl)
theorem dX5_sum_38 : decode cX5_sum 38 = .ok (.aload_n 1, 1) := dk_43 (dk_at dksX5_sum_1 16 rfl rfl)
theorem dX5_sum_39 : decode cX5_sum 39 = .ok (.aload_n 0, 1) := dk_42 (dk_at dksX5_sum_1 17 rfl rfl)
theorem dX5_sum_40 : decode cX5_sum 40 = .ok (.invokevirtual 85, 3) := dk_182 0 85 (dk_at dksX5_sum_1 18 rfl rfl)
theorem dX5_sum_43 : decode cX5_sum 43 = .ok (.invokevirtual 69, 3) := dk_182 0 69 (dk_at dksX5_sum_1 21 rfl rfl)
theorem dX5_sum_46 : decode cX5_sum 46 = .ok (.astore_n 1, 1) := dk_76 (dk_at dksX5_sum_2 0 rfl rfl)
theorem dX5_sum_47 : decode cX5_sum 47 = .ok (.goto (-42), 3) := dk_167 255 214 (dk_at dksX5_sum_2 1 rfl rfl)
theorem dX5_sum_50 : decode cX5_sum 50 = .ok (.aload_n 1, 1) := dk_43 (dk_at dksX5_sum_2 4 rfl rfl)
theorem dX5_sum_51 : decode cX5_sum 51 = .ok (.areturn, 1) := dk_176 (dk_at dksX5_sum_2 5 rfl rfl)
abbrev cX5_product : ByteArray := prog_22_method_12_code
def yX5_product : MethodName := ⟨RX5, "product", "()LNineKeysRound$Node;"⟩
def dkwX5_product_2 : List UInt8 := [76, 167, 255, 214, 43, 176]
abbrev dktX5_product_2 : List UInt8 := dkwX5_product_2 ++ []
def dkwX5_product_1 : List UInt8 := [182, 0, 29, 61, 42, 89, 180, 0, 19, 4, 96, 181, 0, 19, 42, 28, 43, 42, 182, 0, 90, 182, 0, 69]
abbrev dktX5_product_1 : List UInt8 := dkwX5_product_1 ++ dktX5_product_2
def dkwX5_product_0 : List UInt8 := [42, 182, 0, 90, 76, 42, 180, 0, 15, 156, 0, 41, 42, 18, 93, 182, 0, 81, 153, 0, 32, 42]
abbrev dktX5_product_0 : List UInt8 := dkwX5_product_0 ++ dktX5_product_1
theorem dksX5_product_0 : cX5_product.data.toList.drop 0 = dktX5_product_0 := by decide +kernel
theorem dksX5_product_1 : cX5_product.data.toList.drop 22 = dktX5_product_1 := dk_seg dksX5_product_0 22 rfl rfl
theorem dksX5_product_2 : cX5_product.data.toList.drop 46 = dktX5_product_2 := dk_seg dksX5_product_1 24 rfl rfl
theorem dX5_product_0 : decode cX5_product 0 = .ok (.aload_n 0, 1) := dk_42 (dk_at dksX5_product_0 0 rfl rfl)
theorem dX5_product_1 : decode cX5_product 1 = .ok (.invokevirtual 90, 3) := dk_182 0 90 (dk_at dksX5_product_0 1 rfl rfl)
theorem dX5_product_4 : decode cX5_product 4 = .ok (.astore_n 1, 1) := dk_76 (dk_at dksX5_product_0 4 rfl rfl)
theorem dX5_product_5 : decode cX5_product 5 = .ok (.aload_n 0, 1) := dk_42 (dk_at dksX5_product_0 5 rfl rfl)
theorem dX5_product_6 : decode cX5_product 6 = .ok (.getfield 15, 3) := dk_180 0 15 (dk_at dksX5_product_0 6 rfl rfl)
theorem dX5_product_9 : decode cX5_product 9 = .ok (.ifCond .ge 41, 3) := dk_156 0 41 (dk_at dksX5_product_0 9 rfl rfl)
theorem dX5_product_12 : decode cX5_product 12 = .ok (.aload_n 0, 1) := dk_42 (dk_at dksX5_product_0 12 rfl rfl)
theorem dX5_product_13 : decode cX5_product 13 = .ok (.ldc 93, 2) := dk_18 93 (dk_at dksX5_product_0 13 rfl rfl)
theorem dX5_product_15 : decode cX5_product 15 = .ok (.invokevirtual 81, 3) := dk_182 0 81 (dk_at dksX5_product_0 15 rfl rfl)
theorem dX5_product_18 : decode cX5_product 18 = .ok (.ifCond .eq 32, 3) := dk_153 0 32 (dk_at dksX5_product_0 18 rfl rfl)
theorem dX5_product_21 : decode cX5_product 21 = .ok (.aload_n 0, 1) := dk_42 (dk_at dksX5_product_0 21 rfl rfl)
theorem dX5_product_22 : decode cX5_product 22 = .ok (.invokevirtual 29, 3) := dk_182 0 29 (dk_at dksX5_product_1 0 rfl rfl)
theorem dX5_product_25 : decode cX5_product 25 = .ok (.istore_n 2, 1) := dk_61 (dk_at dksX5_product_1 3 rfl rfl)
theorem dX5_product_26 : decode cX5_product 26 = .ok (.aload_n 0, 1) := dk_42 (dk_at dksX5_product_1 4 rfl rfl)
theorem dX5_product_27 : decode cX5_product 27 = .ok (.dup, 1) := dk_89 (dk_at dksX5_product_1 5 rfl rfl)
theorem dX5_product_28 : decode cX5_product 28 = .ok (.getfield 19, 3) := dk_180 0 19 (dk_at dksX5_product_1 6 rfl rfl)
theorem dX5_product_31 : decode cX5_product 31 = .ok (.iconst 1, 1) := dk_4 (dk_at dksX5_product_1 9 rfl rfl)
theorem dX5_product_32 : decode cX5_product 32 = .ok (.iadd, 1) := dk_96 (dk_at dksX5_product_1 10 rfl rfl)
theorem dX5_product_33 : decode cX5_product 33 = .ok (.putfield 19, 3) := dk_181 0 19 (dk_at dksX5_product_1 11 rfl rfl)
theorem dX5_product_36 : decode cX5_product 36 = .ok (.aload_n 0, 1) := dk_42 (dk_at dksX5_product_1 14 rfl rfl)
theorem dX5_product_37 : decode cX5_product 37 = .ok (.iload_n 2, 1) := dk_28 (dk_at dksX5_product_1 15 rfl rfl)
theorem dX5_product_38 : decode cX5_product 38 = .ok (.aload_n 1, 1) := dk_43 (dk_at dksX5_product_1 16 rfl rfl)
theorem dX5_product_39 : decode cX5_product 39 = .ok (.aload_n 0, 1) := dk_42 (dk_at dksX5_product_1 17 rfl rfl)
theorem dX5_product_40 : decode cX5_product 40 = .ok (.invokevirtual 90, 3) := dk_182 0 90 (dk_at dksX5_product_1 18 rfl rfl)
theorem dX5_product_43 : decode cX5_product 43 = .ok (.invokevirtual 69, 3) := dk_182 0 69 (dk_at dksX5_product_1 21 rfl rfl)
theorem dX5_product_46 : decode cX5_product 46 = .ok (.astore_n 1, 1) := dk_76 (dk_at dksX5_product_2 0 rfl rfl)
theorem dX5_product_47 : decode cX5_product 47 = .ok (.goto (-42), 3) := dk_167 255 214 (dk_at dksX5_product_2 1 rfl rfl)
theorem dX5_product_50 : decode cX5_product 50 = .ok (.aload_n 1, 1) := dk_43 (dk_at dksX5_product_2 4 rfl rfl)
theorem dX5_product_51 : decode cX5_product 51 = .ok (.areturn, 1) := dk_176 (dk_at dksX5_product_2 5 rfl rfl)
abbrev cX5_operand : ByteArray := prog_22_method_14_code
def yX5_operand : MethodName := ⟨RX5, "operand", "()LNineKeysRound$Node;"⟩
def dkwX5_operand_11 : List UInt8 := [89, 29, 183, 0, 126, 176]
abbrev dktX5_operand_11 : List UInt8 := dkwX5_operand_11 ++ []
def dkwX5_operand_10 : List UInt8 := [42, 182, 0, 29, 16, 48, 16, 57, 184, 0, 120, 153, 0, 10, 42, 182, 0, 109, 167, 0, 11, 187, 0, 124]
abbrev dktX5_operand_10 : List UInt8 := dkwX5_operand_10 ++ dktX5_operand_11
def dkwX5_operand_9 : List UInt8 := [16, 48, 100, 62, 132, 2, 1, 42, 89, 180, 0, 19, 4, 96, 181, 0, 19, 167, 255, 211, 28, 153, 0, 17]
abbrev dktX5_operand_9 : List UInt8 := dkwX5_operand_9 ++ dktX5_operand_10
def dkwX5_operand_8 : List UInt8 := [42, 182, 0, 29, 16, 48, 16, 57, 184, 0, 120, 153, 0, 32, 16, 10, 29, 104, 42, 182, 0, 29, 96]
abbrev dktX5_operand_8 : List UInt8 := dkwX5_operand_8 ++ dktX5_operand_9
def dkwX5_operand_7 : List UInt8 := [181, 0, 19, 42, 89, 180, 0, 95, 4, 100, 181, 0, 95, 44, 176, 3, 61, 3, 62, 28, 7, 162, 0, 46]
abbrev dktX5_operand_7 : List UInt8 := dkwX5_operand_7 ++ dktX5_operand_8
def dkwX5_operand_6 : List UInt8 := [176, 42, 182, 0, 29, 16, 41, 159, 0, 8, 42, 182, 0, 109, 176, 42, 89, 180, 0, 19, 4, 96]
abbrev dktX5_operand_6 : List UInt8 := dkwX5_operand_6 ++ dktX5_operand_7
def dkwX5_operand_5 : List UInt8 := [182, 0, 105, 154, 0, 8, 42, 182, 0, 109, 176, 42, 182, 0, 50, 77, 42, 180, 0, 15, 155, 0, 5, 1]
abbrev dktX5_operand_5 : List UInt8 := dkwX5_operand_5 ++ dktX5_operand_6
def dkwX5_operand_4 : List UInt8 := [183, 0, 114, 167, 0, 11, 187, 0, 117, 89, 44, 183, 0, 119, 176, 27, 16, 40, 160, 0, 65, 42]
abbrev dktX5_operand_4 : List UInt8 := dkwX5_operand_4 ++ dktX5_operand_5
def dkwX5_operand_3 : List UInt8 := [181, 0, 95, 42, 180, 0, 15, 155, 0, 5, 1, 176, 27, 16, 33, 160, 0, 14, 187, 0, 112, 89, 44]
abbrev dktX5_operand_3 : List UInt8 := dkwX5_operand_3 ++ dktX5_operand_4
def dkwX5_operand_2 : List UInt8 := [182, 0, 105, 154, 0, 8, 42, 182, 0, 109, 176, 42, 182, 0, 90, 77, 42, 89, 180, 0, 95, 4, 100]
abbrev dktX5_operand_2 : List UInt8 := dkwX5_operand_2 ++ dktX5_operand_3
def dkwX5_operand_1 : List UInt8 := [187, 0, 100, 89, 27, 183, 0, 102, 176, 27, 16, 33, 159, 0, 9, 27, 16, 45, 160, 0, 65, 42]
abbrev dktX5_operand_1 : List UInt8 := dkwX5_operand_1 ++ dktX5_operand_2
def dkwX5_operand_0 : List UInt8 := [42, 182, 0, 29, 60, 42, 18, 98, 182, 0, 81, 153, 0, 22, 42, 89, 180, 0, 19, 4, 96, 181, 0, 19]
abbrev dktX5_operand_0 : List UInt8 := dkwX5_operand_0 ++ dktX5_operand_1
theorem dksX5_operand_0 : cX5_operand.data.toList.drop 0 = dktX5_operand_0 := by decide +kernel
theorem dksX5_operand_1 : cX5_operand.data.toList.drop 24 = dktX5_operand_1 := dk_seg dksX5_operand_0 24 rfl rfl
theorem dksX5_operand_2 : cX5_operand.data.toList.drop 46 = dktX5_operand_2 := dk_seg dksX5_operand_1 22 rfl rfl
theorem dksX5_operand_3 : cX5_operand.data.toList.drop 69 = dktX5_operand_3 := dk_seg dksX5_operand_2 23 rfl rfl
theorem dksX5_operand_4 : cX5_operand.data.toList.drop 92 = dktX5_operand_4 := dk_seg dksX5_operand_3 23 rfl rfl
theorem dksX5_operand_5 : cX5_operand.data.toList.drop 114 = dktX5_operand_5 := dk_seg dksX5_operand_4 22 rfl rfl
theorem dksX5_operand_6 : cX5_operand.data.toList.drop 138 = dktX5_operand_6 := dk_seg dksX5_operand_5 24 rfl rfl
theorem dksX5_operand_7 : cX5_operand.data.toList.drop 160 = dktX5_operand_7 := dk_seg dksX5_operand_6 22 rfl rfl
theorem dksX5_operand_8 : cX5_operand.data.toList.drop 184 = dktX5_operand_8 := dk_seg dksX5_operand_7 24 rfl rfl
theorem dksX5_operand_9 : cX5_operand.data.toList.drop 207 = dktX5_operand_9 := dk_seg dksX5_operand_8 23 rfl rfl
theorem dksX5_operand_10 : cX5_operand.data.toList.drop 231 = dktX5_operand_10 := dk_seg dksX5_operand_9 24 rfl rfl
theorem dksX5_operand_11 : cX5_operand.data.toList.drop 255 = dktX5_operand_11 := dk_seg dksX5_operand_10 24 rfl rfl
theorem dX5_operand_0 : decode cX5_operand 0 = .ok (.aload_n 0, 1) := dk_42 (dk_at dksX5_operand_0 0 rfl rfl)
theorem dX5_operand_1 : decode cX5_operand 1 = .ok (.invokevirtual 29, 3) := dk_182 0 29 (dk_at dksX5_operand_0 1 rfl rfl)
theorem dX5_operand_4 : decode cX5_operand 4 = .ok (.istore_n 1, 1) := dk_60 (dk_at dksX5_operand_0 4 rfl rfl)
theorem dX5_operand_5 : decode cX5_operand 5 = .ok (.aload_n 0, 1) := dk_42 (dk_at dksX5_operand_0 5 rfl rfl)
theorem dX5_operand_6 : decode cX5_operand 6 = .ok (.ldc 98, 2) := dk_18 98 (dk_at dksX5_operand_0 6 rfl rfl)
theorem dX5_operand_8 : decode cX5_operand 8 = .ok (.invokevirtual 81, 3) := dk_182 0 81 (dk_at dksX5_operand_0 8 rfl rfl)
theorem dX5_operand_11 : decode cX5_operand 11 = .ok (.ifCond .eq 22, 3) := dk_153 0 22 (dk_at dksX5_operand_0 11 rfl rfl)
theorem dX5_operand_14 : decode cX5_operand 14 = .ok (.aload_n 0, 1) := dk_42 (dk_at dksX5_operand_0 14 rfl rfl)
theorem dX5_operand_15 : decode cX5_operand 15 = .ok (.dup, 1) := dk_89 (dk_at dksX5_operand_0 15 rfl rfl)
theorem dX5_operand_16 : decode cX5_operand 16 = .ok (.getfield 19, 3) := dk_180 0 19 (dk_at dksX5_operand_0 16 rfl rfl)
theorem dX5_operand_19 : decode cX5_operand 19 = .ok (.iconst 1, 1) := dk_4 (dk_at dksX5_operand_0 19 rfl rfl)
theorem dX5_operand_20 : decode cX5_operand 20 = .ok (.iadd, 1) := dk_96 (dk_at dksX5_operand_0 20 rfl rfl)
theorem dX5_operand_21 : decode cX5_operand 21 = .ok (.putfield 19, 3) := dk_181 0 19 (dk_at dksX5_operand_0 21 rfl rfl)
theorem dX5_operand_24 : decode cX5_operand 24 = .ok (.new 100, 3) := dk_187 0 100 (dk_at dksX5_operand_1 0 rfl rfl)
theorem dX5_operand_27 : decode cX5_operand 27 = .ok (.dup, 1) := dk_89 (dk_at dksX5_operand_1 3 rfl rfl)
theorem dX5_operand_28 : decode cX5_operand 28 = .ok (.iload_n 1, 1) := dk_27 (dk_at dksX5_operand_1 4 rfl rfl)
theorem dX5_operand_29 : decode cX5_operand 29 = .ok (.invokespecial 102, 3) := dk_183 0 102 (dk_at dksX5_operand_1 5 rfl rfl)
theorem dX5_operand_32 : decode cX5_operand 32 = .ok (.areturn, 1) := dk_176 (dk_at dksX5_operand_1 8 rfl rfl)
theorem dX5_operand_33 : decode cX5_operand 33 = .ok (.iload_n 1, 1) := dk_27 (dk_at dksX5_operand_1 9 rfl rfl)
theorem dX5_operand_34 : decode cX5_operand 34 = .ok (.bipush 33, 2) := dk_16 33 (dk_at dksX5_operand_1 10 rfl rfl)
theorem dX5_operand_36 : decode cX5_operand 36 = .ok (.if_icmp .eq 9, 3) := dk_159 0 9 (dk_at dksX5_operand_1 12 rfl rfl)
theorem dX5_operand_39 : decode cX5_operand 39 = .ok (.iload_n 1, 1) := dk_27 (dk_at dksX5_operand_1 15 rfl rfl)
theorem dX5_operand_40 : decode cX5_operand 40 = .ok (.bipush 45, 2) := dk_16 45 (dk_at dksX5_operand_1 16 rfl rfl)
theorem dX5_operand_42 : decode cX5_operand 42 = .ok (.if_icmp .ne 65, 3) := dk_160 0 65 (dk_at dksX5_operand_1 18 rfl rfl)
theorem dX5_operand_45 : decode cX5_operand 45 = .ok (.aload_n 0, 1) := dk_42 (dk_at dksX5_operand_1 21 rfl rfl)
theorem dX5_operand_46 : decode cX5_operand 46 = .ok (.invokevirtual 105, 3) := dk_182 0 105 (dk_at dksX5_operand_2 0 rfl rfl)
theorem dX5_operand_49 : decode cX5_operand 49 = .ok (.ifCond .ne 8, 3) := dk_154 0 8 (dk_at dksX5_operand_2 3 rfl rfl)
theorem dX5_operand_52 : decode cX5_operand 52 = .ok (.aload_n 0, 1) := dk_42 (dk_at dksX5_operand_2 6 rfl rfl)
theorem dX5_operand_53 : decode cX5_operand 53 = .ok (.invokevirtual 109, 3) := dk_182 0 109 (dk_at dksX5_operand_2 7 rfl rfl)
theorem dX5_operand_56 : decode cX5_operand 56 = .ok (.areturn, 1) := dk_176 (dk_at dksX5_operand_2 10 rfl rfl)
theorem dX5_operand_57 : decode cX5_operand 57 = .ok (.aload_n 0, 1) := dk_42 (dk_at dksX5_operand_2 11 rfl rfl)
theorem dX5_operand_58 : decode cX5_operand 58 = .ok (.invokevirtual 90, 3) := dk_182 0 90 (dk_at dksX5_operand_2 12 rfl rfl)
theorem dX5_operand_61 : decode cX5_operand 61 = .ok (.astore_n 2, 1) := dk_77 (dk_at dksX5_operand_2 15 rfl rfl)
theorem dX5_operand_62 : decode cX5_operand 62 = .ok (.aload_n 0, 1) := dk_42 (dk_at dksX5_operand_2 16 rfl rfl)
theorem dX5_operand_63 : decode cX5_operand 63 = .ok (.dup, 1) := dk_89 (dk_at dksX5_operand_2 17 rfl rfl)
theorem dX5_operand_64 : decode cX5_operand 64 = .ok (.getfield 95, 3) := dk_180 0 95 (dk_at dksX5_operand_2 18 rfl rfl)
theorem dX5_operand_67 : decode cX5_operand 67 = .ok (.iconst 1, 1) := dk_4 (dk_at dksX5_operand_2 21 rfl rfl)
theorem dX5_operand_68 : decode cX5_operand 68 = .ok (.isub, 1) := dk_100 (dk_at dksX5_operand_2 22 rfl rfl)
theorem dX5_operand_69 : decode cX5_operand 69 = .ok (.putfield 95, 3) := dk_181 0 95 (dk_at dksX5_operand_3 0 rfl rfl)
theorem dX5_operand_72 : decode cX5_operand 72 = .ok (.aload_n 0, 1) := dk_42 (dk_at dksX5_operand_3 3 rfl rfl)
theorem dX5_operand_73 : decode cX5_operand 73 = .ok (.getfield 15, 3) := dk_180 0 15 (dk_at dksX5_operand_3 4 rfl rfl)
theorem dX5_operand_76 : decode cX5_operand 76 = .ok (.ifCond .lt 5, 3) := dk_155 0 5 (dk_at dksX5_operand_3 7 rfl rfl)
theorem dX5_operand_79 : decode cX5_operand 79 = .ok (.aconst_null, 1) := dk_1 (dk_at dksX5_operand_3 10 rfl rfl)
theorem dX5_operand_80 : decode cX5_operand 80 = .ok (.areturn, 1) := dk_176 (dk_at dksX5_operand_3 11 rfl rfl)
theorem dX5_operand_81 : decode cX5_operand 81 = .ok (.iload_n 1, 1) := dk_27 (dk_at dksX5_operand_3 12 rfl rfl)
theorem dX5_operand_82 : decode cX5_operand 82 = .ok (.bipush 33, 2) := dk_16 33 (dk_at dksX5_operand_3 13 rfl rfl)
theorem dX5_operand_84 : decode cX5_operand 84 = .ok (.if_icmp .ne 14, 3) := dk_160 0 14 (dk_at dksX5_operand_3 15 rfl rfl)
theorem dX5_operand_87 : decode cX5_operand 87 = .ok (.new 112, 3) := dk_187 0 112 (dk_at dksX5_operand_3 18 rfl rfl)
theorem dX5_operand_90 : decode cX5_operand 90 = .ok (.dup, 1) := dk_89 (dk_at dksX5_operand_3 21 rfl rfl)
theorem dX5_operand_91 : decode cX5_operand 91 = .ok (.aload_n 2, 1) := dk_44 (dk_at dksX5_operand_3 22 rfl rfl)
theorem dX5_operand_92 : decode cX5_operand 92 = .ok (.invokespecial 114, 3) := dk_183 0 114 (dk_at dksX5_operand_4 0 rfl rfl)
theorem dX5_operand_95 : decode cX5_operand 95 = .ok (.goto 11, 3) := dk_167 0 11 (dk_at dksX5_operand_4 3 rfl rfl)
theorem dX5_operand_98 : decode cX5_operand 98 = .ok (.new 117, 3) := dk_187 0 117 (dk_at dksX5_operand_4 6 rfl rfl)
theorem dX5_operand_101 : decode cX5_operand 101 = .ok (.dup, 1) := dk_89 (dk_at dksX5_operand_4 9 rfl rfl)
theorem dX5_operand_102 : decode cX5_operand 102 = .ok (.aload_n 2, 1) := dk_44 (dk_at dksX5_operand_4 10 rfl rfl)
theorem dX5_operand_103 : decode cX5_operand 103 = .ok (.invokespecial 119, 3) := dk_183 0 119 (dk_at dksX5_operand_4 11 rfl rfl)
theorem dX5_operand_106 : decode cX5_operand 106 = .ok (.areturn, 1) := dk_176 (dk_at dksX5_operand_4 14 rfl rfl)
theorem dX5_operand_107 : decode cX5_operand 107 = .ok (.iload_n 1, 1) := dk_27 (dk_at dksX5_operand_4 15 rfl rfl)
theorem dX5_operand_108 : decode cX5_operand 108 = .ok (.bipush 40, 2) := dk_16 40 (dk_at dksX5_operand_4 16 rfl rfl)
theorem dX5_operand_110 : decode cX5_operand 110 = .ok (.if_icmp .ne 65, 3) := dk_160 0 65 (dk_at dksX5_operand_4 18 rfl rfl)
theorem dX5_operand_113 : decode cX5_operand 113 = .ok (.aload_n 0, 1) := dk_42 (dk_at dksX5_operand_4 21 rfl rfl)
theorem dX5_operand_114 : decode cX5_operand 114 = .ok (.invokevirtual 105, 3) := dk_182 0 105 (dk_at dksX5_operand_5 0 rfl rfl)
theorem dX5_operand_117 : decode cX5_operand 117 = .ok (.ifCond .ne 8, 3) := dk_154 0 8 (dk_at dksX5_operand_5 3 rfl rfl)
theorem dX5_operand_120 : decode cX5_operand 120 = .ok (.aload_n 0, 1) := dk_42 (dk_at dksX5_operand_5 6 rfl rfl)
theorem dX5_operand_121 : decode cX5_operand 121 = .ok (.invokevirtual 109, 3) := dk_182 0 109 (dk_at dksX5_operand_5 7 rfl rfl)
theorem dX5_operand_124 : decode cX5_operand 124 = .ok (.areturn, 1) := dk_176 (dk_at dksX5_operand_5 10 rfl rfl)
theorem dX5_operand_125 : decode cX5_operand 125 = .ok (.aload_n 0, 1) := dk_42 (dk_at dksX5_operand_5 11 rfl rfl)
theorem dX5_operand_126 : decode cX5_operand 126 = .ok (.invokevirtual 50, 3) := dk_182 0 50 (dk_at dksX5_operand_5 12 rfl rfl)
theorem dX5_operand_129 : decode cX5_operand 129 = .ok (.astore_n 2, 1) := dk_77 (dk_at dksX5_operand_5 15 rfl rfl)
theorem dX5_operand_130 : decode cX5_operand 130 = .ok (.aload_n 0, 1) := dk_42 (dk_at dksX5_operand_5 16 rfl rfl)
theorem dX5_operand_131 : decode cX5_operand 131 = .ok (.getfield 15, 3) := dk_180 0 15 (dk_at dksX5_operand_5 17 rfl rfl)
theorem dX5_operand_134 : decode cX5_operand 134 = .ok (.ifCond .lt 5, 3) := dk_155 0 5 (dk_at dksX5_operand_5 20 rfl rfl)
theorem dX5_operand_137 : decode cX5_operand 137 = .ok (.aconst_null, 1) := dk_1 (dk_at dksX5_operand_5 23 rfl rfl)
theorem dX5_operand_138 : decode cX5_operand 138 = .ok (.areturn, 1) := dk_176 (dk_at dksX5_operand_6 0 rfl rfl)
theorem dX5_operand_139 : decode cX5_operand 139 = .ok (.aload_n 0, 1) := dk_42 (dk_at dksX5_operand_6 1 rfl rfl)
theorem dX5_operand_140 : decode cX5_operand 140 = .ok (.invokevirtual 29, 3) := dk_182 0 29 (dk_at dksX5_operand_6 2 rfl rfl)
theorem dX5_operand_143 : decode cX5_operand 143 = .ok (.bipush 41, 2) := dk_16 41 (dk_at dksX5_operand_6 5 rfl rfl)
theorem dX5_operand_145 : decode cX5_operand 145 = .ok (.if_icmp .eq 8, 3) := dk_159 0 8 (dk_at dksX5_operand_6 7 rfl rfl)
theorem dX5_operand_148 : decode cX5_operand 148 = .ok (.aload_n 0, 1) := dk_42 (dk_at dksX5_operand_6 10 rfl rfl)
theorem dX5_operand_149 : decode cX5_operand 149 = .ok (.invokevirtual 109, 3) := dk_182 0 109 (dk_at dksX5_operand_6 11 rfl rfl)
theorem dX5_operand_152 : decode cX5_operand 152 = .ok (.areturn, 1) := dk_176 (dk_at dksX5_operand_6 14 rfl rfl)
theorem dX5_operand_153 : decode cX5_operand 153 = .ok (.aload_n 0, 1) := dk_42 (dk_at dksX5_operand_6 15 rfl rfl)
theorem dX5_operand_154 : decode cX5_operand 154 = .ok (.dup, 1) := dk_89 (dk_at dksX5_operand_6 16 rfl rfl)
theorem dX5_operand_155 : decode cX5_operand 155 = .ok (.getfield 19, 3) := dk_180 0 19 (dk_at dksX5_operand_6 17 rfl rfl)
theorem dX5_operand_158 : decode cX5_operand 158 = .ok (.iconst 1, 1) := dk_4 (dk_at dksX5_operand_6 20 rfl rfl)
theorem dX5_operand_159 : decode cX5_operand 159 = .ok (.iadd, 1) := dk_96 (dk_at dksX5_operand_6 21 rfl rfl)
theorem dX5_operand_160 : decode cX5_operand 160 = .ok (.putfield 19, 3) := dk_181 0 19 (dk_at dksX5_operand_7 0 rfl rfl)
theorem dX5_operand_163 : decode cX5_operand 163 = .ok (.aload_n 0, 1) := dk_42 (dk_at dksX5_operand_7 3 rfl rfl)
theorem dX5_operand_164 : decode cX5_operand 164 = .ok (.dup, 1) := dk_89 (dk_at dksX5_operand_7 4 rfl rfl)
theorem dX5_operand_165 : decode cX5_operand 165 = .ok (.getfield 95, 3) := dk_180 0 95 (dk_at dksX5_operand_7 5 rfl rfl)
theorem dX5_operand_168 : decode cX5_operand 168 = .ok (.iconst 1, 1) := dk_4 (dk_at dksX5_operand_7 8 rfl rfl)
theorem dX5_operand_169 : decode cX5_operand 169 = .ok (.isub, 1) := dk_100 (dk_at dksX5_operand_7 9 rfl rfl)
theorem dX5_operand_170 : decode cX5_operand 170 = .ok (.putfield 95, 3) := dk_181 0 95 (dk_at dksX5_operand_7 10 rfl rfl)
theorem dX5_operand_173 : decode cX5_operand 173 = .ok (.aload_n 2, 1) := dk_44 (dk_at dksX5_operand_7 13 rfl rfl)
theorem dX5_operand_174 : decode cX5_operand 174 = .ok (.areturn, 1) := dk_176 (dk_at dksX5_operand_7 14 rfl rfl)
theorem dX5_operand_175 : decode cX5_operand 175 = .ok (.iconst 0, 1) := dk_3 (dk_at dksX5_operand_7 15 rfl rfl)
theorem dX5_operand_176 : decode cX5_operand 176 = .ok (.istore_n 2, 1) := dk_61 (dk_at dksX5_operand_7 16 rfl rfl)
theorem dX5_operand_177 : decode cX5_operand 177 = .ok (.iconst 0, 1) := dk_3 (dk_at dksX5_operand_7 17 rfl rfl)
theorem dX5_operand_178 : decode cX5_operand 178 = .ok (.istore_n 3, 1) := dk_62 (dk_at dksX5_operand_7 18 rfl rfl)
theorem dX5_operand_179 : decode cX5_operand 179 = .ok (.iload_n 2, 1) := dk_28 (dk_at dksX5_operand_7 19 rfl rfl)
theorem dX5_operand_180 : decode cX5_operand 180 = .ok (.iconst 4, 1) := dk_7 (dk_at dksX5_operand_7 20 rfl rfl)
theorem dX5_operand_181 : decode cX5_operand 181 = .ok (.if_icmp .ge 46, 3) := dk_162 0 46 (dk_at dksX5_operand_7 21 rfl rfl)
theorem dX5_operand_184 : decode cX5_operand 184 = .ok (.aload_n 0, 1) := dk_42 (dk_at dksX5_operand_8 0 rfl rfl)
theorem dX5_operand_185 : decode cX5_operand 185 = .ok (.invokevirtual 29, 3) := dk_182 0 29 (dk_at dksX5_operand_8 1 rfl rfl)
theorem dX5_operand_188 : decode cX5_operand 188 = .ok (.bipush 48, 2) := dk_16 48 (dk_at dksX5_operand_8 4 rfl rfl)
theorem dX5_operand_190 : decode cX5_operand 190 = .ok (.bipush 57, 2) := dk_16 57 (dk_at dksX5_operand_8 6 rfl rfl)
theorem dX5_operand_192 : decode cX5_operand 192 = .ok (.invokestatic 120, 3) := dk_184 0 120 (dk_at dksX5_operand_8 8 rfl rfl)
theorem dX5_operand_195 : decode cX5_operand 195 = .ok (.ifCond .eq 32, 3) := dk_153 0 32 (dk_at dksX5_operand_8 11 rfl rfl)
theorem dX5_operand_198 : decode cX5_operand 198 = .ok (.bipush 10, 2) := dk_16 10 (dk_at dksX5_operand_8 14 rfl rfl)
theorem dX5_operand_200 : decode cX5_operand 200 = .ok (.iload_n 3, 1) := dk_29 (dk_at dksX5_operand_8 16 rfl rfl)
theorem dX5_operand_201 : decode cX5_operand 201 = .ok (.imul, 1) := dk_104 (dk_at dksX5_operand_8 17 rfl rfl)
theorem dX5_operand_202 : decode cX5_operand 202 = .ok (.aload_n 0, 1) := dk_42 (dk_at dksX5_operand_8 18 rfl rfl)
theorem dX5_operand_203 : decode cX5_operand 203 = .ok (.invokevirtual 29, 3) := dk_182 0 29 (dk_at dksX5_operand_8 19 rfl rfl)
theorem dX5_operand_206 : decode cX5_operand 206 = .ok (.iadd, 1) := dk_96 (dk_at dksX5_operand_8 22 rfl rfl)
theorem dX5_operand_207 : decode cX5_operand 207 = .ok (.bipush 48, 2) := dk_16 48 (dk_at dksX5_operand_9 0 rfl rfl)
theorem dX5_operand_209 : decode cX5_operand 209 = .ok (.isub, 1) := dk_100 (dk_at dksX5_operand_9 2 rfl rfl)
theorem dX5_operand_210 : decode cX5_operand 210 = .ok (.istore_n 3, 1) := dk_62 (dk_at dksX5_operand_9 3 rfl rfl)
theorem dX5_operand_211 : decode cX5_operand 211 = .ok (.iinc 2 1, 3) := dk_132 2 1 (dk_at dksX5_operand_9 4 rfl rfl)
theorem dX5_operand_214 : decode cX5_operand 214 = .ok (.aload_n 0, 1) := dk_42 (dk_at dksX5_operand_9 7 rfl rfl)
theorem dX5_operand_215 : decode cX5_operand 215 = .ok (.dup, 1) := dk_89 (dk_at dksX5_operand_9 8 rfl rfl)
theorem dX5_operand_216 : decode cX5_operand 216 = .ok (.getfield 19, 3) := dk_180 0 19 (dk_at dksX5_operand_9 9 rfl rfl)
theorem dX5_operand_219 : decode cX5_operand 219 = .ok (.iconst 1, 1) := dk_4 (dk_at dksX5_operand_9 12 rfl rfl)
theorem dX5_operand_220 : decode cX5_operand 220 = .ok (.iadd, 1) := dk_96 (dk_at dksX5_operand_9 13 rfl rfl)
theorem dX5_operand_221 : decode cX5_operand 221 = .ok (.putfield 19, 3) := dk_181 0 19 (dk_at dksX5_operand_9 14 rfl rfl)
theorem dX5_operand_224 : decode cX5_operand 224 = .ok (.goto (-45), 3) := dk_167 255 211 (dk_at dksX5_operand_9 17 rfl rfl)
theorem dX5_operand_227 : decode cX5_operand 227 = .ok (.iload_n 2, 1) := dk_28 (dk_at dksX5_operand_9 20 rfl rfl)
theorem dX5_operand_228 : decode cX5_operand 228 = .ok (.ifCond .eq 17, 3) := dk_153 0 17 (dk_at dksX5_operand_9 21 rfl rfl)
theorem dX5_operand_231 : decode cX5_operand 231 = .ok (.aload_n 0, 1) := dk_42 (dk_at dksX5_operand_10 0 rfl rfl)
theorem dX5_operand_232 : decode cX5_operand 232 = .ok (.invokevirtual 29, 3) := dk_182 0 29 (dk_at dksX5_operand_10 1 rfl rfl)
theorem dX5_operand_235 : decode cX5_operand 235 = .ok (.bipush 48, 2) := dk_16 48 (dk_at dksX5_operand_10 4 rfl rfl)
theorem dX5_operand_237 : decode cX5_operand 237 = .ok (.bipush 57, 2) := dk_16 57 (dk_at dksX5_operand_10 6 rfl rfl)
theorem dX5_operand_239 : decode cX5_operand 239 = .ok (.invokestatic 120, 3) := dk_184 0 120 (dk_at dksX5_operand_10 8 rfl rfl)
theorem dX5_operand_242 : decode cX5_operand 242 = .ok (.ifCond .eq 10, 3) := dk_153 0 10 (dk_at dksX5_operand_10 11 rfl rfl)
theorem dX5_operand_245 : decode cX5_operand 245 = .ok (.aload_n 0, 1) := dk_42 (dk_at dksX5_operand_10 14 rfl rfl)
theorem dX5_operand_246 : decode cX5_operand 246 = .ok (.invokevirtual 109, 3) := dk_182 0 109 (dk_at dksX5_operand_10 15 rfl rfl)
theorem dX5_operand_249 : decode cX5_operand 249 = .ok (.goto 11, 3) := dk_167 0 11 (dk_at dksX5_operand_10 18 rfl rfl)
theorem dX5_operand_252 : decode cX5_operand 252 = .ok (.new 124, 3) := dk_187 0 124 (dk_at dksX5_operand_10 21 rfl rfl)
theorem dX5_operand_255 : decode cX5_operand 255 = .ok (.dup, 1) := dk_89 (dk_at dksX5_operand_11 0 rfl rfl)
theorem dX5_operand_256 : decode cX5_operand 256 = .ok (.iload_n 3, 1) := dk_29 (dk_at dksX5_operand_11 1 rfl rfl)
theorem dX5_operand_257 : decode cX5_operand 257 = .ok (.invokespecial 126, 3) := dk_183 0 126 (dk_at dksX5_operand_11 2 rfl rfl)
theorem dX5_operand_260 : decode cX5_operand 260 = .ok (.areturn, 1) := dk_176 (dk_at dksX5_operand_11 5 rfl rfl)
abbrev cX5_here : ByteArray := prog_22_method_2_code
def yX5_here : MethodName := ⟨RX5, "here", "()I"⟩
def dkwX5_here_1 : List UInt8 := [180, 0, 19, 51, 167, 0, 4, 2, 172]
abbrev dktX5_here_1 : List UInt8 := dkwX5_here_1 ++ []
def dkwX5_here_0 : List UInt8 := [42, 180, 0, 19, 42, 180, 0, 3, 180, 0, 22, 162, 0, 18, 42, 180, 0, 3, 180, 0, 25, 42]
abbrev dktX5_here_0 : List UInt8 := dkwX5_here_0 ++ dktX5_here_1
theorem dksX5_here_0 : cX5_here.data.toList.drop 0 = dktX5_here_0 := by decide +kernel
theorem dksX5_here_1 : cX5_here.data.toList.drop 22 = dktX5_here_1 := dk_seg dksX5_here_0 22 rfl rfl
theorem dX5_here_0 : decode cX5_here 0 = .ok (.aload_n 0, 1) := dk_42 (dk_at dksX5_here_0 0 rfl rfl)
theorem dX5_here_1 : decode cX5_here 1 = .ok (.getfield 19, 3) := dk_180 0 19 (dk_at dksX5_here_0 1 rfl rfl)
theorem dX5_here_4 : decode cX5_here 4 = .ok (.aload_n 0, 1) := dk_42 (dk_at dksX5_here_0 4 rfl rfl)
theorem dX5_here_5 : decode cX5_here 5 = .ok (.getfield 3, 3) := dk_180 0 3 (dk_at dksX5_here_0 5 rfl rfl)
theorem dX5_here_8 : decode cX5_here 8 = .ok (.getfield 22, 3) := dk_180 0 22 (dk_at dksX5_here_0 8 rfl rfl)
theorem dX5_here_11 : decode cX5_here 11 = .ok (.if_icmp .ge 18, 3) := dk_162 0 18 (dk_at dksX5_here_0 11 rfl rfl)
theorem dX5_here_14 : decode cX5_here 14 = .ok (.aload_n 0, 1) := dk_42 (dk_at dksX5_here_0 14 rfl rfl)
theorem dX5_here_15 : decode cX5_here 15 = .ok (.getfield 3, 3) := dk_180 0 3 (dk_at dksX5_here_0 15 rfl rfl)
theorem dX5_here_18 : decode cX5_here 18 = .ok (.getfield 25, 3) := dk_180 0 25 (dk_at dksX5_here_0 18 rfl rfl)
theorem dX5_here_21 : decode cX5_here 21 = .ok (.aload_n 0, 1) := dk_42 (dk_at dksX5_here_0 21 rfl rfl)
theorem dX5_here_22 : decode cX5_here 22 = .ok (.getfield 19, 3) := dk_180 0 19 (dk_at dksX5_here_1 0 rfl rfl)
theorem dX5_here_25 : decode cX5_here 25 = .ok (.baload, 1) := dk_51 (dk_at dksX5_here_1 3 rfl rfl)
theorem dX5_here_26 : decode cX5_here 26 = .ok (.goto 4, 3) := dk_167 0 4 (dk_at dksX5_here_1 4 rfl rfl)
theorem dX5_here_29 : decode cX5_here 29 = .ok (.iconst (-1), 1) := dk_2 (dk_at dksX5_here_1 7 rfl rfl)
theorem dX5_here_30 : decode cX5_here 30 = .ok (.ireturn, 1) := dk_172 (dk_at dksX5_here_1 8 rfl rfl)
abbrev cX5_isOne : ByteArray := prog_22_method_3_code
def yX5_isOne : MethodName := ⟨RX5, "isOne", "(Ljava/lang/String;)Z"⟩
def dkwX5_isOne_0 : List UInt8 := [42, 182, 0, 29, 155, 0, 18, 43, 42, 182, 0, 29, 182, 0, 33, 155, 0, 7, 4, 167, 0, 4, 3, 172]
abbrev dktX5_isOne_0 : List UInt8 := dkwX5_isOne_0 ++ []
theorem dksX5_isOne_0 : cX5_isOne.data.toList.drop 0 = dktX5_isOne_0 := by decide +kernel
theorem dX5_isOne_0 : decode cX5_isOne 0 = .ok (.aload_n 0, 1) := dk_42 (dk_at dksX5_isOne_0 0 rfl rfl)
theorem dX5_isOne_1 : decode cX5_isOne 1 = .ok (.invokevirtual 29, 3) := dk_182 0 29 (dk_at dksX5_isOne_0 1 rfl rfl)
theorem dX5_isOne_4 : decode cX5_isOne 4 = .ok (.ifCond .lt 18, 3) := dk_155 0 18 (dk_at dksX5_isOne_0 4 rfl rfl)
theorem dX5_isOne_7 : decode cX5_isOne 7 = .ok (.aload_n 1, 1) := dk_43 (dk_at dksX5_isOne_0 7 rfl rfl)
theorem dX5_isOne_8 : decode cX5_isOne 8 = .ok (.aload_n 0, 1) := dk_42 (dk_at dksX5_isOne_0 8 rfl rfl)
theorem dX5_isOne_9 : decode cX5_isOne 9 = .ok (.invokevirtual 29, 3) := dk_182 0 29 (dk_at dksX5_isOne_0 9 rfl rfl)
theorem dX5_isOne_12 : decode cX5_isOne 12 = .ok (.invokevirtual 33, 3) := dk_182 0 33 (dk_at dksX5_isOne_0 12 rfl rfl)
theorem dX5_isOne_15 : decode cX5_isOne 15 = .ok (.ifCond .lt 7, 3) := dk_155 0 7 (dk_at dksX5_isOne_0 15 rfl rfl)
theorem dX5_isOne_18 : decode cX5_isOne 18 = .ok (.iconst 1, 1) := dk_4 (dk_at dksX5_isOne_0 18 rfl rfl)
theorem dX5_isOne_19 : decode cX5_isOne 19 = .ok (.goto 4, 3) := dk_167 0 4 (dk_at dksX5_isOne_0 19 rfl rfl)
theorem dX5_isOne_22 : decode cX5_isOne 22 = .ok (.iconst 0, 1) := dk_3 (dk_at dksX5_isOne_0 22 rfl rfl)
theorem dX5_isOne_23 : decode cX5_isOne 23 = .ok (.ireturn, 1) := dk_172 (dk_at dksX5_isOne_0 23 rfl rfl)
abbrev cX5_opens : ByteArray := prog_22_method_13_code
def yX5_opens : MethodName := ⟨RX5, "opens", "()Z"⟩
def dkwX5_opens_1 : List UInt8 := [180, 0, 19, 4, 96, 181, 0, 19, 4, 172]
abbrev dktX5_opens_1 : List UInt8 := dkwX5_opens_1 ++ []
def dkwX5_opens_0 : List UInt8 := [42, 180, 0, 95, 16, 6, 160, 0, 5, 3, 172, 42, 89, 180, 0, 95, 4, 96, 181, 0, 95, 42, 89]
abbrev dktX5_opens_0 : List UInt8 := dkwX5_opens_0 ++ dktX5_opens_1
theorem dksX5_opens_0 : cX5_opens.data.toList.drop 0 = dktX5_opens_0 := by decide +kernel
theorem dksX5_opens_1 : cX5_opens.data.toList.drop 23 = dktX5_opens_1 := dk_seg dksX5_opens_0 23 rfl rfl
theorem dX5_opens_0 : decode cX5_opens 0 = .ok (.aload_n 0, 1) := dk_42 (dk_at dksX5_opens_0 0 rfl rfl)
theorem dX5_opens_1 : decode cX5_opens 1 = .ok (.getfield 95, 3) := dk_180 0 95 (dk_at dksX5_opens_0 1 rfl rfl)
theorem dX5_opens_4 : decode cX5_opens 4 = .ok (.bipush 6, 2) := dk_16 6 (dk_at dksX5_opens_0 4 rfl rfl)
theorem dX5_opens_6 : decode cX5_opens 6 = .ok (.if_icmp .ne 5, 3) := dk_160 0 5 (dk_at dksX5_opens_0 6 rfl rfl)
theorem dX5_opens_9 : decode cX5_opens 9 = .ok (.iconst 0, 1) := dk_3 (dk_at dksX5_opens_0 9 rfl rfl)
theorem dX5_opens_10 : decode cX5_opens 10 = .ok (.ireturn, 1) := dk_172 (dk_at dksX5_opens_0 10 rfl rfl)
theorem dX5_opens_11 : decode cX5_opens 11 = .ok (.aload_n 0, 1) := dk_42 (dk_at dksX5_opens_0 11 rfl rfl)
theorem dX5_opens_12 : decode cX5_opens 12 = .ok (.dup, 1) := dk_89 (dk_at dksX5_opens_0 12 rfl rfl)
theorem dX5_opens_13 : decode cX5_opens 13 = .ok (.getfield 95, 3) := dk_180 0 95 (dk_at dksX5_opens_0 13 rfl rfl)
theorem dX5_opens_16 : decode cX5_opens 16 = .ok (.iconst 1, 1) := dk_4 (dk_at dksX5_opens_0 16 rfl rfl)
theorem dX5_opens_17 : decode cX5_opens 17 = .ok (.iadd, 1) := dk_96 (dk_at dksX5_opens_0 17 rfl rfl)
theorem dX5_opens_18 : decode cX5_opens 18 = .ok (.putfield 95, 3) := dk_181 0 95 (dk_at dksX5_opens_0 18 rfl rfl)
theorem dX5_opens_21 : decode cX5_opens 21 = .ok (.aload_n 0, 1) := dk_42 (dk_at dksX5_opens_0 21 rfl rfl)
theorem dX5_opens_22 : decode cX5_opens 22 = .ok (.dup, 1) := dk_89 (dk_at dksX5_opens_0 22 rfl rfl)
theorem dX5_opens_23 : decode cX5_opens 23 = .ok (.getfield 19, 3) := dk_180 0 19 (dk_at dksX5_opens_1 0 rfl rfl)
theorem dX5_opens_26 : decode cX5_opens 26 = .ok (.iconst 1, 1) := dk_4 (dk_at dksX5_opens_1 3 rfl rfl)
theorem dX5_opens_27 : decode cX5_opens 27 = .ok (.iadd, 1) := dk_96 (dk_at dksX5_opens_1 4 rfl rfl)
theorem dX5_opens_28 : decode cX5_opens 28 = .ok (.putfield 19, 3) := dk_181 0 19 (dk_at dksX5_opens_1 5 rfl rfl)
theorem dX5_opens_31 : decode cX5_opens 31 = .ok (.iconst 1, 1) := dk_4 (dk_at dksX5_opens_1 8 rfl rfl)
theorem dX5_opens_32 : decode cX5_opens 32 = .ok (.ireturn, 1) := dk_172 (dk_at dksX5_opens_1 9 rfl rfl)
abbrev cX5_wrong : ByteArray := prog_22_method_4_code
def yX5_wrong : MethodName := ⟨RX5, "wrong", "()LNineKeysRound$Node;"⟩
def dkwX5_wrong_0 : List UInt8 := [42, 180, 0, 15, 156, 0, 11, 42, 42, 180, 0, 19, 181, 0, 15, 1, 176]
abbrev dktX5_wrong_0 : List UInt8 := dkwX5_wrong_0 ++ []
theorem dksX5_wrong_0 : cX5_wrong.data.toList.drop 0 = dktX5_wrong_0 := by decide +kernel
theorem dX5_wrong_0 : decode cX5_wrong 0 = .ok (.aload_n 0, 1) := dk_42 (dk_at dksX5_wrong_0 0 rfl rfl)
theorem dX5_wrong_1 : decode cX5_wrong 1 = .ok (.getfield 15, 3) := dk_180 0 15 (dk_at dksX5_wrong_0 1 rfl rfl)
theorem dX5_wrong_4 : decode cX5_wrong 4 = .ok (.ifCond .ge 11, 3) := dk_156 0 11 (dk_at dksX5_wrong_0 4 rfl rfl)
theorem dX5_wrong_7 : decode cX5_wrong 7 = .ok (.aload_n 0, 1) := dk_42 (dk_at dksX5_wrong_0 7 rfl rfl)
theorem dX5_wrong_8 : decode cX5_wrong 8 = .ok (.aload_n 0, 1) := dk_42 (dk_at dksX5_wrong_0 8 rfl rfl)
theorem dX5_wrong_9 : decode cX5_wrong 9 = .ok (.getfield 19, 3) := dk_180 0 19 (dk_at dksX5_wrong_0 9 rfl rfl)
theorem dX5_wrong_12 : decode cX5_wrong 12 = .ok (.putfield 15, 3) := dk_181 0 15 (dk_at dksX5_wrong_0 12 rfl rfl)
theorem dX5_wrong_15 : decode cX5_wrong 15 = .ok (.aconst_null, 1) := dk_1 (dk_at dksX5_wrong_0 15 rfl rfl)
theorem dX5_wrong_16 : decode cX5_wrong 16 = .ok (.areturn, 1) := dk_176 (dk_at dksX5_wrong_0 16 rfl rfl)
abbrev cX5_joined : ByteArray := prog_22_method_7_code
def yX5_joined : MethodName := ⟨RX5, "joined", "(ILNineKeysRound$Node;LNineKeysRound$Node;)LNineKeysRound$Node;"⟩
def dkwX5_joined_0 : List UInt8 := [42, 180, 0, 15, 155, 0, 7, 1, 167, 0, 13, 187, 0, 61, 89, 27, 44, 45, 183, 0, 63, 176]
abbrev dktX5_joined_0 : List UInt8 := dkwX5_joined_0 ++ []
theorem dksX5_joined_0 : cX5_joined.data.toList.drop 0 = dktX5_joined_0 := by decide +kernel
theorem dX5_joined_0 : decode cX5_joined 0 = .ok (.aload_n 0, 1) := dk_42 (dk_at dksX5_joined_0 0 rfl rfl)
theorem dX5_joined_1 : decode cX5_joined 1 = .ok (.getfield 15, 3) := dk_180 0 15 (dk_at dksX5_joined_0 1 rfl rfl)
theorem dX5_joined_4 : decode cX5_joined 4 = .ok (.ifCond .lt 7, 3) := dk_155 0 7 (dk_at dksX5_joined_0 4 rfl rfl)
theorem dX5_joined_7 : decode cX5_joined 7 = .ok (.aconst_null, 1) := dk_1 (dk_at dksX5_joined_0 7 rfl rfl)
theorem dX5_joined_8 : decode cX5_joined 8 = .ok (.goto 13, 3) := dk_167 0 13 (dk_at dksX5_joined_0 8 rfl rfl)
theorem dX5_joined_11 : decode cX5_joined 11 = .ok (.new 61, 3) := dk_187 0 61 (dk_at dksX5_joined_0 11 rfl rfl)
theorem dX5_joined_14 : decode cX5_joined 14 = .ok (.dup, 1) := dk_89 (dk_at dksX5_joined_0 14 rfl rfl)
theorem dX5_joined_15 : decode cX5_joined 15 = .ok (.iload_n 1, 1) := dk_27 (dk_at dksX5_joined_0 15 rfl rfl)
theorem dX5_joined_16 : decode cX5_joined 16 = .ok (.aload_n 2, 1) := dk_44 (dk_at dksX5_joined_0 16 rfl rfl)
theorem dX5_joined_17 : decode cX5_joined 17 = .ok (.aload_n 3, 1) := dk_45 (dk_at dksX5_joined_0 17 rfl rfl)
theorem dX5_joined_18 : decode cX5_joined 18 = .ok (.invokespecial 63, 3) := dk_183 0 63 (dk_at dksX5_joined_0 18 rfl rfl)
theorem dX5_joined_21 : decode cX5_joined 21 = .ok (.areturn, 1) := dk_176 (dk_at dksX5_joined_0 21 rfl rfl)
theorem q126 : (Jvm.Cond.initialized "NineKeysRound$Reader") ∈ lw_all := lw_g (lw_at lw_m1 14 rfl) rfl
theorem q197 : (Jvm.Cond.fieldLinkNest "NineKeysRound$Reader" (25 : Nat) "NineKeysRound" "tape" "[B" "NineKeysRound") ∈ lw_tbl := lw_at lw_m1 85 rfl
theorem q198 : (Jvm.Cond.fieldLinkNest "NineKeysRound$Reader" (22 : Nat) "NineKeysRound" "taped" "I" "NineKeysRound") ∈ lw_tbl := lw_at lw_m1 86 rfl
theorem q587 : (Jvm.Cond.instantiable "NineKeysRound$Reader" (4 : Nat)) ∈ lw_all := lw_g (lw_at lw_m2 235 rfl) rfl
theorem q589 : (Jvm.Cond.instanceMethod ({ cls := "NineKeysRound$Reader", name := "<init>", desc := "(LNineKeysRound;)V" } : Jvm.MethodName)) ∈ lw_all := lw_g (lw_at lw_m2 237 rfl) rfl
theorem q590 : (Jvm.Cond.code ({ cls := "NineKeysRound$Reader", name := "<init>", desc := "(LNineKeysRound;)V" } : Jvm.MethodName) prog_22_method_1_code (2 : Nat) (Option.none : Option Jvm.ClassFile.FieldType)) ∈ lw_all := lw_g (lw_at lw_m2 238 rfl) rfl
theorem q591 : (Jvm.Cond.methodLink "NineKeysRound$Reader" (9 : Nat) ({ cls := "java/lang/Object", name := "<init>", desc := "()V" } : Jvm.MethodName)) ∈ lw_all := lw_g (lw_at lw_m2 239 rfl) rfl
theorem q592 : (Jvm.Cond.fieldLink "NineKeysRound$Reader" (19 : Nat) "NineKeysRound$Reader" "at" "I") ∈ lw_all := lw_g (lw_at lw_m3 0 rfl) rfl
theorem q593 : (Jvm.Cond.fieldLink "NineKeysRound$Reader" (15 : Nat) "NineKeysRound$Reader" "fault" "I") ∈ lw_all := lw_g (lw_at lw_m3 1 rfl) rfl
theorem q595 : (Jvm.Cond.fieldLink "NineKeysRound$Reader" (95 : Nat) "NineKeysRound$Reader" "open" "I") ∈ lw_all := lw_g (lw_at lw_m3 3 rfl) rfl
theorem q596 : (Jvm.Cond.fieldLink "NineKeysRound$Reader" (3 : Nat) "NineKeysRound$Reader" "this$0" "LNineKeysRound;") ∈ lw_all := lw_g (lw_at lw_m3 4 rfl) rfl
theorem q597 : (Jvm.Cond.lays "NineKeysRound$Reader" "NineKeysRound$Reader" "at" "I") ∈ lw_all := lw_g (lw_at lw_m3 5 rfl) rfl
theorem q598 : (Jvm.Cond.soleField "NineKeysRound$Reader" "at") ∈ lw_all := lw_g (lw_at lw_m3 6 rfl) rfl
theorem q599 : (Jvm.Cond.lays "NineKeysRound$Reader" "NineKeysRound$Reader" "fault" "I") ∈ lw_all := lw_g (lw_at lw_m3 7 rfl) rfl
theorem q600 : (Jvm.Cond.soleField "NineKeysRound$Reader" "fault") ∈ lw_all := lw_g (lw_at lw_m3 8 rfl) rfl
theorem q601 : (Jvm.Cond.lays "NineKeysRound$Reader" "NineKeysRound$Reader" "open" "I") ∈ lw_all := lw_g (lw_at lw_m3 9 rfl) rfl
theorem q602 : (Jvm.Cond.soleField "NineKeysRound$Reader" "open") ∈ lw_all := lw_g (lw_at lw_m3 10 rfl) rfl
theorem q603 : (Jvm.Cond.laysFinal "NineKeysRound$Reader" "NineKeysRound$Reader" "this$0" "LNineKeysRound;") ∈ lw_all := lw_g (lw_at lw_m3 11 rfl) rfl
theorem q604 : (Jvm.Cond.soleField "NineKeysRound$Reader" "this$0") ∈ lw_all := lw_g (lw_at lw_m3 12 rfl) rfl
theorem q605 : (Jvm.Cond.superclass "NineKeysRound$Reader" "java/lang/Object") ∈ lw_all := lw_g (lw_at lw_m3 13 rfl) rfl
theorem q607 : (Jvm.Cond.instanceMethod ({ cls := "NineKeysRound$Reader", name := "lines", desc := "()LNineKeysRound$Line;" } : Jvm.MethodName)) ∈ lw_all := lw_g (lw_at lw_m3 15 rfl) rfl
theorem q608 : (Jvm.Cond.selects "NineKeysRound$Reader" ({ cls := "NineKeysRound$Reader", name := "lines", desc := "()LNineKeysRound$Line;" } : Jvm.MethodName) ({ cls := "NineKeysRound$Reader", name := "lines", desc := "()LNineKeysRound$Line;" } : Jvm.MethodName)) ∈ lw_all := lw_g (lw_at lw_m3 16 rfl) rfl
theorem q609 : (Jvm.Cond.code ({ cls := "NineKeysRound$Reader", name := "lines", desc := "()LNineKeysRound$Line;" } : Jvm.MethodName) prog_22_method_5_code (3 : Nat) (Option.some (Jvm.ClassFile.FieldType.object "NineKeysRound$Line"))) ∈ lw_all := lw_g (lw_at lw_m3 17 rfl) rfl
theorem q610 : (Jvm.Cond.methodLink "NineKeysRound$Reader" (39 : Nat) ({ cls := "NineKeysRound$Reader", name := "line", desc := "()LNineKeysRound$Line;" } : Jvm.MethodName)) ∈ lw_all := lw_g (lw_at lw_m3 18 rfl) rfl
theorem q611 : (Jvm.Cond.privateMethod ({ cls := "NineKeysRound$Reader", name := "line", desc := "()LNineKeysRound$Line;" } : Jvm.MethodName)) ∈ lw_tbl := lw_at lw_m3 19 rfl
theorem q612 : (Jvm.Cond.instanceMethod ({ cls := "NineKeysRound$Reader", name := "line", desc := "()LNineKeysRound$Line;" } : Jvm.MethodName)) ∈ lw_all := lw_g (lw_at lw_m3 20 rfl) rfl
theorem q613 : (Jvm.Cond.code ({ cls := "NineKeysRound$Reader", name := "line", desc := "()LNineKeysRound$Line;" } : Jvm.MethodName) prog_22_method_6_code (2 : Nat) (Option.some (Jvm.ClassFile.FieldType.object "NineKeysRound$Line"))) ∈ lw_all := lw_g (lw_at lw_m3 21 rfl) rfl
theorem q614 : (Jvm.Cond.classLink "NineKeysRound$Reader" (44 : Nat) "NineKeysRound$Line") ∈ lw_all := lw_g (lw_at lw_m3 22 rfl) rfl
theorem q616 : (Jvm.Cond.methodLinkNest "NineKeysRound$Reader" (49 : Nat) ({ cls := "NineKeysRound$Line", name := "<init>", desc := "()V" } : Jvm.MethodName) "NineKeysRound") ∈ lw_tbl := lw_at lw_m3 24 rfl
theorem q620 : (Jvm.Cond.fieldLinkNest "NineKeysRound$Reader" (58 : Nat) "NineKeysRound$Line" "test" "LNineKeysRound$Node;" "NineKeysRound") ∈ lw_tbl := lw_at lw_m3 28 rfl
theorem q622 : (Jvm.Cond.fieldLinkNest "NineKeysRound$Reader" (54 : Nat) "NineKeysRound$Line" "gives" "LNineKeysRound$Node;" "NineKeysRound") ∈ lw_tbl := lw_at lw_m3 30 rfl
theorem q624 : (Jvm.Cond.fieldLinkNest "NineKeysRound$Reader" (43 : Nat) "NineKeysRound$Line" "next" "LNineKeysRound$Line;" "NineKeysRound") ∈ lw_tbl := lw_at lw_m3 32 rfl
theorem q633 : (Jvm.Cond.methodLink "NineKeysRound$Reader" (50 : Nat) ({ cls := "NineKeysRound$Reader", name := "either", desc := "()LNineKeysRound$Node;" } : Jvm.MethodName)) ∈ lw_all := lw_g (lw_at lw_m3 41 rfl) rfl
theorem q634 : (Jvm.Cond.privateMethod ({ cls := "NineKeysRound$Reader", name := "either", desc := "()LNineKeysRound$Node;" } : Jvm.MethodName)) ∈ lw_tbl := lw_at lw_m3 42 rfl
theorem q635 : (Jvm.Cond.instanceMethod ({ cls := "NineKeysRound$Reader", name := "either", desc := "()LNineKeysRound$Node;" } : Jvm.MethodName)) ∈ lw_all := lw_g (lw_at lw_m3 43 rfl) rfl
theorem q636 : (Jvm.Cond.code ({ cls := "NineKeysRound$Reader", name := "either", desc := "()LNineKeysRound$Node;" } : Jvm.MethodName) prog_22_method_8_code (2 : Nat) (Option.some (Jvm.ClassFile.FieldType.object "NineKeysRound$Node"))) ∈ lw_all := lw_g (lw_at lw_m3 44 rfl) rfl
theorem q637 : (Jvm.Cond.methodLink "NineKeysRound$Reader" (66 : Nat) ({ cls := "NineKeysRound$Reader", name := "all", desc := "()LNineKeysRound$Node;" } : Jvm.MethodName)) ∈ lw_all := lw_g (lw_at lw_m3 45 rfl) rfl
theorem q638 : (Jvm.Cond.privateMethod ({ cls := "NineKeysRound$Reader", name := "all", desc := "()LNineKeysRound$Node;" } : Jvm.MethodName)) ∈ lw_tbl := lw_at lw_m3 46 rfl
theorem q639 : (Jvm.Cond.instanceMethod ({ cls := "NineKeysRound$Reader", name := "all", desc := "()LNineKeysRound$Node;" } : Jvm.MethodName)) ∈ lw_all := lw_g (lw_at lw_m3 47 rfl) rfl
theorem q640 : (Jvm.Cond.code ({ cls := "NineKeysRound$Reader", name := "all", desc := "()LNineKeysRound$Node;" } : Jvm.MethodName) prog_22_method_9_code (2 : Nat) (Option.some (Jvm.ClassFile.FieldType.object "NineKeysRound$Node"))) ∈ lw_all := lw_g (lw_at lw_m3 48 rfl) rfl
theorem q641 : (Jvm.Cond.methodLink "NineKeysRound$Reader" (73 : Nat) ({ cls := "NineKeysRound$Reader", name := "compared", desc := "()LNineKeysRound$Node;" } : Jvm.MethodName)) ∈ lw_all := lw_g (lw_at lw_m3 49 rfl) rfl
theorem q642 : (Jvm.Cond.privateMethod ({ cls := "NineKeysRound$Reader", name := "compared", desc := "()LNineKeysRound$Node;" } : Jvm.MethodName)) ∈ lw_tbl := lw_at lw_m3 50 rfl
theorem q643 : (Jvm.Cond.instanceMethod ({ cls := "NineKeysRound$Reader", name := "compared", desc := "()LNineKeysRound$Node;" } : Jvm.MethodName)) ∈ lw_all := lw_g (lw_at lw_m3 51 rfl) rfl
theorem q644 : (Jvm.Cond.code ({ cls := "NineKeysRound$Reader", name := "compared", desc := "()LNineKeysRound$Node;" } : Jvm.MethodName) prog_22_method_10_code (3 : Nat) (Option.some (Jvm.ClassFile.FieldType.object "NineKeysRound$Node"))) ∈ lw_all := lw_g (lw_at lw_m3 52 rfl) rfl
theorem q645 : (Jvm.Cond.methodLink "NineKeysRound$Reader" (76 : Nat) ({ cls := "NineKeysRound$Reader", name := "sum", desc := "()LNineKeysRound$Node;" } : Jvm.MethodName)) ∈ lw_all := lw_g (lw_at lw_m3 53 rfl) rfl
theorem q646 : (Jvm.Cond.privateMethod ({ cls := "NineKeysRound$Reader", name := "sum", desc := "()LNineKeysRound$Node;" } : Jvm.MethodName)) ∈ lw_tbl := lw_at lw_m3 54 rfl
theorem q647 : (Jvm.Cond.instanceMethod ({ cls := "NineKeysRound$Reader", name := "sum", desc := "()LNineKeysRound$Node;" } : Jvm.MethodName)) ∈ lw_all := lw_g (lw_at lw_m3 55 rfl) rfl
theorem q648 : (Jvm.Cond.code ({ cls := "NineKeysRound$Reader", name := "sum", desc := "()LNineKeysRound$Node;" } : Jvm.MethodName) prog_22_method_11_code (3 : Nat) (Option.some (Jvm.ClassFile.FieldType.object "NineKeysRound$Node"))) ∈ lw_all := lw_g (lw_at lw_m3 56 rfl) rfl
theorem q649 : (Jvm.Cond.methodLink "NineKeysRound$Reader" (85 : Nat) ({ cls := "NineKeysRound$Reader", name := "product", desc := "()LNineKeysRound$Node;" } : Jvm.MethodName)) ∈ lw_all := lw_g (lw_at lw_m3 57 rfl) rfl
theorem q650 : (Jvm.Cond.privateMethod ({ cls := "NineKeysRound$Reader", name := "product", desc := "()LNineKeysRound$Node;" } : Jvm.MethodName)) ∈ lw_tbl := lw_at lw_m3 58 rfl
theorem q651 : (Jvm.Cond.instanceMethod ({ cls := "NineKeysRound$Reader", name := "product", desc := "()LNineKeysRound$Node;" } : Jvm.MethodName)) ∈ lw_all := lw_g (lw_at lw_m3 59 rfl) rfl
theorem q652 : (Jvm.Cond.code ({ cls := "NineKeysRound$Reader", name := "product", desc := "()LNineKeysRound$Node;" } : Jvm.MethodName) prog_22_method_12_code (3 : Nat) (Option.some (Jvm.ClassFile.FieldType.object "NineKeysRound$Node"))) ∈ lw_all := lw_g (lw_at lw_m3 60 rfl) rfl
theorem q653 : (Jvm.Cond.methodLink "NineKeysRound$Reader" (90 : Nat) ({ cls := "NineKeysRound$Reader", name := "operand", desc := "()LNineKeysRound$Node;" } : Jvm.MethodName)) ∈ lw_all := lw_g (lw_at lw_m3 61 rfl) rfl
theorem q654 : (Jvm.Cond.privateMethod ({ cls := "NineKeysRound$Reader", name := "operand", desc := "()LNineKeysRound$Node;" } : Jvm.MethodName)) ∈ lw_tbl := lw_at lw_m3 62 rfl
theorem q655 : (Jvm.Cond.instanceMethod ({ cls := "NineKeysRound$Reader", name := "operand", desc := "()LNineKeysRound$Node;" } : Jvm.MethodName)) ∈ lw_all := lw_g (lw_at lw_m3 63 rfl) rfl
theorem q656 : (Jvm.Cond.code ({ cls := "NineKeysRound$Reader", name := "operand", desc := "()LNineKeysRound$Node;" } : Jvm.MethodName) prog_22_method_14_code (4 : Nat) (Option.some (Jvm.ClassFile.FieldType.object "NineKeysRound$Node"))) ∈ lw_all := lw_g (lw_at lw_m3 64 rfl) rfl
theorem q657 : (Jvm.Cond.methodLink "NineKeysRound$Reader" (29 : Nat) ({ cls := "NineKeysRound$Reader", name := "here", desc := "()I" } : Jvm.MethodName)) ∈ lw_all := lw_g (lw_at lw_m3 65 rfl) rfl
theorem q658 : (Jvm.Cond.privateMethod ({ cls := "NineKeysRound$Reader", name := "here", desc := "()I" } : Jvm.MethodName)) ∈ lw_tbl := lw_at lw_m3 66 rfl
theorem q659 : (Jvm.Cond.instanceMethod ({ cls := "NineKeysRound$Reader", name := "here", desc := "()I" } : Jvm.MethodName)) ∈ lw_all := lw_g (lw_at lw_m3 67 rfl) rfl
theorem q660 : (Jvm.Cond.code ({ cls := "NineKeysRound$Reader", name := "here", desc := "()I" } : Jvm.MethodName) prog_22_method_2_code (1 : Nat) (Option.some Jvm.ClassFile.FieldType.int)) ∈ lw_all := lw_g (lw_at lw_m3 68 rfl) rfl
theorem q661 : (Jvm.Cond.stringRef "NineKeysRound$Reader" (98 : Nat) "vumdpn") ∈ lw_tbl := lw_at lw_m3 69 rfl
theorem q662 : (Jvm.Cond.methodLink "NineKeysRound$Reader" (81 : Nat) ({ cls := "NineKeysRound$Reader", name := "isOne", desc := "(Ljava/lang/String;)Z" } : Jvm.MethodName)) ∈ lw_all := lw_g (lw_at lw_m3 70 rfl) rfl
theorem q663 : (Jvm.Cond.privateMethod ({ cls := "NineKeysRound$Reader", name := "isOne", desc := "(Ljava/lang/String;)Z" } : Jvm.MethodName)) ∈ lw_tbl := lw_at lw_m3 71 rfl
theorem q664 : (Jvm.Cond.instanceMethod ({ cls := "NineKeysRound$Reader", name := "isOne", desc := "(Ljava/lang/String;)Z" } : Jvm.MethodName)) ∈ lw_all := lw_g (lw_at lw_m3 72 rfl) rfl
theorem q665 : (Jvm.Cond.code ({ cls := "NineKeysRound$Reader", name := "isOne", desc := "(Ljava/lang/String;)Z" } : Jvm.MethodName) prog_22_method_3_code (2 : Nat) (Option.some Jvm.ClassFile.FieldType.boolean)) ∈ lw_all := lw_g (lw_at lw_m3 73 rfl) rfl
theorem q666 : (Jvm.Cond.methodLink "NineKeysRound$Reader" (33 : Nat) ({ cls := "java/lang/String", name := "indexOf", desc := "(I)I" } : Jvm.MethodName)) ∈ lw_all := lw_g (lw_at lw_m3 74 rfl) rfl
theorem q752 : (Jvm.Cond.classLink "NineKeysRound$Reader" (100 : Nat) "NineKeysRound$Name") ∈ lw_all := lw_g (lw_at lw_m3 160 rfl) rfl
theorem q754 : (Jvm.Cond.methodLink "NineKeysRound$Reader" (102 : Nat) ({ cls := "NineKeysRound$Name", name := "<init>", desc := "(I)V" } : Jvm.MethodName)) ∈ lw_all := lw_g (lw_at lw_m3 162 rfl) rfl
theorem q765 : (Jvm.Cond.methodLink "NineKeysRound$Reader" (105 : Nat) ({ cls := "NineKeysRound$Reader", name := "opens", desc := "()Z" } : Jvm.MethodName)) ∈ lw_all := lw_g (lw_at lw_m3 173 rfl) rfl
theorem q766 : (Jvm.Cond.privateMethod ({ cls := "NineKeysRound$Reader", name := "opens", desc := "()Z" } : Jvm.MethodName)) ∈ lw_tbl := lw_at lw_m3 174 rfl
theorem q767 : (Jvm.Cond.instanceMethod ({ cls := "NineKeysRound$Reader", name := "opens", desc := "()Z" } : Jvm.MethodName)) ∈ lw_all := lw_g (lw_at lw_m3 175 rfl) rfl
theorem q768 : (Jvm.Cond.code ({ cls := "NineKeysRound$Reader", name := "opens", desc := "()Z" } : Jvm.MethodName) prog_22_method_13_code (1 : Nat) (Option.some Jvm.ClassFile.FieldType.boolean)) ∈ lw_all := lw_g (lw_at lw_m3 176 rfl) rfl
theorem q769 : (Jvm.Cond.methodLink "NineKeysRound$Reader" (109 : Nat) ({ cls := "NineKeysRound$Reader", name := "wrong", desc := "()LNineKeysRound$Node;" } : Jvm.MethodName)) ∈ lw_all := lw_g (lw_at lw_m3 177 rfl) rfl
theorem q770 : (Jvm.Cond.privateMethod ({ cls := "NineKeysRound$Reader", name := "wrong", desc := "()LNineKeysRound$Node;" } : Jvm.MethodName)) ∈ lw_tbl := lw_at lw_m3 178 rfl
theorem q771 : (Jvm.Cond.instanceMethod ({ cls := "NineKeysRound$Reader", name := "wrong", desc := "()LNineKeysRound$Node;" } : Jvm.MethodName)) ∈ lw_all := lw_g (lw_at lw_m3 179 rfl) rfl
theorem q772 : (Jvm.Cond.code ({ cls := "NineKeysRound$Reader", name := "wrong", desc := "()LNineKeysRound$Node;" } : Jvm.MethodName) prog_22_method_4_code (1 : Nat) (Option.some (Jvm.ClassFile.FieldType.object "NineKeysRound$Node"))) ∈ lw_all := lw_g (lw_at lw_m3 180 rfl) rfl
theorem q773 : (Jvm.Cond.classLink "NineKeysRound$Reader" (112 : Nat) "NineKeysRound$Denied") ∈ lw_all := lw_g (lw_at lw_m3 181 rfl) rfl
theorem q775 : (Jvm.Cond.methodLink "NineKeysRound$Reader" (114 : Nat) ({ cls := "NineKeysRound$Denied", name := "<init>", desc := "(LNineKeysRound$Node;)V" } : Jvm.MethodName)) ∈ lw_all := lw_g (lw_at lw_m3 183 rfl) rfl
theorem q783 : (Jvm.Cond.classLink "NineKeysRound$Reader" (117 : Nat) "NineKeysRound$Turned") ∈ lw_all := lw_g (lw_at lw_m3 191 rfl) rfl
theorem q785 : (Jvm.Cond.methodLink "NineKeysRound$Reader" (119 : Nat) ({ cls := "NineKeysRound$Turned", name := "<init>", desc := "(LNineKeysRound$Node;)V" } : Jvm.MethodName)) ∈ lw_all := lw_g (lw_at lw_m3 193 rfl) rfl
theorem q793 : (Jvm.Cond.methodLinkNest "NineKeysRound$Reader" (120 : Nat) ({ cls := "NineKeysRound", name := "in", desc := "(III)Z" } : Jvm.MethodName) "NineKeysRound") ∈ lw_tbl := lw_at lw_m3 201 rfl
theorem q794 : (Jvm.Cond.classLink "NineKeysRound$Reader" (124 : Nat) "NineKeysRound$Leaf") ∈ lw_all := lw_g (lw_at lw_m3 202 rfl) rfl
theorem q796 : (Jvm.Cond.methodLink "NineKeysRound$Reader" (126 : Nat) ({ cls := "NineKeysRound$Leaf", name := "<init>", desc := "(I)V" } : Jvm.MethodName)) ∈ lw_all := lw_g (lw_at lw_m3 204 rfl) rfl
theorem q804 : (Jvm.Cond.stringRef "NineKeysRound$Reader" (93 : Nat) "*/%") ∈ lw_tbl := lw_at lw_m3 212 rfl
theorem q805 : (Jvm.Cond.methodLink "NineKeysRound$Reader" (69 : Nat) ({ cls := "NineKeysRound$Reader", name := "joined", desc := "(ILNineKeysRound$Node;LNineKeysRound$Node;)LNineKeysRound$Node;" } : Jvm.MethodName)) ∈ lw_all := lw_g (lw_at lw_m3 213 rfl) rfl
theorem q806 : (Jvm.Cond.privateMethod ({ cls := "NineKeysRound$Reader", name := "joined", desc := "(ILNineKeysRound$Node;LNineKeysRound$Node;)LNineKeysRound$Node;" } : Jvm.MethodName)) ∈ lw_tbl := lw_at lw_m3 214 rfl
theorem q807 : (Jvm.Cond.instanceMethod ({ cls := "NineKeysRound$Reader", name := "joined", desc := "(ILNineKeysRound$Node;LNineKeysRound$Node;)LNineKeysRound$Node;" } : Jvm.MethodName)) ∈ lw_all := lw_g (lw_at lw_m3 215 rfl) rfl
theorem q808 : (Jvm.Cond.code ({ cls := "NineKeysRound$Reader", name := "joined", desc := "(ILNineKeysRound$Node;LNineKeysRound$Node;)LNineKeysRound$Node;" } : Jvm.MethodName) prog_22_method_7_code (4 : Nat) (Option.some (Jvm.ClassFile.FieldType.object "NineKeysRound$Node"))) ∈ lw_all := lw_g (lw_at lw_m3 216 rfl) rfl
theorem q809 : (Jvm.Cond.classLink "NineKeysRound$Reader" (61 : Nat) "NineKeysRound$Pair") ∈ lw_all := lw_g (lw_at lw_m3 217 rfl) rfl
theorem q811 : (Jvm.Cond.methodLink "NineKeysRound$Reader" (63 : Nat) ({ cls := "NineKeysRound$Pair", name := "<init>", desc := "(ILNineKeysRound$Node;LNineKeysRound$Node;)V" } : Jvm.MethodName)) ∈ lw_all := lw_g (lw_at lw_m3 219 rfl) rfl
theorem q825 : (Jvm.Cond.stringRef "NineKeysRound$Reader" (88 : Nat) "+-") ∈ lw_tbl := lw_at lw_m3 233 rfl
theorem q826 : (Jvm.Cond.stringRef "NineKeysRound$Reader" (79 : Nat) "<=>") ∈ lw_tbl := lw_at lw_m3 234 rfl
theorem in_X5 : ∀ w ∈ wsX50, w ∈ lw_all := lw_in wsX50 [597, 599, 601, 603] (by decide +kernel) (by decide +kernel)
/-! NineKeysRound$Line -/
set_option maxRecDepth 100000
def RX6 : String := "NineKeysRound$Line"
def TX6 : u_T := fun k => match k with
  | 0 => ("NineKeysRound$Line", "test", "LNineKeysRound$Node;", false)
  | 1 => ("NineKeysRound$Line", "gives", "LNineKeysRound$Node;", false)
  | _ => ("NineKeysRound$Line", "next", "LNineKeysRound$Line;", false)
def tyX6 : Nat → FieldType := fun k => match k with
  | 0 => .object "NineKeysRound$Node"
  | 1 => .object "NineKeysRound$Node"
  | _ => .object "NineKeysRound$Line"
abbrev wsX60 : List Cond := u_ws RX6 TX6 3
theorem nmX6 : ∀ a, a < 3 → ∀ b, b < 3 → a ≠ b → (TX6 a).2.1 ≠ (TX6 b).2.1 := by decide +kernel
theorem tyX6_ok : ∀ k, k < 3 → parseFieldDescriptor (TX6 k).2.2.1 = some (tyX6 k) := by decide +kernel
abbrev cX6_init : ByteArray := prog_15_method_1_code
def yX6_init : MethodName := ⟨RX6, "<init>", "()V"⟩
theorem dX6_init_0 : decode cX6_init 0 = .ok (.aload_n 0, 1) := by decide +kernel
theorem dX6_init_1 : decode cX6_init 1 = .ok (.invokespecial 1, 3) := by decide +kernel
theorem dX6_init_4 : decode cX6_init 4 = .ok (.return_, 1) := by decide +kernel
theorem q127 : (Jvm.Cond.initialized "NineKeysRound$Line") ∈ lw_all := lw_g (lw_at lw_m1 15 rfl) rfl
theorem q615 : (Jvm.Cond.instantiable "NineKeysRound$Line" (3 : Nat)) ∈ lw_all := lw_g (lw_at lw_m3 23 rfl) rfl
theorem q617 : (Jvm.Cond.instanceMethod ({ cls := "NineKeysRound$Line", name := "<init>", desc := "()V" } : Jvm.MethodName)) ∈ lw_all := lw_g (lw_at lw_m3 25 rfl) rfl
theorem q618 : (Jvm.Cond.code ({ cls := "NineKeysRound$Line", name := "<init>", desc := "()V" } : Jvm.MethodName) prog_15_method_1_code (1 : Nat) (Option.none : Option Jvm.ClassFile.FieldType)) ∈ lw_all := lw_g (lw_at lw_m3 26 rfl) rfl
theorem q619 : (Jvm.Cond.methodLink "NineKeysRound$Line" (1 : Nat) ({ cls := "java/lang/Object", name := "<init>", desc := "()V" } : Jvm.MethodName)) ∈ lw_all := lw_g (lw_at lw_m3 27 rfl) rfl
theorem q626 : (Jvm.Cond.lays "NineKeysRound$Line" "NineKeysRound$Line" "test" "LNineKeysRound$Node;") ∈ lw_all := lw_g (lw_at lw_m3 34 rfl) rfl
theorem q627 : (Jvm.Cond.soleField "NineKeysRound$Line" "test") ∈ lw_all := lw_g (lw_at lw_m3 35 rfl) rfl
theorem q628 : (Jvm.Cond.lays "NineKeysRound$Line" "NineKeysRound$Line" "gives" "LNineKeysRound$Node;") ∈ lw_all := lw_g (lw_at lw_m3 36 rfl) rfl
theorem q629 : (Jvm.Cond.soleField "NineKeysRound$Line" "gives") ∈ lw_all := lw_g (lw_at lw_m3 37 rfl) rfl
theorem q630 : (Jvm.Cond.lays "NineKeysRound$Line" "NineKeysRound$Line" "next" "LNineKeysRound$Line;") ∈ lw_all := lw_g (lw_at lw_m3 38 rfl) rfl
theorem q631 : (Jvm.Cond.soleField "NineKeysRound$Line" "next") ∈ lw_all := lw_g (lw_at lw_m3 39 rfl) rfl
theorem q632 : (Jvm.Cond.superclass "NineKeysRound$Line" "java/lang/Object") ∈ lw_all := lw_g (lw_at lw_m3 40 rfl) rfl
theorem in_X6 : ∀ w ∈ wsX60, w ∈ lw_all := lw_in wsX60 [626, 628, 630] (by decide +kernel) (by decide +kernel)
/-! java/lang/StringLatin1 -/
set_option maxRecDepth 100000
def RJ8 : String := "java/lang/StringLatin1"
abbrev cJ8_indexOf : ByteArray := prog_43_method_22_code
def yJ8_indexOf : MethodName := ⟨RJ8, "indexOf", "([BIII)I"⟩
def dkwJ8_indexOf_1 : List UInt8 := [161, 0, 5, 2, 172, 42, 27, 28, 29, 184, 0, 95, 172]
abbrev dktJ8_indexOf_1 : List UInt8 := dkwJ8_indexOf_1 ++ []
def dkwJ8_indexOf_0 : List UInt8 := [27, 184, 0, 88, 154, 0, 5, 2, 172, 28, 3, 184, 0, 92, 61, 29, 42, 190, 184, 0, 38, 62, 28, 29]
abbrev dktJ8_indexOf_0 : List UInt8 := dkwJ8_indexOf_0 ++ dktJ8_indexOf_1
theorem dksJ8_indexOf_0 : cJ8_indexOf.data.toList.drop 0 = dktJ8_indexOf_0 := by decide +kernel
theorem dksJ8_indexOf_1 : cJ8_indexOf.data.toList.drop 24 = dktJ8_indexOf_1 := dk_seg dksJ8_indexOf_0 24 rfl rfl
theorem dJ8_indexOf_0 : decode cJ8_indexOf 0 = .ok (.iload_n 1, 1) := dk_27 (dk_at dksJ8_indexOf_0 0 rfl rfl)
theorem dJ8_indexOf_1 : decode cJ8_indexOf 1 = .ok (.invokestatic 88, 3) := dk_184 0 88 (dk_at dksJ8_indexOf_0 1 rfl rfl)
theorem dJ8_indexOf_4 : decode cJ8_indexOf 4 = .ok (.ifCond .ne 5, 3) := dk_154 0 5 (dk_at dksJ8_indexOf_0 4 rfl rfl)
theorem dJ8_indexOf_7 : decode cJ8_indexOf 7 = .ok (.iconst (-1), 1) := dk_2 (dk_at dksJ8_indexOf_0 7 rfl rfl)
theorem dJ8_indexOf_8 : decode cJ8_indexOf 8 = .ok (.ireturn, 1) := dk_172 (dk_at dksJ8_indexOf_0 8 rfl rfl)
theorem dJ8_indexOf_9 : decode cJ8_indexOf 9 = .ok (.iload_n 2, 1) := dk_28 (dk_at dksJ8_indexOf_0 9 rfl rfl)
theorem dJ8_indexOf_10 : decode cJ8_indexOf 10 = .ok (.iconst 0, 1) := dk_3 (dk_at dksJ8_indexOf_0 10 rfl rfl)
theorem dJ8_indexOf_11 : decode cJ8_indexOf 11 = .ok (.invokestatic 92, 3) := dk_184 0 92 (dk_at dksJ8_indexOf_0 11 rfl rfl)
theorem dJ8_indexOf_14 : decode cJ8_indexOf 14 = .ok (.istore_n 2, 1) := dk_61 (dk_at dksJ8_indexOf_0 14 rfl rfl)
theorem dJ8_indexOf_15 : decode cJ8_indexOf 15 = .ok (.iload_n 3, 1) := dk_29 (dk_at dksJ8_indexOf_0 15 rfl rfl)
theorem dJ8_indexOf_16 : decode cJ8_indexOf 16 = .ok (.aload_n 0, 1) := dk_42 (dk_at dksJ8_indexOf_0 16 rfl rfl)
theorem dJ8_indexOf_17 : decode cJ8_indexOf 17 = .ok (.arraylength, 1) := dk_190 (dk_at dksJ8_indexOf_0 17 rfl rfl)
theorem dJ8_indexOf_18 : decode cJ8_indexOf 18 = .ok (.invokestatic 38, 3) := dk_184 0 38 (dk_at dksJ8_indexOf_0 18 rfl rfl)
theorem dJ8_indexOf_21 : decode cJ8_indexOf 21 = .ok (.istore_n 3, 1) := dk_62 (dk_at dksJ8_indexOf_0 21 rfl rfl)
theorem dJ8_indexOf_22 : decode cJ8_indexOf 22 = .ok (.iload_n 2, 1) := dk_28 (dk_at dksJ8_indexOf_0 22 rfl rfl)
theorem dJ8_indexOf_23 : decode cJ8_indexOf 23 = .ok (.iload_n 3, 1) := dk_29 (dk_at dksJ8_indexOf_0 23 rfl rfl)
theorem dJ8_indexOf_24 : decode cJ8_indexOf 24 = .ok (.if_icmp .lt 5, 3) := dk_161 0 5 (dk_at dksJ8_indexOf_1 0 rfl rfl)
theorem dJ8_indexOf_27 : decode cJ8_indexOf 27 = .ok (.iconst (-1), 1) := dk_2 (dk_at dksJ8_indexOf_1 3 rfl rfl)
theorem dJ8_indexOf_28 : decode cJ8_indexOf 28 = .ok (.ireturn, 1) := dk_172 (dk_at dksJ8_indexOf_1 4 rfl rfl)
theorem dJ8_indexOf_29 : decode cJ8_indexOf 29 = .ok (.aload_n 0, 1) := dk_42 (dk_at dksJ8_indexOf_1 5 rfl rfl)
theorem dJ8_indexOf_30 : decode cJ8_indexOf 30 = .ok (.iload_n 1, 1) := dk_27 (dk_at dksJ8_indexOf_1 6 rfl rfl)
theorem dJ8_indexOf_31 : decode cJ8_indexOf 31 = .ok (.iload_n 2, 1) := dk_28 (dk_at dksJ8_indexOf_1 7 rfl rfl)
theorem dJ8_indexOf_32 : decode cJ8_indexOf 32 = .ok (.iload_n 3, 1) := dk_29 (dk_at dksJ8_indexOf_1 8 rfl rfl)
theorem dJ8_indexOf_33 : decode cJ8_indexOf 33 = .ok (.invokestatic 95, 3) := dk_184 0 95 (dk_at dksJ8_indexOf_1 9 rfl rfl)
theorem dJ8_indexOf_36 : decode cJ8_indexOf 36 = .ok (.ireturn, 1) := dk_172 (dk_at dksJ8_indexOf_1 12 rfl rfl)
abbrev cJ8_canEncode : ByteArray := prog_43_method_4_code
def yJ8_canEncode : MethodName := ⟨RJ8, "canEncode", "(I)Z"⟩
def dkwJ8_canEncode_0 : List UInt8 := [26, 155, 0, 14, 26, 17, 0, 255, 163, 0, 7, 4, 167, 0, 4, 3, 172]
abbrev dktJ8_canEncode_0 : List UInt8 := dkwJ8_canEncode_0 ++ []
theorem dksJ8_canEncode_0 : cJ8_canEncode.data.toList.drop 0 = dktJ8_canEncode_0 := by decide +kernel
theorem dJ8_canEncode_0 : decode cJ8_canEncode 0 = .ok (.iload_n 0, 1) := dk_26 (dk_at dksJ8_canEncode_0 0 rfl rfl)
theorem dJ8_canEncode_1 : decode cJ8_canEncode 1 = .ok (.ifCond .lt 14, 3) := dk_155 0 14 (dk_at dksJ8_canEncode_0 1 rfl rfl)
theorem dJ8_canEncode_4 : decode cJ8_canEncode 4 = .ok (.iload_n 0, 1) := dk_26 (dk_at dksJ8_canEncode_0 4 rfl rfl)
theorem dJ8_canEncode_5 : decode cJ8_canEncode 5 = .ok (.sipush 255, 3) := dk_17 0 255 (dk_at dksJ8_canEncode_0 5 rfl rfl)
theorem dJ8_canEncode_8 : decode cJ8_canEncode 8 = .ok (.if_icmp .gt 7, 3) := dk_163 0 7 (dk_at dksJ8_canEncode_0 8 rfl rfl)
theorem dJ8_canEncode_11 : decode cJ8_canEncode 11 = .ok (.iconst 1, 1) := dk_4 (dk_at dksJ8_canEncode_0 11 rfl rfl)
theorem dJ8_canEncode_12 : decode cJ8_canEncode 12 = .ok (.goto 4, 3) := dk_167 0 4 (dk_at dksJ8_canEncode_0 12 rfl rfl)
theorem dJ8_canEncode_15 : decode cJ8_canEncode 15 = .ok (.iconst 0, 1) := dk_3 (dk_at dksJ8_canEncode_0 15 rfl rfl)
theorem dJ8_canEncode_16 : decode cJ8_canEncode 16 = .ok (.ireturn, 1) := dk_172 (dk_at dksJ8_canEncode_0 16 rfl rfl)
abbrev cJ8_indexOfChar : ByteArray := prog_43_method_23_code
def yJ8_indexOfChar : MethodName := ⟨RJ8, "indexOfChar", "([BIII)I"⟩
def dkwJ8_indexOfChar_1 : List UInt8 := [172, 132, 5, 1, 167, 255, 235, 2, 172]
abbrev dktJ8_indexOfChar_1 : List UInt8 := dkwJ8_indexOfChar_1 ++ []
def dkwJ8_indexOfChar_0 : List UInt8 := [27, 145, 54, 4, 28, 54, 5, 21, 5, 29, 162, 0, 21, 42, 21, 5, 51, 21, 4, 160, 0, 6, 21, 5]
abbrev dktJ8_indexOfChar_0 : List UInt8 := dkwJ8_indexOfChar_0 ++ dktJ8_indexOfChar_1
theorem dksJ8_indexOfChar_0 : cJ8_indexOfChar.data.toList.drop 0 = dktJ8_indexOfChar_0 := by decide +kernel
theorem dksJ8_indexOfChar_1 : cJ8_indexOfChar.data.toList.drop 24 = dktJ8_indexOfChar_1 := dk_seg dksJ8_indexOfChar_0 24 rfl rfl
theorem dJ8_indexOfChar_0 : decode cJ8_indexOfChar 0 = .ok (.iload_n 1, 1) := dk_27 (dk_at dksJ8_indexOfChar_0 0 rfl rfl)
theorem dJ8_indexOfChar_1 : decode cJ8_indexOfChar 1 = .ok (.i2b, 1) := dk_145 (dk_at dksJ8_indexOfChar_0 1 rfl rfl)
theorem dJ8_indexOfChar_2 : decode cJ8_indexOfChar 2 = .ok (.istore 4, 2) := dk_54 4 (dk_at dksJ8_indexOfChar_0 2 rfl rfl)
theorem dJ8_indexOfChar_4 : decode cJ8_indexOfChar 4 = .ok (.iload_n 2, 1) := dk_28 (dk_at dksJ8_indexOfChar_0 4 rfl rfl)
theorem dJ8_indexOfChar_5 : decode cJ8_indexOfChar 5 = .ok (.istore 5, 2) := dk_54 5 (dk_at dksJ8_indexOfChar_0 5 rfl rfl)
theorem dJ8_indexOfChar_7 : decode cJ8_indexOfChar 7 = .ok (.iload 5, 2) := dk_21 5 (dk_at dksJ8_indexOfChar_0 7 rfl rfl)
theorem dJ8_indexOfChar_9 : decode cJ8_indexOfChar 9 = .ok (.iload_n 3, 1) := dk_29 (dk_at dksJ8_indexOfChar_0 9 rfl rfl)
theorem dJ8_indexOfChar_10 : decode cJ8_indexOfChar 10 = .ok (.if_icmp .ge 21, 3) := dk_162 0 21 (dk_at dksJ8_indexOfChar_0 10 rfl rfl)
theorem dJ8_indexOfChar_13 : decode cJ8_indexOfChar 13 = .ok (.aload_n 0, 1) := dk_42 (dk_at dksJ8_indexOfChar_0 13 rfl rfl)
theorem dJ8_indexOfChar_14 : decode cJ8_indexOfChar 14 = .ok (.iload 5, 2) := dk_21 5 (dk_at dksJ8_indexOfChar_0 14 rfl rfl)
theorem dJ8_indexOfChar_16 : decode cJ8_indexOfChar 16 = .ok (.baload, 1) := dk_51 (dk_at dksJ8_indexOfChar_0 16 rfl rfl)
theorem dJ8_indexOfChar_17 : decode cJ8_indexOfChar 17 = .ok (.iload 4, 2) := dk_21 4 (dk_at dksJ8_indexOfChar_0 17 rfl rfl)
theorem dJ8_indexOfChar_19 : decode cJ8_indexOfChar 19 = .ok (.if_icmp .ne 6, 3) := dk_160 0 6 (dk_at dksJ8_indexOfChar_0 19 rfl rfl)
theorem dJ8_indexOfChar_22 : decode cJ8_indexOfChar 22 = .ok (.iload 5, 2) := dk_21 5 (dk_at dksJ8_indexOfChar_0 22 rfl rfl)
theorem dJ8_indexOfChar_24 : decode cJ8_indexOfChar 24 = .ok (.ireturn, 1) := dk_172 (dk_at dksJ8_indexOfChar_1 0 rfl rfl)
theorem dJ8_indexOfChar_25 : decode cJ8_indexOfChar 25 = .ok (.iinc 5 1, 3) := dk_132 5 1 (dk_at dksJ8_indexOfChar_1 1 rfl rfl)
theorem dJ8_indexOfChar_28 : decode cJ8_indexOfChar 28 = .ok (.goto (-21), 3) := dk_167 255 235 (dk_at dksJ8_indexOfChar_1 4 rfl rfl)
theorem dJ8_indexOfChar_31 : decode cJ8_indexOfChar 31 = .ok (.iconst (-1), 1) := dk_2 (dk_at dksJ8_indexOfChar_1 7 rfl rfl)
theorem dJ8_indexOfChar_32 : decode cJ8_indexOfChar 32 = .ok (.ireturn, 1) := dk_172 (dk_at dksJ8_indexOfChar_1 8 rfl rfl)
theorem q128 : (Jvm.Cond.initialized "java/lang/StringLatin1") ∈ lw_all := lw_g (lw_at lw_m1 16 rfl) rfl
theorem q689 : (Jvm.Cond.static ({ cls := "java/lang/StringLatin1", name := "indexOf", desc := "([BIII)I" } : Jvm.MethodName)) ∈ lw_all := lw_g (lw_at lw_m3 97 rfl) rfl
theorem q690 : (Jvm.Cond.code ({ cls := "java/lang/StringLatin1", name := "indexOf", desc := "([BIII)I" } : Jvm.MethodName) prog_43_method_22_code (4 : Nat) (Option.some Jvm.ClassFile.FieldType.int)) ∈ lw_all := lw_g (lw_at lw_m3 98 rfl) rfl
theorem q691 : (Jvm.Cond.methodLink "java/lang/StringLatin1" (88 : Nat) ({ cls := "java/lang/StringLatin1", name := "canEncode", desc := "(I)Z" } : Jvm.MethodName)) ∈ lw_all := lw_g (lw_at lw_m3 99 rfl) rfl
theorem q692 : (Jvm.Cond.static ({ cls := "java/lang/StringLatin1", name := "canEncode", desc := "(I)Z" } : Jvm.MethodName)) ∈ lw_all := lw_g (lw_at lw_m3 100 rfl) rfl
theorem q693 : (Jvm.Cond.code ({ cls := "java/lang/StringLatin1", name := "canEncode", desc := "(I)Z" } : Jvm.MethodName) prog_43_method_4_code (1 : Nat) (Option.some Jvm.ClassFile.FieldType.boolean)) ∈ lw_all := lw_g (lw_at lw_m3 101 rfl) rfl
theorem q694 : (Jvm.Cond.methodLink "java/lang/StringLatin1" (92 : Nat) ({ cls := "java/lang/Math", name := "max", desc := "(II)I" } : Jvm.MethodName)) ∈ lw_all := lw_g (lw_at lw_m3 102 rfl) rfl
theorem q697 : (Jvm.Cond.methodLink "java/lang/StringLatin1" (38 : Nat) ({ cls := "java/lang/Math", name := "min", desc := "(II)I" } : Jvm.MethodName)) ∈ lw_all := lw_g (lw_at lw_m3 105 rfl) rfl
theorem q700 : (Jvm.Cond.methodLink "java/lang/StringLatin1" (95 : Nat) ({ cls := "java/lang/StringLatin1", name := "indexOfChar", desc := "([BIII)I" } : Jvm.MethodName)) ∈ lw_all := lw_g (lw_at lw_m3 108 rfl) rfl
theorem q701 : (Jvm.Cond.static ({ cls := "java/lang/StringLatin1", name := "indexOfChar", desc := "([BIII)I" } : Jvm.MethodName)) ∈ lw_all := lw_g (lw_at lw_m3 109 rfl) rfl
theorem q702 : (Jvm.Cond.code ({ cls := "java/lang/StringLatin1", name := "indexOfChar", desc := "([BIII)I" } : Jvm.MethodName) prog_43_method_23_code (6 : Nat) (Option.some Jvm.ClassFile.FieldType.int)) ∈ lw_all := lw_g (lw_at lw_m3 110 rfl) rfl
/-! java/lang/Math -/
set_option maxRecDepth 100000
def RJ9 : String := "java/lang/Math"
abbrev cJ9_max : ByteArray := prog_38_method_65_code
def yJ9_max : MethodName := ⟨RJ9, "max", "(II)I"⟩
def dkwJ9_max_0 : List UInt8 := [26, 27, 161, 0, 7, 26, 167, 0, 4, 27, 172]
abbrev dktJ9_max_0 : List UInt8 := dkwJ9_max_0 ++ []
theorem dksJ9_max_0 : cJ9_max.data.toList.drop 0 = dktJ9_max_0 := by decide +kernel
theorem dJ9_max_0 : decode cJ9_max 0 = .ok (.iload_n 0, 1) := dk_26 (dk_at dksJ9_max_0 0 rfl rfl)
theorem dJ9_max_1 : decode cJ9_max 1 = .ok (.iload_n 1, 1) := dk_27 (dk_at dksJ9_max_0 1 rfl rfl)
theorem dJ9_max_2 : decode cJ9_max 2 = .ok (.if_icmp .lt 7, 3) := dk_161 0 7 (dk_at dksJ9_max_0 2 rfl rfl)
theorem dJ9_max_5 : decode cJ9_max 5 = .ok (.iload_n 0, 1) := dk_26 (dk_at dksJ9_max_0 5 rfl rfl)
theorem dJ9_max_6 : decode cJ9_max 6 = .ok (.goto 4, 3) := dk_167 0 4 (dk_at dksJ9_max_0 6 rfl rfl)
theorem dJ9_max_9 : decode cJ9_max 9 = .ok (.iload_n 1, 1) := dk_27 (dk_at dksJ9_max_0 9 rfl rfl)
theorem dJ9_max_10 : decode cJ9_max 10 = .ok (.ireturn, 1) := dk_172 (dk_at dksJ9_max_0 10 rfl rfl)
abbrev cJ9_min : ByteArray := prog_38_method_69_code
def yJ9_min : MethodName := ⟨RJ9, "min", "(II)I"⟩
def dkwJ9_min_0 : List UInt8 := [26, 27, 163, 0, 7, 26, 167, 0, 4, 27, 172]
abbrev dktJ9_min_0 : List UInt8 := dkwJ9_min_0 ++ []
theorem dksJ9_min_0 : cJ9_min.data.toList.drop 0 = dktJ9_min_0 := by decide +kernel
theorem dJ9_min_0 : decode cJ9_min 0 = .ok (.iload_n 0, 1) := dk_26 (dk_at dksJ9_min_0 0 rfl rfl)
theorem dJ9_min_1 : decode cJ9_min 1 = .ok (.iload_n 1, 1) := dk_27 (dk_at dksJ9_min_0 1 rfl rfl)
theorem dJ9_min_2 : decode cJ9_min 2 = .ok (.if_icmp .gt 7, 3) := dk_163 0 7 (dk_at dksJ9_min_0 2 rfl rfl)
theorem dJ9_min_5 : decode cJ9_min 5 = .ok (.iload_n 0, 1) := dk_26 (dk_at dksJ9_min_0 5 rfl rfl)
theorem dJ9_min_6 : decode cJ9_min 6 = .ok (.goto 4, 3) := dk_167 0 4 (dk_at dksJ9_min_0 6 rfl rfl)
theorem dJ9_min_9 : decode cJ9_min 9 = .ok (.iload_n 1, 1) := dk_27 (dk_at dksJ9_min_0 9 rfl rfl)
theorem dJ9_min_10 : decode cJ9_min 10 = .ok (.ireturn, 1) := dk_172 (dk_at dksJ9_min_0 10 rfl rfl)
abbrev cJ9_abs : ByteArray := prog_38_method_59_code
def yJ9_abs : MethodName := ⟨RJ9, "abs", "(I)I"⟩
def dkwJ9_abs_0 : List UInt8 := [26, 156, 0, 8, 26, 116, 167, 0, 4, 26, 172]
abbrev dktJ9_abs_0 : List UInt8 := dkwJ9_abs_0 ++ []
theorem dksJ9_abs_0 : cJ9_abs.data.toList.drop 0 = dktJ9_abs_0 := by decide +kernel
theorem dJ9_abs_0 : decode cJ9_abs 0 = .ok (.iload_n 0, 1) := dk_26 (dk_at dksJ9_abs_0 0 rfl rfl)
theorem dJ9_abs_1 : decode cJ9_abs 1 = .ok (.ifCond .ge 8, 3) := dk_156 0 8 (dk_at dksJ9_abs_0 1 rfl rfl)
theorem dJ9_abs_4 : decode cJ9_abs 4 = .ok (.iload_n 0, 1) := dk_26 (dk_at dksJ9_abs_0 4 rfl rfl)
theorem dJ9_abs_5 : decode cJ9_abs 5 = .ok (.ineg, 1) := dk_116 (dk_at dksJ9_abs_0 5 rfl rfl)
theorem dJ9_abs_6 : decode cJ9_abs 6 = .ok (.goto 4, 3) := dk_167 0 4 (dk_at dksJ9_abs_0 6 rfl rfl)
theorem dJ9_abs_9 : decode cJ9_abs 9 = .ok (.iload_n 0, 1) := dk_26 (dk_at dksJ9_abs_0 9 rfl rfl)
theorem dJ9_abs_10 : decode cJ9_abs 10 = .ok (.ireturn, 1) := dk_172 (dk_at dksJ9_abs_0 10 rfl rfl)
theorem q129 : (Jvm.Cond.initialized "java/lang/Math") ∈ lw_all := lw_g (lw_at lw_m1 17 rfl) rfl
theorem q695 : (Jvm.Cond.static ({ cls := "java/lang/Math", name := "max", desc := "(II)I" } : Jvm.MethodName)) ∈ lw_all := lw_g (lw_at lw_m3 103 rfl) rfl
theorem q696 : (Jvm.Cond.code ({ cls := "java/lang/Math", name := "max", desc := "(II)I" } : Jvm.MethodName) prog_38_method_65_code (2 : Nat) (Option.some Jvm.ClassFile.FieldType.int)) ∈ lw_all := lw_g (lw_at lw_m3 104 rfl) rfl
theorem q698 : (Jvm.Cond.static ({ cls := "java/lang/Math", name := "min", desc := "(II)I" } : Jvm.MethodName)) ∈ lw_all := lw_g (lw_at lw_m3 106 rfl) rfl
theorem q699 : (Jvm.Cond.code ({ cls := "java/lang/Math", name := "min", desc := "(II)I" } : Jvm.MethodName) prog_38_method_69_code (2 : Nat) (Option.some Jvm.ClassFile.FieldType.int)) ∈ lw_all := lw_g (lw_at lw_m3 107 rfl) rfl
theorem q860 : (Jvm.Cond.static ({ cls := "java/lang/Math", name := "abs", desc := "(I)I" } : Jvm.MethodName)) ∈ lw_all := lw_g (lw_at lw_m4 28 rfl) rfl
theorem q861 : (Jvm.Cond.code ({ cls := "java/lang/Math", name := "abs", desc := "(I)I" } : Jvm.MethodName) prog_38_method_59_code (1 : Nat) (Option.some Jvm.ClassFile.FieldType.int)) ∈ lw_all := lw_g (lw_at lw_m4 29 rfl) rfl
/-! java/lang/StringUTF16 -/
set_option maxRecDepth 100000
def RJ10 : String := "java/lang/StringUTF16"
abbrev cJ10_indexOf : ByteArray := prog_44_method_40_code
def yJ10_indexOf : MethodName := ⟨RJ10, "indexOf", "([BIII)I"⟩
def dkwJ10_indexOf_1 : List UInt8 := [18, 227, 162, 0, 11, 42, 27, 28, 29, 184, 0, 228, 172, 42, 27, 28, 29, 184, 0, 232, 172]
abbrev dktJ10_indexOf_1 : List UInt8 := dkwJ10_indexOf_1 ++ []
def dkwJ10_indexOf_0 : List UInt8 := [28, 3, 184, 0, 224, 61, 29, 42, 190, 4, 122, 184, 0, 183, 62, 28, 29, 161, 0, 5, 2, 172, 27]
abbrev dktJ10_indexOf_0 : List UInt8 := dkwJ10_indexOf_0 ++ dktJ10_indexOf_1
theorem dksJ10_indexOf_0 : cJ10_indexOf.data.toList.drop 0 = dktJ10_indexOf_0 := by decide +kernel
theorem dksJ10_indexOf_1 : cJ10_indexOf.data.toList.drop 23 = dktJ10_indexOf_1 := dk_seg dksJ10_indexOf_0 23 rfl rfl
theorem dJ10_indexOf_0 : decode cJ10_indexOf 0 = .ok (.iload_n 2, 1) := dk_28 (dk_at dksJ10_indexOf_0 0 rfl rfl)
theorem dJ10_indexOf_1 : decode cJ10_indexOf 1 = .ok (.iconst 0, 1) := dk_3 (dk_at dksJ10_indexOf_0 1 rfl rfl)
theorem dJ10_indexOf_2 : decode cJ10_indexOf 2 = .ok (.invokestatic 224, 3) := dk_184 0 224 (dk_at dksJ10_indexOf_0 2 rfl rfl)
theorem dJ10_indexOf_5 : decode cJ10_indexOf 5 = .ok (.istore_n 2, 1) := dk_61 (dk_at dksJ10_indexOf_0 5 rfl rfl)
theorem dJ10_indexOf_6 : decode cJ10_indexOf 6 = .ok (.iload_n 3, 1) := dk_29 (dk_at dksJ10_indexOf_0 6 rfl rfl)
theorem dJ10_indexOf_7 : decode cJ10_indexOf 7 = .ok (.aload_n 0, 1) := dk_42 (dk_at dksJ10_indexOf_0 7 rfl rfl)
theorem dJ10_indexOf_8 : decode cJ10_indexOf 8 = .ok (.arraylength, 1) := dk_190 (dk_at dksJ10_indexOf_0 8 rfl rfl)
theorem dJ10_indexOf_9 : decode cJ10_indexOf 9 = .ok (.iconst 1, 1) := dk_4 (dk_at dksJ10_indexOf_0 9 rfl rfl)
theorem dJ10_indexOf_10 : decode cJ10_indexOf 10 = .ok (.ishr, 1) := dk_122 (dk_at dksJ10_indexOf_0 10 rfl rfl)
theorem dJ10_indexOf_11 : decode cJ10_indexOf 11 = .ok (.invokestatic 183, 3) := dk_184 0 183 (dk_at dksJ10_indexOf_0 11 rfl rfl)
theorem dJ10_indexOf_14 : decode cJ10_indexOf 14 = .ok (.istore_n 3, 1) := dk_62 (dk_at dksJ10_indexOf_0 14 rfl rfl)
theorem dJ10_indexOf_15 : decode cJ10_indexOf 15 = .ok (.iload_n 2, 1) := dk_28 (dk_at dksJ10_indexOf_0 15 rfl rfl)
theorem dJ10_indexOf_16 : decode cJ10_indexOf 16 = .ok (.iload_n 3, 1) := dk_29 (dk_at dksJ10_indexOf_0 16 rfl rfl)
theorem dJ10_indexOf_17 : decode cJ10_indexOf 17 = .ok (.if_icmp .lt 5, 3) := dk_161 0 5 (dk_at dksJ10_indexOf_0 17 rfl rfl)
theorem dJ10_indexOf_20 : decode cJ10_indexOf 20 = .ok (.iconst (-1), 1) := dk_2 (dk_at dksJ10_indexOf_0 20 rfl rfl)
theorem dJ10_indexOf_21 : decode cJ10_indexOf 21 = .ok (.ireturn, 1) := dk_172 (dk_at dksJ10_indexOf_0 21 rfl rfl)
theorem dJ10_indexOf_22 : decode cJ10_indexOf 22 = .ok (.iload_n 1, 1) := dk_27 (dk_at dksJ10_indexOf_0 22 rfl rfl)
theorem dJ10_indexOf_23 : decode cJ10_indexOf 23 = .ok (.ldc 227, 2) := dk_18 227 (dk_at dksJ10_indexOf_1 0 rfl rfl)
theorem dJ10_indexOf_25 : decode cJ10_indexOf 25 = .ok (.if_icmp .ge 11, 3) := dk_162 0 11 (dk_at dksJ10_indexOf_1 2 rfl rfl)
theorem dJ10_indexOf_28 : decode cJ10_indexOf 28 = .ok (.aload_n 0, 1) := dk_42 (dk_at dksJ10_indexOf_1 5 rfl rfl)
theorem dJ10_indexOf_29 : decode cJ10_indexOf 29 = .ok (.iload_n 1, 1) := dk_27 (dk_at dksJ10_indexOf_1 6 rfl rfl)
theorem dJ10_indexOf_30 : decode cJ10_indexOf 30 = .ok (.iload_n 2, 1) := dk_28 (dk_at dksJ10_indexOf_1 7 rfl rfl)
theorem dJ10_indexOf_31 : decode cJ10_indexOf 31 = .ok (.iload_n 3, 1) := dk_29 (dk_at dksJ10_indexOf_1 8 rfl rfl)
theorem dJ10_indexOf_32 : decode cJ10_indexOf 32 = .ok (.invokestatic 228, 3) := dk_184 0 228 (dk_at dksJ10_indexOf_1 9 rfl rfl)
theorem dJ10_indexOf_35 : decode cJ10_indexOf 35 = .ok (.ireturn, 1) := dk_172 (dk_at dksJ10_indexOf_1 12 rfl rfl)
theorem dJ10_indexOf_36 : decode cJ10_indexOf 36 = .ok (.aload_n 0, 1) := dk_42 (dk_at dksJ10_indexOf_1 13 rfl rfl)
theorem dJ10_indexOf_37 : decode cJ10_indexOf 37 = .ok (.iload_n 1, 1) := dk_27 (dk_at dksJ10_indexOf_1 14 rfl rfl)
theorem dJ10_indexOf_38 : decode cJ10_indexOf 38 = .ok (.iload_n 2, 1) := dk_28 (dk_at dksJ10_indexOf_1 15 rfl rfl)
theorem dJ10_indexOf_39 : decode cJ10_indexOf 39 = .ok (.iload_n 3, 1) := dk_29 (dk_at dksJ10_indexOf_1 16 rfl rfl)
theorem dJ10_indexOf_40 : decode cJ10_indexOf 40 = .ok (.invokestatic 232, 3) := dk_184 0 232 (dk_at dksJ10_indexOf_1 17 rfl rfl)
theorem dJ10_indexOf_43 : decode cJ10_indexOf 43 = .ok (.ireturn, 1) := dk_172 (dk_at dksJ10_indexOf_1 20 rfl rfl)
abbrev cJ10_indexOfChar : ByteArray := prog_44_method_47_code
def yJ10_indexOfChar : MethodName := ⟨RJ10, "indexOfChar", "([BIII)I"⟩
def dkwJ10_indexOfChar_0 : List UInt8 := [28, 29, 42, 184, 0, 96, 42, 27, 28, 29, 184, 0, 244, 172]
abbrev dktJ10_indexOfChar_0 : List UInt8 := dkwJ10_indexOfChar_0 ++ []
theorem dksJ10_indexOfChar_0 : cJ10_indexOfChar.data.toList.drop 0 = dktJ10_indexOfChar_0 := by decide +kernel
theorem dJ10_indexOfChar_0 : decode cJ10_indexOfChar 0 = .ok (.iload_n 2, 1) := dk_28 (dk_at dksJ10_indexOfChar_0 0 rfl rfl)
theorem dJ10_indexOfChar_1 : decode cJ10_indexOfChar 1 = .ok (.iload_n 3, 1) := dk_29 (dk_at dksJ10_indexOfChar_0 1 rfl rfl)
theorem dJ10_indexOfChar_2 : decode cJ10_indexOfChar 2 = .ok (.aload_n 0, 1) := dk_42 (dk_at dksJ10_indexOfChar_0 2 rfl rfl)
theorem dJ10_indexOfChar_3 : decode cJ10_indexOfChar 3 = .ok (.invokestatic 96, 3) := dk_184 0 96 (dk_at dksJ10_indexOfChar_0 3 rfl rfl)
theorem dJ10_indexOfChar_6 : decode cJ10_indexOfChar 6 = .ok (.aload_n 0, 1) := dk_42 (dk_at dksJ10_indexOfChar_0 6 rfl rfl)
theorem dJ10_indexOfChar_7 : decode cJ10_indexOfChar 7 = .ok (.iload_n 1, 1) := dk_27 (dk_at dksJ10_indexOfChar_0 7 rfl rfl)
theorem dJ10_indexOfChar_8 : decode cJ10_indexOfChar 8 = .ok (.iload_n 2, 1) := dk_28 (dk_at dksJ10_indexOfChar_0 8 rfl rfl)
theorem dJ10_indexOfChar_9 : decode cJ10_indexOfChar 9 = .ok (.iload_n 3, 1) := dk_29 (dk_at dksJ10_indexOfChar_0 9 rfl rfl)
theorem dJ10_indexOfChar_10 : decode cJ10_indexOfChar 10 = .ok (.invokestatic 244, 3) := dk_184 0 244 (dk_at dksJ10_indexOfChar_0 10 rfl rfl)
theorem dJ10_indexOfChar_13 : decode cJ10_indexOfChar 13 = .ok (.ireturn, 1) := dk_172 (dk_at dksJ10_indexOfChar_0 13 rfl rfl)
abbrev cJ10_checkBoundsBeginEnd : ByteArray := prog_44_method_93_code
def yJ10_checkBoundsBeginEnd : MethodName := ⟨RJ10, "checkBoundsBeginEnd", "(II[B)V"⟩
def dkwJ10_checkBoundsBeginEnd_0 : List UInt8 := [26, 27, 44, 184, 0, 48, 184, 0, 241, 177]
abbrev dktJ10_checkBoundsBeginEnd_0 : List UInt8 := dkwJ10_checkBoundsBeginEnd_0 ++ []
theorem dksJ10_checkBoundsBeginEnd_0 : cJ10_checkBoundsBeginEnd.data.toList.drop 0 = dktJ10_checkBoundsBeginEnd_0 := by decide +kernel
theorem dJ10_checkBoundsBeginEnd_0 : decode cJ10_checkBoundsBeginEnd 0 = .ok (.iload_n 0, 1) := dk_26 (dk_at dksJ10_checkBoundsBeginEnd_0 0 rfl rfl)
theorem dJ10_checkBoundsBeginEnd_1 : decode cJ10_checkBoundsBeginEnd 1 = .ok (.iload_n 1, 1) := dk_27 (dk_at dksJ10_checkBoundsBeginEnd_0 1 rfl rfl)
theorem dJ10_checkBoundsBeginEnd_2 : decode cJ10_checkBoundsBeginEnd 2 = .ok (.aload_n 2, 1) := dk_44 (dk_at dksJ10_checkBoundsBeginEnd_0 2 rfl rfl)
theorem dJ10_checkBoundsBeginEnd_3 : decode cJ10_checkBoundsBeginEnd 3 = .ok (.invokestatic 48, 3) := dk_184 0 48 (dk_at dksJ10_checkBoundsBeginEnd_0 3 rfl rfl)
theorem dJ10_checkBoundsBeginEnd_6 : decode cJ10_checkBoundsBeginEnd 6 = .ok (.invokestatic 241, 3) := dk_184 0 241 (dk_at dksJ10_checkBoundsBeginEnd_0 6 rfl rfl)
theorem dJ10_checkBoundsBeginEnd_9 : decode cJ10_checkBoundsBeginEnd 9 = .ok (.return_, 1) := dk_177 (dk_at dksJ10_checkBoundsBeginEnd_0 9 rfl rfl)
abbrev cJ10_length : ByteArray := prog_44_method_6_code
def yJ10_length : MethodName := ⟨RJ10, "length", "([B)I"⟩
def dkwJ10_length_0 : List UInt8 := [42, 190, 4, 122, 172]
abbrev dktJ10_length_0 : List UInt8 := dkwJ10_length_0 ++ []
theorem dksJ10_length_0 : cJ10_length.data.toList.drop 0 = dktJ10_length_0 := by decide +kernel
theorem dJ10_length_0 : decode cJ10_length 0 = .ok (.aload_n 0, 1) := dk_42 (dk_at dksJ10_length_0 0 rfl rfl)
theorem dJ10_length_1 : decode cJ10_length 1 = .ok (.arraylength, 1) := dk_190 (dk_at dksJ10_length_0 1 rfl rfl)
theorem dJ10_length_2 : decode cJ10_length 2 = .ok (.iconst 1, 1) := dk_4 (dk_at dksJ10_length_0 2 rfl rfl)
theorem dJ10_length_3 : decode cJ10_length 3 = .ok (.ishr, 1) := dk_122 (dk_at dksJ10_length_0 3 rfl rfl)
theorem dJ10_length_4 : decode cJ10_length 4 = .ok (.ireturn, 1) := dk_172 (dk_at dksJ10_length_0 4 rfl rfl)
abbrev cJ10_indexOfCharUnsafe : ByteArray := prog_44_method_48_code
def yJ10_indexOfCharUnsafe : MethodName := ⟨RJ10, "indexOfCharUnsafe", "([BIII)I"⟩
def dkwJ10_indexOfCharUnsafe_1 : List UInt8 := [132, 4, 1, 167, 255, 234, 2, 172]
abbrev dktJ10_indexOfCharUnsafe_1 : List UInt8 := dkwJ10_indexOfCharUnsafe_1 ++ []
def dkwJ10_indexOfCharUnsafe_0 : List UInt8 := [28, 54, 4, 21, 4, 29, 162, 0, 22, 42, 21, 4, 184, 0, 71, 27, 160, 0, 6, 21, 4, 172]
abbrev dktJ10_indexOfCharUnsafe_0 : List UInt8 := dkwJ10_indexOfCharUnsafe_0 ++ dktJ10_indexOfCharUnsafe_1
theorem dksJ10_indexOfCharUnsafe_0 : cJ10_indexOfCharUnsafe.data.toList.drop 0 = dktJ10_indexOfCharUnsafe_0 := by decide +kernel
theorem dksJ10_indexOfCharUnsafe_1 : cJ10_indexOfCharUnsafe.data.toList.drop 22 = dktJ10_indexOfCharUnsafe_1 := dk_seg dksJ10_indexOfCharUnsafe_0 22 rfl rfl
theorem dJ10_indexOfCharUnsafe_0 : decode cJ10_indexOfCharUnsafe 0 = .ok (.iload_n 2, 1) := dk_28 (dk_at dksJ10_indexOfCharUnsafe_0 0 rfl rfl)
theorem dJ10_indexOfCharUnsafe_1 : decode cJ10_indexOfCharUnsafe 1 = .ok (.istore 4, 2) := dk_54 4 (dk_at dksJ10_indexOfCharUnsafe_0 1 rfl rfl)
theorem dJ10_indexOfCharUnsafe_3 : decode cJ10_indexOfCharUnsafe 3 = .ok (.iload 4, 2) := dk_21 4 (dk_at dksJ10_indexOfCharUnsafe_0 3 rfl rfl)
theorem dJ10_indexOfCharUnsafe_5 : decode cJ10_indexOfCharUnsafe 5 = .ok (.iload_n 3, 1) := dk_29 (dk_at dksJ10_indexOfCharUnsafe_0 5 rfl rfl)
theorem dJ10_indexOfCharUnsafe_6 : decode cJ10_indexOfCharUnsafe 6 = .ok (.if_icmp .ge 22, 3) := dk_162 0 22 (dk_at dksJ10_indexOfCharUnsafe_0 6 rfl rfl)
theorem dJ10_indexOfCharUnsafe_9 : decode cJ10_indexOfCharUnsafe 9 = .ok (.aload_n 0, 1) := dk_42 (dk_at dksJ10_indexOfCharUnsafe_0 9 rfl rfl)
theorem dJ10_indexOfCharUnsafe_10 : decode cJ10_indexOfCharUnsafe 10 = .ok (.iload 4, 2) := dk_21 4 (dk_at dksJ10_indexOfCharUnsafe_0 10 rfl rfl)
theorem dJ10_indexOfCharUnsafe_12 : decode cJ10_indexOfCharUnsafe 12 = .ok (.invokestatic 71, 3) := dk_184 0 71 (dk_at dksJ10_indexOfCharUnsafe_0 12 rfl rfl)
theorem dJ10_indexOfCharUnsafe_15 : decode cJ10_indexOfCharUnsafe 15 = .ok (.iload_n 1, 1) := dk_27 (dk_at dksJ10_indexOfCharUnsafe_0 15 rfl rfl)
theorem dJ10_indexOfCharUnsafe_16 : decode cJ10_indexOfCharUnsafe 16 = .ok (.if_icmp .ne 6, 3) := dk_160 0 6 (dk_at dksJ10_indexOfCharUnsafe_0 16 rfl rfl)
theorem dJ10_indexOfCharUnsafe_19 : decode cJ10_indexOfCharUnsafe 19 = .ok (.iload 4, 2) := dk_21 4 (dk_at dksJ10_indexOfCharUnsafe_0 19 rfl rfl)
theorem dJ10_indexOfCharUnsafe_21 : decode cJ10_indexOfCharUnsafe 21 = .ok (.ireturn, 1) := dk_172 (dk_at dksJ10_indexOfCharUnsafe_0 21 rfl rfl)
theorem dJ10_indexOfCharUnsafe_22 : decode cJ10_indexOfCharUnsafe 22 = .ok (.iinc 4 1, 3) := dk_132 4 1 (dk_at dksJ10_indexOfCharUnsafe_1 0 rfl rfl)
theorem dJ10_indexOfCharUnsafe_25 : decode cJ10_indexOfCharUnsafe 25 = .ok (.goto (-22), 3) := dk_167 255 234 (dk_at dksJ10_indexOfCharUnsafe_1 3 rfl rfl)
theorem dJ10_indexOfCharUnsafe_28 : decode cJ10_indexOfCharUnsafe 28 = .ok (.iconst (-1), 1) := dk_2 (dk_at dksJ10_indexOfCharUnsafe_1 6 rfl rfl)
theorem dJ10_indexOfCharUnsafe_29 : decode cJ10_indexOfCharUnsafe 29 = .ok (.ireturn, 1) := dk_172 (dk_at dksJ10_indexOfCharUnsafe_1 7 rfl rfl)
abbrev cJ10_getChar : ByteArray := prog_44_method_5_code
def yJ10_getChar : MethodName := ⟨RJ10, "getChar", "([BI)C"⟩
def dkwJ10_getChar_2 : List UInt8 := [51, 17, 0, 255, 126, 178, 0, 63, 120, 128, 146, 172]
abbrev dktJ10_getChar_2 : List UInt8 := dkwJ10_getChar_2 ++ []
def dkwJ10_getChar_1 : List UInt8 := [183, 0, 56, 191, 27, 4, 120, 60, 42, 27, 132, 1, 1, 51, 17, 0, 255, 126, 178, 0, 59, 120, 42, 27]
abbrev dktJ10_getChar_1 : List UInt8 := dkwJ10_getChar_1 ++ dktJ10_getChar_2
def dkwJ10_getChar_0 : List UInt8 := [178, 0, 44, 154, 0, 25, 27, 155, 0, 11, 27, 42, 184, 0, 48, 161, 0, 13, 187, 0, 52, 89, 18, 54]
abbrev dktJ10_getChar_0 : List UInt8 := dkwJ10_getChar_0 ++ dktJ10_getChar_1
theorem dksJ10_getChar_0 : cJ10_getChar.data.toList.drop 0 = dktJ10_getChar_0 := by decide +kernel
theorem dksJ10_getChar_1 : cJ10_getChar.data.toList.drop 24 = dktJ10_getChar_1 := dk_seg dksJ10_getChar_0 24 rfl rfl
theorem dksJ10_getChar_2 : cJ10_getChar.data.toList.drop 48 = dktJ10_getChar_2 := dk_seg dksJ10_getChar_1 24 rfl rfl
theorem dJ10_getChar_0 : decode cJ10_getChar 0 = .ok (.getstatic 44, 3) := dk_178 0 44 (dk_at dksJ10_getChar_0 0 rfl rfl)
theorem dJ10_getChar_3 : decode cJ10_getChar 3 = .ok (.ifCond .ne 25, 3) := dk_154 0 25 (dk_at dksJ10_getChar_0 3 rfl rfl)
theorem dJ10_getChar_6 : decode cJ10_getChar 6 = .ok (.iload_n 1, 1) := dk_27 (dk_at dksJ10_getChar_0 6 rfl rfl)
theorem dJ10_getChar_7 : decode cJ10_getChar 7 = .ok (.ifCond .lt 11, 3) := dk_155 0 11 (dk_at dksJ10_getChar_0 7 rfl rfl)
theorem dJ10_getChar_10 : decode cJ10_getChar 10 = .ok (.iload_n 1, 1) := dk_27 (dk_at dksJ10_getChar_0 10 rfl rfl)
theorem dJ10_getChar_11 : decode cJ10_getChar 11 = .ok (.aload_n 0, 1) := dk_42 (dk_at dksJ10_getChar_0 11 rfl rfl)
theorem dJ10_getChar_12 : decode cJ10_getChar 12 = .ok (.invokestatic 48, 3) := dk_184 0 48 (dk_at dksJ10_getChar_0 12 rfl rfl)
theorem dJ10_getChar_15 : decode cJ10_getChar 15 = .ok (.if_icmp .lt 13, 3) := dk_161 0 13 (dk_at dksJ10_getChar_0 15 rfl rfl)
theorem dJ10_getChar_18 : decode cJ10_getChar 18 = .ok (.new 52, 3) := dk_187 0 52 (dk_at dksJ10_getChar_0 18 rfl rfl)
theorem dJ10_getChar_21 : decode cJ10_getChar 21 = .ok (.dup, 1) := dk_89 (dk_at dksJ10_getChar_0 21 rfl rfl)
theorem dJ10_getChar_22 : decode cJ10_getChar 22 = .ok (.ldc 54, 2) := dk_18 54 (dk_at dksJ10_getChar_0 22 rfl rfl)
theorem dJ10_getChar_24 : decode cJ10_getChar 24 = .ok (.invokespecial 56, 3) := dk_183 0 56 (dk_at dksJ10_getChar_1 0 rfl rfl)
theorem dJ10_getChar_27 : decode cJ10_getChar 27 = .ok (.athrow, 1) := dk_191 (dk_at dksJ10_getChar_1 3 rfl rfl)
theorem dJ10_getChar_28 : decode cJ10_getChar 28 = .ok (.iload_n 1, 1) := dk_27 (dk_at dksJ10_getChar_1 4 rfl rfl)
theorem dJ10_getChar_29 : decode cJ10_getChar 29 = .ok (.iconst 1, 1) := dk_4 (dk_at dksJ10_getChar_1 5 rfl rfl)
theorem dJ10_getChar_30 : decode cJ10_getChar 30 = .ok (.ishl, 1) := dk_120 (dk_at dksJ10_getChar_1 6 rfl rfl)
theorem dJ10_getChar_31 : decode cJ10_getChar 31 = .ok (.istore_n 1, 1) := dk_60 (dk_at dksJ10_getChar_1 7 rfl rfl)
theorem dJ10_getChar_32 : decode cJ10_getChar 32 = .ok (.aload_n 0, 1) := dk_42 (dk_at dksJ10_getChar_1 8 rfl rfl)
theorem dJ10_getChar_33 : decode cJ10_getChar 33 = .ok (.iload_n 1, 1) := dk_27 (dk_at dksJ10_getChar_1 9 rfl rfl)
theorem dJ10_getChar_34 : decode cJ10_getChar 34 = .ok (.iinc 1 1, 3) := dk_132 1 1 (dk_at dksJ10_getChar_1 10 rfl rfl)
theorem dJ10_getChar_37 : decode cJ10_getChar 37 = .ok (.baload, 1) := dk_51 (dk_at dksJ10_getChar_1 13 rfl rfl)
theorem dJ10_getChar_38 : decode cJ10_getChar 38 = .ok (.sipush 255, 3) := dk_17 0 255 (dk_at dksJ10_getChar_1 14 rfl rfl)
theorem dJ10_getChar_41 : decode cJ10_getChar 41 = .ok (.iand, 1) := dk_126 (dk_at dksJ10_getChar_1 17 rfl rfl)
theorem dJ10_getChar_42 : decode cJ10_getChar 42 = .ok (.getstatic 59, 3) := dk_178 0 59 (dk_at dksJ10_getChar_1 18 rfl rfl)
theorem dJ10_getChar_45 : decode cJ10_getChar 45 = .ok (.ishl, 1) := dk_120 (dk_at dksJ10_getChar_1 21 rfl rfl)
theorem dJ10_getChar_46 : decode cJ10_getChar 46 = .ok (.aload_n 0, 1) := dk_42 (dk_at dksJ10_getChar_1 22 rfl rfl)
theorem dJ10_getChar_47 : decode cJ10_getChar 47 = .ok (.iload_n 1, 1) := dk_27 (dk_at dksJ10_getChar_1 23 rfl rfl)
theorem dJ10_getChar_48 : decode cJ10_getChar 48 = .ok (.baload, 1) := dk_51 (dk_at dksJ10_getChar_2 0 rfl rfl)
theorem dJ10_getChar_49 : decode cJ10_getChar 49 = .ok (.sipush 255, 3) := dk_17 0 255 (dk_at dksJ10_getChar_2 1 rfl rfl)
theorem dJ10_getChar_52 : decode cJ10_getChar 52 = .ok (.iand, 1) := dk_126 (dk_at dksJ10_getChar_2 4 rfl rfl)
theorem dJ10_getChar_53 : decode cJ10_getChar 53 = .ok (.getstatic 63, 3) := dk_178 0 63 (dk_at dksJ10_getChar_2 5 rfl rfl)
theorem dJ10_getChar_56 : decode cJ10_getChar 56 = .ok (.ishl, 1) := dk_120 (dk_at dksJ10_getChar_2 8 rfl rfl)
theorem dJ10_getChar_57 : decode cJ10_getChar 57 = .ok (.ior, 1) := dk_128 (dk_at dksJ10_getChar_2 9 rfl rfl)
theorem dJ10_getChar_58 : decode cJ10_getChar 58 = .ok (.i2c, 1) := dk_146 (dk_at dksJ10_getChar_2 10 rfl rfl)
theorem dJ10_getChar_59 : decode cJ10_getChar 59 = .ok (.ireturn, 1) := dk_172 (dk_at dksJ10_getChar_2 11 rfl rfl)
abbrev cJ10_indexOfSupplementary : ByteArray := prog_44_method_49_code
def yJ10_indexOfSupplementary : MethodName := ⟨RJ10, "indexOfSupplementary", "([BIII)I"⟩
def dkwJ10_indexOfSupplementary_3 : List UInt8 := [167, 255, 218, 2, 172]
abbrev dktJ10_indexOfSupplementary_3 : List UInt8 := dkwJ10_indexOfSupplementary_3 ++ []
def dkwJ10_indexOfSupplementary_2 : List UInt8 := [160, 0, 19, 42, 21, 6, 4, 96, 184, 0, 71, 21, 5, 160, 0, 6, 21, 6, 172, 132, 6, 1]
abbrev dktJ10_indexOfSupplementary_2 : List UInt8 := dkwJ10_indexOfSupplementary_2 ++ dktJ10_indexOfSupplementary_3
def dkwJ10_indexOfSupplementary_1 : List UInt8 := [184, 0, 96, 28, 54, 6, 21, 6, 29, 4, 100, 162, 0, 36, 42, 21, 6, 184, 0, 71, 21, 4]
abbrev dktJ10_indexOfSupplementary_1 : List UInt8 := dkwJ10_indexOfSupplementary_1 ++ dktJ10_indexOfSupplementary_2
def dkwJ10_indexOfSupplementary_0 : List UInt8 := [27, 184, 0, 164, 153, 0, 65, 27, 184, 0, 157, 54, 4, 27, 184, 0, 161, 54, 5, 28, 29, 42]
abbrev dktJ10_indexOfSupplementary_0 : List UInt8 := dkwJ10_indexOfSupplementary_0 ++ dktJ10_indexOfSupplementary_1
theorem dksJ10_indexOfSupplementary_0 : cJ10_indexOfSupplementary.data.toList.drop 0 = dktJ10_indexOfSupplementary_0 := by decide +kernel
theorem dksJ10_indexOfSupplementary_1 : cJ10_indexOfSupplementary.data.toList.drop 22 = dktJ10_indexOfSupplementary_1 := dk_seg dksJ10_indexOfSupplementary_0 22 rfl rfl
theorem dksJ10_indexOfSupplementary_2 : cJ10_indexOfSupplementary.data.toList.drop 44 = dktJ10_indexOfSupplementary_2 := dk_seg dksJ10_indexOfSupplementary_1 22 rfl rfl
theorem dksJ10_indexOfSupplementary_3 : cJ10_indexOfSupplementary.data.toList.drop 66 = dktJ10_indexOfSupplementary_3 := dk_seg dksJ10_indexOfSupplementary_2 22 rfl rfl
theorem dJ10_indexOfSupplementary_0 : decode cJ10_indexOfSupplementary 0 = .ok (.iload_n 1, 1) := dk_27 (dk_at dksJ10_indexOfSupplementary_0 0 rfl rfl)
theorem dJ10_indexOfSupplementary_1 : decode cJ10_indexOfSupplementary 1 = .ok (.invokestatic 164, 3) := dk_184 0 164 (dk_at dksJ10_indexOfSupplementary_0 1 rfl rfl)
theorem dJ10_indexOfSupplementary_4 : decode cJ10_indexOfSupplementary 4 = .ok (.ifCond .eq 65, 3) := dk_153 0 65 (dk_at dksJ10_indexOfSupplementary_0 4 rfl rfl)
theorem dJ10_indexOfSupplementary_7 : decode cJ10_indexOfSupplementary 7 = .ok (.iload_n 1, 1) := dk_27 (dk_at dksJ10_indexOfSupplementary_0 7 rfl rfl)
theorem dJ10_indexOfSupplementary_8 : decode cJ10_indexOfSupplementary 8 = .ok (.invokestatic 157, 3) := dk_184 0 157 (dk_at dksJ10_indexOfSupplementary_0 8 rfl rfl)
theorem dJ10_indexOfSupplementary_11 : decode cJ10_indexOfSupplementary 11 = .ok (.istore 4, 2) := dk_54 4 (dk_at dksJ10_indexOfSupplementary_0 11 rfl rfl)
theorem dJ10_indexOfSupplementary_13 : decode cJ10_indexOfSupplementary 13 = .ok (.iload_n 1, 1) := dk_27 (dk_at dksJ10_indexOfSupplementary_0 13 rfl rfl)
theorem dJ10_indexOfSupplementary_14 : decode cJ10_indexOfSupplementary 14 = .ok (.invokestatic 161, 3) := dk_184 0 161 (dk_at dksJ10_indexOfSupplementary_0 14 rfl rfl)
theorem dJ10_indexOfSupplementary_17 : decode cJ10_indexOfSupplementary 17 = .ok (.istore 5, 2) := dk_54 5 (dk_at dksJ10_indexOfSupplementary_0 17 rfl rfl)
theorem dJ10_indexOfSupplementary_19 : decode cJ10_indexOfSupplementary 19 = .ok (.iload_n 2, 1) := dk_28 (dk_at dksJ10_indexOfSupplementary_0 19 rfl rfl)
theorem dJ10_indexOfSupplementary_20 : decode cJ10_indexOfSupplementary 20 = .ok (.iload_n 3, 1) := dk_29 (dk_at dksJ10_indexOfSupplementary_0 20 rfl rfl)
theorem dJ10_indexOfSupplementary_21 : decode cJ10_indexOfSupplementary 21 = .ok (.aload_n 0, 1) := dk_42 (dk_at dksJ10_indexOfSupplementary_0 21 rfl rfl)
theorem dJ10_indexOfSupplementary_22 : decode cJ10_indexOfSupplementary 22 = .ok (.invokestatic 96, 3) := dk_184 0 96 (dk_at dksJ10_indexOfSupplementary_1 0 rfl rfl)
theorem dJ10_indexOfSupplementary_25 : decode cJ10_indexOfSupplementary 25 = .ok (.iload_n 2, 1) := dk_28 (dk_at dksJ10_indexOfSupplementary_1 3 rfl rfl)
theorem dJ10_indexOfSupplementary_26 : decode cJ10_indexOfSupplementary 26 = .ok (.istore 6, 2) := dk_54 6 (dk_at dksJ10_indexOfSupplementary_1 4 rfl rfl)
theorem dJ10_indexOfSupplementary_28 : decode cJ10_indexOfSupplementary 28 = .ok (.iload 6, 2) := dk_21 6 (dk_at dksJ10_indexOfSupplementary_1 6 rfl rfl)
theorem dJ10_indexOfSupplementary_30 : decode cJ10_indexOfSupplementary 30 = .ok (.iload_n 3, 1) := dk_29 (dk_at dksJ10_indexOfSupplementary_1 8 rfl rfl)
theorem dJ10_indexOfSupplementary_31 : decode cJ10_indexOfSupplementary 31 = .ok (.iconst 1, 1) := dk_4 (dk_at dksJ10_indexOfSupplementary_1 9 rfl rfl)
theorem dJ10_indexOfSupplementary_32 : decode cJ10_indexOfSupplementary 32 = .ok (.isub, 1) := dk_100 (dk_at dksJ10_indexOfSupplementary_1 10 rfl rfl)
theorem dJ10_indexOfSupplementary_33 : decode cJ10_indexOfSupplementary 33 = .ok (.if_icmp .ge 36, 3) := dk_162 0 36 (dk_at dksJ10_indexOfSupplementary_1 11 rfl rfl)
theorem dJ10_indexOfSupplementary_36 : decode cJ10_indexOfSupplementary 36 = .ok (.aload_n 0, 1) := dk_42 (dk_at dksJ10_indexOfSupplementary_1 14 rfl rfl)
theorem dJ10_indexOfSupplementary_37 : decode cJ10_indexOfSupplementary 37 = .ok (.iload 6, 2) := dk_21 6 (dk_at dksJ10_indexOfSupplementary_1 15 rfl rfl)
theorem dJ10_indexOfSupplementary_39 : decode cJ10_indexOfSupplementary 39 = .ok (.invokestatic 71, 3) := dk_184 0 71 (dk_at dksJ10_indexOfSupplementary_1 17 rfl rfl)
theorem dJ10_indexOfSupplementary_42 : decode cJ10_indexOfSupplementary 42 = .ok (.iload 4, 2) := dk_21 4 (dk_at dksJ10_indexOfSupplementary_1 20 rfl rfl)
theorem dJ10_indexOfSupplementary_44 : decode cJ10_indexOfSupplementary 44 = .ok (.if_icmp .ne 19, 3) := dk_160 0 19 (dk_at dksJ10_indexOfSupplementary_2 0 rfl rfl)
theorem dJ10_indexOfSupplementary_47 : decode cJ10_indexOfSupplementary 47 = .ok (.aload_n 0, 1) := dk_42 (dk_at dksJ10_indexOfSupplementary_2 3 rfl rfl)
theorem dJ10_indexOfSupplementary_48 : decode cJ10_indexOfSupplementary 48 = .ok (.iload 6, 2) := dk_21 6 (dk_at dksJ10_indexOfSupplementary_2 4 rfl rfl)
theorem dJ10_indexOfSupplementary_50 : decode cJ10_indexOfSupplementary 50 = .ok (.iconst 1, 1) := dk_4 (dk_at dksJ10_indexOfSupplementary_2 6 rfl rfl)
theorem dJ10_indexOfSupplementary_51 : decode cJ10_indexOfSupplementary 51 = .ok (.iadd, 1) := dk_96 (dk_at dksJ10_indexOfSupplementary_2 7 rfl rfl)
theorem dJ10_indexOfSupplementary_52 : decode cJ10_indexOfSupplementary 52 = .ok (.invokestatic 71, 3) := dk_184 0 71 (dk_at dksJ10_indexOfSupplementary_2 8 rfl rfl)
theorem dJ10_indexOfSupplementary_55 : decode cJ10_indexOfSupplementary 55 = .ok (.iload 5, 2) := dk_21 5 (dk_at dksJ10_indexOfSupplementary_2 11 rfl rfl)
theorem dJ10_indexOfSupplementary_57 : decode cJ10_indexOfSupplementary 57 = .ok (.if_icmp .ne 6, 3) := dk_160 0 6 (dk_at dksJ10_indexOfSupplementary_2 13 rfl rfl)
theorem dJ10_indexOfSupplementary_60 : decode cJ10_indexOfSupplementary 60 = .ok (.iload 6, 2) := dk_21 6 (dk_at dksJ10_indexOfSupplementary_2 16 rfl rfl)
theorem dJ10_indexOfSupplementary_62 : decode cJ10_indexOfSupplementary 62 = .ok (.ireturn, 1) := dk_172 (dk_at dksJ10_indexOfSupplementary_2 18 rfl rfl)
theorem dJ10_indexOfSupplementary_63 : decode cJ10_indexOfSupplementary 63 = .ok (.iinc 6 1, 3) := dk_132 6 1 (dk_at dksJ10_indexOfSupplementary_2 19 rfl rfl)
theorem dJ10_indexOfSupplementary_66 : decode cJ10_indexOfSupplementary 66 = .ok (.goto (-38), 3) := dk_167 255 218 (dk_at dksJ10_indexOfSupplementary_3 0 rfl rfl)
theorem dJ10_indexOfSupplementary_69 : decode cJ10_indexOfSupplementary 69 = .ok (.iconst (-1), 1) := dk_2 (dk_at dksJ10_indexOfSupplementary_3 3 rfl rfl)
theorem dJ10_indexOfSupplementary_70 : decode cJ10_indexOfSupplementary 70 = .ok (.ireturn, 1) := dk_172 (dk_at dksJ10_indexOfSupplementary_3 4 rfl rfl)
theorem q130 : (Jvm.Cond.initialized "java/lang/StringUTF16") ∈ lw_all := lw_g (lw_at lw_m1 18 rfl) rfl
theorem q704 : (Jvm.Cond.static ({ cls := "java/lang/StringUTF16", name := "indexOf", desc := "([BIII)I" } : Jvm.MethodName)) ∈ lw_all := lw_g (lw_at lw_m3 112 rfl) rfl
theorem q705 : (Jvm.Cond.code ({ cls := "java/lang/StringUTF16", name := "indexOf", desc := "([BIII)I" } : Jvm.MethodName) prog_44_method_40_code (4 : Nat) (Option.some Jvm.ClassFile.FieldType.int)) ∈ lw_all := lw_g (lw_at lw_m3 113 rfl) rfl
theorem q706 : (Jvm.Cond.methodLink "java/lang/StringUTF16" (224 : Nat) ({ cls := "java/lang/Math", name := "max", desc := "(II)I" } : Jvm.MethodName)) ∈ lw_all := lw_g (lw_at lw_m3 114 rfl) rfl
theorem q707 : (Jvm.Cond.methodLink "java/lang/StringUTF16" (183 : Nat) ({ cls := "java/lang/Math", name := "min", desc := "(II)I" } : Jvm.MethodName)) ∈ lw_all := lw_g (lw_at lw_m3 115 rfl) rfl
theorem q708 : (Jvm.Cond.constant "java/lang/StringUTF16" (227 : Nat) (65536 : Int32)) ∈ lw_all := lw_g (lw_at lw_m3 116 rfl) rfl
theorem q709 : (Jvm.Cond.methodLink "java/lang/StringUTF16" (228 : Nat) ({ cls := "java/lang/StringUTF16", name := "indexOfChar", desc := "([BIII)I" } : Jvm.MethodName)) ∈ lw_all := lw_g (lw_at lw_m3 117 rfl) rfl
theorem q710 : (Jvm.Cond.static ({ cls := "java/lang/StringUTF16", name := "indexOfChar", desc := "([BIII)I" } : Jvm.MethodName)) ∈ lw_all := lw_g (lw_at lw_m3 118 rfl) rfl
theorem q711 : (Jvm.Cond.code ({ cls := "java/lang/StringUTF16", name := "indexOfChar", desc := "([BIII)I" } : Jvm.MethodName) prog_44_method_47_code (4 : Nat) (Option.some Jvm.ClassFile.FieldType.int)) ∈ lw_all := lw_g (lw_at lw_m3 119 rfl) rfl
theorem q712 : (Jvm.Cond.methodLink "java/lang/StringUTF16" (96 : Nat) ({ cls := "java/lang/StringUTF16", name := "checkBoundsBeginEnd", desc := "(II[B)V" } : Jvm.MethodName)) ∈ lw_all := lw_g (lw_at lw_m3 120 rfl) rfl
theorem q713 : (Jvm.Cond.static ({ cls := "java/lang/StringUTF16", name := "checkBoundsBeginEnd", desc := "(II[B)V" } : Jvm.MethodName)) ∈ lw_all := lw_g (lw_at lw_m3 121 rfl) rfl
theorem q714 : (Jvm.Cond.code ({ cls := "java/lang/StringUTF16", name := "checkBoundsBeginEnd", desc := "(II[B)V" } : Jvm.MethodName) prog_44_method_93_code (3 : Nat) (Option.none : Option Jvm.ClassFile.FieldType)) ∈ lw_all := lw_g (lw_at lw_m3 122 rfl) rfl
theorem q715 : (Jvm.Cond.methodLink "java/lang/StringUTF16" (48 : Nat) ({ cls := "java/lang/StringUTF16", name := "length", desc := "([B)I" } : Jvm.MethodName)) ∈ lw_all := lw_g (lw_at lw_m3 123 rfl) rfl
theorem q716 : (Jvm.Cond.static ({ cls := "java/lang/StringUTF16", name := "length", desc := "([B)I" } : Jvm.MethodName)) ∈ lw_all := lw_g (lw_at lw_m3 124 rfl) rfl
theorem q717 : (Jvm.Cond.code ({ cls := "java/lang/StringUTF16", name := "length", desc := "([B)I" } : Jvm.MethodName) prog_44_method_6_code (1 : Nat) (Option.some Jvm.ClassFile.FieldType.int)) ∈ lw_all := lw_g (lw_at lw_m3 125 rfl) rfl
theorem q718 : (Jvm.Cond.methodLink "java/lang/StringUTF16" (241 : Nat) ({ cls := "java/lang/String", name := "checkBoundsBeginEnd", desc := "(III)V" } : Jvm.MethodName)) ∈ lw_all := lw_g (lw_at lw_m3 126 rfl) rfl
theorem q726 : (Jvm.Cond.methodLink "java/lang/StringUTF16" (244 : Nat) ({ cls := "java/lang/StringUTF16", name := "indexOfCharUnsafe", desc := "([BIII)I" } : Jvm.MethodName)) ∈ lw_all := lw_g (lw_at lw_m3 134 rfl) rfl
theorem q727 : (Jvm.Cond.static ({ cls := "java/lang/StringUTF16", name := "indexOfCharUnsafe", desc := "([BIII)I" } : Jvm.MethodName)) ∈ lw_all := lw_g (lw_at lw_m3 135 rfl) rfl
theorem q728 : (Jvm.Cond.code ({ cls := "java/lang/StringUTF16", name := "indexOfCharUnsafe", desc := "([BIII)I" } : Jvm.MethodName) prog_44_method_48_code (5 : Nat) (Option.some Jvm.ClassFile.FieldType.int)) ∈ lw_all := lw_g (lw_at lw_m3 136 rfl) rfl
theorem q729 : (Jvm.Cond.methodLink "java/lang/StringUTF16" (71 : Nat) ({ cls := "java/lang/StringUTF16", name := "getChar", desc := "([BI)C" } : Jvm.MethodName)) ∈ lw_all := lw_g (lw_at lw_m3 137 rfl) rfl
theorem q730 : (Jvm.Cond.static ({ cls := "java/lang/StringUTF16", name := "getChar", desc := "([BI)C" } : Jvm.MethodName)) ∈ lw_all := lw_g (lw_at lw_m3 138 rfl) rfl
theorem q731 : (Jvm.Cond.code ({ cls := "java/lang/StringUTF16", name := "getChar", desc := "([BI)C" } : Jvm.MethodName) prog_44_method_5_code (2 : Nat) (Option.some Jvm.ClassFile.FieldType.char)) ∈ lw_all := lw_g (lw_at lw_m3 139 rfl) rfl
theorem q732 : (Jvm.Cond.fieldLink "java/lang/StringUTF16" (44 : Nat) "java/lang/StringUTF16" "$assertionsDisabled" "Z") ∈ lw_all := lw_g (lw_at lw_m3 140 rfl) rfl
theorem q733 : (Jvm.Cond.laysStatic "java/lang/StringUTF16" "$assertionsDisabled" "Z") ∈ lw_tbl := lw_at lw_m3 141 rfl
theorem q734 : (Jvm.Cond.fieldLink "java/lang/StringUTF16" (59 : Nat) "java/lang/StringUTF16" "HI_BYTE_SHIFT" "I") ∈ lw_all := lw_g (lw_at lw_m3 142 rfl) rfl
theorem q735 : (Jvm.Cond.laysStatic "java/lang/StringUTF16" "HI_BYTE_SHIFT" "I") ∈ lw_tbl := lw_at lw_m3 143 rfl
theorem q736 : (Jvm.Cond.fieldLink "java/lang/StringUTF16" (63 : Nat) "java/lang/StringUTF16" "LO_BYTE_SHIFT" "I") ∈ lw_all := lw_g (lw_at lw_m3 144 rfl) rfl
theorem q737 : (Jvm.Cond.laysStatic "java/lang/StringUTF16" "LO_BYTE_SHIFT" "I") ∈ lw_tbl := lw_at lw_m3 145 rfl
theorem q738 : (Jvm.Cond.methodLink "java/lang/StringUTF16" (232 : Nat) ({ cls := "java/lang/StringUTF16", name := "indexOfSupplementary", desc := "([BIII)I" } : Jvm.MethodName)) ∈ lw_all := lw_g (lw_at lw_m3 146 rfl) rfl
theorem q739 : (Jvm.Cond.static ({ cls := "java/lang/StringUTF16", name := "indexOfSupplementary", desc := "([BIII)I" } : Jvm.MethodName)) ∈ lw_all := lw_g (lw_at lw_m3 147 rfl) rfl
theorem q740 : (Jvm.Cond.code ({ cls := "java/lang/StringUTF16", name := "indexOfSupplementary", desc := "([BIII)I" } : Jvm.MethodName) prog_44_method_49_code (7 : Nat) (Option.some Jvm.ClassFile.FieldType.int)) ∈ lw_all := lw_g (lw_at lw_m3 148 rfl) rfl
theorem q741 : (Jvm.Cond.methodLink "java/lang/StringUTF16" (164 : Nat) ({ cls := "java/lang/Character", name := "isValidCodePoint", desc := "(I)Z" } : Jvm.MethodName)) ∈ lw_all := lw_g (lw_at lw_m3 149 rfl) rfl
theorem q744 : (Jvm.Cond.methodLink "java/lang/StringUTF16" (157 : Nat) ({ cls := "java/lang/Character", name := "highSurrogate", desc := "(I)C" } : Jvm.MethodName)) ∈ lw_all := lw_g (lw_at lw_m3 152 rfl) rfl
theorem q748 : (Jvm.Cond.methodLink "java/lang/StringUTF16" (161 : Nat) ({ cls := "java/lang/Character", name := "lowSurrogate", desc := "(I)C" } : Jvm.MethodName)) ∈ lw_all := lw_g (lw_at lw_m3 156 rfl) rfl
/-! jdk/internal/util/Preconditions -/
set_option maxRecDepth 100000
def RJ11 : String := "jdk/internal/util/Preconditions"
abbrev cJ11_checkFromToIndex : ByteArray := prog_47_method_12_code
def yJ11_checkFromToIndex : MethodName := ⟨RJ11, "checkFromToIndex", "(IIILjava/util/function/BiFunction;)I"⟩
def dkwJ11_checkFromToIndex_0 : List UInt8 := [26, 155, 0, 13, 26, 27, 163, 0, 8, 27, 28, 164, 0, 11, 45, 26, 27, 28, 184, 0, 99, 191, 26, 172]
abbrev dktJ11_checkFromToIndex_0 : List UInt8 := dkwJ11_checkFromToIndex_0 ++ []
theorem dksJ11_checkFromToIndex_0 : cJ11_checkFromToIndex.data.toList.drop 0 = dktJ11_checkFromToIndex_0 := by decide +kernel
theorem dJ11_checkFromToIndex_0 : decode cJ11_checkFromToIndex 0 = .ok (.iload_n 0, 1) := dk_26 (dk_at dksJ11_checkFromToIndex_0 0 rfl rfl)
theorem dJ11_checkFromToIndex_1 : decode cJ11_checkFromToIndex 1 = .ok (.ifCond .lt 13, 3) := dk_155 0 13 (dk_at dksJ11_checkFromToIndex_0 1 rfl rfl)
theorem dJ11_checkFromToIndex_4 : decode cJ11_checkFromToIndex 4 = .ok (.iload_n 0, 1) := dk_26 (dk_at dksJ11_checkFromToIndex_0 4 rfl rfl)
theorem dJ11_checkFromToIndex_5 : decode cJ11_checkFromToIndex 5 = .ok (.iload_n 1, 1) := dk_27 (dk_at dksJ11_checkFromToIndex_0 5 rfl rfl)
theorem dJ11_checkFromToIndex_6 : decode cJ11_checkFromToIndex 6 = .ok (.if_icmp .gt 8, 3) := dk_163 0 8 (dk_at dksJ11_checkFromToIndex_0 6 rfl rfl)
theorem dJ11_checkFromToIndex_9 : decode cJ11_checkFromToIndex 9 = .ok (.iload_n 1, 1) := dk_27 (dk_at dksJ11_checkFromToIndex_0 9 rfl rfl)
theorem dJ11_checkFromToIndex_10 : decode cJ11_checkFromToIndex 10 = .ok (.iload_n 2, 1) := dk_28 (dk_at dksJ11_checkFromToIndex_0 10 rfl rfl)
theorem dJ11_checkFromToIndex_11 : decode cJ11_checkFromToIndex 11 = .ok (.if_icmp .le 11, 3) := dk_164 0 11 (dk_at dksJ11_checkFromToIndex_0 11 rfl rfl)
theorem dJ11_checkFromToIndex_14 : decode cJ11_checkFromToIndex 14 = .ok (.aload_n 3, 1) := dk_45 (dk_at dksJ11_checkFromToIndex_0 14 rfl rfl)
theorem dJ11_checkFromToIndex_15 : decode cJ11_checkFromToIndex 15 = .ok (.iload_n 0, 1) := dk_26 (dk_at dksJ11_checkFromToIndex_0 15 rfl rfl)
theorem dJ11_checkFromToIndex_16 : decode cJ11_checkFromToIndex 16 = .ok (.iload_n 1, 1) := dk_27 (dk_at dksJ11_checkFromToIndex_0 16 rfl rfl)
theorem dJ11_checkFromToIndex_17 : decode cJ11_checkFromToIndex 17 = .ok (.iload_n 2, 1) := dk_28 (dk_at dksJ11_checkFromToIndex_0 17 rfl rfl)
theorem dJ11_checkFromToIndex_18 : decode cJ11_checkFromToIndex 18 = .ok (.invokestatic 99, 3) := dk_184 0 99 (dk_at dksJ11_checkFromToIndex_0 18 rfl rfl)
theorem dJ11_checkFromToIndex_21 : decode cJ11_checkFromToIndex 21 = .ok (.athrow, 1) := dk_191 (dk_at dksJ11_checkFromToIndex_0 21 rfl rfl)
theorem dJ11_checkFromToIndex_22 : decode cJ11_checkFromToIndex 22 = .ok (.iload_n 0, 1) := dk_26 (dk_at dksJ11_checkFromToIndex_0 22 rfl rfl)
theorem dJ11_checkFromToIndex_23 : decode cJ11_checkFromToIndex 23 = .ok (.ireturn, 1) := dk_172 (dk_at dksJ11_checkFromToIndex_0 23 rfl rfl)
theorem q131 : (Jvm.Cond.initialized "jdk/internal/util/Preconditions") ∈ lw_all := lw_g (lw_at lw_m1 19 rfl) rfl
theorem q722 : (Jvm.Cond.laysStatic "jdk/internal/util/Preconditions" "SIOOBE_FORMATTER" "Ljava/util/function/BiFunction;") ∈ lw_tbl := lw_at lw_m3 130 rfl
theorem q724 : (Jvm.Cond.static ({ cls := "jdk/internal/util/Preconditions", name := "checkFromToIndex", desc := "(IIILjava/util/function/BiFunction;)I" } : Jvm.MethodName)) ∈ lw_all := lw_g (lw_at lw_m3 132 rfl) rfl
theorem q725 : (Jvm.Cond.code ({ cls := "jdk/internal/util/Preconditions", name := "checkFromToIndex", desc := "(IIILjava/util/function/BiFunction;)I" } : Jvm.MethodName) prog_47_method_12_code (4 : Nat) (Option.some Jvm.ClassFile.FieldType.int)) ∈ lw_all := lw_g (lw_at lw_m3 133 rfl) rfl
/-! java/lang/Character -/
set_option maxRecDepth 100000
def RJ12 : String := "java/lang/Character"
abbrev cJ12_isValidCodePoint : ByteArray := prog_33_method_11_code
def yJ12_isValidCodePoint : MethodName := ⟨RJ12, "isValidCodePoint", "(I)Z"⟩
def dkwJ12_isValidCodePoint_0 : List UInt8 := [26, 16, 16, 124, 60, 27, 16, 17, 162, 0, 7, 4, 167, 0, 4, 3, 172]
abbrev dktJ12_isValidCodePoint_0 : List UInt8 := dkwJ12_isValidCodePoint_0 ++ []
theorem dksJ12_isValidCodePoint_0 : cJ12_isValidCodePoint.data.toList.drop 0 = dktJ12_isValidCodePoint_0 := by decide +kernel
theorem dJ12_isValidCodePoint_0 : decode cJ12_isValidCodePoint 0 = .ok (.iload_n 0, 1) := dk_26 (dk_at dksJ12_isValidCodePoint_0 0 rfl rfl)
theorem dJ12_isValidCodePoint_1 : decode cJ12_isValidCodePoint 1 = .ok (.bipush 16, 2) := dk_16 16 (dk_at dksJ12_isValidCodePoint_0 1 rfl rfl)
theorem dJ12_isValidCodePoint_3 : decode cJ12_isValidCodePoint 3 = .ok (.iushr, 1) := dk_124 (dk_at dksJ12_isValidCodePoint_0 3 rfl rfl)
theorem dJ12_isValidCodePoint_4 : decode cJ12_isValidCodePoint 4 = .ok (.istore_n 1, 1) := dk_60 (dk_at dksJ12_isValidCodePoint_0 4 rfl rfl)
theorem dJ12_isValidCodePoint_5 : decode cJ12_isValidCodePoint 5 = .ok (.iload_n 1, 1) := dk_27 (dk_at dksJ12_isValidCodePoint_0 5 rfl rfl)
theorem dJ12_isValidCodePoint_6 : decode cJ12_isValidCodePoint 6 = .ok (.bipush 17, 2) := dk_16 17 (dk_at dksJ12_isValidCodePoint_0 6 rfl rfl)
theorem dJ12_isValidCodePoint_8 : decode cJ12_isValidCodePoint 8 = .ok (.if_icmp .ge 7, 3) := dk_162 0 7 (dk_at dksJ12_isValidCodePoint_0 8 rfl rfl)
theorem dJ12_isValidCodePoint_11 : decode cJ12_isValidCodePoint 11 = .ok (.iconst 1, 1) := dk_4 (dk_at dksJ12_isValidCodePoint_0 11 rfl rfl)
theorem dJ12_isValidCodePoint_12 : decode cJ12_isValidCodePoint 12 = .ok (.goto 4, 3) := dk_167 0 4 (dk_at dksJ12_isValidCodePoint_0 12 rfl rfl)
theorem dJ12_isValidCodePoint_15 : decode cJ12_isValidCodePoint 15 = .ok (.iconst 0, 1) := dk_3 (dk_at dksJ12_isValidCodePoint_0 15 rfl rfl)
theorem dJ12_isValidCodePoint_16 : decode cJ12_isValidCodePoint 16 = .ok (.ireturn, 1) := dk_172 (dk_at dksJ12_isValidCodePoint_0 16 rfl rfl)
abbrev cJ12_highSurrogate : ByteArray := prog_33_method_28_code
def yJ12_highSurrogate : MethodName := ⟨RJ12, "highSurrogate", "(I)C"⟩
def dkwJ12_highSurrogate_0 : List UInt8 := [26, 16, 10, 124, 18, 110, 96, 146, 172]
abbrev dktJ12_highSurrogate_0 : List UInt8 := dkwJ12_highSurrogate_0 ++ []
theorem dksJ12_highSurrogate_0 : cJ12_highSurrogate.data.toList.drop 0 = dktJ12_highSurrogate_0 := by decide +kernel
theorem dJ12_highSurrogate_0 : decode cJ12_highSurrogate 0 = .ok (.iload_n 0, 1) := dk_26 (dk_at dksJ12_highSurrogate_0 0 rfl rfl)
theorem dJ12_highSurrogate_1 : decode cJ12_highSurrogate 1 = .ok (.bipush 10, 2) := dk_16 10 (dk_at dksJ12_highSurrogate_0 1 rfl rfl)
theorem dJ12_highSurrogate_3 : decode cJ12_highSurrogate 3 = .ok (.iushr, 1) := dk_124 (dk_at dksJ12_highSurrogate_0 3 rfl rfl)
theorem dJ12_highSurrogate_4 : decode cJ12_highSurrogate 4 = .ok (.ldc 110, 2) := dk_18 110 (dk_at dksJ12_highSurrogate_0 4 rfl rfl)
theorem dJ12_highSurrogate_6 : decode cJ12_highSurrogate 6 = .ok (.iadd, 1) := dk_96 (dk_at dksJ12_highSurrogate_0 6 rfl rfl)
theorem dJ12_highSurrogate_7 : decode cJ12_highSurrogate 7 = .ok (.i2c, 1) := dk_146 (dk_at dksJ12_highSurrogate_0 7 rfl rfl)
theorem dJ12_highSurrogate_8 : decode cJ12_highSurrogate 8 = .ok (.ireturn, 1) := dk_172 (dk_at dksJ12_highSurrogate_0 8 rfl rfl)
abbrev cJ12_lowSurrogate : ByteArray := prog_33_method_29_code
def yJ12_lowSurrogate : MethodName := ⟨RJ12, "lowSurrogate", "(I)C"⟩
def dkwJ12_lowSurrogate_0 : List UInt8 := [26, 17, 3, 255, 126, 18, 76, 96, 146, 172]
abbrev dktJ12_lowSurrogate_0 : List UInt8 := dkwJ12_lowSurrogate_0 ++ []
theorem dksJ12_lowSurrogate_0 : cJ12_lowSurrogate.data.toList.drop 0 = dktJ12_lowSurrogate_0 := by decide +kernel
theorem dJ12_lowSurrogate_0 : decode cJ12_lowSurrogate 0 = .ok (.iload_n 0, 1) := dk_26 (dk_at dksJ12_lowSurrogate_0 0 rfl rfl)
theorem dJ12_lowSurrogate_1 : decode cJ12_lowSurrogate 1 = .ok (.sipush 1023, 3) := dk_17 3 255 (dk_at dksJ12_lowSurrogate_0 1 rfl rfl)
theorem dJ12_lowSurrogate_4 : decode cJ12_lowSurrogate 4 = .ok (.iand, 1) := dk_126 (dk_at dksJ12_lowSurrogate_0 4 rfl rfl)
theorem dJ12_lowSurrogate_5 : decode cJ12_lowSurrogate 5 = .ok (.ldc 76, 2) := dk_18 76 (dk_at dksJ12_lowSurrogate_0 5 rfl rfl)
theorem dJ12_lowSurrogate_7 : decode cJ12_lowSurrogate 7 = .ok (.iadd, 1) := dk_96 (dk_at dksJ12_lowSurrogate_0 7 rfl rfl)
theorem dJ12_lowSurrogate_8 : decode cJ12_lowSurrogate 8 = .ok (.i2c, 1) := dk_146 (dk_at dksJ12_lowSurrogate_0 8 rfl rfl)
theorem dJ12_lowSurrogate_9 : decode cJ12_lowSurrogate 9 = .ok (.ireturn, 1) := dk_172 (dk_at dksJ12_lowSurrogate_0 9 rfl rfl)
theorem q132 : (Jvm.Cond.initialized "java/lang/Character") ∈ lw_all := lw_g (lw_at lw_m1 20 rfl) rfl
theorem q742 : (Jvm.Cond.static ({ cls := "java/lang/Character", name := "isValidCodePoint", desc := "(I)Z" } : Jvm.MethodName)) ∈ lw_all := lw_g (lw_at lw_m3 150 rfl) rfl
theorem q743 : (Jvm.Cond.code ({ cls := "java/lang/Character", name := "isValidCodePoint", desc := "(I)Z" } : Jvm.MethodName) prog_33_method_11_code (2 : Nat) (Option.some Jvm.ClassFile.FieldType.boolean)) ∈ lw_all := lw_g (lw_at lw_m3 151 rfl) rfl
theorem q745 : (Jvm.Cond.static ({ cls := "java/lang/Character", name := "highSurrogate", desc := "(I)C" } : Jvm.MethodName)) ∈ lw_all := lw_g (lw_at lw_m3 153 rfl) rfl
theorem q746 : (Jvm.Cond.code ({ cls := "java/lang/Character", name := "highSurrogate", desc := "(I)C" } : Jvm.MethodName) prog_33_method_28_code (1 : Nat) (Option.some Jvm.ClassFile.FieldType.char)) ∈ lw_all := lw_g (lw_at lw_m3 154 rfl) rfl
theorem q747 : (Jvm.Cond.constant "java/lang/Character" (110 : Nat) (55232 : Int32)) ∈ lw_all := lw_g (lw_at lw_m3 155 rfl) rfl
theorem q749 : (Jvm.Cond.static ({ cls := "java/lang/Character", name := "lowSurrogate", desc := "(I)C" } : Jvm.MethodName)) ∈ lw_all := lw_g (lw_at lw_m3 157 rfl) rfl
theorem q750 : (Jvm.Cond.code ({ cls := "java/lang/Character", name := "lowSurrogate", desc := "(I)C" } : Jvm.MethodName) prog_33_method_29_code (1 : Nat) (Option.some Jvm.ClassFile.FieldType.char)) ∈ lw_all := lw_g (lw_at lw_m3 158 rfl) rfl
theorem q751 : (Jvm.Cond.constant "java/lang/Character" (76 : Nat) (56320 : Int32)) ∈ lw_all := lw_g (lw_at lw_m3 159 rfl) rfl
/-! NineKeysRound$Node -/
set_option maxRecDepth 100000
def RX7 : String := "NineKeysRound$Node"
abbrev cX7_init : ByteArray := prog_18_method_1_code
def yX7_init : MethodName := ⟨RX7, "<init>", "()V"⟩
theorem dX7_init_0 : decode cX7_init 0 = .ok (.aload_n 0, 1) := by decide +kernel
theorem dX7_init_1 : decode cX7_init 1 = .ok (.invokespecial 1, 3) := by decide +kernel
theorem dX7_init_4 : decode cX7_init 4 = .ok (.return_, 1) := by decide +kernel
theorem q133 : (Jvm.Cond.initialized "NineKeysRound$Node") ∈ lw_all := lw_g (lw_at lw_m1 21 rfl) rfl
theorem q758 : (Jvm.Cond.instanceMethod ({ cls := "NineKeysRound$Node", name := "<init>", desc := "()V" } : Jvm.MethodName)) ∈ lw_all := lw_g (lw_at lw_m3 166 rfl) rfl
theorem q759 : (Jvm.Cond.code ({ cls := "NineKeysRound$Node", name := "<init>", desc := "()V" } : Jvm.MethodName) prog_18_method_1_code (1 : Nat) (Option.none : Option Jvm.ClassFile.FieldType)) ∈ lw_all := lw_g (lw_at lw_m3 167 rfl) rfl
theorem q760 : (Jvm.Cond.methodLink "NineKeysRound$Node" (1 : Nat) ({ cls := "java/lang/Object", name := "<init>", desc := "()V" } : Jvm.MethodName)) ∈ lw_all := lw_g (lw_at lw_m3 168 rfl) rfl
theorem q924 : (Jvm.Cond.declares ({ cls := "NineKeysRound$Node", name := "value", desc := "(LNineKeysRound$Facts;)I" } : Jvm.MethodName)) ∈ lw_tbl := lw_at lw_m4 92 rfl
theorem q925 : (Jvm.Cond.sameMethod "NineKeysRound$Node" "NineKeysRound$Node" "value" "(LNineKeysRound$Facts;)I") ∈ lw_all := lw_g (lw_at lw_m4 93 rfl) rfl
/-! NineKeysRound$Name -/
set_option maxRecDepth 100000
def RX8 : String := "NineKeysRound$Name"
def TX8 : u_T := fun k => match k with
  | _ => ("NineKeysRound$Name", "letter", "I", true)
def tyX8 : Nat → FieldType := fun k => match k with
  | _ => .int
abbrev wsX80 : List Cond := u_ws RX8 TX8 1
theorem nmX8 : ∀ a, a < 1 → ∀ b, b < 1 → a ≠ b → (TX8 a).2.1 ≠ (TX8 b).2.1 := by decide +kernel
theorem tyX8_ok : ∀ k, k < 1 → parseFieldDescriptor (TX8 k).2.2.1 = some (tyX8 k) := by decide +kernel
abbrev cX8_init : ByteArray := prog_17_method_1_code
def yX8_init : MethodName := ⟨RX8, "<init>", "(I)V"⟩
def dkwX8_init_0 : List UInt8 := [42, 183, 0, 1, 42, 27, 181, 0, 7, 177]
abbrev dktX8_init_0 : List UInt8 := dkwX8_init_0 ++ []
theorem dksX8_init_0 : cX8_init.data.toList.drop 0 = dktX8_init_0 := by decide +kernel
theorem dX8_init_0 : decode cX8_init 0 = .ok (.aload_n 0, 1) := dk_42 (dk_at dksX8_init_0 0 rfl rfl)
theorem dX8_init_1 : decode cX8_init 1 = .ok (.invokespecial 1, 3) := dk_183 0 1 (dk_at dksX8_init_0 1 rfl rfl)
theorem dX8_init_4 : decode cX8_init 4 = .ok (.aload_n 0, 1) := dk_42 (dk_at dksX8_init_0 4 rfl rfl)
theorem dX8_init_5 : decode cX8_init 5 = .ok (.iload_n 1, 1) := dk_27 (dk_at dksX8_init_0 5 rfl rfl)
theorem dX8_init_6 : decode cX8_init 6 = .ok (.putfield 7, 3) := dk_181 0 7 (dk_at dksX8_init_0 6 rfl rfl)
theorem dX8_init_9 : decode cX8_init 9 = .ok (.return_, 1) := dk_177 (dk_at dksX8_init_0 9 rfl rfl)
abbrev cX8_value : ByteArray := prog_17_method_2_code
def yX8_value : MethodName := ⟨RX8, "value", "(LNineKeysRound$Facts;)I"⟩
def dkwX8_value_0 : List UInt8 := [43, 180, 0, 13, 42, 180, 0, 7, 46, 172]
abbrev dktX8_value_0 : List UInt8 := dkwX8_value_0 ++ []
theorem dksX8_value_0 : cX8_value.data.toList.drop 0 = dktX8_value_0 := by decide +kernel
theorem dX8_value_0 : decode cX8_value 0 = .ok (.aload_n 1, 1) := dk_43 (dk_at dksX8_value_0 0 rfl rfl)
theorem dX8_value_1 : decode cX8_value 1 = .ok (.getfield 13, 3) := dk_180 0 13 (dk_at dksX8_value_0 1 rfl rfl)
theorem dX8_value_4 : decode cX8_value 4 = .ok (.aload_n 0, 1) := dk_42 (dk_at dksX8_value_0 4 rfl rfl)
theorem dX8_value_5 : decode cX8_value 5 = .ok (.getfield 7, 3) := dk_180 0 7 (dk_at dksX8_value_0 5 rfl rfl)
theorem dX8_value_8 : decode cX8_value 8 = .ok (.iaload, 1) := dk_46 (dk_at dksX8_value_0 8 rfl rfl)
theorem dX8_value_9 : decode cX8_value 9 = .ok (.ireturn, 1) := dk_172 (dk_at dksX8_value_0 9 rfl rfl)
theorem q134 : (Jvm.Cond.initialized "NineKeysRound$Name") ∈ lw_all := lw_g (lw_at lw_m1 22 rfl) rfl
theorem q176 : (Jvm.Cond.fieldLinkNest "NineKeysRound$Name" (13 : Nat) "NineKeysRound$Facts" "named" "[I" "NineKeysRound") ∈ lw_tbl := lw_at lw_m1 64 rfl
theorem q753 : (Jvm.Cond.instantiable "NineKeysRound$Name" (1 : Nat)) ∈ lw_all := lw_g (lw_at lw_m3 161 rfl) rfl
theorem q755 : (Jvm.Cond.instanceMethod ({ cls := "NineKeysRound$Name", name := "<init>", desc := "(I)V" } : Jvm.MethodName)) ∈ lw_all := lw_g (lw_at lw_m3 163 rfl) rfl
theorem q756 : (Jvm.Cond.code ({ cls := "NineKeysRound$Name", name := "<init>", desc := "(I)V" } : Jvm.MethodName) prog_17_method_1_code (2 : Nat) (Option.none : Option Jvm.ClassFile.FieldType)) ∈ lw_all := lw_g (lw_at lw_m3 164 rfl) rfl
theorem q757 : (Jvm.Cond.methodLinkNest "NineKeysRound$Name" (1 : Nat) ({ cls := "NineKeysRound$Node", name := "<init>", desc := "()V" } : Jvm.MethodName) "NineKeysRound") ∈ lw_tbl := lw_at lw_m3 165 rfl
theorem q761 : (Jvm.Cond.fieldLink "NineKeysRound$Name" (7 : Nat) "NineKeysRound$Name" "letter" "I") ∈ lw_all := lw_g (lw_at lw_m3 169 rfl) rfl
theorem q762 : (Jvm.Cond.laysFinal "NineKeysRound$Name" "NineKeysRound$Name" "letter" "I") ∈ lw_all := lw_g (lw_at lw_m3 170 rfl) rfl
theorem q763 : (Jvm.Cond.soleField "NineKeysRound$Name" "letter") ∈ lw_all := lw_g (lw_at lw_m3 171 rfl) rfl
theorem q764 : (Jvm.Cond.superclass "NineKeysRound$Name" "NineKeysRound$Node") ∈ lw_all := lw_g (lw_at lw_m3 172 rfl) rfl
theorem q932 : (Jvm.Cond.instanceMethod ({ cls := "NineKeysRound$Name", name := "value", desc := "(LNineKeysRound$Facts;)I" } : Jvm.MethodName)) ∈ lw_all := lw_g (lw_at lw_m4 100 rfl) rfl
theorem q933 : (Jvm.Cond.code ({ cls := "NineKeysRound$Name", name := "value", desc := "(LNineKeysRound$Facts;)I" } : Jvm.MethodName) prog_17_method_2_code (2 : Nat) (Option.some Jvm.ClassFile.FieldType.int)) ∈ lw_all := lw_g (lw_at lw_m4 101 rfl) rfl
theorem q944 : (Jvm.Cond.selects "NineKeysRound$Name" ({ cls := "NineKeysRound$Node", name := "value", desc := "(LNineKeysRound$Facts;)I" } : Jvm.MethodName) ({ cls := "NineKeysRound$Name", name := "value", desc := "(LNineKeysRound$Facts;)I" } : Jvm.MethodName)) ∈ lw_all := lw_g (lw_at lw_m4 112 rfl) rfl
theorem in_X8 : ∀ w ∈ wsX80, w ∈ lw_all := lw_in wsX80 [762] (by decide +kernel) (by decide +kernel)
/-! NineKeysRound$Denied -/
set_option maxRecDepth 100000
def RX9 : String := "NineKeysRound$Denied"
def TX9 : u_T := fun k => match k with
  | _ => ("NineKeysRound$Denied", "of", "LNineKeysRound$Node;", true)
def tyX9 : Nat → FieldType := fun k => match k with
  | _ => .object "NineKeysRound$Node"
abbrev wsX90 : List Cond := u_ws RX9 TX9 1
theorem nmX9 : ∀ a, a < 1 → ∀ b, b < 1 → a ≠ b → (TX9 a).2.1 ≠ (TX9 b).2.1 := by decide +kernel
theorem tyX9_ok : ∀ k, k < 1 → parseFieldDescriptor (TX9 k).2.2.1 = some (tyX9 k) := by decide +kernel
abbrev cX9_init : ByteArray := prog_5_method_1_code
def yX9_init : MethodName := ⟨RX9, "<init>", "(LNineKeysRound$Node;)V"⟩
def dkwX9_init_0 : List UInt8 := [42, 183, 0, 1, 42, 43, 181, 0, 7, 177]
abbrev dktX9_init_0 : List UInt8 := dkwX9_init_0 ++ []
theorem dksX9_init_0 : cX9_init.data.toList.drop 0 = dktX9_init_0 := by decide +kernel
theorem dX9_init_0 : decode cX9_init 0 = .ok (.aload_n 0, 1) := dk_42 (dk_at dksX9_init_0 0 rfl rfl)
theorem dX9_init_1 : decode cX9_init 1 = .ok (.invokespecial 1, 3) := dk_183 0 1 (dk_at dksX9_init_0 1 rfl rfl)
theorem dX9_init_4 : decode cX9_init 4 = .ok (.aload_n 0, 1) := dk_42 (dk_at dksX9_init_0 4 rfl rfl)
theorem dX9_init_5 : decode cX9_init 5 = .ok (.aload_n 1, 1) := dk_43 (dk_at dksX9_init_0 5 rfl rfl)
theorem dX9_init_6 : decode cX9_init 6 = .ok (.putfield 7, 3) := dk_181 0 7 (dk_at dksX9_init_0 6 rfl rfl)
theorem dX9_init_9 : decode cX9_init 9 = .ok (.return_, 1) := dk_177 (dk_at dksX9_init_0 9 rfl rfl)
abbrev cX9_value : ByteArray := prog_5_method_2_code
def yX9_value : MethodName := ⟨RX9, "value", "(LNineKeysRound$Facts;)I"⟩
def dkwX9_value_0 : List UInt8 := [42, 180, 0, 7, 43, 182, 0, 13, 154, 0, 7, 4, 167, 0, 4, 3, 172]
abbrev dktX9_value_0 : List UInt8 := dkwX9_value_0 ++ []
theorem dksX9_value_0 : cX9_value.data.toList.drop 0 = dktX9_value_0 := by decide +kernel
theorem dX9_value_0 : decode cX9_value 0 = .ok (.aload_n 0, 1) := dk_42 (dk_at dksX9_value_0 0 rfl rfl)
theorem dX9_value_1 : decode cX9_value 1 = .ok (.getfield 7, 3) := dk_180 0 7 (dk_at dksX9_value_0 1 rfl rfl)
theorem dX9_value_4 : decode cX9_value 4 = .ok (.aload_n 1, 1) := dk_43 (dk_at dksX9_value_0 4 rfl rfl)
theorem dX9_value_5 : decode cX9_value 5 = .ok (.invokevirtual 13, 3) := dk_182 0 13 (dk_at dksX9_value_0 5 rfl rfl)
theorem dX9_value_8 : decode cX9_value 8 = .ok (.ifCond .ne 7, 3) := dk_154 0 7 (dk_at dksX9_value_0 8 rfl rfl)
theorem dX9_value_11 : decode cX9_value 11 = .ok (.iconst 1, 1) := dk_4 (dk_at dksX9_value_0 11 rfl rfl)
theorem dX9_value_12 : decode cX9_value 12 = .ok (.goto 4, 3) := dk_167 0 4 (dk_at dksX9_value_0 12 rfl rfl)
theorem dX9_value_15 : decode cX9_value 15 = .ok (.iconst 0, 1) := dk_3 (dk_at dksX9_value_0 15 rfl rfl)
theorem dX9_value_16 : decode cX9_value 16 = .ok (.ireturn, 1) := dk_172 (dk_at dksX9_value_0 16 rfl rfl)
theorem q135 : (Jvm.Cond.initialized "NineKeysRound$Denied") ∈ lw_all := lw_g (lw_at lw_m1 23 rfl) rfl
theorem q774 : (Jvm.Cond.instantiable "NineKeysRound$Denied" (1 : Nat)) ∈ lw_all := lw_g (lw_at lw_m3 182 rfl) rfl
theorem q776 : (Jvm.Cond.instanceMethod ({ cls := "NineKeysRound$Denied", name := "<init>", desc := "(LNineKeysRound$Node;)V" } : Jvm.MethodName)) ∈ lw_all := lw_g (lw_at lw_m3 184 rfl) rfl
theorem q777 : (Jvm.Cond.code ({ cls := "NineKeysRound$Denied", name := "<init>", desc := "(LNineKeysRound$Node;)V" } : Jvm.MethodName) prog_5_method_1_code (2 : Nat) (Option.none : Option Jvm.ClassFile.FieldType)) ∈ lw_all := lw_g (lw_at lw_m3 185 rfl) rfl
theorem q778 : (Jvm.Cond.methodLinkNest "NineKeysRound$Denied" (1 : Nat) ({ cls := "NineKeysRound$Node", name := "<init>", desc := "()V" } : Jvm.MethodName) "NineKeysRound") ∈ lw_tbl := lw_at lw_m3 186 rfl
theorem q779 : (Jvm.Cond.fieldLink "NineKeysRound$Denied" (7 : Nat) "NineKeysRound$Denied" "of" "LNineKeysRound$Node;") ∈ lw_all := lw_g (lw_at lw_m3 187 rfl) rfl
theorem q780 : (Jvm.Cond.laysFinal "NineKeysRound$Denied" "NineKeysRound$Denied" "of" "LNineKeysRound$Node;") ∈ lw_all := lw_g (lw_at lw_m3 188 rfl) rfl
theorem q781 : (Jvm.Cond.soleField "NineKeysRound$Denied" "of") ∈ lw_all := lw_g (lw_at lw_m3 189 rfl) rfl
theorem q782 : (Jvm.Cond.superclass "NineKeysRound$Denied" "NineKeysRound$Node") ∈ lw_all := lw_g (lw_at lw_m3 190 rfl) rfl
theorem q926 : (Jvm.Cond.selects "NineKeysRound$Denied" ({ cls := "NineKeysRound$Node", name := "value", desc := "(LNineKeysRound$Facts;)I" } : Jvm.MethodName) ({ cls := "NineKeysRound$Denied", name := "value", desc := "(LNineKeysRound$Facts;)I" } : Jvm.MethodName)) ∈ lw_all := lw_g (lw_at lw_m4 94 rfl) rfl
theorem q927 : (Jvm.Cond.instanceMethod ({ cls := "NineKeysRound$Denied", name := "value", desc := "(LNineKeysRound$Facts;)I" } : Jvm.MethodName)) ∈ lw_all := lw_g (lw_at lw_m4 95 rfl) rfl
theorem q928 : (Jvm.Cond.code ({ cls := "NineKeysRound$Denied", name := "value", desc := "(LNineKeysRound$Facts;)I" } : Jvm.MethodName) prog_5_method_2_code (2 : Nat) (Option.some Jvm.ClassFile.FieldType.int)) ∈ lw_all := lw_g (lw_at lw_m4 96 rfl) rfl
theorem q929 : (Jvm.Cond.methodLink "NineKeysRound$Denied" (13 : Nat) ({ cls := "NineKeysRound$Node", name := "value", desc := "(LNineKeysRound$Facts;)I" } : Jvm.MethodName)) ∈ lw_all := lw_g (lw_at lw_m4 97 rfl) rfl
theorem in_X9 : ∀ w ∈ wsX90, w ∈ lw_all := lw_in wsX90 [780] (by decide +kernel) (by decide +kernel)
/-! NineKeysRound$Turned -/
set_option maxRecDepth 100000
def RX10 : String := "NineKeysRound$Turned"
def TX10 : u_T := fun k => match k with
  | _ => ("NineKeysRound$Turned", "of", "LNineKeysRound$Node;", true)
def tyX10 : Nat → FieldType := fun k => match k with
  | _ => .object "NineKeysRound$Node"
abbrev wsX100 : List Cond := u_ws RX10 TX10 1
theorem nmX10 : ∀ a, a < 1 → ∀ b, b < 1 → a ≠ b → (TX10 a).2.1 ≠ (TX10 b).2.1 := by decide +kernel
theorem tyX10_ok : ∀ k, k < 1 → parseFieldDescriptor (TX10 k).2.2.1 = some (tyX10 k) := by decide +kernel
abbrev cX10_init : ByteArray := prog_28_method_1_code
def yX10_init : MethodName := ⟨RX10, "<init>", "(LNineKeysRound$Node;)V"⟩
def dkwX10_init_0 : List UInt8 := [42, 183, 0, 1, 42, 43, 181, 0, 7, 177]
abbrev dktX10_init_0 : List UInt8 := dkwX10_init_0 ++ []
theorem dksX10_init_0 : cX10_init.data.toList.drop 0 = dktX10_init_0 := by decide +kernel
theorem dX10_init_0 : decode cX10_init 0 = .ok (.aload_n 0, 1) := dk_42 (dk_at dksX10_init_0 0 rfl rfl)
theorem dX10_init_1 : decode cX10_init 1 = .ok (.invokespecial 1, 3) := dk_183 0 1 (dk_at dksX10_init_0 1 rfl rfl)
theorem dX10_init_4 : decode cX10_init 4 = .ok (.aload_n 0, 1) := dk_42 (dk_at dksX10_init_0 4 rfl rfl)
theorem dX10_init_5 : decode cX10_init 5 = .ok (.aload_n 1, 1) := dk_43 (dk_at dksX10_init_0 5 rfl rfl)
theorem dX10_init_6 : decode cX10_init 6 = .ok (.putfield 7, 3) := dk_181 0 7 (dk_at dksX10_init_0 6 rfl rfl)
theorem dX10_init_9 : decode cX10_init 9 = .ok (.return_, 1) := dk_177 (dk_at dksX10_init_0 9 rfl rfl)
abbrev cX10_value : ByteArray := prog_28_method_2_code
def yX10_value : MethodName := ⟨RX10, "value", "(LNineKeysRound$Facts;)I"⟩
def dkwX10_value_0 : List UInt8 := [42, 180, 0, 7, 43, 182, 0, 13, 116, 172]
abbrev dktX10_value_0 : List UInt8 := dkwX10_value_0 ++ []
theorem dksX10_value_0 : cX10_value.data.toList.drop 0 = dktX10_value_0 := by decide +kernel
theorem dX10_value_0 : decode cX10_value 0 = .ok (.aload_n 0, 1) := dk_42 (dk_at dksX10_value_0 0 rfl rfl)
theorem dX10_value_1 : decode cX10_value 1 = .ok (.getfield 7, 3) := dk_180 0 7 (dk_at dksX10_value_0 1 rfl rfl)
theorem dX10_value_4 : decode cX10_value 4 = .ok (.aload_n 1, 1) := dk_43 (dk_at dksX10_value_0 4 rfl rfl)
theorem dX10_value_5 : decode cX10_value 5 = .ok (.invokevirtual 13, 3) := dk_182 0 13 (dk_at dksX10_value_0 5 rfl rfl)
theorem dX10_value_8 : decode cX10_value 8 = .ok (.ineg, 1) := dk_116 (dk_at dksX10_value_0 8 rfl rfl)
theorem dX10_value_9 : decode cX10_value 9 = .ok (.ireturn, 1) := dk_172 (dk_at dksX10_value_0 9 rfl rfl)
theorem q136 : (Jvm.Cond.initialized "NineKeysRound$Turned") ∈ lw_all := lw_g (lw_at lw_m1 24 rfl) rfl
theorem q784 : (Jvm.Cond.instantiable "NineKeysRound$Turned" (1 : Nat)) ∈ lw_all := lw_g (lw_at lw_m3 192 rfl) rfl
theorem q786 : (Jvm.Cond.instanceMethod ({ cls := "NineKeysRound$Turned", name := "<init>", desc := "(LNineKeysRound$Node;)V" } : Jvm.MethodName)) ∈ lw_all := lw_g (lw_at lw_m3 194 rfl) rfl
theorem q787 : (Jvm.Cond.code ({ cls := "NineKeysRound$Turned", name := "<init>", desc := "(LNineKeysRound$Node;)V" } : Jvm.MethodName) prog_28_method_1_code (2 : Nat) (Option.none : Option Jvm.ClassFile.FieldType)) ∈ lw_all := lw_g (lw_at lw_m3 195 rfl) rfl
theorem q788 : (Jvm.Cond.methodLinkNest "NineKeysRound$Turned" (1 : Nat) ({ cls := "NineKeysRound$Node", name := "<init>", desc := "()V" } : Jvm.MethodName) "NineKeysRound") ∈ lw_tbl := lw_at lw_m3 196 rfl
theorem q789 : (Jvm.Cond.fieldLink "NineKeysRound$Turned" (7 : Nat) "NineKeysRound$Turned" "of" "LNineKeysRound$Node;") ∈ lw_all := lw_g (lw_at lw_m3 197 rfl) rfl
theorem q790 : (Jvm.Cond.laysFinal "NineKeysRound$Turned" "NineKeysRound$Turned" "of" "LNineKeysRound$Node;") ∈ lw_all := lw_g (lw_at lw_m3 198 rfl) rfl
theorem q791 : (Jvm.Cond.soleField "NineKeysRound$Turned" "of") ∈ lw_all := lw_g (lw_at lw_m3 199 rfl) rfl
theorem q792 : (Jvm.Cond.superclass "NineKeysRound$Turned" "NineKeysRound$Node") ∈ lw_all := lw_g (lw_at lw_m3 200 rfl) rfl
theorem q937 : (Jvm.Cond.instanceMethod ({ cls := "NineKeysRound$Turned", name := "value", desc := "(LNineKeysRound$Facts;)I" } : Jvm.MethodName)) ∈ lw_all := lw_g (lw_at lw_m4 105 rfl) rfl
theorem q938 : (Jvm.Cond.code ({ cls := "NineKeysRound$Turned", name := "value", desc := "(LNineKeysRound$Facts;)I" } : Jvm.MethodName) prog_28_method_2_code (2 : Nat) (Option.some Jvm.ClassFile.FieldType.int)) ∈ lw_all := lw_g (lw_at lw_m4 106 rfl) rfl
theorem q939 : (Jvm.Cond.methodLink "NineKeysRound$Turned" (13 : Nat) ({ cls := "NineKeysRound$Node", name := "value", desc := "(LNineKeysRound$Facts;)I" } : Jvm.MethodName)) ∈ lw_all := lw_g (lw_at lw_m4 107 rfl) rfl
theorem q946 : (Jvm.Cond.selects "NineKeysRound$Turned" ({ cls := "NineKeysRound$Node", name := "value", desc := "(LNineKeysRound$Facts;)I" } : Jvm.MethodName) ({ cls := "NineKeysRound$Turned", name := "value", desc := "(LNineKeysRound$Facts;)I" } : Jvm.MethodName)) ∈ lw_all := lw_g (lw_at lw_m4 114 rfl) rfl
theorem in_X10 : ∀ w ∈ wsX100, w ∈ lw_all := lw_in wsX100 [790] (by decide +kernel) (by decide +kernel)
/-! NineKeysRound$Leaf -/
set_option maxRecDepth 100000
def RX11 : String := "NineKeysRound$Leaf"
def TX11 : u_T := fun k => match k with
  | _ => ("NineKeysRound$Leaf", "number", "I", true)
def tyX11 : Nat → FieldType := fun k => match k with
  | _ => .int
abbrev wsX110 : List Cond := u_ws RX11 TX11 1
theorem nmX11 : ∀ a, a < 1 → ∀ b, b < 1 → a ≠ b → (TX11 a).2.1 ≠ (TX11 b).2.1 := by decide +kernel
theorem tyX11_ok : ∀ k, k < 1 → parseFieldDescriptor (TX11 k).2.2.1 = some (tyX11 k) := by decide +kernel
abbrev cX11_init : ByteArray := prog_14_method_1_code
def yX11_init : MethodName := ⟨RX11, "<init>", "(I)V"⟩
def dkwX11_init_0 : List UInt8 := [42, 183, 0, 1, 42, 27, 181, 0, 7, 177]
abbrev dktX11_init_0 : List UInt8 := dkwX11_init_0 ++ []
theorem dksX11_init_0 : cX11_init.data.toList.drop 0 = dktX11_init_0 := by decide +kernel
theorem dX11_init_0 : decode cX11_init 0 = .ok (.aload_n 0, 1) := dk_42 (dk_at dksX11_init_0 0 rfl rfl)
theorem dX11_init_1 : decode cX11_init 1 = .ok (.invokespecial 1, 3) := dk_183 0 1 (dk_at dksX11_init_0 1 rfl rfl)
theorem dX11_init_4 : decode cX11_init 4 = .ok (.aload_n 0, 1) := dk_42 (dk_at dksX11_init_0 4 rfl rfl)
theorem dX11_init_5 : decode cX11_init 5 = .ok (.iload_n 1, 1) := dk_27 (dk_at dksX11_init_0 5 rfl rfl)
theorem dX11_init_6 : decode cX11_init 6 = .ok (.putfield 7, 3) := dk_181 0 7 (dk_at dksX11_init_0 6 rfl rfl)
theorem dX11_init_9 : decode cX11_init 9 = .ok (.return_, 1) := dk_177 (dk_at dksX11_init_0 9 rfl rfl)
abbrev cX11_value : ByteArray := prog_14_method_2_code
def yX11_value : MethodName := ⟨RX11, "value", "(LNineKeysRound$Facts;)I"⟩
theorem dX11_value_0 : decode cX11_value 0 = .ok (.aload_n 0, 1) := by decide +kernel
theorem dX11_value_1 : decode cX11_value 1 = .ok (.getfield 7, 3) := by decide +kernel
theorem dX11_value_4 : decode cX11_value 4 = .ok (.ireturn, 1) := by decide +kernel
theorem q137 : (Jvm.Cond.initialized "NineKeysRound$Leaf") ∈ lw_all := lw_g (lw_at lw_m1 25 rfl) rfl
theorem q795 : (Jvm.Cond.instantiable "NineKeysRound$Leaf" (1 : Nat)) ∈ lw_all := lw_g (lw_at lw_m3 203 rfl) rfl
theorem q797 : (Jvm.Cond.instanceMethod ({ cls := "NineKeysRound$Leaf", name := "<init>", desc := "(I)V" } : Jvm.MethodName)) ∈ lw_all := lw_g (lw_at lw_m3 205 rfl) rfl
theorem q798 : (Jvm.Cond.code ({ cls := "NineKeysRound$Leaf", name := "<init>", desc := "(I)V" } : Jvm.MethodName) prog_14_method_1_code (2 : Nat) (Option.none : Option Jvm.ClassFile.FieldType)) ∈ lw_all := lw_g (lw_at lw_m3 206 rfl) rfl
theorem q799 : (Jvm.Cond.methodLinkNest "NineKeysRound$Leaf" (1 : Nat) ({ cls := "NineKeysRound$Node", name := "<init>", desc := "()V" } : Jvm.MethodName) "NineKeysRound") ∈ lw_tbl := lw_at lw_m3 207 rfl
theorem q800 : (Jvm.Cond.fieldLink "NineKeysRound$Leaf" (7 : Nat) "NineKeysRound$Leaf" "number" "I") ∈ lw_all := lw_g (lw_at lw_m3 208 rfl) rfl
theorem q801 : (Jvm.Cond.laysFinal "NineKeysRound$Leaf" "NineKeysRound$Leaf" "number" "I") ∈ lw_all := lw_g (lw_at lw_m3 209 rfl) rfl
theorem q802 : (Jvm.Cond.soleField "NineKeysRound$Leaf" "number") ∈ lw_all := lw_g (lw_at lw_m3 210 rfl) rfl
theorem q803 : (Jvm.Cond.superclass "NineKeysRound$Leaf" "NineKeysRound$Node") ∈ lw_all := lw_g (lw_at lw_m3 211 rfl) rfl
theorem q930 : (Jvm.Cond.instanceMethod ({ cls := "NineKeysRound$Leaf", name := "value", desc := "(LNineKeysRound$Facts;)I" } : Jvm.MethodName)) ∈ lw_all := lw_g (lw_at lw_m4 98 rfl) rfl
theorem q931 : (Jvm.Cond.code ({ cls := "NineKeysRound$Leaf", name := "value", desc := "(LNineKeysRound$Facts;)I" } : Jvm.MethodName) prog_14_method_2_code (2 : Nat) (Option.some Jvm.ClassFile.FieldType.int)) ∈ lw_all := lw_g (lw_at lw_m4 99 rfl) rfl
theorem q943 : (Jvm.Cond.selects "NineKeysRound$Leaf" ({ cls := "NineKeysRound$Node", name := "value", desc := "(LNineKeysRound$Facts;)I" } : Jvm.MethodName) ({ cls := "NineKeysRound$Leaf", name := "value", desc := "(LNineKeysRound$Facts;)I" } : Jvm.MethodName)) ∈ lw_all := lw_g (lw_at lw_m4 111 rfl) rfl
theorem in_X11 : ∀ w ∈ wsX110, w ∈ lw_all := lw_in wsX110 [801] (by decide +kernel) (by decide +kernel)
/-! NineKeysRound$Pair -/
set_option maxRecDepth 100000
def RX12 : String := "NineKeysRound$Pair"
def TX12 : u_T := fun k => match k with
  | 0 => ("NineKeysRound$Pair", "sign", "I", true)
  | 1 => ("NineKeysRound$Pair", "left", "LNineKeysRound$Node;", true)
  | _ => ("NineKeysRound$Pair", "right", "LNineKeysRound$Node;", true)
def tyX12 : Nat → FieldType := fun k => match k with
  | 0 => .int
  | 1 => .object "NineKeysRound$Node"
  | _ => .object "NineKeysRound$Node"
abbrev wsX120 : List Cond := u_ws RX12 TX12 3
theorem nmX12 : ∀ a, a < 3 → ∀ b, b < 3 → a ≠ b → (TX12 a).2.1 ≠ (TX12 b).2.1 := by decide +kernel
theorem tyX12_ok : ∀ k, k < 3 → parseFieldDescriptor (TX12 k).2.2.1 = some (tyX12 k) := by decide +kernel
abbrev cX12_init : ByteArray := prog_19_method_1_code
def yX12_init : MethodName := ⟨RX12, "<init>", "(ILNineKeysRound$Node;LNineKeysRound$Node;)V"⟩
def dkwX12_init_0 : List UInt8 := [42, 183, 0, 1, 42, 27, 181, 0, 7, 42, 44, 181, 0, 13, 42, 45, 181, 0, 17, 177]
abbrev dktX12_init_0 : List UInt8 := dkwX12_init_0 ++ []
theorem dksX12_init_0 : cX12_init.data.toList.drop 0 = dktX12_init_0 := by decide +kernel
theorem dX12_init_0 : decode cX12_init 0 = .ok (.aload_n 0, 1) := dk_42 (dk_at dksX12_init_0 0 rfl rfl)
theorem dX12_init_1 : decode cX12_init 1 = .ok (.invokespecial 1, 3) := dk_183 0 1 (dk_at dksX12_init_0 1 rfl rfl)
theorem dX12_init_4 : decode cX12_init 4 = .ok (.aload_n 0, 1) := dk_42 (dk_at dksX12_init_0 4 rfl rfl)
theorem dX12_init_5 : decode cX12_init 5 = .ok (.iload_n 1, 1) := dk_27 (dk_at dksX12_init_0 5 rfl rfl)
theorem dX12_init_6 : decode cX12_init 6 = .ok (.putfield 7, 3) := dk_181 0 7 (dk_at dksX12_init_0 6 rfl rfl)
theorem dX12_init_9 : decode cX12_init 9 = .ok (.aload_n 0, 1) := dk_42 (dk_at dksX12_init_0 9 rfl rfl)
theorem dX12_init_10 : decode cX12_init 10 = .ok (.aload_n 2, 1) := dk_44 (dk_at dksX12_init_0 10 rfl rfl)
theorem dX12_init_11 : decode cX12_init 11 = .ok (.putfield 13, 3) := dk_181 0 13 (dk_at dksX12_init_0 11 rfl rfl)
theorem dX12_init_14 : decode cX12_init 14 = .ok (.aload_n 0, 1) := dk_42 (dk_at dksX12_init_0 14 rfl rfl)
theorem dX12_init_15 : decode cX12_init 15 = .ok (.aload_n 3, 1) := dk_45 (dk_at dksX12_init_0 15 rfl rfl)
theorem dX12_init_16 : decode cX12_init 16 = .ok (.putfield 17, 3) := dk_181 0 17 (dk_at dksX12_init_0 16 rfl rfl)
theorem dX12_init_19 : decode cX12_init 19 = .ok (.return_, 1) := dk_177 (dk_at dksX12_init_0 19 rfl rfl)
abbrev cX12_value : ByteArray := prog_19_method_3_code
def yX12_value : MethodName := ⟨RX12, "value", "(LNineKeysRound$Facts;)I"⟩
def dkwX12_value_7 : List UInt8 := [154, 0, 7, 29, 153, 0, 7, 4, 167, 0, 4, 3, 184, 0, 24, 172]
abbrev dktX12_value_7 : List UInt8 := dkwX12_value_7 ++ []
def dkwX12_value_6 : List UInt8 := [184, 0, 24, 172, 28, 153, 0, 11, 29, 153, 0, 7, 4, 167, 0, 4, 3, 184, 0, 24, 172, 28]
abbrev dktX12_value_6 : List UInt8 := dkwX12_value_6 ++ dktX12_value_7
def dkwX12_value_5 : List UInt8 := [160, 0, 7, 4, 167, 0, 4, 3, 184, 0, 24, 172, 28, 29, 164, 0, 7, 4, 167, 0, 4, 3]
abbrev dktX12_value_5 : List UInt8 := dkwX12_value_5 ++ dktX12_value_6
def dkwX12_value_4 : List UInt8 := [167, 0, 6, 28, 29, 112, 172, 28, 29, 162, 0, 7, 4, 167, 0, 4, 3, 184, 0, 24, 172, 28, 29]
abbrev dktX12_value_4 : List UInt8 := dkwX12_value_4 ++ dktX12_value_5
def dkwX12_value_3 : List UInt8 := [160, 0, 8, 28, 116, 167, 0, 6, 28, 29, 108, 172, 29, 153, 0, 8, 29, 2, 160, 0, 7, 3]
abbrev dktX12_value_3 : List UInt8 := dkwX12_value_3 ++ dktX12_value_4
def dkwX12_value_2 : List UInt8 := [28, 29, 96, 172, 28, 29, 100, 172, 28, 29, 104, 172, 29, 154, 0, 7, 3, 167, 0, 16, 29, 2]
abbrev dktX12_value_2 : List UInt8 := dkwX12_value_2 ++ dktX12_value_3
def dkwX12_value_1 : List UInt8 := [170, 0, 0, 0, 0, 228, 0, 0, 0, 37, 0, 0, 0, 62, 0, 0, 0, 152, 0, 0, 0, 211, 0, 0, 0, 228, 0, 0, 0, 228, 0, 0, 0, 228, 0, 0, 0, 126, 0, 0, 0, 118, 0, 0, 0, 228, 0, 0, 0, 122, 0, 0, 0, 228, 0, 0, 0, 130, 0, 0, 0, 228, 0, 0, 0, 228, 0, 0, 0, 228, 0, 0, 0, 228, 0, 0, 0, 228, 0, 0, 0, 228, 0, 0, 0, 228, 0, 0, 0, 228, 0, 0, 0, 228, 0, 0, 0, 228, 0, 0, 0, 228, 0, 0, 0, 228, 0, 0, 0, 169, 0, 0, 0, 183, 0, 0, 0, 197]
abbrev dktX12_value_1 : List UInt8 := dkwX12_value_1 ++ dktX12_value_2
def dkwX12_value_0 : List UInt8 := [42, 180, 0, 13, 43, 182, 0, 20, 61, 42, 180, 0, 17, 43, 182, 0, 20, 62, 42, 180, 0, 7]
abbrev dktX12_value_0 : List UInt8 := dkwX12_value_0 ++ dktX12_value_1
theorem dksX12_value_0 : cX12_value.data.toList.drop 0 = dktX12_value_0 := by decide +kernel
theorem dksX12_value_1 : cX12_value.data.toList.drop 22 = dktX12_value_1 := dk_seg dksX12_value_0 22 rfl rfl
theorem dksX12_value_2 : cX12_value.data.toList.drop 140 = dktX12_value_2 := dk_seg dksX12_value_1 118 rfl rfl
theorem dksX12_value_3 : cX12_value.data.toList.drop 162 = dktX12_value_3 := dk_seg dksX12_value_2 22 rfl rfl
theorem dksX12_value_4 : cX12_value.data.toList.drop 184 = dktX12_value_4 := dk_seg dksX12_value_3 22 rfl rfl
theorem dksX12_value_5 : cX12_value.data.toList.drop 207 = dktX12_value_5 := dk_seg dksX12_value_4 23 rfl rfl
theorem dksX12_value_6 : cX12_value.data.toList.drop 229 = dktX12_value_6 := dk_seg dksX12_value_5 22 rfl rfl
theorem dksX12_value_7 : cX12_value.data.toList.drop 251 = dktX12_value_7 := dk_seg dksX12_value_6 22 rfl rfl
theorem dX12_value_0 : decode cX12_value 0 = .ok (.aload_n 0, 1) := dk_42 (dk_at dksX12_value_0 0 rfl rfl)
theorem dX12_value_1 : decode cX12_value 1 = .ok (.getfield 13, 3) := dk_180 0 13 (dk_at dksX12_value_0 1 rfl rfl)
theorem dX12_value_4 : decode cX12_value 4 = .ok (.aload_n 1, 1) := dk_43 (dk_at dksX12_value_0 4 rfl rfl)
theorem dX12_value_5 : decode cX12_value 5 = .ok (.invokevirtual 20, 3) := dk_182 0 20 (dk_at dksX12_value_0 5 rfl rfl)
theorem dX12_value_8 : decode cX12_value 8 = .ok (.istore_n 2, 1) := dk_61 (dk_at dksX12_value_0 8 rfl rfl)
theorem dX12_value_9 : decode cX12_value 9 = .ok (.aload_n 0, 1) := dk_42 (dk_at dksX12_value_0 9 rfl rfl)
theorem dX12_value_10 : decode cX12_value 10 = .ok (.getfield 17, 3) := dk_180 0 17 (dk_at dksX12_value_0 10 rfl rfl)
theorem dX12_value_13 : decode cX12_value 13 = .ok (.aload_n 1, 1) := dk_43 (dk_at dksX12_value_0 13 rfl rfl)
theorem dX12_value_14 : decode cX12_value 14 = .ok (.invokevirtual 20, 3) := dk_182 0 20 (dk_at dksX12_value_0 14 rfl rfl)
theorem dX12_value_17 : decode cX12_value 17 = .ok (.istore_n 3, 1) := dk_62 (dk_at dksX12_value_0 17 rfl rfl)
theorem dX12_value_18 : decode cX12_value 18 = .ok (.aload_n 0, 1) := dk_42 (dk_at dksX12_value_0 18 rfl rfl)
theorem dX12_value_19 : decode cX12_value 19 = .ok (.getfield 7, 3) := dk_180 0 7 (dk_at dksX12_value_0 19 rfl rfl)
theorem dX12_value_22 : decode cX12_value 22 = .ok (.tableswitch 228 37 62 #[152, 211, 228, 228, 228, 126, 118, 228, 122, 228, 130, 228, 228, 228, 228, 228, 228, 228, 228, 228, 228, 228, 228, 169, 183, 197], 118) := by decide +kernel
theorem dX12_value_140 : decode cX12_value 140 = .ok (.iload_n 2, 1) := dk_28 (dk_at dksX12_value_2 0 rfl rfl)
theorem dX12_value_141 : decode cX12_value 141 = .ok (.iload_n 3, 1) := dk_29 (dk_at dksX12_value_2 1 rfl rfl)
theorem dX12_value_142 : decode cX12_value 142 = .ok (.iadd, 1) := dk_96 (dk_at dksX12_value_2 2 rfl rfl)
theorem dX12_value_143 : decode cX12_value 143 = .ok (.ireturn, 1) := dk_172 (dk_at dksX12_value_2 3 rfl rfl)
theorem dX12_value_144 : decode cX12_value 144 = .ok (.iload_n 2, 1) := dk_28 (dk_at dksX12_value_2 4 rfl rfl)
theorem dX12_value_145 : decode cX12_value 145 = .ok (.iload_n 3, 1) := dk_29 (dk_at dksX12_value_2 5 rfl rfl)
theorem dX12_value_146 : decode cX12_value 146 = .ok (.isub, 1) := dk_100 (dk_at dksX12_value_2 6 rfl rfl)
theorem dX12_value_147 : decode cX12_value 147 = .ok (.ireturn, 1) := dk_172 (dk_at dksX12_value_2 7 rfl rfl)
theorem dX12_value_148 : decode cX12_value 148 = .ok (.iload_n 2, 1) := dk_28 (dk_at dksX12_value_2 8 rfl rfl)
theorem dX12_value_149 : decode cX12_value 149 = .ok (.iload_n 3, 1) := dk_29 (dk_at dksX12_value_2 9 rfl rfl)
theorem dX12_value_150 : decode cX12_value 150 = .ok (.imul, 1) := dk_104 (dk_at dksX12_value_2 10 rfl rfl)
theorem dX12_value_151 : decode cX12_value 151 = .ok (.ireturn, 1) := dk_172 (dk_at dksX12_value_2 11 rfl rfl)
theorem dX12_value_152 : decode cX12_value 152 = .ok (.iload_n 3, 1) := dk_29 (dk_at dksX12_value_2 12 rfl rfl)
theorem dX12_value_153 : decode cX12_value 153 = .ok (.ifCond .ne 7, 3) := dk_154 0 7 (dk_at dksX12_value_2 13 rfl rfl)
theorem dX12_value_156 : decode cX12_value 156 = .ok (.iconst 0, 1) := dk_3 (dk_at dksX12_value_2 16 rfl rfl)
theorem dX12_value_157 : decode cX12_value 157 = .ok (.goto 16, 3) := dk_167 0 16 (dk_at dksX12_value_2 17 rfl rfl)
theorem dX12_value_160 : decode cX12_value 160 = .ok (.iload_n 3, 1) := dk_29 (dk_at dksX12_value_2 20 rfl rfl)
theorem dX12_value_161 : decode cX12_value 161 = .ok (.iconst (-1), 1) := dk_2 (dk_at dksX12_value_2 21 rfl rfl)
theorem dX12_value_162 : decode cX12_value 162 = .ok (.if_icmp .ne 8, 3) := dk_160 0 8 (dk_at dksX12_value_3 0 rfl rfl)
theorem dX12_value_165 : decode cX12_value 165 = .ok (.iload_n 2, 1) := dk_28 (dk_at dksX12_value_3 3 rfl rfl)
theorem dX12_value_166 : decode cX12_value 166 = .ok (.ineg, 1) := dk_116 (dk_at dksX12_value_3 4 rfl rfl)
theorem dX12_value_167 : decode cX12_value 167 = .ok (.goto 6, 3) := dk_167 0 6 (dk_at dksX12_value_3 5 rfl rfl)
theorem dX12_value_170 : decode cX12_value 170 = .ok (.iload_n 2, 1) := dk_28 (dk_at dksX12_value_3 8 rfl rfl)
theorem dX12_value_171 : decode cX12_value 171 = .ok (.iload_n 3, 1) := dk_29 (dk_at dksX12_value_3 9 rfl rfl)
theorem dX12_value_172 : decode cX12_value 172 = .ok (.idiv, 1) := dk_108 (dk_at dksX12_value_3 10 rfl rfl)
theorem dX12_value_173 : decode cX12_value 173 = .ok (.ireturn, 1) := dk_172 (dk_at dksX12_value_3 11 rfl rfl)
theorem dX12_value_174 : decode cX12_value 174 = .ok (.iload_n 3, 1) := dk_29 (dk_at dksX12_value_3 12 rfl rfl)
theorem dX12_value_175 : decode cX12_value 175 = .ok (.ifCond .eq 8, 3) := dk_153 0 8 (dk_at dksX12_value_3 13 rfl rfl)
theorem dX12_value_178 : decode cX12_value 178 = .ok (.iload_n 3, 1) := dk_29 (dk_at dksX12_value_3 16 rfl rfl)
theorem dX12_value_179 : decode cX12_value 179 = .ok (.iconst (-1), 1) := dk_2 (dk_at dksX12_value_3 17 rfl rfl)
theorem dX12_value_180 : decode cX12_value 180 = .ok (.if_icmp .ne 7, 3) := dk_160 0 7 (dk_at dksX12_value_3 18 rfl rfl)
theorem dX12_value_183 : decode cX12_value 183 = .ok (.iconst 0, 1) := dk_3 (dk_at dksX12_value_3 21 rfl rfl)
theorem dX12_value_184 : decode cX12_value 184 = .ok (.goto 6, 3) := dk_167 0 6 (dk_at dksX12_value_4 0 rfl rfl)
theorem dX12_value_187 : decode cX12_value 187 = .ok (.iload_n 2, 1) := dk_28 (dk_at dksX12_value_4 3 rfl rfl)
theorem dX12_value_188 : decode cX12_value 188 = .ok (.iload_n 3, 1) := dk_29 (dk_at dksX12_value_4 4 rfl rfl)
theorem dX12_value_189 : decode cX12_value 189 = .ok (.irem, 1) := dk_112 (dk_at dksX12_value_4 5 rfl rfl)
theorem dX12_value_190 : decode cX12_value 190 = .ok (.ireturn, 1) := dk_172 (dk_at dksX12_value_4 6 rfl rfl)
theorem dX12_value_191 : decode cX12_value 191 = .ok (.iload_n 2, 1) := dk_28 (dk_at dksX12_value_4 7 rfl rfl)
theorem dX12_value_192 : decode cX12_value 192 = .ok (.iload_n 3, 1) := dk_29 (dk_at dksX12_value_4 8 rfl rfl)
theorem dX12_value_193 : decode cX12_value 193 = .ok (.if_icmp .ge 7, 3) := dk_162 0 7 (dk_at dksX12_value_4 9 rfl rfl)
theorem dX12_value_196 : decode cX12_value 196 = .ok (.iconst 1, 1) := dk_4 (dk_at dksX12_value_4 12 rfl rfl)
theorem dX12_value_197 : decode cX12_value 197 = .ok (.goto 4, 3) := dk_167 0 4 (dk_at dksX12_value_4 13 rfl rfl)
theorem dX12_value_200 : decode cX12_value 200 = .ok (.iconst 0, 1) := dk_3 (dk_at dksX12_value_4 16 rfl rfl)
theorem dX12_value_201 : decode cX12_value 201 = .ok (.invokestatic 24, 3) := dk_184 0 24 (dk_at dksX12_value_4 17 rfl rfl)
theorem dX12_value_204 : decode cX12_value 204 = .ok (.ireturn, 1) := dk_172 (dk_at dksX12_value_4 20 rfl rfl)
theorem dX12_value_205 : decode cX12_value 205 = .ok (.iload_n 2, 1) := dk_28 (dk_at dksX12_value_4 21 rfl rfl)
theorem dX12_value_206 : decode cX12_value 206 = .ok (.iload_n 3, 1) := dk_29 (dk_at dksX12_value_4 22 rfl rfl)
theorem dX12_value_207 : decode cX12_value 207 = .ok (.if_icmp .ne 7, 3) := dk_160 0 7 (dk_at dksX12_value_5 0 rfl rfl)
theorem dX12_value_210 : decode cX12_value 210 = .ok (.iconst 1, 1) := dk_4 (dk_at dksX12_value_5 3 rfl rfl)
theorem dX12_value_211 : decode cX12_value 211 = .ok (.goto 4, 3) := dk_167 0 4 (dk_at dksX12_value_5 4 rfl rfl)
theorem dX12_value_214 : decode cX12_value 214 = .ok (.iconst 0, 1) := dk_3 (dk_at dksX12_value_5 7 rfl rfl)
theorem dX12_value_215 : decode cX12_value 215 = .ok (.invokestatic 24, 3) := dk_184 0 24 (dk_at dksX12_value_5 8 rfl rfl)
theorem dX12_value_218 : decode cX12_value 218 = .ok (.ireturn, 1) := dk_172 (dk_at dksX12_value_5 11 rfl rfl)
theorem dX12_value_219 : decode cX12_value 219 = .ok (.iload_n 2, 1) := dk_28 (dk_at dksX12_value_5 12 rfl rfl)
theorem dX12_value_220 : decode cX12_value 220 = .ok (.iload_n 3, 1) := dk_29 (dk_at dksX12_value_5 13 rfl rfl)
theorem dX12_value_221 : decode cX12_value 221 = .ok (.if_icmp .le 7, 3) := dk_164 0 7 (dk_at dksX12_value_5 14 rfl rfl)
theorem dX12_value_224 : decode cX12_value 224 = .ok (.iconst 1, 1) := dk_4 (dk_at dksX12_value_5 17 rfl rfl)
theorem dX12_value_225 : decode cX12_value 225 = .ok (.goto 4, 3) := dk_167 0 4 (dk_at dksX12_value_5 18 rfl rfl)
theorem dX12_value_228 : decode cX12_value 228 = .ok (.iconst 0, 1) := dk_3 (dk_at dksX12_value_5 21 rfl rfl)
theorem dX12_value_229 : decode cX12_value 229 = .ok (.invokestatic 24, 3) := dk_184 0 24 (dk_at dksX12_value_6 0 rfl rfl)
theorem dX12_value_232 : decode cX12_value 232 = .ok (.ireturn, 1) := dk_172 (dk_at dksX12_value_6 3 rfl rfl)
theorem dX12_value_233 : decode cX12_value 233 = .ok (.iload_n 2, 1) := dk_28 (dk_at dksX12_value_6 4 rfl rfl)
theorem dX12_value_234 : decode cX12_value 234 = .ok (.ifCond .eq 11, 3) := dk_153 0 11 (dk_at dksX12_value_6 5 rfl rfl)
theorem dX12_value_237 : decode cX12_value 237 = .ok (.iload_n 3, 1) := dk_29 (dk_at dksX12_value_6 8 rfl rfl)
theorem dX12_value_238 : decode cX12_value 238 = .ok (.ifCond .eq 7, 3) := dk_153 0 7 (dk_at dksX12_value_6 9 rfl rfl)
theorem dX12_value_241 : decode cX12_value 241 = .ok (.iconst 1, 1) := dk_4 (dk_at dksX12_value_6 12 rfl rfl)
theorem dX12_value_242 : decode cX12_value 242 = .ok (.goto 4, 3) := dk_167 0 4 (dk_at dksX12_value_6 13 rfl rfl)
theorem dX12_value_245 : decode cX12_value 245 = .ok (.iconst 0, 1) := dk_3 (dk_at dksX12_value_6 16 rfl rfl)
theorem dX12_value_246 : decode cX12_value 246 = .ok (.invokestatic 24, 3) := dk_184 0 24 (dk_at dksX12_value_6 17 rfl rfl)
theorem dX12_value_249 : decode cX12_value 249 = .ok (.ireturn, 1) := dk_172 (dk_at dksX12_value_6 20 rfl rfl)
theorem dX12_value_250 : decode cX12_value 250 = .ok (.iload_n 2, 1) := dk_28 (dk_at dksX12_value_6 21 rfl rfl)
theorem dX12_value_251 : decode cX12_value 251 = .ok (.ifCond .ne 7, 3) := dk_154 0 7 (dk_at dksX12_value_7 0 rfl rfl)
theorem dX12_value_254 : decode cX12_value 254 = .ok (.iload_n 3, 1) := dk_29 (dk_at dksX12_value_7 3 rfl rfl)
theorem dX12_value_255 : decode cX12_value 255 = .ok (.ifCond .eq 7, 3) := dk_153 0 7 (dk_at dksX12_value_7 4 rfl rfl)
theorem dX12_value_258 : decode cX12_value 258 = .ok (.iconst 1, 1) := dk_4 (dk_at dksX12_value_7 7 rfl rfl)
theorem dX12_value_259 : decode cX12_value 259 = .ok (.goto 4, 3) := dk_167 0 4 (dk_at dksX12_value_7 8 rfl rfl)
theorem dX12_value_262 : decode cX12_value 262 = .ok (.iconst 0, 1) := dk_3 (dk_at dksX12_value_7 11 rfl rfl)
theorem dX12_value_263 : decode cX12_value 263 = .ok (.invokestatic 24, 3) := dk_184 0 24 (dk_at dksX12_value_7 12 rfl rfl)
theorem dX12_value_266 : decode cX12_value 266 = .ok (.ireturn, 1) := dk_172 (dk_at dksX12_value_7 15 rfl rfl)
abbrev cX12_is : ByteArray := prog_19_method_2_code
def yX12_is : MethodName := ⟨RX12, "is", "(Z)I"⟩
def dkwX12_is_0 : List UInt8 := [26, 153, 0, 7, 4, 167, 0, 4, 3, 172]
abbrev dktX12_is_0 : List UInt8 := dkwX12_is_0 ++ []
theorem dksX12_is_0 : cX12_is.data.toList.drop 0 = dktX12_is_0 := by decide +kernel
theorem dX12_is_0 : decode cX12_is 0 = .ok (.iload_n 0, 1) := dk_26 (dk_at dksX12_is_0 0 rfl rfl)
theorem dX12_is_1 : decode cX12_is 1 = .ok (.ifCond .eq 7, 3) := dk_153 0 7 (dk_at dksX12_is_0 1 rfl rfl)
theorem dX12_is_4 : decode cX12_is 4 = .ok (.iconst 1, 1) := dk_4 (dk_at dksX12_is_0 4 rfl rfl)
theorem dX12_is_5 : decode cX12_is 5 = .ok (.goto 4, 3) := dk_167 0 4 (dk_at dksX12_is_0 5 rfl rfl)
theorem dX12_is_8 : decode cX12_is 8 = .ok (.iconst 0, 1) := dk_3 (dk_at dksX12_is_0 8 rfl rfl)
theorem dX12_is_9 : decode cX12_is 9 = .ok (.ireturn, 1) := dk_172 (dk_at dksX12_is_0 9 rfl rfl)
theorem q138 : (Jvm.Cond.initialized "NineKeysRound$Pair") ∈ lw_all := lw_g (lw_at lw_m1 26 rfl) rfl
theorem q810 : (Jvm.Cond.instantiable "NineKeysRound$Pair" (3 : Nat)) ∈ lw_all := lw_g (lw_at lw_m3 218 rfl) rfl
theorem q812 : (Jvm.Cond.instanceMethod ({ cls := "NineKeysRound$Pair", name := "<init>", desc := "(ILNineKeysRound$Node;LNineKeysRound$Node;)V" } : Jvm.MethodName)) ∈ lw_all := lw_g (lw_at lw_m3 220 rfl) rfl
theorem q813 : (Jvm.Cond.code ({ cls := "NineKeysRound$Pair", name := "<init>", desc := "(ILNineKeysRound$Node;LNineKeysRound$Node;)V" } : Jvm.MethodName) prog_19_method_1_code (4 : Nat) (Option.none : Option Jvm.ClassFile.FieldType)) ∈ lw_all := lw_g (lw_at lw_m3 221 rfl) rfl
theorem q814 : (Jvm.Cond.methodLinkNest "NineKeysRound$Pair" (1 : Nat) ({ cls := "NineKeysRound$Node", name := "<init>", desc := "()V" } : Jvm.MethodName) "NineKeysRound") ∈ lw_tbl := lw_at lw_m3 222 rfl
theorem q815 : (Jvm.Cond.fieldLink "NineKeysRound$Pair" (7 : Nat) "NineKeysRound$Pair" "sign" "I") ∈ lw_all := lw_g (lw_at lw_m3 223 rfl) rfl
theorem q816 : (Jvm.Cond.fieldLink "NineKeysRound$Pair" (13 : Nat) "NineKeysRound$Pair" "left" "LNineKeysRound$Node;") ∈ lw_all := lw_g (lw_at lw_m3 224 rfl) rfl
theorem q817 : (Jvm.Cond.fieldLink "NineKeysRound$Pair" (17 : Nat) "NineKeysRound$Pair" "right" "LNineKeysRound$Node;") ∈ lw_all := lw_g (lw_at lw_m3 225 rfl) rfl
theorem q818 : (Jvm.Cond.laysFinal "NineKeysRound$Pair" "NineKeysRound$Pair" "sign" "I") ∈ lw_all := lw_g (lw_at lw_m3 226 rfl) rfl
theorem q819 : (Jvm.Cond.soleField "NineKeysRound$Pair" "sign") ∈ lw_all := lw_g (lw_at lw_m3 227 rfl) rfl
theorem q820 : (Jvm.Cond.laysFinal "NineKeysRound$Pair" "NineKeysRound$Pair" "left" "LNineKeysRound$Node;") ∈ lw_all := lw_g (lw_at lw_m3 228 rfl) rfl
theorem q821 : (Jvm.Cond.soleField "NineKeysRound$Pair" "left") ∈ lw_all := lw_g (lw_at lw_m3 229 rfl) rfl
theorem q822 : (Jvm.Cond.laysFinal "NineKeysRound$Pair" "NineKeysRound$Pair" "right" "LNineKeysRound$Node;") ∈ lw_all := lw_g (lw_at lw_m3 230 rfl) rfl
theorem q823 : (Jvm.Cond.soleField "NineKeysRound$Pair" "right") ∈ lw_all := lw_g (lw_at lw_m3 231 rfl) rfl
theorem q824 : (Jvm.Cond.superclass "NineKeysRound$Pair" "NineKeysRound$Node") ∈ lw_all := lw_g (lw_at lw_m3 232 rfl) rfl
theorem q934 : (Jvm.Cond.instanceMethod ({ cls := "NineKeysRound$Pair", name := "value", desc := "(LNineKeysRound$Facts;)I" } : Jvm.MethodName)) ∈ lw_all := lw_g (lw_at lw_m4 102 rfl) rfl
theorem q935 : (Jvm.Cond.code ({ cls := "NineKeysRound$Pair", name := "value", desc := "(LNineKeysRound$Facts;)I" } : Jvm.MethodName) prog_19_method_3_code (4 : Nat) (Option.some Jvm.ClassFile.FieldType.int)) ∈ lw_all := lw_g (lw_at lw_m4 103 rfl) rfl
theorem q936 : (Jvm.Cond.methodLink "NineKeysRound$Pair" (20 : Nat) ({ cls := "NineKeysRound$Node", name := "value", desc := "(LNineKeysRound$Facts;)I" } : Jvm.MethodName)) ∈ lw_all := lw_g (lw_at lw_m4 104 rfl) rfl
theorem q940 : (Jvm.Cond.methodLink "NineKeysRound$Pair" (24 : Nat) ({ cls := "NineKeysRound$Pair", name := "is", desc := "(Z)I" } : Jvm.MethodName)) ∈ lw_all := lw_g (lw_at lw_m4 108 rfl) rfl
theorem q941 : (Jvm.Cond.static ({ cls := "NineKeysRound$Pair", name := "is", desc := "(Z)I" } : Jvm.MethodName)) ∈ lw_all := lw_g (lw_at lw_m4 109 rfl) rfl
theorem q942 : (Jvm.Cond.code ({ cls := "NineKeysRound$Pair", name := "is", desc := "(Z)I" } : Jvm.MethodName) prog_19_method_2_code (1 : Nat) (Option.some Jvm.ClassFile.FieldType.int)) ∈ lw_all := lw_g (lw_at lw_m4 110 rfl) rfl
theorem q945 : (Jvm.Cond.selects "NineKeysRound$Pair" ({ cls := "NineKeysRound$Node", name := "value", desc := "(LNineKeysRound$Facts;)I" } : Jvm.MethodName) ({ cls := "NineKeysRound$Pair", name := "value", desc := "(LNineKeysRound$Facts;)I" } : Jvm.MethodName)) ∈ lw_all := lw_g (lw_at lw_m4 113 rfl) rfl
theorem in_X12 : ∀ w ∈ wsX120, w ∈ lw_all := lw_in wsX120 [818, 820, 822] (by decide +kernel) (by decide +kernel)
/-! java/lang/Integer -/
set_option maxRecDepth 100000
def RJ13 : String := "java/lang/Integer"
abbrev cJ13_bitCount : ByteArray := prog_37_method_49_code
def yJ13_bitCount : MethodName := ⟨RJ13, "bitCount", "(I)I"⟩
def dkwJ13_bitCount_2 : List UInt8 := [26, 16, 63, 126, 172]
abbrev dktJ13_bitCount_2 : List UInt8 := dkwJ13_bitCount_2 ++ []
def dkwJ13_bitCount_1 : List UInt8 := [26, 26, 7, 124, 96, 19, 1, 11, 126, 59, 26, 26, 16, 8, 124, 96, 59, 26, 26, 16, 16, 124, 96, 59]
abbrev dktJ13_bitCount_1 : List UInt8 := dkwJ13_bitCount_1 ++ dktJ13_bitCount_2
def dkwJ13_bitCount_0 : List UInt8 := [26, 26, 4, 124, 19, 1, 9, 126, 100, 59, 26, 19, 1, 10, 126, 26, 5, 124, 19, 1, 10, 126, 96, 59]
abbrev dktJ13_bitCount_0 : List UInt8 := dkwJ13_bitCount_0 ++ dktJ13_bitCount_1
theorem dksJ13_bitCount_0 : cJ13_bitCount.data.toList.drop 0 = dktJ13_bitCount_0 := by decide +kernel
theorem dksJ13_bitCount_1 : cJ13_bitCount.data.toList.drop 24 = dktJ13_bitCount_1 := dk_seg dksJ13_bitCount_0 24 rfl rfl
theorem dksJ13_bitCount_2 : cJ13_bitCount.data.toList.drop 48 = dktJ13_bitCount_2 := dk_seg dksJ13_bitCount_1 24 rfl rfl
theorem dJ13_bitCount_0 : decode cJ13_bitCount 0 = .ok (.iload_n 0, 1) := dk_26 (dk_at dksJ13_bitCount_0 0 rfl rfl)
theorem dJ13_bitCount_1 : decode cJ13_bitCount 1 = .ok (.iload_n 0, 1) := dk_26 (dk_at dksJ13_bitCount_0 1 rfl rfl)
theorem dJ13_bitCount_2 : decode cJ13_bitCount 2 = .ok (.iconst 1, 1) := dk_4 (dk_at dksJ13_bitCount_0 2 rfl rfl)
theorem dJ13_bitCount_3 : decode cJ13_bitCount 3 = .ok (.iushr, 1) := dk_124 (dk_at dksJ13_bitCount_0 3 rfl rfl)
theorem dJ13_bitCount_4 : decode cJ13_bitCount 4 = .ok (.ldc_w 265, 3) := dk_19 1 9 (dk_at dksJ13_bitCount_0 4 rfl rfl)
theorem dJ13_bitCount_7 : decode cJ13_bitCount 7 = .ok (.iand, 1) := dk_126 (dk_at dksJ13_bitCount_0 7 rfl rfl)
theorem dJ13_bitCount_8 : decode cJ13_bitCount 8 = .ok (.isub, 1) := dk_100 (dk_at dksJ13_bitCount_0 8 rfl rfl)
theorem dJ13_bitCount_9 : decode cJ13_bitCount 9 = .ok (.istore_n 0, 1) := dk_59 (dk_at dksJ13_bitCount_0 9 rfl rfl)
theorem dJ13_bitCount_10 : decode cJ13_bitCount 10 = .ok (.iload_n 0, 1) := dk_26 (dk_at dksJ13_bitCount_0 10 rfl rfl)
theorem dJ13_bitCount_11 : decode cJ13_bitCount 11 = .ok (.ldc_w 266, 3) := dk_19 1 10 (dk_at dksJ13_bitCount_0 11 rfl rfl)
theorem dJ13_bitCount_14 : decode cJ13_bitCount 14 = .ok (.iand, 1) := dk_126 (dk_at dksJ13_bitCount_0 14 rfl rfl)
theorem dJ13_bitCount_15 : decode cJ13_bitCount 15 = .ok (.iload_n 0, 1) := dk_26 (dk_at dksJ13_bitCount_0 15 rfl rfl)
theorem dJ13_bitCount_16 : decode cJ13_bitCount 16 = .ok (.iconst 2, 1) := dk_5 (dk_at dksJ13_bitCount_0 16 rfl rfl)
theorem dJ13_bitCount_17 : decode cJ13_bitCount 17 = .ok (.iushr, 1) := dk_124 (dk_at dksJ13_bitCount_0 17 rfl rfl)
theorem dJ13_bitCount_18 : decode cJ13_bitCount 18 = .ok (.ldc_w 266, 3) := dk_19 1 10 (dk_at dksJ13_bitCount_0 18 rfl rfl)
theorem dJ13_bitCount_21 : decode cJ13_bitCount 21 = .ok (.iand, 1) := dk_126 (dk_at dksJ13_bitCount_0 21 rfl rfl)
theorem dJ13_bitCount_22 : decode cJ13_bitCount 22 = .ok (.iadd, 1) := dk_96 (dk_at dksJ13_bitCount_0 22 rfl rfl)
theorem dJ13_bitCount_23 : decode cJ13_bitCount 23 = .ok (.istore_n 0, 1) := dk_59 (dk_at dksJ13_bitCount_0 23 rfl rfl)
theorem dJ13_bitCount_24 : decode cJ13_bitCount 24 = .ok (.iload_n 0, 1) := dk_26 (dk_at dksJ13_bitCount_1 0 rfl rfl)
theorem dJ13_bitCount_25 : decode cJ13_bitCount 25 = .ok (.iload_n 0, 1) := dk_26 (dk_at dksJ13_bitCount_1 1 rfl rfl)
theorem dJ13_bitCount_26 : decode cJ13_bitCount 26 = .ok (.iconst 4, 1) := dk_7 (dk_at dksJ13_bitCount_1 2 rfl rfl)
theorem dJ13_bitCount_27 : decode cJ13_bitCount 27 = .ok (.iushr, 1) := dk_124 (dk_at dksJ13_bitCount_1 3 rfl rfl)
theorem dJ13_bitCount_28 : decode cJ13_bitCount 28 = .ok (.iadd, 1) := dk_96 (dk_at dksJ13_bitCount_1 4 rfl rfl)
theorem dJ13_bitCount_29 : decode cJ13_bitCount 29 = .ok (.ldc_w 267, 3) := dk_19 1 11 (dk_at dksJ13_bitCount_1 5 rfl rfl)
theorem dJ13_bitCount_32 : decode cJ13_bitCount 32 = .ok (.iand, 1) := dk_126 (dk_at dksJ13_bitCount_1 8 rfl rfl)
theorem dJ13_bitCount_33 : decode cJ13_bitCount 33 = .ok (.istore_n 0, 1) := dk_59 (dk_at dksJ13_bitCount_1 9 rfl rfl)
theorem dJ13_bitCount_34 : decode cJ13_bitCount 34 = .ok (.iload_n 0, 1) := dk_26 (dk_at dksJ13_bitCount_1 10 rfl rfl)
theorem dJ13_bitCount_35 : decode cJ13_bitCount 35 = .ok (.iload_n 0, 1) := dk_26 (dk_at dksJ13_bitCount_1 11 rfl rfl)
theorem dJ13_bitCount_36 : decode cJ13_bitCount 36 = .ok (.bipush 8, 2) := dk_16 8 (dk_at dksJ13_bitCount_1 12 rfl rfl)
theorem dJ13_bitCount_38 : decode cJ13_bitCount 38 = .ok (.iushr, 1) := dk_124 (dk_at dksJ13_bitCount_1 14 rfl rfl)
theorem dJ13_bitCount_39 : decode cJ13_bitCount 39 = .ok (.iadd, 1) := dk_96 (dk_at dksJ13_bitCount_1 15 rfl rfl)
theorem dJ13_bitCount_40 : decode cJ13_bitCount 40 = .ok (.istore_n 0, 1) := dk_59 (dk_at dksJ13_bitCount_1 16 rfl rfl)
theorem dJ13_bitCount_41 : decode cJ13_bitCount 41 = .ok (.iload_n 0, 1) := dk_26 (dk_at dksJ13_bitCount_1 17 rfl rfl)
theorem dJ13_bitCount_42 : decode cJ13_bitCount 42 = .ok (.iload_n 0, 1) := dk_26 (dk_at dksJ13_bitCount_1 18 rfl rfl)
theorem dJ13_bitCount_43 : decode cJ13_bitCount 43 = .ok (.bipush 16, 2) := dk_16 16 (dk_at dksJ13_bitCount_1 19 rfl rfl)
theorem dJ13_bitCount_45 : decode cJ13_bitCount 45 = .ok (.iushr, 1) := dk_124 (dk_at dksJ13_bitCount_1 21 rfl rfl)
theorem dJ13_bitCount_46 : decode cJ13_bitCount 46 = .ok (.iadd, 1) := dk_96 (dk_at dksJ13_bitCount_1 22 rfl rfl)
theorem dJ13_bitCount_47 : decode cJ13_bitCount 47 = .ok (.istore_n 0, 1) := dk_59 (dk_at dksJ13_bitCount_1 23 rfl rfl)
theorem dJ13_bitCount_48 : decode cJ13_bitCount 48 = .ok (.iload_n 0, 1) := dk_26 (dk_at dksJ13_bitCount_2 0 rfl rfl)
theorem dJ13_bitCount_49 : decode cJ13_bitCount 49 = .ok (.bipush 63, 2) := dk_16 63 (dk_at dksJ13_bitCount_2 1 rfl rfl)
theorem dJ13_bitCount_51 : decode cJ13_bitCount 51 = .ok (.iand, 1) := dk_126 (dk_at dksJ13_bitCount_2 3 rfl rfl)
theorem dJ13_bitCount_52 : decode cJ13_bitCount 52 = .ok (.ireturn, 1) := dk_172 (dk_at dksJ13_bitCount_2 4 rfl rfl)
theorem q139 : (Jvm.Cond.initialized "java/lang/Integer") ∈ lw_all := lw_g (lw_at lw_m1 27 rfl) rfl
theorem q977 : (Jvm.Cond.static ({ cls := "java/lang/Integer", name := "bitCount", desc := "(I)I" } : Jvm.MethodName)) ∈ lw_all := lw_g (lw_at lw_m4 145 rfl) rfl
theorem q978 : (Jvm.Cond.code ({ cls := "java/lang/Integer", name := "bitCount", desc := "(I)I" } : Jvm.MethodName) prog_37_method_49_code (1 : Nat) (Option.some Jvm.ClassFile.FieldType.int)) ∈ lw_all := lw_g (lw_at lw_m4 146 rfl) rfl
theorem q979 : (Jvm.Cond.constant "java/lang/Integer" (265 : Nat) (1431655765 : Int32)) ∈ lw_all := lw_g (lw_at lw_m4 147 rfl) rfl
theorem q980 : (Jvm.Cond.constant "java/lang/Integer" (266 : Nat) (858993459 : Int32)) ∈ lw_all := lw_g (lw_at lw_m4 148 rfl) rfl
theorem q981 : (Jvm.Cond.constant "java/lang/Integer" (267 : Nat) (252645135 : Int32)) ∈ lw_all := lw_g (lw_at lw_m4 149 rfl) rfl
/-! NineKeysRound$Held -/
set_option maxRecDepth 100000
def RX13 : String := "NineKeysRound$Held"
abbrev cX13_init : ByteArray := prog_10_method_1_code
def yX13_init : MethodName := ⟨RX13, "<init>", "()V"⟩
theorem dX13_init_0 : decode cX13_init 0 = .ok (.aload_n 0, 1) := by decide +kernel
theorem dX13_init_1 : decode cX13_init 1 = .ok (.invokespecial 1, 3) := by decide +kernel
theorem dX13_init_4 : decode cX13_init 4 = .ok (.return_, 1) := by decide +kernel
theorem q140 : (Jvm.Cond.initialized "NineKeysRound$Held") ∈ lw_all := lw_g (lw_at lw_m1 28 rfl) rfl
theorem q1171 : (Jvm.Cond.instanceMethod ({ cls := "NineKeysRound$Held", name := "<init>", desc := "()V" } : Jvm.MethodName)) ∈ lw_all := lw_g (lw_at lw_m5 99 rfl) rfl
theorem q1172 : (Jvm.Cond.code ({ cls := "NineKeysRound$Held", name := "<init>", desc := "()V" } : Jvm.MethodName) prog_10_method_1_code (1 : Nat) (Option.none : Option Jvm.ClassFile.FieldType)) ∈ lw_all := lw_g (lw_at lw_m5 100 rfl) rfl
theorem q1173 : (Jvm.Cond.methodLink "NineKeysRound$Held" (1 : Nat) ({ cls := "java/lang/Object", name := "<init>", desc := "()V" } : Jvm.MethodName)) ∈ lw_all := lw_g (lw_at lw_m5 101 rfl) rfl
/-! NineKeysRound$Key -/
set_option maxRecDepth 100000
def RX14 : String := "NineKeysRound$Key"
def TX14 : u_T := fun k => match k with
  | 0 => ("NineKeysRound$Key", "number", "I", true)
  | _ => ("NineKeysRound$Key", "this$0", "LNineKeysRound;", true)
def tyX14 : Nat → FieldType := fun k => match k with
  | 0 => .int
  | _ => .object "NineKeysRound"
abbrev wsX140 : List Cond := u_ws RX14 TX14 2
theorem nmX14 : ∀ a, a < 2 → ∀ b, b < 2 → a ≠ b → (TX14 a).2.1 ≠ (TX14 b).2.1 := by decide +kernel
theorem tyX14_ok : ∀ k, k < 2 → parseFieldDescriptor (TX14 k).2.2.1 = some (tyX14 k) := by decide +kernel
abbrev cX14_init : ByteArray := prog_12_method_1_code
def yX14_init : MethodName := ⟨RX14, "<init>", "(LNineKeysRound;I)V"⟩
def dkwX14_init_0 : List UInt8 := [42, 43, 181, 0, 3, 42, 183, 0, 9, 42, 28, 181, 0, 15, 177]
abbrev dktX14_init_0 : List UInt8 := dkwX14_init_0 ++ []
theorem dksX14_init_0 : cX14_init.data.toList.drop 0 = dktX14_init_0 := by decide +kernel
theorem dX14_init_0 : decode cX14_init 0 = .ok (.aload_n 0, 1) := dk_42 (dk_at dksX14_init_0 0 rfl rfl)
theorem dX14_init_1 : decode cX14_init 1 = .ok (.aload_n 1, 1) := dk_43 (dk_at dksX14_init_0 1 rfl rfl)
theorem dX14_init_2 : decode cX14_init 2 = .ok (.putfield 3, 3) := dk_181 0 3 (dk_at dksX14_init_0 2 rfl rfl)
theorem dX14_init_5 : decode cX14_init 5 = .ok (.aload_n 0, 1) := dk_42 (dk_at dksX14_init_0 5 rfl rfl)
theorem dX14_init_6 : decode cX14_init 6 = .ok (.invokespecial 9, 3) := dk_183 0 9 (dk_at dksX14_init_0 6 rfl rfl)
theorem dX14_init_9 : decode cX14_init 9 = .ok (.aload_n 0, 1) := dk_42 (dk_at dksX14_init_0 9 rfl rfl)
theorem dX14_init_10 : decode cX14_init 10 = .ok (.iload_n 2, 1) := dk_28 (dk_at dksX14_init_0 10 rfl rfl)
theorem dX14_init_11 : decode cX14_init 11 = .ok (.putfield 15, 3) := dk_181 0 15 (dk_at dksX14_init_0 11 rfl rfl)
theorem dX14_init_14 : decode cX14_init 14 = .ok (.return_, 1) := dk_177 (dk_at dksX14_init_0 14 rfl rfl)
abbrev cX14_turnsIn : ByteArray := prog_12_method_5_code
def yX14_turnsIn : MethodName := ⟨RX14, "turnsIn", "(I)I"⟩
def dkwX14_turnsIn_0 : List UInt8 := [42, 180, 0, 3, 4, 182, 0, 23, 27, 42, 180, 0, 15, 96, 172]
abbrev dktX14_turnsIn_0 : List UInt8 := dkwX14_turnsIn_0 ++ []
theorem dksX14_turnsIn_0 : cX14_turnsIn.data.toList.drop 0 = dktX14_turnsIn_0 := by decide +kernel
theorem dX14_turnsIn_0 : decode cX14_turnsIn 0 = .ok (.aload_n 0, 1) := dk_42 (dk_at dksX14_turnsIn_0 0 rfl rfl)
theorem dX14_turnsIn_1 : decode cX14_turnsIn 1 = .ok (.getfield 3, 3) := dk_180 0 3 (dk_at dksX14_turnsIn_0 1 rfl rfl)
theorem dX14_turnsIn_4 : decode cX14_turnsIn 4 = .ok (.iconst 1, 1) := dk_4 (dk_at dksX14_turnsIn_0 4 rfl rfl)
theorem dX14_turnsIn_5 : decode cX14_turnsIn 5 = .ok (.invokevirtual 23, 3) := dk_182 0 23 (dk_at dksX14_turnsIn_0 5 rfl rfl)
theorem dX14_turnsIn_8 : decode cX14_turnsIn 8 = .ok (.iload_n 1, 1) := dk_27 (dk_at dksX14_turnsIn_0 8 rfl rfl)
theorem dX14_turnsIn_9 : decode cX14_turnsIn 9 = .ok (.aload_n 0, 1) := dk_42 (dk_at dksX14_turnsIn_0 9 rfl rfl)
theorem dX14_turnsIn_10 : decode cX14_turnsIn 10 = .ok (.getfield 15, 3) := dk_180 0 15 (dk_at dksX14_turnsIn_0 10 rfl rfl)
theorem dX14_turnsIn_13 : decode cX14_turnsIn 13 = .ok (.iadd, 1) := dk_96 (dk_at dksX14_turnsIn_0 13 rfl rfl)
theorem dX14_turnsIn_14 : decode cX14_turnsIn 14 = .ok (.ireturn, 1) := dk_172 (dk_at dksX14_turnsIn_0 14 rfl rfl)
abbrev cX14_tells : ByteArray := prog_12_method_8_code
def yX14_tells : MethodName := ⟨RX14, "tells", "(I)I"⟩
def dkwX14_tells_0 : List UInt8 := [42, 180, 0, 3, 5, 182, 0, 23, 42, 27, 182, 0, 31, 61, 28, 42, 4, 182, 0, 34, 100, 172]
abbrev dktX14_tells_0 : List UInt8 := dkwX14_tells_0 ++ []
theorem dksX14_tells_0 : cX14_tells.data.toList.drop 0 = dktX14_tells_0 := by decide +kernel
theorem dX14_tells_0 : decode cX14_tells 0 = .ok (.aload_n 0, 1) := dk_42 (dk_at dksX14_tells_0 0 rfl rfl)
theorem dX14_tells_1 : decode cX14_tells 1 = .ok (.getfield 3, 3) := dk_180 0 3 (dk_at dksX14_tells_0 1 rfl rfl)
theorem dX14_tells_4 : decode cX14_tells 4 = .ok (.iconst 2, 1) := dk_5 (dk_at dksX14_tells_0 4 rfl rfl)
theorem dX14_tells_5 : decode cX14_tells 5 = .ok (.invokevirtual 23, 3) := dk_182 0 23 (dk_at dksX14_tells_0 5 rfl rfl)
theorem dX14_tells_8 : decode cX14_tells 8 = .ok (.aload_n 0, 1) := dk_42 (dk_at dksX14_tells_0 8 rfl rfl)
theorem dX14_tells_9 : decode cX14_tells 9 = .ok (.iload_n 1, 1) := dk_27 (dk_at dksX14_tells_0 9 rfl rfl)
theorem dX14_tells_10 : decode cX14_tells 10 = .ok (.invokevirtual 31, 3) := dk_182 0 31 (dk_at dksX14_tells_0 10 rfl rfl)
theorem dX14_tells_13 : decode cX14_tells 13 = .ok (.istore_n 2, 1) := dk_61 (dk_at dksX14_tells_0 13 rfl rfl)
theorem dX14_tells_14 : decode cX14_tells 14 = .ok (.iload_n 2, 1) := dk_28 (dk_at dksX14_tells_0 14 rfl rfl)
theorem dX14_tells_15 : decode cX14_tells 15 = .ok (.aload_n 0, 1) := dk_42 (dk_at dksX14_tells_0 15 rfl rfl)
theorem dX14_tells_16 : decode cX14_tells 16 = .ok (.iconst 1, 1) := dk_4 (dk_at dksX14_tells_0 16 rfl rfl)
theorem dX14_tells_17 : decode cX14_tells 17 = .ok (.invokevirtual 34, 3) := dk_182 0 34 (dk_at dksX14_tells_0 17 rfl rfl)
theorem dX14_tells_20 : decode cX14_tells 20 = .ok (.isub, 1) := dk_100 (dk_at dksX14_tells_0 20 rfl rfl)
theorem dX14_tells_21 : decode cX14_tells 21 = .ok (.ireturn, 1) := dk_172 (dk_at dksX14_tells_0 21 rfl rfl)
abbrev cX14_sees : ByteArray := prog_12_method_6_code
def yX14_sees : MethodName := ⟨RX14, "sees", "(I)I"⟩
def dkwX14_sees_0 : List UInt8 := [42, 180, 0, 3, 16, 10, 182, 0, 23, 42, 27, 182, 0, 27, 5, 104, 172]
abbrev dktX14_sees_0 : List UInt8 := dkwX14_sees_0 ++ []
theorem dksX14_sees_0 : cX14_sees.data.toList.drop 0 = dktX14_sees_0 := by decide +kernel
theorem dX14_sees_0 : decode cX14_sees 0 = .ok (.aload_n 0, 1) := dk_42 (dk_at dksX14_sees_0 0 rfl rfl)
theorem dX14_sees_1 : decode cX14_sees 1 = .ok (.getfield 3, 3) := dk_180 0 3 (dk_at dksX14_sees_0 1 rfl rfl)
theorem dX14_sees_4 : decode cX14_sees 4 = .ok (.bipush 10, 2) := dk_16 10 (dk_at dksX14_sees_0 4 rfl rfl)
theorem dX14_sees_6 : decode cX14_sees 6 = .ok (.invokevirtual 23, 3) := dk_182 0 23 (dk_at dksX14_sees_0 6 rfl rfl)
theorem dX14_sees_9 : decode cX14_sees 9 = .ok (.aload_n 0, 1) := dk_42 (dk_at dksX14_sees_0 9 rfl rfl)
theorem dX14_sees_10 : decode cX14_sees 10 = .ok (.iload_n 1, 1) := dk_27 (dk_at dksX14_sees_0 10 rfl rfl)
theorem dX14_sees_11 : decode cX14_sees 11 = .ok (.invokevirtual 27, 3) := dk_182 0 27 (dk_at dksX14_sees_0 11 rfl rfl)
theorem dX14_sees_14 : decode cX14_sees 14 = .ok (.iconst 2, 1) := dk_5 (dk_at dksX14_sees_0 14 rfl rfl)
theorem dX14_sees_15 : decode cX14_sees 15 = .ok (.imul, 1) := dk_104 (dk_at dksX14_sees_0 15 rfl rfl)
theorem dX14_sees_16 : decode cX14_sees 16 = .ok (.ireturn, 1) := dk_172 (dk_at dksX14_sees_0 16 rfl rfl)
abbrev cX14_fears : ByteArray := prog_12_method_7_code
def yX14_fears : MethodName := ⟨RX14, "fears", "(I)I"⟩
def dkwX14_fears_0 : List UInt8 := [42, 180, 0, 3, 16, 11, 182, 0, 23, 27, 42, 180, 0, 15, 130, 172]
abbrev dktX14_fears_0 : List UInt8 := dkwX14_fears_0 ++ []
theorem dksX14_fears_0 : cX14_fears.data.toList.drop 0 = dktX14_fears_0 := by decide +kernel
theorem dX14_fears_0 : decode cX14_fears 0 = .ok (.aload_n 0, 1) := dk_42 (dk_at dksX14_fears_0 0 rfl rfl)
theorem dX14_fears_1 : decode cX14_fears 1 = .ok (.getfield 3, 3) := dk_180 0 3 (dk_at dksX14_fears_0 1 rfl rfl)
theorem dX14_fears_4 : decode cX14_fears 4 = .ok (.bipush 11, 2) := dk_16 11 (dk_at dksX14_fears_0 4 rfl rfl)
theorem dX14_fears_6 : decode cX14_fears 6 = .ok (.invokevirtual 23, 3) := dk_182 0 23 (dk_at dksX14_fears_0 6 rfl rfl)
theorem dX14_fears_9 : decode cX14_fears 9 = .ok (.iload_n 1, 1) := dk_27 (dk_at dksX14_fears_0 9 rfl rfl)
theorem dX14_fears_10 : decode cX14_fears 10 = .ok (.aload_n 0, 1) := dk_42 (dk_at dksX14_fears_0 10 rfl rfl)
theorem dX14_fears_11 : decode cX14_fears 11 = .ok (.getfield 15, 3) := dk_180 0 15 (dk_at dksX14_fears_0 11 rfl rfl)
theorem dX14_fears_14 : decode cX14_fears 14 = .ok (.ixor, 1) := dk_130 (dk_at dksX14_fears_0 14 rfl rfl)
theorem dX14_fears_15 : decode cX14_fears 15 = .ok (.ireturn, 1) := dk_172 (dk_at dksX14_fears_0 15 rfl rfl)
abbrev cX14_isUnder : ByteArray := prog_12_method_4_code
def yX14_isUnder : MethodName := ⟨RX14, "isUnder", "(I)Z"⟩
def dkwX14_isUnder_0 : List UInt8 := [27, 153, 0, 11, 27, 42, 182, 0, 19, 160, 0, 7, 4, 167, 0, 4, 3, 172]
abbrev dktX14_isUnder_0 : List UInt8 := dkwX14_isUnder_0 ++ []
theorem dksX14_isUnder_0 : cX14_isUnder.data.toList.drop 0 = dktX14_isUnder_0 := by decide +kernel
theorem dX14_isUnder_0 : decode cX14_isUnder 0 = .ok (.iload_n 1, 1) := dk_27 (dk_at dksX14_isUnder_0 0 rfl rfl)
theorem dX14_isUnder_1 : decode cX14_isUnder 1 = .ok (.ifCond .eq 11, 3) := dk_153 0 11 (dk_at dksX14_isUnder_0 1 rfl rfl)
theorem dX14_isUnder_4 : decode cX14_isUnder 4 = .ok (.iload_n 1, 1) := dk_27 (dk_at dksX14_isUnder_0 4 rfl rfl)
theorem dX14_isUnder_5 : decode cX14_isUnder 5 = .ok (.aload_n 0, 1) := dk_42 (dk_at dksX14_isUnder_0 5 rfl rfl)
theorem dX14_isUnder_6 : decode cX14_isUnder 6 = .ok (.invokevirtual 19, 3) := dk_182 0 19 (dk_at dksX14_isUnder_0 6 rfl rfl)
theorem dX14_isUnder_9 : decode cX14_isUnder 9 = .ok (.if_icmp .ne 7, 3) := dk_160 0 7 (dk_at dksX14_isUnder_0 9 rfl rfl)
theorem dX14_isUnder_12 : decode cX14_isUnder 12 = .ok (.iconst 1, 1) := dk_4 (dk_at dksX14_isUnder_0 12 rfl rfl)
theorem dX14_isUnder_13 : decode cX14_isUnder 13 = .ok (.goto 4, 3) := dk_167 0 4 (dk_at dksX14_isUnder_0 13 rfl rfl)
theorem dX14_isUnder_16 : decode cX14_isUnder 16 = .ok (.iconst 0, 1) := dk_3 (dk_at dksX14_isUnder_0 16 rfl rfl)
theorem dX14_isUnder_17 : decode cX14_isUnder 17 = .ok (.ireturn, 1) := dk_172 (dk_at dksX14_isUnder_0 17 rfl rfl)
abbrev cX14_kind : ByteArray := prog_12_method_3_code
def yX14_kind : MethodName := ⟨RX14, "kind", "()I"⟩
theorem dX14_kind_0 : decode cX14_kind 0 = .ok (.iconst 0, 1) := by decide +kernel
theorem dX14_kind_1 : decode cX14_kind 1 = .ok (.ireturn, 1) := by decide +kernel
theorem q141 : (Jvm.Cond.initialized "NineKeysRound$Key") ∈ lw_all := lw_g (lw_at lw_m1 29 rfl) rfl
theorem q1168 : (Jvm.Cond.instanceMethod ({ cls := "NineKeysRound$Key", name := "<init>", desc := "(LNineKeysRound;I)V" } : Jvm.MethodName)) ∈ lw_all := lw_g (lw_at lw_m5 96 rfl) rfl
theorem q1169 : (Jvm.Cond.code ({ cls := "NineKeysRound$Key", name := "<init>", desc := "(LNineKeysRound;I)V" } : Jvm.MethodName) prog_12_method_1_code (3 : Nat) (Option.none : Option Jvm.ClassFile.FieldType)) ∈ lw_all := lw_g (lw_at lw_m5 97 rfl) rfl
theorem q1170 : (Jvm.Cond.methodLinkNest "NineKeysRound$Key" (9 : Nat) ({ cls := "NineKeysRound$Held", name := "<init>", desc := "()V" } : Jvm.MethodName) "NineKeysRound") ∈ lw_tbl := lw_at lw_m5 98 rfl
theorem q1175 : (Jvm.Cond.fieldLink "NineKeysRound$Key" (15 : Nat) "NineKeysRound$Key" "number" "I") ∈ lw_all := lw_g (lw_at lw_m5 103 rfl) rfl
theorem q1176 : (Jvm.Cond.fieldLink "NineKeysRound$Key" (3 : Nat) "NineKeysRound$Key" "this$0" "LNineKeysRound;") ∈ lw_all := lw_g (lw_at lw_m5 104 rfl) rfl
theorem q1180 : (Jvm.Cond.soleField "NineKeysRound$Key" "number") ∈ lw_all := lw_g (lw_at lw_m5 108 rfl) rfl
theorem q1182 : (Jvm.Cond.soleField "NineKeysRound$Key" "this$0") ∈ lw_all := lw_g (lw_at lw_m5 110 rfl) rfl
theorem q1262 : (Jvm.Cond.instantiable "NineKeysRound$Key" (2 : Nat)) ∈ lw_all := lw_g (lw_at lw_m5 190 rfl) rfl
theorem q1264 : (Jvm.Cond.laysFinal "NineKeysRound$Key" "NineKeysRound$Key" "number" "I") ∈ lw_all := lw_g (lw_at lw_m5 192 rfl) rfl
theorem q1265 : (Jvm.Cond.laysFinal "NineKeysRound$Key" "NineKeysRound$Key" "this$0" "LNineKeysRound;") ∈ lw_all := lw_g (lw_at lw_m5 193 rfl) rfl
theorem q1266 : (Jvm.Cond.superclass "NineKeysRound$Key" "NineKeysRound$Held") ∈ lw_all := lw_g (lw_at lw_m5 194 rfl) rfl
theorem q1290 : (Jvm.Cond.instanceMethod ({ cls := "NineKeysRound$Key", name := "turnsIn", desc := "(I)I" } : Jvm.MethodName)) ∈ lw_all := lw_g (lw_at lw_m5 218 rfl) rfl
theorem q1291 : (Jvm.Cond.code ({ cls := "NineKeysRound$Key", name := "turnsIn", desc := "(I)I" } : Jvm.MethodName) prog_12_method_5_code (2 : Nat) (Option.some Jvm.ClassFile.FieldType.int)) ∈ lw_all := lw_g (lw_at lw_m5 219 rfl) rfl
theorem q1292 : (Jvm.Cond.methodLinkNest "NineKeysRound$Key" (23 : Nat) ({ cls := "NineKeysRound", name := "ran", desc := "(I)V" } : Jvm.MethodName) "NineKeysRound") ∈ lw_tbl := lw_at lw_m5 220 rfl
theorem q1304 : (Jvm.Cond.publicMethod ({ cls := "NineKeysRound$Key", name := "turnsIn", desc := "(I)I" } : Jvm.MethodName)) ∈ lw_tbl := lw_at lw_m5 232 rfl
theorem q1305 : (Jvm.Cond.castable "NineKeysRound$Key" "NineKeysRound$Turns") ∈ lw_tbl := lw_at lw_m5 233 rfl
theorem q1306 : (Jvm.Cond.selects "NineKeysRound$Key" ({ cls := "NineKeysRound$Turns", name := "turnsIn", desc := "(I)I" } : Jvm.MethodName) ({ cls := "NineKeysRound$Key", name := "turnsIn", desc := "(I)I" } : Jvm.MethodName)) ∈ lw_all := lw_g (lw_at lw_m5 234 rfl) rfl
theorem q1307 : (Jvm.Cond.unhidden "NineKeysRound$Key" "turnsIn" "(I)I") ∈ lw_tbl := lw_at lw_m5 235 rfl
theorem q1327 : (Jvm.Cond.instanceMethod ({ cls := "NineKeysRound$Key", name := "tells", desc := "(I)I" } : Jvm.MethodName)) ∈ lw_all := lw_g (lw_at lw_m6 15 rfl) rfl
theorem q1328 : (Jvm.Cond.publicMethod ({ cls := "NineKeysRound$Key", name := "tells", desc := "(I)I" } : Jvm.MethodName)) ∈ lw_tbl := lw_at lw_m6 16 rfl
theorem q1329 : (Jvm.Cond.code ({ cls := "NineKeysRound$Key", name := "tells", desc := "(I)I" } : Jvm.MethodName) prog_12_method_8_code (3 : Nat) (Option.some Jvm.ClassFile.FieldType.int)) ∈ lw_all := lw_g (lw_at lw_m6 17 rfl) rfl
theorem q1330 : (Jvm.Cond.methodLink "NineKeysRound$Key" (31 : Nat) ({ cls := "NineKeysRound$Key", name := "sees", desc := "(I)I" } : Jvm.MethodName)) ∈ lw_all := lw_g (lw_at lw_m6 18 rfl) rfl
theorem q1331 : (Jvm.Cond.instanceMethod ({ cls := "NineKeysRound$Key", name := "sees", desc := "(I)I" } : Jvm.MethodName)) ∈ lw_all := lw_g (lw_at lw_m6 19 rfl) rfl
theorem q1332 : (Jvm.Cond.selects "NineKeysRound$Key" ({ cls := "NineKeysRound$Key", name := "sees", desc := "(I)I" } : Jvm.MethodName) ({ cls := "NineKeysRound$Key", name := "sees", desc := "(I)I" } : Jvm.MethodName)) ∈ lw_all := lw_g (lw_at lw_m6 20 rfl) rfl
theorem q1333 : (Jvm.Cond.sameMethod "NineKeysRound$Key" "NineKeysRound$Key" "sees" "(I)I") ∈ lw_all := lw_g (lw_at lw_m6 21 rfl) rfl
theorem q1345 : (Jvm.Cond.code ({ cls := "NineKeysRound$Key", name := "sees", desc := "(I)I" } : Jvm.MethodName) prog_12_method_6_code (2 : Nat) (Option.some Jvm.ClassFile.FieldType.int)) ∈ lw_all := lw_g (lw_at lw_m6 33 rfl) rfl
theorem q1346 : (Jvm.Cond.methodLink "NineKeysRound$Key" (27 : Nat) ({ cls := "NineKeysRound$Key", name := "turnsIn", desc := "(I)I" } : Jvm.MethodName)) ∈ lw_all := lw_g (lw_at lw_m6 34 rfl) rfl
theorem q1355 : (Jvm.Cond.declares ({ cls := "NineKeysRound$Key", name := "sees", desc := "(I)I" } : Jvm.MethodName)) ∈ lw_tbl := lw_at lw_m6 43 rfl
theorem q1365 : (Jvm.Cond.declares ({ cls := "NineKeysRound$Key", name := "fears", desc := "(I)I" } : Jvm.MethodName)) ∈ lw_tbl := lw_at lw_m6 53 rfl
theorem q1366 : (Jvm.Cond.instanceMethod ({ cls := "NineKeysRound$Key", name := "fears", desc := "(I)I" } : Jvm.MethodName)) ∈ lw_all := lw_g (lw_at lw_m6 54 rfl) rfl
theorem q1367 : (Jvm.Cond.code ({ cls := "NineKeysRound$Key", name := "fears", desc := "(I)I" } : Jvm.MethodName) prog_12_method_7_code (2 : Nat) (Option.some Jvm.ClassFile.FieldType.int)) ∈ lw_all := lw_g (lw_at lw_m6 55 rfl) rfl
theorem q1374 : (Jvm.Cond.methodLink "NineKeysRound$Key" (34 : Nat) ({ cls := "NineKeysRound$Key", name := "fears", desc := "(I)I" } : Jvm.MethodName)) ∈ lw_all := lw_g (lw_at lw_m6 62 rfl) rfl
theorem q1385 : (Jvm.Cond.castable "NineKeysRound$Key" "NineKeysRound$Tells") ∈ lw_tbl := lw_at lw_m6 73 rfl
theorem q1386 : (Jvm.Cond.selects "NineKeysRound$Key" ({ cls := "NineKeysRound$Tells", name := "tells", desc := "(I)I" } : Jvm.MethodName) ({ cls := "NineKeysRound$Key", name := "tells", desc := "(I)I" } : Jvm.MethodName)) ∈ lw_all := lw_g (lw_at lw_m6 74 rfl) rfl
theorem q1387 : (Jvm.Cond.unhidden "NineKeysRound$Key" "tells" "(I)I") ∈ lw_tbl := lw_at lw_m6 75 rfl
theorem q1402 : (Jvm.Cond.declares ({ cls := "NineKeysRound$Key", name := "tells", desc := "(I)I" } : Jvm.MethodName)) ∈ lw_tbl := lw_at lw_m6 90 rfl
theorem q1577 : (Jvm.Cond.instanceMethod ({ cls := "NineKeysRound$Key", name := "isUnder", desc := "(I)Z" } : Jvm.MethodName)) ∈ lw_all := lw_g (lw_at lw_m7 25 rfl) rfl
theorem q1578 : (Jvm.Cond.selects "NineKeysRound$Key" ({ cls := "NineKeysRound$Key", name := "isUnder", desc := "(I)Z" } : Jvm.MethodName) ({ cls := "NineKeysRound$Key", name := "isUnder", desc := "(I)Z" } : Jvm.MethodName)) ∈ lw_all := lw_g (lw_at lw_m7 26 rfl) rfl
theorem q1579 : (Jvm.Cond.sameMethod "NineKeysRound$Key" "NineKeysRound$Key" "isUnder" "(I)Z") ∈ lw_all := lw_g (lw_at lw_m7 27 rfl) rfl
theorem q1584 : (Jvm.Cond.code ({ cls := "NineKeysRound$Key", name := "isUnder", desc := "(I)Z" } : Jvm.MethodName) prog_12_method_4_code (2 : Nat) (Option.some Jvm.ClassFile.FieldType.boolean)) ∈ lw_all := lw_g (lw_at lw_m7 32 rfl) rfl
theorem q1585 : (Jvm.Cond.methodLink "NineKeysRound$Key" (19 : Nat) ({ cls := "NineKeysRound$Key", name := "kind", desc := "()I" } : Jvm.MethodName)) ∈ lw_all := lw_g (lw_at lw_m7 33 rfl) rfl
theorem q1586 : (Jvm.Cond.instanceMethod ({ cls := "NineKeysRound$Key", name := "kind", desc := "()I" } : Jvm.MethodName)) ∈ lw_all := lw_g (lw_at lw_m7 34 rfl) rfl
theorem q1587 : (Jvm.Cond.selects "NineKeysRound$Key" ({ cls := "NineKeysRound$Key", name := "kind", desc := "()I" } : Jvm.MethodName) ({ cls := "NineKeysRound$Key", name := "kind", desc := "()I" } : Jvm.MethodName)) ∈ lw_all := lw_g (lw_at lw_m7 35 rfl) rfl
theorem q1588 : (Jvm.Cond.sameMethod "NineKeysRound$Key" "NineKeysRound$Key" "kind" "()I") ∈ lw_all := lw_g (lw_at lw_m7 36 rfl) rfl
theorem q1610 : (Jvm.Cond.code ({ cls := "NineKeysRound$Key", name := "kind", desc := "()I" } : Jvm.MethodName) prog_12_method_3_code (1 : Nat) (Option.some Jvm.ClassFile.FieldType.int)) ∈ lw_all := lw_g (lw_at lw_m7 58 rfl) rfl
theorem q2232 : (Jvm.Cond.sameMethod "NineKeysRound$Key" "NineKeysRound$Key" "turnsIn" "(I)I") ∈ lw_all := lw_g (lw_at lw_m9 200 rfl) rfl
theorem q2237 : (Jvm.Cond.selects "NineKeysRound$Key" ({ cls := "NineKeysRound$Key", name := "turnsIn", desc := "(I)I" } : Jvm.MethodName) ({ cls := "NineKeysRound$Key", name := "turnsIn", desc := "(I)I" } : Jvm.MethodName)) ∈ lw_all := lw_g (lw_at lw_m9 205 rfl) rfl
theorem q2242 : (Jvm.Cond.sameMethod "NineKeysRound$Key" "NineKeysRound$Key" "fears" "(I)I") ∈ lw_all := lw_g (lw_at lw_m9 210 rfl) rfl
theorem q2246 : (Jvm.Cond.selects "NineKeysRound$Key" ({ cls := "NineKeysRound$Key", name := "fears", desc := "(I)I" } : Jvm.MethodName) ({ cls := "NineKeysRound$Key", name := "fears", desc := "(I)I" } : Jvm.MethodName)) ∈ lw_all := lw_g (lw_at lw_m9 214 rfl) rfl
theorem q2273 : (Jvm.Cond.castable "NineKeysRound$Key" "NineKeysRound$Held") ∈ lw_tbl := lw_at lw_m10 1 rfl
theorem in_X14 : ∀ w ∈ wsX140, w ∈ lw_all := lw_in wsX140 [1264, 1265] (by decide +kernel) (by decide +kernel)
/-! NineKeysRound$Dent -/
set_option maxRecDepth 100000
def RX15 : String := "NineKeysRound$Dent"
def TX15 : u_T := fun k => match k with
  | 0 => ("NineKeysRound$Key", "number", "I", true)
  | 1 => ("NineKeysRound$Key", "this$0", "LNineKeysRound;", true)
  | _ => ("NineKeysRound$Dent", "this$0", "LNineKeysRound;", true)
def tyX15 : Nat → FieldType := fun k => match k with
  | 0 => .int
  | 1 => .object "NineKeysRound"
  | _ => .object "NineKeysRound"
abbrev wsX150 : List Cond := u_ws RX15 TX15 3
-- two fields of one name: no nmX15
theorem tyX15_ok : ∀ k, k < 3 → parseFieldDescriptor (TX15 k).2.2.1 = some (tyX15 k) := by decide +kernel
abbrev cX15_init : ByteArray := prog_6_method_1_code
def yX15_init : MethodName := ⟨RX15, "<init>", "(LNineKeysRound;I)V"⟩
def dkwX15_init_0 : List UInt8 := [42, 43, 181, 0, 1, 42, 43, 28, 183, 0, 7, 177]
abbrev dktX15_init_0 : List UInt8 := dkwX15_init_0 ++ []
theorem dksX15_init_0 : cX15_init.data.toList.drop 0 = dktX15_init_0 := by decide +kernel
theorem dX15_init_0 : decode cX15_init 0 = .ok (.aload_n 0, 1) := dk_42 (dk_at dksX15_init_0 0 rfl rfl)
theorem dX15_init_1 : decode cX15_init 1 = .ok (.aload_n 1, 1) := dk_43 (dk_at dksX15_init_0 1 rfl rfl)
theorem dX15_init_2 : decode cX15_init 2 = .ok (.putfield 1, 3) := dk_181 0 1 (dk_at dksX15_init_0 2 rfl rfl)
theorem dX15_init_5 : decode cX15_init 5 = .ok (.aload_n 0, 1) := dk_42 (dk_at dksX15_init_0 5 rfl rfl)
theorem dX15_init_6 : decode cX15_init 6 = .ok (.aload_n 1, 1) := dk_43 (dk_at dksX15_init_0 6 rfl rfl)
theorem dX15_init_7 : decode cX15_init 7 = .ok (.iload_n 2, 1) := dk_28 (dk_at dksX15_init_0 7 rfl rfl)
theorem dX15_init_8 : decode cX15_init 8 = .ok (.invokespecial 7, 3) := dk_183 0 7 (dk_at dksX15_init_0 8 rfl rfl)
theorem dX15_init_11 : decode cX15_init 11 = .ok (.return_, 1) := dk_177 (dk_at dksX15_init_0 11 rfl rfl)
abbrev cX15_turnsIn : ByteArray := prog_6_method_4_code
def yX15_turnsIn : MethodName := ⟨RX15, "turnsIn", "(I)I"⟩
def dkwX15_turnsIn_0 : List UInt8 := [42, 180, 0, 1, 16, 20, 182, 0, 17, 42, 27, 183, 0, 23, 6, 96, 172]
abbrev dktX15_turnsIn_0 : List UInt8 := dkwX15_turnsIn_0 ++ []
theorem dksX15_turnsIn_0 : cX15_turnsIn.data.toList.drop 0 = dktX15_turnsIn_0 := by decide +kernel
theorem dX15_turnsIn_0 : decode cX15_turnsIn 0 = .ok (.aload_n 0, 1) := dk_42 (dk_at dksX15_turnsIn_0 0 rfl rfl)
theorem dX15_turnsIn_1 : decode cX15_turnsIn 1 = .ok (.getfield 1, 3) := dk_180 0 1 (dk_at dksX15_turnsIn_0 1 rfl rfl)
theorem dX15_turnsIn_4 : decode cX15_turnsIn 4 = .ok (.bipush 20, 2) := dk_16 20 (dk_at dksX15_turnsIn_0 4 rfl rfl)
theorem dX15_turnsIn_6 : decode cX15_turnsIn 6 = .ok (.invokevirtual 17, 3) := dk_182 0 17 (dk_at dksX15_turnsIn_0 6 rfl rfl)
theorem dX15_turnsIn_9 : decode cX15_turnsIn 9 = .ok (.aload_n 0, 1) := dk_42 (dk_at dksX15_turnsIn_0 9 rfl rfl)
theorem dX15_turnsIn_10 : decode cX15_turnsIn 10 = .ok (.iload_n 1, 1) := dk_27 (dk_at dksX15_turnsIn_0 10 rfl rfl)
theorem dX15_turnsIn_11 : decode cX15_turnsIn 11 = .ok (.invokespecial 23, 3) := dk_183 0 23 (dk_at dksX15_turnsIn_0 11 rfl rfl)
theorem dX15_turnsIn_14 : decode cX15_turnsIn 14 = .ok (.iconst 3, 1) := dk_6 (dk_at dksX15_turnsIn_0 14 rfl rfl)
theorem dX15_turnsIn_15 : decode cX15_turnsIn 15 = .ok (.iadd, 1) := dk_96 (dk_at dksX15_turnsIn_0 15 rfl rfl)
theorem dX15_turnsIn_16 : decode cX15_turnsIn 16 = .ok (.ireturn, 1) := dk_172 (dk_at dksX15_turnsIn_0 16 rfl rfl)
abbrev cX15_isUnder : ByteArray := prog_6_method_3_code
def yX15_isUnder : MethodName := ⟨RX15, "isUnder", "(I)Z"⟩
def dkwX15_isUnder_0 : List UInt8 := [27, 4, 159, 0, 11, 42, 27, 183, 0, 13, 153, 0, 7, 4, 167, 0, 4, 3, 172]
abbrev dktX15_isUnder_0 : List UInt8 := dkwX15_isUnder_0 ++ []
theorem dksX15_isUnder_0 : cX15_isUnder.data.toList.drop 0 = dktX15_isUnder_0 := by decide +kernel
theorem dX15_isUnder_0 : decode cX15_isUnder 0 = .ok (.iload_n 1, 1) := dk_27 (dk_at dksX15_isUnder_0 0 rfl rfl)
theorem dX15_isUnder_1 : decode cX15_isUnder 1 = .ok (.iconst 1, 1) := dk_4 (dk_at dksX15_isUnder_0 1 rfl rfl)
theorem dX15_isUnder_2 : decode cX15_isUnder 2 = .ok (.if_icmp .eq 11, 3) := dk_159 0 11 (dk_at dksX15_isUnder_0 2 rfl rfl)
theorem dX15_isUnder_5 : decode cX15_isUnder 5 = .ok (.aload_n 0, 1) := dk_42 (dk_at dksX15_isUnder_0 5 rfl rfl)
theorem dX15_isUnder_6 : decode cX15_isUnder 6 = .ok (.iload_n 1, 1) := dk_27 (dk_at dksX15_isUnder_0 6 rfl rfl)
theorem dX15_isUnder_7 : decode cX15_isUnder 7 = .ok (.invokespecial 13, 3) := dk_183 0 13 (dk_at dksX15_isUnder_0 7 rfl rfl)
theorem dX15_isUnder_10 : decode cX15_isUnder 10 = .ok (.ifCond .eq 7, 3) := dk_153 0 7 (dk_at dksX15_isUnder_0 10 rfl rfl)
theorem dX15_isUnder_13 : decode cX15_isUnder 13 = .ok (.iconst 1, 1) := dk_4 (dk_at dksX15_isUnder_0 13 rfl rfl)
theorem dX15_isUnder_14 : decode cX15_isUnder 14 = .ok (.goto 4, 3) := dk_167 0 4 (dk_at dksX15_isUnder_0 14 rfl rfl)
theorem dX15_isUnder_17 : decode cX15_isUnder 17 = .ok (.iconst 0, 1) := dk_3 (dk_at dksX15_isUnder_0 17 rfl rfl)
theorem dX15_isUnder_18 : decode cX15_isUnder 18 = .ok (.ireturn, 1) := dk_172 (dk_at dksX15_isUnder_0 18 rfl rfl)
abbrev cX15_kind : ByteArray := prog_6_method_2_code
def yX15_kind : MethodName := ⟨RX15, "kind", "()I"⟩
theorem dX15_kind_0 : decode cX15_kind 0 = .ok (.iconst 1, 1) := by decide +kernel
theorem dX15_kind_1 : decode cX15_kind 1 = .ok (.ireturn, 1) := by decide +kernel
theorem q142 : (Jvm.Cond.initialized "NineKeysRound$Dent") ∈ lw_all := lw_g (lw_at lw_m1 30 rfl) rfl
theorem q1163 : (Jvm.Cond.instantiable "NineKeysRound$Dent" (3 : Nat)) ∈ lw_all := lw_g (lw_at lw_m5 91 rfl) rfl
theorem q1165 : (Jvm.Cond.instanceMethod ({ cls := "NineKeysRound$Dent", name := "<init>", desc := "(LNineKeysRound;I)V" } : Jvm.MethodName)) ∈ lw_all := lw_g (lw_at lw_m5 93 rfl) rfl
theorem q1166 : (Jvm.Cond.code ({ cls := "NineKeysRound$Dent", name := "<init>", desc := "(LNineKeysRound;I)V" } : Jvm.MethodName) prog_6_method_1_code (3 : Nat) (Option.none : Option Jvm.ClassFile.FieldType)) ∈ lw_all := lw_g (lw_at lw_m5 94 rfl) rfl
theorem q1167 : (Jvm.Cond.methodLink "NineKeysRound$Dent" (7 : Nat) ({ cls := "NineKeysRound$Key", name := "<init>", desc := "(LNineKeysRound;I)V" } : Jvm.MethodName)) ∈ lw_all := lw_g (lw_at lw_m5 95 rfl) rfl
theorem q1174 : (Jvm.Cond.fieldLink "NineKeysRound$Dent" (1 : Nat) "NineKeysRound$Dent" "this$0" "LNineKeysRound;") ∈ lw_all := lw_g (lw_at lw_m5 102 rfl) rfl
theorem q1177 : (Jvm.Cond.laysFinal "NineKeysRound$Dent" "NineKeysRound$Dent" "this$0" "LNineKeysRound;") ∈ lw_all := lw_g (lw_at lw_m5 105 rfl) rfl
theorem q1178 : (Jvm.Cond.soleField "NineKeysRound$Dent" "this$0") ∈ lw_all := lw_g (lw_at lw_m5 106 rfl) rfl
theorem q1179 : (Jvm.Cond.laysFinal "NineKeysRound$Dent" "NineKeysRound$Key" "number" "I") ∈ lw_all := lw_g (lw_at lw_m5 107 rfl) rfl
theorem q1181 : (Jvm.Cond.laysFinal "NineKeysRound$Dent" "NineKeysRound$Key" "this$0" "LNineKeysRound;") ∈ lw_all := lw_g (lw_at lw_m5 109 rfl) rfl
theorem q1183 : (Jvm.Cond.superclass "NineKeysRound$Dent" "NineKeysRound$Key") ∈ lw_all := lw_g (lw_at lw_m5 111 rfl) rfl
theorem q1279 : (Jvm.Cond.castable "NineKeysRound$Dent" "NineKeysRound$Turns") ∈ lw_tbl := lw_at lw_m5 207 rfl
theorem q1280 : (Jvm.Cond.selects "NineKeysRound$Dent" ({ cls := "NineKeysRound$Turns", name := "turnsIn", desc := "(I)I" } : Jvm.MethodName) ({ cls := "NineKeysRound$Dent", name := "turnsIn", desc := "(I)I" } : Jvm.MethodName)) ∈ lw_all := lw_g (lw_at lw_m5 208 rfl) rfl
theorem q1281 : (Jvm.Cond.unhidden "NineKeysRound$Dent" "turnsIn" "(I)I") ∈ lw_tbl := lw_at lw_m5 209 rfl
theorem q1282 : (Jvm.Cond.instanceMethod ({ cls := "NineKeysRound$Dent", name := "turnsIn", desc := "(I)I" } : Jvm.MethodName)) ∈ lw_all := lw_g (lw_at lw_m5 210 rfl) rfl
theorem q1283 : (Jvm.Cond.publicMethod ({ cls := "NineKeysRound$Dent", name := "turnsIn", desc := "(I)I" } : Jvm.MethodName)) ∈ lw_tbl := lw_at lw_m5 211 rfl
theorem q1284 : (Jvm.Cond.code ({ cls := "NineKeysRound$Dent", name := "turnsIn", desc := "(I)I" } : Jvm.MethodName) prog_6_method_4_code (2 : Nat) (Option.some Jvm.ClassFile.FieldType.int)) ∈ lw_all := lw_g (lw_at lw_m5 212 rfl) rfl
theorem q1285 : (Jvm.Cond.methodLinkNest "NineKeysRound$Dent" (17 : Nat) ({ cls := "NineKeysRound", name := "ran", desc := "(I)V" } : Jvm.MethodName) "NineKeysRound") ∈ lw_tbl := lw_at lw_m5 213 rfl
theorem q1289 : (Jvm.Cond.methodLink "NineKeysRound$Dent" (23 : Nat) ({ cls := "NineKeysRound$Key", name := "turnsIn", desc := "(I)I" } : Jvm.MethodName)) ∈ lw_all := lw_g (lw_at lw_m5 217 rfl) rfl
theorem q1324 : (Jvm.Cond.castable "NineKeysRound$Dent" "NineKeysRound$Tells") ∈ lw_tbl := lw_at lw_m6 12 rfl
theorem q1325 : (Jvm.Cond.selects "NineKeysRound$Dent" ({ cls := "NineKeysRound$Tells", name := "tells", desc := "(I)I" } : Jvm.MethodName) ({ cls := "NineKeysRound$Key", name := "tells", desc := "(I)I" } : Jvm.MethodName)) ∈ lw_all := lw_g (lw_at lw_m6 13 rfl) rfl
theorem q1326 : (Jvm.Cond.unhidden "NineKeysRound$Dent" "tells" "(I)I") ∈ lw_tbl := lw_at lw_m6 14 rfl
theorem q1334 : (Jvm.Cond.selects "NineKeysRound$Dent" ({ cls := "NineKeysRound$Key", name := "sees", desc := "(I)I" } : Jvm.MethodName) ({ cls := "NineKeysRound$Key", name := "sees", desc := "(I)I" } : Jvm.MethodName)) ∈ lw_all := lw_g (lw_at lw_m6 22 rfl) rfl
theorem q1364 : (Jvm.Cond.sameMethod "NineKeysRound$Dent" "NineKeysRound$Key" "fears" "(I)I") ∈ lw_all := lw_g (lw_at lw_m6 52 rfl) rfl
theorem q1370 : (Jvm.Cond.declares ({ cls := "NineKeysRound$Dent", name := "turnsIn", desc := "(I)I" } : Jvm.MethodName)) ∈ lw_tbl := lw_at lw_m6 58 rfl
theorem q1580 : (Jvm.Cond.selects "NineKeysRound$Dent" ({ cls := "NineKeysRound$Key", name := "isUnder", desc := "(I)Z" } : Jvm.MethodName) ({ cls := "NineKeysRound$Dent", name := "isUnder", desc := "(I)Z" } : Jvm.MethodName)) ∈ lw_all := lw_g (lw_at lw_m7 28 rfl) rfl
theorem q1581 : (Jvm.Cond.instanceMethod ({ cls := "NineKeysRound$Dent", name := "isUnder", desc := "(I)Z" } : Jvm.MethodName)) ∈ lw_all := lw_g (lw_at lw_m7 29 rfl) rfl
theorem q1582 : (Jvm.Cond.code ({ cls := "NineKeysRound$Dent", name := "isUnder", desc := "(I)Z" } : Jvm.MethodName) prog_6_method_3_code (2 : Nat) (Option.some Jvm.ClassFile.FieldType.boolean)) ∈ lw_all := lw_g (lw_at lw_m7 30 rfl) rfl
theorem q1583 : (Jvm.Cond.methodLink "NineKeysRound$Dent" (13 : Nat) ({ cls := "NineKeysRound$Key", name := "isUnder", desc := "(I)Z" } : Jvm.MethodName)) ∈ lw_all := lw_g (lw_at lw_m7 31 rfl) rfl
theorem q1589 : (Jvm.Cond.selects "NineKeysRound$Dent" ({ cls := "NineKeysRound$Key", name := "kind", desc := "()I" } : Jvm.MethodName) ({ cls := "NineKeysRound$Dent", name := "kind", desc := "()I" } : Jvm.MethodName)) ∈ lw_all := lw_g (lw_at lw_m7 37 rfl) rfl
theorem q1590 : (Jvm.Cond.instanceMethod ({ cls := "NineKeysRound$Dent", name := "kind", desc := "()I" } : Jvm.MethodName)) ∈ lw_all := lw_g (lw_at lw_m7 38 rfl) rfl
theorem q1591 : (Jvm.Cond.code ({ cls := "NineKeysRound$Dent", name := "kind", desc := "()I" } : Jvm.MethodName) prog_6_method_2_code (1 : Nat) (Option.some Jvm.ClassFile.FieldType.int)) ∈ lw_all := lw_g (lw_at lw_m7 39 rfl) rfl
theorem q2234 : (Jvm.Cond.selects "NineKeysRound$Dent" ({ cls := "NineKeysRound$Key", name := "turnsIn", desc := "(I)I" } : Jvm.MethodName) ({ cls := "NineKeysRound$Dent", name := "turnsIn", desc := "(I)I" } : Jvm.MethodName)) ∈ lw_all := lw_g (lw_at lw_m9 202 rfl) rfl
theorem q2243 : (Jvm.Cond.selects "NineKeysRound$Dent" ({ cls := "NineKeysRound$Key", name := "fears", desc := "(I)I" } : Jvm.MethodName) ({ cls := "NineKeysRound$Key", name := "fears", desc := "(I)I" } : Jvm.MethodName)) ∈ lw_all := lw_g (lw_at lw_m9 211 rfl) rfl
theorem q2252 : (Jvm.Cond.sameMethod "NineKeysRound$Dent" "NineKeysRound$Dent" "isUnder" "(I)Z") ∈ lw_all := lw_g (lw_at lw_m9 220 rfl) rfl
theorem q2259 : (Jvm.Cond.castable "NineKeysRound$Dent" "NineKeysRound$Key") ∈ lw_tbl := lw_at lw_m9 227 rfl
theorem q2266 : (Jvm.Cond.castable "NineKeysRound$Dent" "NineKeysRound$Held") ∈ lw_tbl := lw_at lw_m9 234 rfl
theorem in_X15 : ∀ w ∈ wsX150, w ∈ lw_all := lw_in wsX150 [1179, 1181, 1177] (by decide +kernel) (by decide +kernel)
/-! NineKeysRound$Lamp -/
set_option maxRecDepth 100000
def RX16 : String := "NineKeysRound$Lamp"
def TX16 : u_T := fun k => match k with
  | 0 => ("NineKeysRound$Key", "number", "I", true)
  | 1 => ("NineKeysRound$Key", "this$0", "LNineKeysRound;", true)
  | _ => ("NineKeysRound$Lamp", "this$0", "LNineKeysRound;", true)
def tyX16 : Nat → FieldType := fun k => match k with
  | 0 => .int
  | 1 => .object "NineKeysRound"
  | _ => .object "NineKeysRound"
abbrev wsX160 : List Cond := u_ws RX16 TX16 3
-- two fields of one name: no nmX16
theorem tyX16_ok : ∀ k, k < 3 → parseFieldDescriptor (TX16 k).2.2.1 = some (tyX16 k) := by decide +kernel
abbrev cX16_init : ByteArray := prog_13_method_1_code
def yX16_init : MethodName := ⟨RX16, "<init>", "(LNineKeysRound;I)V"⟩
def dkwX16_init_0 : List UInt8 := [42, 43, 181, 0, 1, 42, 43, 28, 183, 0, 7, 177]
abbrev dktX16_init_0 : List UInt8 := dkwX16_init_0 ++ []
theorem dksX16_init_0 : cX16_init.data.toList.drop 0 = dktX16_init_0 := by decide +kernel
theorem dX16_init_0 : decode cX16_init 0 = .ok (.aload_n 0, 1) := dk_42 (dk_at dksX16_init_0 0 rfl rfl)
theorem dX16_init_1 : decode cX16_init 1 = .ok (.aload_n 1, 1) := dk_43 (dk_at dksX16_init_0 1 rfl rfl)
theorem dX16_init_2 : decode cX16_init 2 = .ok (.putfield 1, 3) := dk_181 0 1 (dk_at dksX16_init_0 2 rfl rfl)
theorem dX16_init_5 : decode cX16_init 5 = .ok (.aload_n 0, 1) := dk_42 (dk_at dksX16_init_0 5 rfl rfl)
theorem dX16_init_6 : decode cX16_init 6 = .ok (.aload_n 1, 1) := dk_43 (dk_at dksX16_init_0 6 rfl rfl)
theorem dX16_init_7 : decode cX16_init 7 = .ok (.iload_n 2, 1) := dk_28 (dk_at dksX16_init_0 7 rfl rfl)
theorem dX16_init_8 : decode cX16_init 8 = .ok (.invokespecial 7, 3) := dk_183 0 7 (dk_at dksX16_init_0 8 rfl rfl)
theorem dX16_init_11 : decode cX16_init 11 = .ok (.return_, 1) := dk_177 (dk_at dksX16_init_0 11 rfl rfl)
abbrev cX16_sees : ByteArray := prog_13_method_4_code
def yX16_sees : MethodName := ⟨RX16, "sees", "(I)I"⟩
def dkwX16_sees_0 : List UInt8 := [42, 180, 0, 1, 16, 30, 182, 0, 17, 42, 27, 183, 0, 23, 116, 172]
abbrev dktX16_sees_0 : List UInt8 := dkwX16_sees_0 ++ []
theorem dksX16_sees_0 : cX16_sees.data.toList.drop 0 = dktX16_sees_0 := by decide +kernel
theorem dX16_sees_0 : decode cX16_sees 0 = .ok (.aload_n 0, 1) := dk_42 (dk_at dksX16_sees_0 0 rfl rfl)
theorem dX16_sees_1 : decode cX16_sees 1 = .ok (.getfield 1, 3) := dk_180 0 1 (dk_at dksX16_sees_0 1 rfl rfl)
theorem dX16_sees_4 : decode cX16_sees 4 = .ok (.bipush 30, 2) := dk_16 30 (dk_at dksX16_sees_0 4 rfl rfl)
theorem dX16_sees_6 : decode cX16_sees 6 = .ok (.invokevirtual 17, 3) := dk_182 0 17 (dk_at dksX16_sees_0 6 rfl rfl)
theorem dX16_sees_9 : decode cX16_sees 9 = .ok (.aload_n 0, 1) := dk_42 (dk_at dksX16_sees_0 9 rfl rfl)
theorem dX16_sees_10 : decode cX16_sees 10 = .ok (.iload_n 1, 1) := dk_27 (dk_at dksX16_sees_0 10 rfl rfl)
theorem dX16_sees_11 : decode cX16_sees 11 = .ok (.invokespecial 23, 3) := dk_183 0 23 (dk_at dksX16_sees_0 11 rfl rfl)
theorem dX16_sees_14 : decode cX16_sees 14 = .ok (.ineg, 1) := dk_116 (dk_at dksX16_sees_0 14 rfl rfl)
theorem dX16_sees_15 : decode cX16_sees 15 = .ok (.ireturn, 1) := dk_172 (dk_at dksX16_sees_0 15 rfl rfl)
abbrev cX16_kind : ByteArray := prog_13_method_2_code
def yX16_kind : MethodName := ⟨RX16, "kind", "()I"⟩
theorem dX16_kind_0 : decode cX16_kind 0 = .ok (.iconst 2, 1) := by decide +kernel
theorem dX16_kind_1 : decode cX16_kind 1 = .ok (.ireturn, 1) := by decide +kernel
abbrev cX16_isUnder : ByteArray := prog_13_method_3_code
def yX16_isUnder : MethodName := ⟨RX16, "isUnder", "(I)Z"⟩
def dkwX16_isUnder_0 : List UInt8 := [27, 5, 159, 0, 11, 42, 27, 183, 0, 13, 153, 0, 7, 4, 167, 0, 4, 3, 172]
abbrev dktX16_isUnder_0 : List UInt8 := dkwX16_isUnder_0 ++ []
theorem dksX16_isUnder_0 : cX16_isUnder.data.toList.drop 0 = dktX16_isUnder_0 := by decide +kernel
theorem dX16_isUnder_0 : decode cX16_isUnder 0 = .ok (.iload_n 1, 1) := dk_27 (dk_at dksX16_isUnder_0 0 rfl rfl)
theorem dX16_isUnder_1 : decode cX16_isUnder 1 = .ok (.iconst 2, 1) := dk_5 (dk_at dksX16_isUnder_0 1 rfl rfl)
theorem dX16_isUnder_2 : decode cX16_isUnder 2 = .ok (.if_icmp .eq 11, 3) := dk_159 0 11 (dk_at dksX16_isUnder_0 2 rfl rfl)
theorem dX16_isUnder_5 : decode cX16_isUnder 5 = .ok (.aload_n 0, 1) := dk_42 (dk_at dksX16_isUnder_0 5 rfl rfl)
theorem dX16_isUnder_6 : decode cX16_isUnder 6 = .ok (.iload_n 1, 1) := dk_27 (dk_at dksX16_isUnder_0 6 rfl rfl)
theorem dX16_isUnder_7 : decode cX16_isUnder 7 = .ok (.invokespecial 13, 3) := dk_183 0 13 (dk_at dksX16_isUnder_0 7 rfl rfl)
theorem dX16_isUnder_10 : decode cX16_isUnder 10 = .ok (.ifCond .eq 7, 3) := dk_153 0 7 (dk_at dksX16_isUnder_0 10 rfl rfl)
theorem dX16_isUnder_13 : decode cX16_isUnder 13 = .ok (.iconst 1, 1) := dk_4 (dk_at dksX16_isUnder_0 13 rfl rfl)
theorem dX16_isUnder_14 : decode cX16_isUnder 14 = .ok (.goto 4, 3) := dk_167 0 4 (dk_at dksX16_isUnder_0 14 rfl rfl)
theorem dX16_isUnder_17 : decode cX16_isUnder 17 = .ok (.iconst 0, 1) := dk_3 (dk_at dksX16_isUnder_0 17 rfl rfl)
theorem dX16_isUnder_18 : decode cX16_isUnder 18 = .ok (.ireturn, 1) := dk_172 (dk_at dksX16_isUnder_0 18 rfl rfl)
theorem q143 : (Jvm.Cond.initialized "NineKeysRound$Lamp") ∈ lw_all := lw_g (lw_at lw_m1 31 rfl) rfl
theorem q1185 : (Jvm.Cond.instantiable "NineKeysRound$Lamp" (3 : Nat)) ∈ lw_all := lw_g (lw_at lw_m5 113 rfl) rfl
theorem q1187 : (Jvm.Cond.instanceMethod ({ cls := "NineKeysRound$Lamp", name := "<init>", desc := "(LNineKeysRound;I)V" } : Jvm.MethodName)) ∈ lw_all := lw_g (lw_at lw_m5 115 rfl) rfl
theorem q1188 : (Jvm.Cond.code ({ cls := "NineKeysRound$Lamp", name := "<init>", desc := "(LNineKeysRound;I)V" } : Jvm.MethodName) prog_13_method_1_code (3 : Nat) (Option.none : Option Jvm.ClassFile.FieldType)) ∈ lw_all := lw_g (lw_at lw_m5 116 rfl) rfl
theorem q1189 : (Jvm.Cond.methodLink "NineKeysRound$Lamp" (7 : Nat) ({ cls := "NineKeysRound$Key", name := "<init>", desc := "(LNineKeysRound;I)V" } : Jvm.MethodName)) ∈ lw_all := lw_g (lw_at lw_m5 117 rfl) rfl
theorem q1190 : (Jvm.Cond.fieldLink "NineKeysRound$Lamp" (1 : Nat) "NineKeysRound$Lamp" "this$0" "LNineKeysRound;") ∈ lw_all := lw_g (lw_at lw_m5 118 rfl) rfl
theorem q1191 : (Jvm.Cond.laysFinal "NineKeysRound$Lamp" "NineKeysRound$Lamp" "this$0" "LNineKeysRound;") ∈ lw_all := lw_g (lw_at lw_m5 119 rfl) rfl
theorem q1192 : (Jvm.Cond.soleField "NineKeysRound$Lamp" "this$0") ∈ lw_all := lw_g (lw_at lw_m5 120 rfl) rfl
theorem q1193 : (Jvm.Cond.laysFinal "NineKeysRound$Lamp" "NineKeysRound$Key" "number" "I") ∈ lw_all := lw_g (lw_at lw_m5 121 rfl) rfl
theorem q1194 : (Jvm.Cond.laysFinal "NineKeysRound$Lamp" "NineKeysRound$Key" "this$0" "LNineKeysRound;") ∈ lw_all := lw_g (lw_at lw_m5 122 rfl) rfl
theorem q1195 : (Jvm.Cond.superclass "NineKeysRound$Lamp" "NineKeysRound$Key") ∈ lw_all := lw_g (lw_at lw_m5 123 rfl) rfl
theorem q1308 : (Jvm.Cond.castable "NineKeysRound$Lamp" "NineKeysRound$Turns") ∈ lw_tbl := lw_at lw_m5 236 rfl
theorem q1309 : (Jvm.Cond.selects "NineKeysRound$Lamp" ({ cls := "NineKeysRound$Turns", name := "turnsIn", desc := "(I)I" } : Jvm.MethodName) ({ cls := "NineKeysRound$Key", name := "turnsIn", desc := "(I)I" } : Jvm.MethodName)) ∈ lw_all := lw_g (lw_at lw_m5 237 rfl) rfl
theorem q1310 : (Jvm.Cond.unhidden "NineKeysRound$Lamp" "turnsIn" "(I)I") ∈ lw_tbl := lw_at lw_m5 238 rfl
theorem q1341 : (Jvm.Cond.instanceMethod ({ cls := "NineKeysRound$Lamp", name := "sees", desc := "(I)I" } : Jvm.MethodName)) ∈ lw_all := lw_g (lw_at lw_m6 29 rfl) rfl
theorem q1342 : (Jvm.Cond.code ({ cls := "NineKeysRound$Lamp", name := "sees", desc := "(I)I" } : Jvm.MethodName) prog_13_method_4_code (2 : Nat) (Option.some Jvm.ClassFile.FieldType.int)) ∈ lw_all := lw_g (lw_at lw_m6 30 rfl) rfl
theorem q1343 : (Jvm.Cond.methodLinkNest "NineKeysRound$Lamp" (17 : Nat) ({ cls := "NineKeysRound", name := "ran", desc := "(I)V" } : Jvm.MethodName) "NineKeysRound") ∈ lw_tbl := lw_at lw_m6 31 rfl
theorem q1344 : (Jvm.Cond.methodLink "NineKeysRound$Lamp" (23 : Nat) ({ cls := "NineKeysRound$Key", name := "sees", desc := "(I)I" } : Jvm.MethodName)) ∈ lw_all := lw_g (lw_at lw_m6 32 rfl) rfl
theorem q1347 : (Jvm.Cond.selects "NineKeysRound$Lamp" ({ cls := "NineKeysRound$Key", name := "sees", desc := "(I)I" } : Jvm.MethodName) ({ cls := "NineKeysRound$Lamp", name := "sees", desc := "(I)I" } : Jvm.MethodName)) ∈ lw_all := lw_g (lw_at lw_m6 35 rfl) rfl
theorem q1378 : (Jvm.Cond.sameMethod "NineKeysRound$Lamp" "NineKeysRound$Key" "fears" "(I)I") ∈ lw_all := lw_g (lw_at lw_m6 66 rfl) rfl
theorem q1388 : (Jvm.Cond.castable "NineKeysRound$Lamp" "NineKeysRound$Tells") ∈ lw_tbl := lw_at lw_m6 76 rfl
theorem q1389 : (Jvm.Cond.selects "NineKeysRound$Lamp" ({ cls := "NineKeysRound$Tells", name := "tells", desc := "(I)I" } : Jvm.MethodName) ({ cls := "NineKeysRound$Key", name := "tells", desc := "(I)I" } : Jvm.MethodName)) ∈ lw_all := lw_g (lw_at lw_m6 77 rfl) rfl
theorem q1390 : (Jvm.Cond.unhidden "NineKeysRound$Lamp" "tells" "(I)I") ∈ lw_tbl := lw_at lw_m6 78 rfl
theorem q1598 : (Jvm.Cond.selects "NineKeysRound$Lamp" ({ cls := "NineKeysRound$Key", name := "kind", desc := "()I" } : Jvm.MethodName) ({ cls := "NineKeysRound$Lamp", name := "kind", desc := "()I" } : Jvm.MethodName)) ∈ lw_all := lw_g (lw_at lw_m7 46 rfl) rfl
theorem q1599 : (Jvm.Cond.instanceMethod ({ cls := "NineKeysRound$Lamp", name := "kind", desc := "()I" } : Jvm.MethodName)) ∈ lw_all := lw_g (lw_at lw_m7 47 rfl) rfl
theorem q1600 : (Jvm.Cond.code ({ cls := "NineKeysRound$Lamp", name := "kind", desc := "()I" } : Jvm.MethodName) prog_13_method_2_code (1 : Nat) (Option.some Jvm.ClassFile.FieldType.int)) ∈ lw_all := lw_g (lw_at lw_m7 48 rfl) rfl
theorem q1616 : (Jvm.Cond.instanceMethod ({ cls := "NineKeysRound$Lamp", name := "isUnder", desc := "(I)Z" } : Jvm.MethodName)) ∈ lw_all := lw_g (lw_at lw_m7 64 rfl) rfl
theorem q1617 : (Jvm.Cond.code ({ cls := "NineKeysRound$Lamp", name := "isUnder", desc := "(I)Z" } : Jvm.MethodName) prog_13_method_3_code (2 : Nat) (Option.some Jvm.ClassFile.FieldType.boolean)) ∈ lw_all := lw_g (lw_at lw_m7 65 rfl) rfl
theorem q1618 : (Jvm.Cond.methodLink "NineKeysRound$Lamp" (13 : Nat) ({ cls := "NineKeysRound$Key", name := "isUnder", desc := "(I)Z" } : Jvm.MethodName)) ∈ lw_all := lw_g (lw_at lw_m7 66 rfl) rfl
theorem q1619 : (Jvm.Cond.selects "NineKeysRound$Lamp" ({ cls := "NineKeysRound$Key", name := "isUnder", desc := "(I)Z" } : Jvm.MethodName) ({ cls := "NineKeysRound$Lamp", name := "isUnder", desc := "(I)Z" } : Jvm.MethodName)) ∈ lw_all := lw_g (lw_at lw_m7 67 rfl) rfl
theorem q2233 : (Jvm.Cond.sameMethod "NineKeysRound$Lamp" "NineKeysRound$Lamp" "sees" "(I)I") ∈ lw_all := lw_g (lw_at lw_m9 201 rfl) rfl
theorem q2238 : (Jvm.Cond.selects "NineKeysRound$Lamp" ({ cls := "NineKeysRound$Key", name := "turnsIn", desc := "(I)I" } : Jvm.MethodName) ({ cls := "NineKeysRound$Key", name := "turnsIn", desc := "(I)I" } : Jvm.MethodName)) ∈ lw_all := lw_g (lw_at lw_m9 206 rfl) rfl
theorem q2247 : (Jvm.Cond.selects "NineKeysRound$Lamp" ({ cls := "NineKeysRound$Key", name := "fears", desc := "(I)I" } : Jvm.MethodName) ({ cls := "NineKeysRound$Key", name := "fears", desc := "(I)I" } : Jvm.MethodName)) ∈ lw_all := lw_g (lw_at lw_m9 215 rfl) rfl
theorem q2251 : (Jvm.Cond.sameMethod "NineKeysRound$Lamp" "NineKeysRound$Lamp" "isUnder" "(I)Z") ∈ lw_all := lw_g (lw_at lw_m9 219 rfl) rfl
theorem q2262 : (Jvm.Cond.castable "NineKeysRound$Lamp" "NineKeysRound$Key") ∈ lw_tbl := lw_at lw_m9 230 rfl
theorem q2267 : (Jvm.Cond.castable "NineKeysRound$Lamp" "NineKeysRound$Held") ∈ lw_tbl := lw_at lw_m9 235 rfl
theorem in_X16 : ∀ w ∈ wsX160, w ∈ lw_all := lw_in wsX160 [1193, 1194, 1191] (by decide +kernel) (by decide +kernel)
/-! NineKeysRound$Dog -/
set_option maxRecDepth 100000
def RX17 : String := "NineKeysRound$Dog"
def TX17 : u_T := fun k => match k with
  | 0 => ("NineKeysRound$Key", "number", "I", true)
  | 1 => ("NineKeysRound$Key", "this$0", "LNineKeysRound;", true)
  | 2 => ("NineKeysRound$Lamp", "this$0", "LNineKeysRound;", true)
  | _ => ("NineKeysRound$Dog", "this$0", "LNineKeysRound;", true)
def tyX17 : Nat → FieldType := fun k => match k with
  | 0 => .int
  | 1 => .object "NineKeysRound"
  | 2 => .object "NineKeysRound"
  | _ => .object "NineKeysRound"
abbrev wsX170 : List Cond := u_ws RX17 TX17 4
-- two fields of one name: no nmX17
theorem tyX17_ok : ∀ k, k < 4 → parseFieldDescriptor (TX17 k).2.2.1 = some (tyX17 k) := by decide +kernel
abbrev cX17_init : ByteArray := prog_8_method_1_code
def yX17_init : MethodName := ⟨RX17, "<init>", "(LNineKeysRound;I)V"⟩
def dkwX17_init_0 : List UInt8 := [42, 43, 181, 0, 1, 42, 43, 28, 183, 0, 7, 177]
abbrev dktX17_init_0 : List UInt8 := dkwX17_init_0 ++ []
theorem dksX17_init_0 : cX17_init.data.toList.drop 0 = dktX17_init_0 := by decide +kernel
theorem dX17_init_0 : decode cX17_init 0 = .ok (.aload_n 0, 1) := dk_42 (dk_at dksX17_init_0 0 rfl rfl)
theorem dX17_init_1 : decode cX17_init 1 = .ok (.aload_n 1, 1) := dk_43 (dk_at dksX17_init_0 1 rfl rfl)
theorem dX17_init_2 : decode cX17_init 2 = .ok (.putfield 1, 3) := dk_181 0 1 (dk_at dksX17_init_0 2 rfl rfl)
theorem dX17_init_5 : decode cX17_init 5 = .ok (.aload_n 0, 1) := dk_42 (dk_at dksX17_init_0 5 rfl rfl)
theorem dX17_init_6 : decode cX17_init 6 = .ok (.aload_n 1, 1) := dk_43 (dk_at dksX17_init_0 6 rfl rfl)
theorem dX17_init_7 : decode cX17_init 7 = .ok (.iload_n 2, 1) := dk_28 (dk_at dksX17_init_0 7 rfl rfl)
theorem dX17_init_8 : decode cX17_init 8 = .ok (.invokespecial 7, 3) := dk_183 0 7 (dk_at dksX17_init_0 8 rfl rfl)
theorem dX17_init_11 : decode cX17_init 11 = .ok (.return_, 1) := dk_177 (dk_at dksX17_init_0 11 rfl rfl)
abbrev cX17_sees : ByteArray := prog_8_method_5_code
def yX17_sees : MethodName := ⟨RX17, "sees", "(I)I"⟩
def dkwX17_sees_0 : List UInt8 := [42, 180, 0, 1, 16, 41, 182, 0, 17, 42, 27, 4, 96, 183, 0, 27, 172]
abbrev dktX17_sees_0 : List UInt8 := dkwX17_sees_0 ++ []
theorem dksX17_sees_0 : cX17_sees.data.toList.drop 0 = dktX17_sees_0 := by decide +kernel
theorem dX17_sees_0 : decode cX17_sees 0 = .ok (.aload_n 0, 1) := dk_42 (dk_at dksX17_sees_0 0 rfl rfl)
theorem dX17_sees_1 : decode cX17_sees 1 = .ok (.getfield 1, 3) := dk_180 0 1 (dk_at dksX17_sees_0 1 rfl rfl)
theorem dX17_sees_4 : decode cX17_sees 4 = .ok (.bipush 41, 2) := dk_16 41 (dk_at dksX17_sees_0 4 rfl rfl)
theorem dX17_sees_6 : decode cX17_sees 6 = .ok (.invokevirtual 17, 3) := dk_182 0 17 (dk_at dksX17_sees_0 6 rfl rfl)
theorem dX17_sees_9 : decode cX17_sees 9 = .ok (.aload_n 0, 1) := dk_42 (dk_at dksX17_sees_0 9 rfl rfl)
theorem dX17_sees_10 : decode cX17_sees 10 = .ok (.iload_n 1, 1) := dk_27 (dk_at dksX17_sees_0 10 rfl rfl)
theorem dX17_sees_11 : decode cX17_sees 11 = .ok (.iconst 1, 1) := dk_4 (dk_at dksX17_sees_0 11 rfl rfl)
theorem dX17_sees_12 : decode cX17_sees 12 = .ok (.iadd, 1) := dk_96 (dk_at dksX17_sees_0 12 rfl rfl)
theorem dX17_sees_13 : decode cX17_sees 13 = .ok (.invokespecial 27, 3) := dk_183 0 27 (dk_at dksX17_sees_0 13 rfl rfl)
theorem dX17_sees_16 : decode cX17_sees 16 = .ok (.ireturn, 1) := dk_172 (dk_at dksX17_sees_0 16 rfl rfl)
abbrev cX17_fears : ByteArray := prog_8_method_4_code
def yX17_fears : MethodName := ⟨RX17, "fears", "(I)I"⟩
def dkwX17_fears_0 : List UInt8 := [42, 180, 0, 1, 16, 40, 182, 0, 17, 42, 27, 183, 0, 23, 6, 104, 172]
abbrev dktX17_fears_0 : List UInt8 := dkwX17_fears_0 ++ []
theorem dksX17_fears_0 : cX17_fears.data.toList.drop 0 = dktX17_fears_0 := by decide +kernel
theorem dX17_fears_0 : decode cX17_fears 0 = .ok (.aload_n 0, 1) := dk_42 (dk_at dksX17_fears_0 0 rfl rfl)
theorem dX17_fears_1 : decode cX17_fears 1 = .ok (.getfield 1, 3) := dk_180 0 1 (dk_at dksX17_fears_0 1 rfl rfl)
theorem dX17_fears_4 : decode cX17_fears 4 = .ok (.bipush 40, 2) := dk_16 40 (dk_at dksX17_fears_0 4 rfl rfl)
theorem dX17_fears_6 : decode cX17_fears 6 = .ok (.invokevirtual 17, 3) := dk_182 0 17 (dk_at dksX17_fears_0 6 rfl rfl)
theorem dX17_fears_9 : decode cX17_fears 9 = .ok (.aload_n 0, 1) := dk_42 (dk_at dksX17_fears_0 9 rfl rfl)
theorem dX17_fears_10 : decode cX17_fears 10 = .ok (.iload_n 1, 1) := dk_27 (dk_at dksX17_fears_0 10 rfl rfl)
theorem dX17_fears_11 : decode cX17_fears 11 = .ok (.invokespecial 23, 3) := dk_183 0 23 (dk_at dksX17_fears_0 11 rfl rfl)
theorem dX17_fears_14 : decode cX17_fears 14 = .ok (.iconst 3, 1) := dk_6 (dk_at dksX17_fears_0 14 rfl rfl)
theorem dX17_fears_15 : decode cX17_fears 15 = .ok (.imul, 1) := dk_104 (dk_at dksX17_fears_0 15 rfl rfl)
theorem dX17_fears_16 : decode cX17_fears 16 = .ok (.ireturn, 1) := dk_172 (dk_at dksX17_fears_0 16 rfl rfl)
abbrev cX17_kind : ByteArray := prog_8_method_2_code
def yX17_kind : MethodName := ⟨RX17, "kind", "()I"⟩
theorem dX17_kind_0 : decode cX17_kind 0 = .ok (.iconst 3, 1) := by decide +kernel
theorem dX17_kind_1 : decode cX17_kind 1 = .ok (.ireturn, 1) := by decide +kernel
abbrev cX17_isUnder : ByteArray := prog_8_method_3_code
def yX17_isUnder : MethodName := ⟨RX17, "isUnder", "(I)Z"⟩
def dkwX17_isUnder_0 : List UInt8 := [27, 6, 159, 0, 11, 42, 27, 183, 0, 13, 153, 0, 7, 4, 167, 0, 4, 3, 172]
abbrev dktX17_isUnder_0 : List UInt8 := dkwX17_isUnder_0 ++ []
theorem dksX17_isUnder_0 : cX17_isUnder.data.toList.drop 0 = dktX17_isUnder_0 := by decide +kernel
theorem dX17_isUnder_0 : decode cX17_isUnder 0 = .ok (.iload_n 1, 1) := dk_27 (dk_at dksX17_isUnder_0 0 rfl rfl)
theorem dX17_isUnder_1 : decode cX17_isUnder 1 = .ok (.iconst 3, 1) := dk_6 (dk_at dksX17_isUnder_0 1 rfl rfl)
theorem dX17_isUnder_2 : decode cX17_isUnder 2 = .ok (.if_icmp .eq 11, 3) := dk_159 0 11 (dk_at dksX17_isUnder_0 2 rfl rfl)
theorem dX17_isUnder_5 : decode cX17_isUnder 5 = .ok (.aload_n 0, 1) := dk_42 (dk_at dksX17_isUnder_0 5 rfl rfl)
theorem dX17_isUnder_6 : decode cX17_isUnder 6 = .ok (.iload_n 1, 1) := dk_27 (dk_at dksX17_isUnder_0 6 rfl rfl)
theorem dX17_isUnder_7 : decode cX17_isUnder 7 = .ok (.invokespecial 13, 3) := dk_183 0 13 (dk_at dksX17_isUnder_0 7 rfl rfl)
theorem dX17_isUnder_10 : decode cX17_isUnder 10 = .ok (.ifCond .eq 7, 3) := dk_153 0 7 (dk_at dksX17_isUnder_0 10 rfl rfl)
theorem dX17_isUnder_13 : decode cX17_isUnder 13 = .ok (.iconst 1, 1) := dk_4 (dk_at dksX17_isUnder_0 13 rfl rfl)
theorem dX17_isUnder_14 : decode cX17_isUnder 14 = .ok (.goto 4, 3) := dk_167 0 4 (dk_at dksX17_isUnder_0 14 rfl rfl)
theorem dX17_isUnder_17 : decode cX17_isUnder 17 = .ok (.iconst 0, 1) := dk_3 (dk_at dksX17_isUnder_0 17 rfl rfl)
theorem dX17_isUnder_18 : decode cX17_isUnder 18 = .ok (.ireturn, 1) := dk_172 (dk_at dksX17_isUnder_0 18 rfl rfl)
theorem q144 : (Jvm.Cond.initialized "NineKeysRound$Dog") ∈ lw_all := lw_g (lw_at lw_m1 32 rfl) rfl
theorem q1197 : (Jvm.Cond.instantiable "NineKeysRound$Dog" (4 : Nat)) ∈ lw_all := lw_g (lw_at lw_m5 125 rfl) rfl
theorem q1199 : (Jvm.Cond.instanceMethod ({ cls := "NineKeysRound$Dog", name := "<init>", desc := "(LNineKeysRound;I)V" } : Jvm.MethodName)) ∈ lw_all := lw_g (lw_at lw_m5 127 rfl) rfl
theorem q1200 : (Jvm.Cond.code ({ cls := "NineKeysRound$Dog", name := "<init>", desc := "(LNineKeysRound;I)V" } : Jvm.MethodName) prog_8_method_1_code (3 : Nat) (Option.none : Option Jvm.ClassFile.FieldType)) ∈ lw_all := lw_g (lw_at lw_m5 128 rfl) rfl
theorem q1201 : (Jvm.Cond.methodLink "NineKeysRound$Dog" (7 : Nat) ({ cls := "NineKeysRound$Lamp", name := "<init>", desc := "(LNineKeysRound;I)V" } : Jvm.MethodName)) ∈ lw_all := lw_g (lw_at lw_m5 129 rfl) rfl
theorem q1202 : (Jvm.Cond.fieldLink "NineKeysRound$Dog" (1 : Nat) "NineKeysRound$Dog" "this$0" "LNineKeysRound;") ∈ lw_all := lw_g (lw_at lw_m5 130 rfl) rfl
theorem q1203 : (Jvm.Cond.laysFinal "NineKeysRound$Dog" "NineKeysRound$Dog" "this$0" "LNineKeysRound;") ∈ lw_all := lw_g (lw_at lw_m5 131 rfl) rfl
theorem q1204 : (Jvm.Cond.soleField "NineKeysRound$Dog" "this$0") ∈ lw_all := lw_g (lw_at lw_m5 132 rfl) rfl
theorem q1205 : (Jvm.Cond.laysFinal "NineKeysRound$Dog" "NineKeysRound$Lamp" "this$0" "LNineKeysRound;") ∈ lw_all := lw_g (lw_at lw_m5 133 rfl) rfl
theorem q1206 : (Jvm.Cond.laysFinal "NineKeysRound$Dog" "NineKeysRound$Key" "number" "I") ∈ lw_all := lw_g (lw_at lw_m5 134 rfl) rfl
theorem q1207 : (Jvm.Cond.laysFinal "NineKeysRound$Dog" "NineKeysRound$Key" "this$0" "LNineKeysRound;") ∈ lw_all := lw_g (lw_at lw_m5 135 rfl) rfl
theorem q1208 : (Jvm.Cond.superclass "NineKeysRound$Dog" "NineKeysRound$Lamp") ∈ lw_all := lw_g (lw_at lw_m5 136 rfl) rfl
theorem q1301 : (Jvm.Cond.castable "NineKeysRound$Dog" "NineKeysRound$Turns") ∈ lw_tbl := lw_at lw_m5 229 rfl
theorem q1302 : (Jvm.Cond.selects "NineKeysRound$Dog" ({ cls := "NineKeysRound$Turns", name := "turnsIn", desc := "(I)I" } : Jvm.MethodName) ({ cls := "NineKeysRound$Key", name := "turnsIn", desc := "(I)I" } : Jvm.MethodName)) ∈ lw_all := lw_g (lw_at lw_m5 230 rfl) rfl
theorem q1303 : (Jvm.Cond.unhidden "NineKeysRound$Dog" "turnsIn" "(I)I") ∈ lw_tbl := lw_at lw_m5 231 rfl
theorem q1336 : (Jvm.Cond.selects "NineKeysRound$Dog" ({ cls := "NineKeysRound$Key", name := "sees", desc := "(I)I" } : Jvm.MethodName) ({ cls := "NineKeysRound$Dog", name := "sees", desc := "(I)I" } : Jvm.MethodName)) ∈ lw_all := lw_g (lw_at lw_m6 24 rfl) rfl
theorem q1337 : (Jvm.Cond.instanceMethod ({ cls := "NineKeysRound$Dog", name := "sees", desc := "(I)I" } : Jvm.MethodName)) ∈ lw_all := lw_g (lw_at lw_m6 25 rfl) rfl
theorem q1338 : (Jvm.Cond.code ({ cls := "NineKeysRound$Dog", name := "sees", desc := "(I)I" } : Jvm.MethodName) prog_8_method_5_code (2 : Nat) (Option.some Jvm.ClassFile.FieldType.int)) ∈ lw_all := lw_g (lw_at lw_m6 26 rfl) rfl
theorem q1339 : (Jvm.Cond.methodLinkNest "NineKeysRound$Dog" (17 : Nat) ({ cls := "NineKeysRound", name := "ran", desc := "(I)V" } : Jvm.MethodName) "NineKeysRound") ∈ lw_tbl := lw_at lw_m6 27 rfl
theorem q1340 : (Jvm.Cond.methodLink "NineKeysRound$Dog" (27 : Nat) ({ cls := "NineKeysRound$Lamp", name := "sees", desc := "(I)I" } : Jvm.MethodName)) ∈ lw_all := lw_g (lw_at lw_m6 28 rfl) rfl
theorem q1375 : (Jvm.Cond.instanceMethod ({ cls := "NineKeysRound$Dog", name := "fears", desc := "(I)I" } : Jvm.MethodName)) ∈ lw_all := lw_g (lw_at lw_m6 63 rfl) rfl
theorem q1376 : (Jvm.Cond.code ({ cls := "NineKeysRound$Dog", name := "fears", desc := "(I)I" } : Jvm.MethodName) prog_8_method_4_code (2 : Nat) (Option.some Jvm.ClassFile.FieldType.int)) ∈ lw_all := lw_g (lw_at lw_m6 64 rfl) rfl
theorem q1377 : (Jvm.Cond.methodLink "NineKeysRound$Dog" (23 : Nat) ({ cls := "NineKeysRound$Lamp", name := "fears", desc := "(I)I" } : Jvm.MethodName)) ∈ lw_all := lw_g (lw_at lw_m6 65 rfl) rfl
theorem q1382 : (Jvm.Cond.castable "NineKeysRound$Dog" "NineKeysRound$Tells") ∈ lw_tbl := lw_at lw_m6 70 rfl
theorem q1383 : (Jvm.Cond.selects "NineKeysRound$Dog" ({ cls := "NineKeysRound$Tells", name := "tells", desc := "(I)I" } : Jvm.MethodName) ({ cls := "NineKeysRound$Key", name := "tells", desc := "(I)I" } : Jvm.MethodName)) ∈ lw_all := lw_g (lw_at lw_m6 71 rfl) rfl
theorem q1384 : (Jvm.Cond.unhidden "NineKeysRound$Dog" "tells" "(I)I") ∈ lw_tbl := lw_at lw_m6 72 rfl
theorem q1411 : (Jvm.Cond.sameMethod "NineKeysRound$Dog" "NineKeysRound$Key" "tells" "(I)I") ∈ lw_all := lw_g (lw_at lw_m6 99 rfl) rfl
theorem q1595 : (Jvm.Cond.selects "NineKeysRound$Dog" ({ cls := "NineKeysRound$Key", name := "kind", desc := "()I" } : Jvm.MethodName) ({ cls := "NineKeysRound$Dog", name := "kind", desc := "()I" } : Jvm.MethodName)) ∈ lw_all := lw_g (lw_at lw_m7 43 rfl) rfl
theorem q1596 : (Jvm.Cond.instanceMethod ({ cls := "NineKeysRound$Dog", name := "kind", desc := "()I" } : Jvm.MethodName)) ∈ lw_all := lw_g (lw_at lw_m7 44 rfl) rfl
theorem q1597 : (Jvm.Cond.code ({ cls := "NineKeysRound$Dog", name := "kind", desc := "()I" } : Jvm.MethodName) prog_8_method_2_code (1 : Nat) (Option.some Jvm.ClassFile.FieldType.int)) ∈ lw_all := lw_g (lw_at lw_m7 45 rfl) rfl
theorem q1612 : (Jvm.Cond.selects "NineKeysRound$Dog" ({ cls := "NineKeysRound$Key", name := "isUnder", desc := "(I)Z" } : Jvm.MethodName) ({ cls := "NineKeysRound$Dog", name := "isUnder", desc := "(I)Z" } : Jvm.MethodName)) ∈ lw_all := lw_g (lw_at lw_m7 60 rfl) rfl
theorem q1613 : (Jvm.Cond.instanceMethod ({ cls := "NineKeysRound$Dog", name := "isUnder", desc := "(I)Z" } : Jvm.MethodName)) ∈ lw_all := lw_g (lw_at lw_m7 61 rfl) rfl
theorem q1614 : (Jvm.Cond.code ({ cls := "NineKeysRound$Dog", name := "isUnder", desc := "(I)Z" } : Jvm.MethodName) prog_8_method_3_code (2 : Nat) (Option.some Jvm.ClassFile.FieldType.boolean)) ∈ lw_all := lw_g (lw_at lw_m7 62 rfl) rfl
theorem q1615 : (Jvm.Cond.methodLink "NineKeysRound$Dog" (13 : Nat) ({ cls := "NineKeysRound$Lamp", name := "isUnder", desc := "(I)Z" } : Jvm.MethodName)) ∈ lw_all := lw_g (lw_at lw_m7 63 rfl) rfl
theorem q2236 : (Jvm.Cond.selects "NineKeysRound$Dog" ({ cls := "NineKeysRound$Key", name := "turnsIn", desc := "(I)I" } : Jvm.MethodName) ({ cls := "NineKeysRound$Key", name := "turnsIn", desc := "(I)I" } : Jvm.MethodName)) ∈ lw_all := lw_g (lw_at lw_m9 204 rfl) rfl
theorem q2245 : (Jvm.Cond.selects "NineKeysRound$Dog" ({ cls := "NineKeysRound$Key", name := "fears", desc := "(I)I" } : Jvm.MethodName) ({ cls := "NineKeysRound$Dog", name := "fears", desc := "(I)I" } : Jvm.MethodName)) ∈ lw_all := lw_g (lw_at lw_m9 213 rfl) rfl
theorem q2261 : (Jvm.Cond.castable "NineKeysRound$Dog" "NineKeysRound$Key") ∈ lw_tbl := lw_at lw_m9 229 rfl
theorem q2268 : (Jvm.Cond.castable "NineKeysRound$Dog" "NineKeysRound$Held") ∈ lw_tbl := lw_at lw_m9 236 rfl
theorem in_X17 : ∀ w ∈ wsX170, w ∈ lw_all := lw_in wsX170 [1206, 1207, 1205, 1203] (by decide +kernel) (by decide +kernel)
/-! NineKeysRound$Paper -/
set_option maxRecDepth 100000
def RX18 : String := "NineKeysRound$Paper"
def TX18 : u_T := fun k => match k with
  | 0 => ("NineKeysRound$Key", "number", "I", true)
  | 1 => ("NineKeysRound$Key", "this$0", "LNineKeysRound;", true)
  | 2 => ("NineKeysRound$Dent", "this$0", "LNineKeysRound;", true)
  | _ => ("NineKeysRound$Paper", "this$0", "LNineKeysRound;", true)
def tyX18 : Nat → FieldType := fun k => match k with
  | 0 => .int
  | 1 => .object "NineKeysRound"
  | 2 => .object "NineKeysRound"
  | _ => .object "NineKeysRound"
abbrev wsX180 : List Cond := u_ws RX18 TX18 4
-- two fields of one name: no nmX18
theorem tyX18_ok : ∀ k, k < 4 → parseFieldDescriptor (TX18 k).2.2.1 = some (tyX18 k) := by decide +kernel
abbrev cX18_init : ByteArray := prog_20_method_1_code
def yX18_init : MethodName := ⟨RX18, "<init>", "(LNineKeysRound;I)V"⟩
def dkwX18_init_0 : List UInt8 := [42, 43, 181, 0, 1, 42, 43, 28, 183, 0, 7, 177]
abbrev dktX18_init_0 : List UInt8 := dkwX18_init_0 ++ []
theorem dksX18_init_0 : cX18_init.data.toList.drop 0 = dktX18_init_0 := by decide +kernel
theorem dX18_init_0 : decode cX18_init 0 = .ok (.aload_n 0, 1) := dk_42 (dk_at dksX18_init_0 0 rfl rfl)
theorem dX18_init_1 : decode cX18_init 1 = .ok (.aload_n 1, 1) := dk_43 (dk_at dksX18_init_0 1 rfl rfl)
theorem dX18_init_2 : decode cX18_init 2 = .ok (.putfield 1, 3) := dk_181 0 1 (dk_at dksX18_init_0 2 rfl rfl)
theorem dX18_init_5 : decode cX18_init 5 = .ok (.aload_n 0, 1) := dk_42 (dk_at dksX18_init_0 5 rfl rfl)
theorem dX18_init_6 : decode cX18_init 6 = .ok (.aload_n 1, 1) := dk_43 (dk_at dksX18_init_0 6 rfl rfl)
theorem dX18_init_7 : decode cX18_init 7 = .ok (.iload_n 2, 1) := dk_28 (dk_at dksX18_init_0 7 rfl rfl)
theorem dX18_init_8 : decode cX18_init 8 = .ok (.invokespecial 7, 3) := dk_183 0 7 (dk_at dksX18_init_0 8 rfl rfl)
theorem dX18_init_11 : decode cX18_init 11 = .ok (.return_, 1) := dk_177 (dk_at dksX18_init_0 11 rfl rfl)
abbrev cX18_fears : ByteArray := prog_20_method_4_code
def yX18_fears : MethodName := ⟨RX18, "fears", "(I)I"⟩
def dkwX18_fears_0 : List UInt8 := [42, 180, 0, 1, 16, 50, 182, 0, 17, 42, 27, 183, 0, 23, 61, 28, 42, 5, 182, 0, 27, 100, 172]
abbrev dktX18_fears_0 : List UInt8 := dkwX18_fears_0 ++ []
theorem dksX18_fears_0 : cX18_fears.data.toList.drop 0 = dktX18_fears_0 := by decide +kernel
theorem dX18_fears_0 : decode cX18_fears 0 = .ok (.aload_n 0, 1) := dk_42 (dk_at dksX18_fears_0 0 rfl rfl)
theorem dX18_fears_1 : decode cX18_fears 1 = .ok (.getfield 1, 3) := dk_180 0 1 (dk_at dksX18_fears_0 1 rfl rfl)
theorem dX18_fears_4 : decode cX18_fears 4 = .ok (.bipush 50, 2) := dk_16 50 (dk_at dksX18_fears_0 4 rfl rfl)
theorem dX18_fears_6 : decode cX18_fears 6 = .ok (.invokevirtual 17, 3) := dk_182 0 17 (dk_at dksX18_fears_0 6 rfl rfl)
theorem dX18_fears_9 : decode cX18_fears 9 = .ok (.aload_n 0, 1) := dk_42 (dk_at dksX18_fears_0 9 rfl rfl)
theorem dX18_fears_10 : decode cX18_fears 10 = .ok (.iload_n 1, 1) := dk_27 (dk_at dksX18_fears_0 10 rfl rfl)
theorem dX18_fears_11 : decode cX18_fears 11 = .ok (.invokespecial 23, 3) := dk_183 0 23 (dk_at dksX18_fears_0 11 rfl rfl)
theorem dX18_fears_14 : decode cX18_fears 14 = .ok (.istore_n 2, 1) := dk_61 (dk_at dksX18_fears_0 14 rfl rfl)
theorem dX18_fears_15 : decode cX18_fears 15 = .ok (.iload_n 2, 1) := dk_28 (dk_at dksX18_fears_0 15 rfl rfl)
theorem dX18_fears_16 : decode cX18_fears 16 = .ok (.aload_n 0, 1) := dk_42 (dk_at dksX18_fears_0 16 rfl rfl)
theorem dX18_fears_17 : decode cX18_fears 17 = .ok (.iconst 2, 1) := dk_5 (dk_at dksX18_fears_0 17 rfl rfl)
theorem dX18_fears_18 : decode cX18_fears 18 = .ok (.invokevirtual 27, 3) := dk_182 0 27 (dk_at dksX18_fears_0 18 rfl rfl)
theorem dX18_fears_21 : decode cX18_fears 21 = .ok (.isub, 1) := dk_100 (dk_at dksX18_fears_0 21 rfl rfl)
theorem dX18_fears_22 : decode cX18_fears 22 = .ok (.ireturn, 1) := dk_172 (dk_at dksX18_fears_0 22 rfl rfl)
abbrev cX18_kind : ByteArray := prog_20_method_2_code
def yX18_kind : MethodName := ⟨RX18, "kind", "()I"⟩
theorem dX18_kind_0 : decode cX18_kind 0 = .ok (.iconst 4, 1) := by decide +kernel
theorem dX18_kind_1 : decode cX18_kind 1 = .ok (.ireturn, 1) := by decide +kernel
abbrev cX18_isUnder : ByteArray := prog_20_method_3_code
def yX18_isUnder : MethodName := ⟨RX18, "isUnder", "(I)Z"⟩
def dkwX18_isUnder_0 : List UInt8 := [27, 7, 159, 0, 11, 42, 27, 183, 0, 13, 153, 0, 7, 4, 167, 0, 4, 3, 172]
abbrev dktX18_isUnder_0 : List UInt8 := dkwX18_isUnder_0 ++ []
theorem dksX18_isUnder_0 : cX18_isUnder.data.toList.drop 0 = dktX18_isUnder_0 := by decide +kernel
theorem dX18_isUnder_0 : decode cX18_isUnder 0 = .ok (.iload_n 1, 1) := dk_27 (dk_at dksX18_isUnder_0 0 rfl rfl)
theorem dX18_isUnder_1 : decode cX18_isUnder 1 = .ok (.iconst 4, 1) := dk_7 (dk_at dksX18_isUnder_0 1 rfl rfl)
theorem dX18_isUnder_2 : decode cX18_isUnder 2 = .ok (.if_icmp .eq 11, 3) := dk_159 0 11 (dk_at dksX18_isUnder_0 2 rfl rfl)
theorem dX18_isUnder_5 : decode cX18_isUnder 5 = .ok (.aload_n 0, 1) := dk_42 (dk_at dksX18_isUnder_0 5 rfl rfl)
theorem dX18_isUnder_6 : decode cX18_isUnder 6 = .ok (.iload_n 1, 1) := dk_27 (dk_at dksX18_isUnder_0 6 rfl rfl)
theorem dX18_isUnder_7 : decode cX18_isUnder 7 = .ok (.invokespecial 13, 3) := dk_183 0 13 (dk_at dksX18_isUnder_0 7 rfl rfl)
theorem dX18_isUnder_10 : decode cX18_isUnder 10 = .ok (.ifCond .eq 7, 3) := dk_153 0 7 (dk_at dksX18_isUnder_0 10 rfl rfl)
theorem dX18_isUnder_13 : decode cX18_isUnder 13 = .ok (.iconst 1, 1) := dk_4 (dk_at dksX18_isUnder_0 13 rfl rfl)
theorem dX18_isUnder_14 : decode cX18_isUnder 14 = .ok (.goto 4, 3) := dk_167 0 4 (dk_at dksX18_isUnder_0 14 rfl rfl)
theorem dX18_isUnder_17 : decode cX18_isUnder 17 = .ok (.iconst 0, 1) := dk_3 (dk_at dksX18_isUnder_0 17 rfl rfl)
theorem dX18_isUnder_18 : decode cX18_isUnder 18 = .ok (.ireturn, 1) := dk_172 (dk_at dksX18_isUnder_0 18 rfl rfl)
theorem q145 : (Jvm.Cond.initialized "NineKeysRound$Paper") ∈ lw_all := lw_g (lw_at lw_m1 33 rfl) rfl
theorem q1210 : (Jvm.Cond.instantiable "NineKeysRound$Paper" (4 : Nat)) ∈ lw_all := lw_g (lw_at lw_m5 138 rfl) rfl
theorem q1212 : (Jvm.Cond.instanceMethod ({ cls := "NineKeysRound$Paper", name := "<init>", desc := "(LNineKeysRound;I)V" } : Jvm.MethodName)) ∈ lw_all := lw_g (lw_at lw_m5 140 rfl) rfl
theorem q1213 : (Jvm.Cond.code ({ cls := "NineKeysRound$Paper", name := "<init>", desc := "(LNineKeysRound;I)V" } : Jvm.MethodName) prog_20_method_1_code (3 : Nat) (Option.none : Option Jvm.ClassFile.FieldType)) ∈ lw_all := lw_g (lw_at lw_m5 141 rfl) rfl
theorem q1214 : (Jvm.Cond.methodLink "NineKeysRound$Paper" (7 : Nat) ({ cls := "NineKeysRound$Dent", name := "<init>", desc := "(LNineKeysRound;I)V" } : Jvm.MethodName)) ∈ lw_all := lw_g (lw_at lw_m5 142 rfl) rfl
theorem q1215 : (Jvm.Cond.fieldLink "NineKeysRound$Paper" (1 : Nat) "NineKeysRound$Paper" "this$0" "LNineKeysRound;") ∈ lw_all := lw_g (lw_at lw_m5 143 rfl) rfl
theorem q1216 : (Jvm.Cond.laysFinal "NineKeysRound$Paper" "NineKeysRound$Paper" "this$0" "LNineKeysRound;") ∈ lw_all := lw_g (lw_at lw_m5 144 rfl) rfl
theorem q1217 : (Jvm.Cond.soleField "NineKeysRound$Paper" "this$0") ∈ lw_all := lw_g (lw_at lw_m5 145 rfl) rfl
theorem q1218 : (Jvm.Cond.laysFinal "NineKeysRound$Paper" "NineKeysRound$Dent" "this$0" "LNineKeysRound;") ∈ lw_all := lw_g (lw_at lw_m5 146 rfl) rfl
theorem q1219 : (Jvm.Cond.laysFinal "NineKeysRound$Paper" "NineKeysRound$Key" "number" "I") ∈ lw_all := lw_g (lw_at lw_m5 147 rfl) rfl
theorem q1220 : (Jvm.Cond.laysFinal "NineKeysRound$Paper" "NineKeysRound$Key" "this$0" "LNineKeysRound;") ∈ lw_all := lw_g (lw_at lw_m5 148 rfl) rfl
theorem q1221 : (Jvm.Cond.superclass "NineKeysRound$Paper" "NineKeysRound$Dent") ∈ lw_all := lw_g (lw_at lw_m5 149 rfl) rfl
theorem q1311 : (Jvm.Cond.castable "NineKeysRound$Paper" "NineKeysRound$Turns") ∈ lw_tbl := lw_at lw_m5 239 rfl
theorem q1312 : (Jvm.Cond.selects "NineKeysRound$Paper" ({ cls := "NineKeysRound$Turns", name := "turnsIn", desc := "(I)I" } : Jvm.MethodName) ({ cls := "NineKeysRound$Dent", name := "turnsIn", desc := "(I)I" } : Jvm.MethodName)) ∈ lw_all := lw_g (lw_at lw_m6 0 rfl) rfl
theorem q1313 : (Jvm.Cond.unhidden "NineKeysRound$Paper" "turnsIn" "(I)I") ∈ lw_tbl := lw_at lw_m6 1 rfl
theorem q1348 : (Jvm.Cond.selects "NineKeysRound$Paper" ({ cls := "NineKeysRound$Key", name := "sees", desc := "(I)I" } : Jvm.MethodName) ({ cls := "NineKeysRound$Key", name := "sees", desc := "(I)I" } : Jvm.MethodName)) ∈ lw_all := lw_g (lw_at lw_m6 36 rfl) rfl
theorem q1354 : (Jvm.Cond.sameMethod "NineKeysRound$Paper" "NineKeysRound$Key" "sees" "(I)I") ∈ lw_all := lw_g (lw_at lw_m6 42 rfl) rfl
theorem q1358 : (Jvm.Cond.declares ({ cls := "NineKeysRound$Paper", name := "fears", desc := "(I)I" } : Jvm.MethodName)) ∈ lw_tbl := lw_at lw_m6 46 rfl
theorem q1360 : (Jvm.Cond.instanceMethod ({ cls := "NineKeysRound$Paper", name := "fears", desc := "(I)I" } : Jvm.MethodName)) ∈ lw_all := lw_g (lw_at lw_m6 48 rfl) rfl
theorem q1361 : (Jvm.Cond.code ({ cls := "NineKeysRound$Paper", name := "fears", desc := "(I)I" } : Jvm.MethodName) prog_20_method_4_code (3 : Nat) (Option.some Jvm.ClassFile.FieldType.int)) ∈ lw_all := lw_g (lw_at lw_m6 49 rfl) rfl
theorem q1362 : (Jvm.Cond.methodLinkNest "NineKeysRound$Paper" (17 : Nat) ({ cls := "NineKeysRound", name := "ran", desc := "(I)V" } : Jvm.MethodName) "NineKeysRound") ∈ lw_tbl := lw_at lw_m6 50 rfl
theorem q1363 : (Jvm.Cond.methodLink "NineKeysRound$Paper" (23 : Nat) ({ cls := "NineKeysRound$Dent", name := "fears", desc := "(I)I" } : Jvm.MethodName)) ∈ lw_all := lw_g (lw_at lw_m6 51 rfl) rfl
theorem q1368 : (Jvm.Cond.methodLink "NineKeysRound$Paper" (27 : Nat) ({ cls := "NineKeysRound$Paper", name := "turnsIn", desc := "(I)I" } : Jvm.MethodName)) ∈ lw_all := lw_g (lw_at lw_m6 56 rfl) rfl
theorem q1369 : (Jvm.Cond.sameMethod "NineKeysRound$Paper" "NineKeysRound$Dent" "turnsIn" "(I)I") ∈ lw_all := lw_g (lw_at lw_m6 57 rfl) rfl
theorem q1371 : (Jvm.Cond.selects "NineKeysRound$Paper" ({ cls := "NineKeysRound$Paper", name := "turnsIn", desc := "(I)I" } : Jvm.MethodName) ({ cls := "NineKeysRound$Dent", name := "turnsIn", desc := "(I)I" } : Jvm.MethodName)) ∈ lw_all := lw_g (lw_at lw_m6 59 rfl) rfl
theorem q1391 : (Jvm.Cond.castable "NineKeysRound$Paper" "NineKeysRound$Tells") ∈ lw_tbl := lw_at lw_m6 79 rfl
theorem q1392 : (Jvm.Cond.selects "NineKeysRound$Paper" ({ cls := "NineKeysRound$Tells", name := "tells", desc := "(I)I" } : Jvm.MethodName) ({ cls := "NineKeysRound$Key", name := "tells", desc := "(I)I" } : Jvm.MethodName)) ∈ lw_all := lw_g (lw_at lw_m6 80 rfl) rfl
theorem q1393 : (Jvm.Cond.unhidden "NineKeysRound$Paper" "tells" "(I)I") ∈ lw_tbl := lw_at lw_m6 81 rfl
theorem q1401 : (Jvm.Cond.sameMethod "NineKeysRound$Paper" "NineKeysRound$Key" "tells" "(I)I") ∈ lw_all := lw_g (lw_at lw_m6 89 rfl) rfl
theorem q1601 : (Jvm.Cond.selects "NineKeysRound$Paper" ({ cls := "NineKeysRound$Key", name := "kind", desc := "()I" } : Jvm.MethodName) ({ cls := "NineKeysRound$Paper", name := "kind", desc := "()I" } : Jvm.MethodName)) ∈ lw_all := lw_g (lw_at lw_m7 49 rfl) rfl
theorem q1602 : (Jvm.Cond.instanceMethod ({ cls := "NineKeysRound$Paper", name := "kind", desc := "()I" } : Jvm.MethodName)) ∈ lw_all := lw_g (lw_at lw_m7 50 rfl) rfl
theorem q1603 : (Jvm.Cond.code ({ cls := "NineKeysRound$Paper", name := "kind", desc := "()I" } : Jvm.MethodName) prog_20_method_2_code (1 : Nat) (Option.some Jvm.ClassFile.FieldType.int)) ∈ lw_all := lw_g (lw_at lw_m7 51 rfl) rfl
theorem q1620 : (Jvm.Cond.selects "NineKeysRound$Paper" ({ cls := "NineKeysRound$Key", name := "isUnder", desc := "(I)Z" } : Jvm.MethodName) ({ cls := "NineKeysRound$Paper", name := "isUnder", desc := "(I)Z" } : Jvm.MethodName)) ∈ lw_all := lw_g (lw_at lw_m7 68 rfl) rfl
theorem q1621 : (Jvm.Cond.instanceMethod ({ cls := "NineKeysRound$Paper", name := "isUnder", desc := "(I)Z" } : Jvm.MethodName)) ∈ lw_all := lw_g (lw_at lw_m7 69 rfl) rfl
theorem q1622 : (Jvm.Cond.code ({ cls := "NineKeysRound$Paper", name := "isUnder", desc := "(I)Z" } : Jvm.MethodName) prog_20_method_3_code (2 : Nat) (Option.some Jvm.ClassFile.FieldType.boolean)) ∈ lw_all := lw_g (lw_at lw_m7 70 rfl) rfl
theorem q1623 : (Jvm.Cond.methodLink "NineKeysRound$Paper" (13 : Nat) ({ cls := "NineKeysRound$Dent", name := "isUnder", desc := "(I)Z" } : Jvm.MethodName)) ∈ lw_all := lw_g (lw_at lw_m7 71 rfl) rfl
theorem q2239 : (Jvm.Cond.selects "NineKeysRound$Paper" ({ cls := "NineKeysRound$Key", name := "turnsIn", desc := "(I)I" } : Jvm.MethodName) ({ cls := "NineKeysRound$Dent", name := "turnsIn", desc := "(I)I" } : Jvm.MethodName)) ∈ lw_all := lw_g (lw_at lw_m9 207 rfl) rfl
theorem q2248 : (Jvm.Cond.selects "NineKeysRound$Paper" ({ cls := "NineKeysRound$Key", name := "fears", desc := "(I)I" } : Jvm.MethodName) ({ cls := "NineKeysRound$Paper", name := "fears", desc := "(I)I" } : Jvm.MethodName)) ∈ lw_all := lw_g (lw_at lw_m9 216 rfl) rfl
theorem q2263 : (Jvm.Cond.castable "NineKeysRound$Paper" "NineKeysRound$Key") ∈ lw_tbl := lw_at lw_m9 231 rfl
theorem q2269 : (Jvm.Cond.castable "NineKeysRound$Paper" "NineKeysRound$Held") ∈ lw_tbl := lw_at lw_m9 237 rfl
theorem in_X18 : ∀ w ∈ wsX180, w ∈ lw_all := lw_in wsX180 [1219, 1220, 1218, 1216] (by decide +kernel) (by decide +kernel)
/-! NineKeysRound$Thief -/
set_option maxRecDepth 100000
def RX19 : String := "NineKeysRound$Thief"
def TX19 : u_T := fun k => match k with
  | 0 => ("NineKeysRound$Key", "number", "I", true)
  | 1 => ("NineKeysRound$Key", "this$0", "LNineKeysRound;", true)
  | 2 => ("NineKeysRound$Lamp", "this$0", "LNineKeysRound;", true)
  | 3 => ("NineKeysRound$Dog", "this$0", "LNineKeysRound;", true)
  | _ => ("NineKeysRound$Thief", "this$0", "LNineKeysRound;", true)
def tyX19 : Nat → FieldType := fun k => match k with
  | 0 => .int
  | 1 => .object "NineKeysRound"
  | 2 => .object "NineKeysRound"
  | 3 => .object "NineKeysRound"
  | _ => .object "NineKeysRound"
abbrev wsX190 : List Cond := u_ws RX19 TX19 5
-- two fields of one name: no nmX19
theorem tyX19_ok : ∀ k, k < 5 → parseFieldDescriptor (TX19 k).2.2.1 = some (tyX19 k) := by decide +kernel
abbrev cX19_init : ByteArray := prog_27_method_1_code
def yX19_init : MethodName := ⟨RX19, "<init>", "(LNineKeysRound;I)V"⟩
def dkwX19_init_0 : List UInt8 := [42, 43, 181, 0, 1, 42, 43, 28, 183, 0, 7, 177]
abbrev dktX19_init_0 : List UInt8 := dkwX19_init_0 ++ []
theorem dksX19_init_0 : cX19_init.data.toList.drop 0 = dktX19_init_0 := by decide +kernel
theorem dX19_init_0 : decode cX19_init 0 = .ok (.aload_n 0, 1) := dk_42 (dk_at dksX19_init_0 0 rfl rfl)
theorem dX19_init_1 : decode cX19_init 1 = .ok (.aload_n 1, 1) := dk_43 (dk_at dksX19_init_0 1 rfl rfl)
theorem dX19_init_2 : decode cX19_init 2 = .ok (.putfield 1, 3) := dk_181 0 1 (dk_at dksX19_init_0 2 rfl rfl)
theorem dX19_init_5 : decode cX19_init 5 = .ok (.aload_n 0, 1) := dk_42 (dk_at dksX19_init_0 5 rfl rfl)
theorem dX19_init_6 : decode cX19_init 6 = .ok (.aload_n 1, 1) := dk_43 (dk_at dksX19_init_0 6 rfl rfl)
theorem dX19_init_7 : decode cX19_init 7 = .ok (.iload_n 2, 1) := dk_28 (dk_at dksX19_init_0 7 rfl rfl)
theorem dX19_init_8 : decode cX19_init 8 = .ok (.invokespecial 7, 3) := dk_183 0 7 (dk_at dksX19_init_0 8 rfl rfl)
theorem dX19_init_11 : decode cX19_init 11 = .ok (.return_, 1) := dk_177 (dk_at dksX19_init_0 11 rfl rfl)
abbrev cX19_tells : ByteArray := prog_27_method_3_code
def yX19_tells : MethodName := ⟨RX19, "tells", "(I)I"⟩
def dkwX19_tells_0 : List UInt8 := [42, 180, 0, 1, 16, 60, 182, 0, 13, 42, 27, 183, 0, 19, 8, 130, 172]
abbrev dktX19_tells_0 : List UInt8 := dkwX19_tells_0 ++ []
theorem dksX19_tells_0 : cX19_tells.data.toList.drop 0 = dktX19_tells_0 := by decide +kernel
theorem dX19_tells_0 : decode cX19_tells 0 = .ok (.aload_n 0, 1) := dk_42 (dk_at dksX19_tells_0 0 rfl rfl)
theorem dX19_tells_1 : decode cX19_tells 1 = .ok (.getfield 1, 3) := dk_180 0 1 (dk_at dksX19_tells_0 1 rfl rfl)
theorem dX19_tells_4 : decode cX19_tells 4 = .ok (.bipush 60, 2) := dk_16 60 (dk_at dksX19_tells_0 4 rfl rfl)
theorem dX19_tells_6 : decode cX19_tells 6 = .ok (.invokevirtual 13, 3) := dk_182 0 13 (dk_at dksX19_tells_0 6 rfl rfl)
theorem dX19_tells_9 : decode cX19_tells 9 = .ok (.aload_n 0, 1) := dk_42 (dk_at dksX19_tells_0 9 rfl rfl)
theorem dX19_tells_10 : decode cX19_tells 10 = .ok (.iload_n 1, 1) := dk_27 (dk_at dksX19_tells_0 10 rfl rfl)
theorem dX19_tells_11 : decode cX19_tells 11 = .ok (.invokespecial 19, 3) := dk_183 0 19 (dk_at dksX19_tells_0 11 rfl rfl)
theorem dX19_tells_14 : decode cX19_tells 14 = .ok (.iconst 5, 1) := dk_8 (dk_at dksX19_tells_0 14 rfl rfl)
theorem dX19_tells_15 : decode cX19_tells 15 = .ok (.ixor, 1) := dk_130 (dk_at dksX19_tells_0 15 rfl rfl)
theorem dX19_tells_16 : decode cX19_tells 16 = .ok (.ireturn, 1) := dk_172 (dk_at dksX19_tells_0 16 rfl rfl)
abbrev cX19_kind : ByteArray := prog_27_method_2_code
def yX19_kind : MethodName := ⟨RX19, "kind", "()I"⟩
theorem dX19_kind_0 : decode cX19_kind 0 = .ok (.iconst 5, 1) := by decide +kernel
theorem dX19_kind_1 : decode cX19_kind 1 = .ok (.ireturn, 1) := by decide +kernel
theorem q146 : (Jvm.Cond.initialized "NineKeysRound$Thief") ∈ lw_all := lw_g (lw_at lw_m1 34 rfl) rfl
theorem q1223 : (Jvm.Cond.instantiable "NineKeysRound$Thief" (5 : Nat)) ∈ lw_all := lw_g (lw_at lw_m5 151 rfl) rfl
theorem q1225 : (Jvm.Cond.instanceMethod ({ cls := "NineKeysRound$Thief", name := "<init>", desc := "(LNineKeysRound;I)V" } : Jvm.MethodName)) ∈ lw_all := lw_g (lw_at lw_m5 153 rfl) rfl
theorem q1226 : (Jvm.Cond.code ({ cls := "NineKeysRound$Thief", name := "<init>", desc := "(LNineKeysRound;I)V" } : Jvm.MethodName) prog_27_method_1_code (3 : Nat) (Option.none : Option Jvm.ClassFile.FieldType)) ∈ lw_all := lw_g (lw_at lw_m5 154 rfl) rfl
theorem q1227 : (Jvm.Cond.methodLink "NineKeysRound$Thief" (7 : Nat) ({ cls := "NineKeysRound$Dog", name := "<init>", desc := "(LNineKeysRound;I)V" } : Jvm.MethodName)) ∈ lw_all := lw_g (lw_at lw_m5 155 rfl) rfl
theorem q1228 : (Jvm.Cond.fieldLink "NineKeysRound$Thief" (1 : Nat) "NineKeysRound$Thief" "this$0" "LNineKeysRound;") ∈ lw_all := lw_g (lw_at lw_m5 156 rfl) rfl
theorem q1229 : (Jvm.Cond.laysFinal "NineKeysRound$Thief" "NineKeysRound$Thief" "this$0" "LNineKeysRound;") ∈ lw_all := lw_g (lw_at lw_m5 157 rfl) rfl
theorem q1230 : (Jvm.Cond.soleField "NineKeysRound$Thief" "this$0") ∈ lw_all := lw_g (lw_at lw_m5 158 rfl) rfl
theorem q1231 : (Jvm.Cond.laysFinal "NineKeysRound$Thief" "NineKeysRound$Dog" "this$0" "LNineKeysRound;") ∈ lw_all := lw_g (lw_at lw_m5 159 rfl) rfl
theorem q1232 : (Jvm.Cond.laysFinal "NineKeysRound$Thief" "NineKeysRound$Lamp" "this$0" "LNineKeysRound;") ∈ lw_all := lw_g (lw_at lw_m5 160 rfl) rfl
theorem q1233 : (Jvm.Cond.laysFinal "NineKeysRound$Thief" "NineKeysRound$Key" "number" "I") ∈ lw_all := lw_g (lw_at lw_m5 161 rfl) rfl
theorem q1234 : (Jvm.Cond.laysFinal "NineKeysRound$Thief" "NineKeysRound$Key" "this$0" "LNineKeysRound;") ∈ lw_all := lw_g (lw_at lw_m5 162 rfl) rfl
theorem q1235 : (Jvm.Cond.superclass "NineKeysRound$Thief" "NineKeysRound$Dog") ∈ lw_all := lw_g (lw_at lw_m5 163 rfl) rfl
theorem q1317 : (Jvm.Cond.castable "NineKeysRound$Thief" "NineKeysRound$Turns") ∈ lw_tbl := lw_at lw_m6 5 rfl
theorem q1318 : (Jvm.Cond.selects "NineKeysRound$Thief" ({ cls := "NineKeysRound$Turns", name := "turnsIn", desc := "(I)I" } : Jvm.MethodName) ({ cls := "NineKeysRound$Key", name := "turnsIn", desc := "(I)I" } : Jvm.MethodName)) ∈ lw_all := lw_g (lw_at lw_m6 6 rfl) rfl
theorem q1319 : (Jvm.Cond.unhidden "NineKeysRound$Thief" "turnsIn" "(I)I") ∈ lw_tbl := lw_at lw_m6 7 rfl
theorem q1373 : (Jvm.Cond.selects "NineKeysRound$Thief" ({ cls := "NineKeysRound$Key", name := "sees", desc := "(I)I" } : Jvm.MethodName) ({ cls := "NineKeysRound$Dog", name := "sees", desc := "(I)I" } : Jvm.MethodName)) ∈ lw_all := lw_g (lw_at lw_m6 61 rfl) rfl
theorem q1403 : (Jvm.Cond.castable "NineKeysRound$Thief" "NineKeysRound$Tells") ∈ lw_tbl := lw_at lw_m6 91 rfl
theorem q1404 : (Jvm.Cond.selects "NineKeysRound$Thief" ({ cls := "NineKeysRound$Tells", name := "tells", desc := "(I)I" } : Jvm.MethodName) ({ cls := "NineKeysRound$Thief", name := "tells", desc := "(I)I" } : Jvm.MethodName)) ∈ lw_all := lw_g (lw_at lw_m6 92 rfl) rfl
theorem q1405 : (Jvm.Cond.unhidden "NineKeysRound$Thief" "tells" "(I)I") ∈ lw_tbl := lw_at lw_m6 93 rfl
theorem q1406 : (Jvm.Cond.instanceMethod ({ cls := "NineKeysRound$Thief", name := "tells", desc := "(I)I" } : Jvm.MethodName)) ∈ lw_all := lw_g (lw_at lw_m6 94 rfl) rfl
theorem q1407 : (Jvm.Cond.publicMethod ({ cls := "NineKeysRound$Thief", name := "tells", desc := "(I)I" } : Jvm.MethodName)) ∈ lw_tbl := lw_at lw_m6 95 rfl
theorem q1408 : (Jvm.Cond.code ({ cls := "NineKeysRound$Thief", name := "tells", desc := "(I)I" } : Jvm.MethodName) prog_27_method_3_code (2 : Nat) (Option.some Jvm.ClassFile.FieldType.int)) ∈ lw_all := lw_g (lw_at lw_m6 96 rfl) rfl
theorem q1409 : (Jvm.Cond.methodLinkNest "NineKeysRound$Thief" (13 : Nat) ({ cls := "NineKeysRound", name := "ran", desc := "(I)V" } : Jvm.MethodName) "NineKeysRound") ∈ lw_tbl := lw_at lw_m6 97 rfl
theorem q1410 : (Jvm.Cond.methodLink "NineKeysRound$Thief" (19 : Nat) ({ cls := "NineKeysRound$Dog", name := "tells", desc := "(I)I" } : Jvm.MethodName)) ∈ lw_all := lw_g (lw_at lw_m6 98 rfl) rfl
theorem q1607 : (Jvm.Cond.selects "NineKeysRound$Thief" ({ cls := "NineKeysRound$Key", name := "kind", desc := "()I" } : Jvm.MethodName) ({ cls := "NineKeysRound$Thief", name := "kind", desc := "()I" } : Jvm.MethodName)) ∈ lw_all := lw_g (lw_at lw_m7 55 rfl) rfl
theorem q1608 : (Jvm.Cond.instanceMethod ({ cls := "NineKeysRound$Thief", name := "kind", desc := "()I" } : Jvm.MethodName)) ∈ lw_all := lw_g (lw_at lw_m7 56 rfl) rfl
theorem q1609 : (Jvm.Cond.code ({ cls := "NineKeysRound$Thief", name := "kind", desc := "()I" } : Jvm.MethodName) prog_27_method_2_code (1 : Nat) (Option.some Jvm.ClassFile.FieldType.int)) ∈ lw_all := lw_g (lw_at lw_m7 57 rfl) rfl
theorem q1625 : (Jvm.Cond.selects "NineKeysRound$Thief" ({ cls := "NineKeysRound$Key", name := "isUnder", desc := "(I)Z" } : Jvm.MethodName) ({ cls := "NineKeysRound$Dog", name := "isUnder", desc := "(I)Z" } : Jvm.MethodName)) ∈ lw_all := lw_g (lw_at lw_m7 73 rfl) rfl
theorem q2241 : (Jvm.Cond.selects "NineKeysRound$Thief" ({ cls := "NineKeysRound$Key", name := "turnsIn", desc := "(I)I" } : Jvm.MethodName) ({ cls := "NineKeysRound$Key", name := "turnsIn", desc := "(I)I" } : Jvm.MethodName)) ∈ lw_all := lw_g (lw_at lw_m9 209 rfl) rfl
theorem q2250 : (Jvm.Cond.selects "NineKeysRound$Thief" ({ cls := "NineKeysRound$Key", name := "fears", desc := "(I)I" } : Jvm.MethodName) ({ cls := "NineKeysRound$Dog", name := "fears", desc := "(I)I" } : Jvm.MethodName)) ∈ lw_all := lw_g (lw_at lw_m9 218 rfl) rfl
theorem q2265 : (Jvm.Cond.castable "NineKeysRound$Thief" "NineKeysRound$Key") ∈ lw_tbl := lw_at lw_m9 233 rfl
theorem q2270 : (Jvm.Cond.castable "NineKeysRound$Thief" "NineKeysRound$Held") ∈ lw_tbl := lw_at lw_m9 238 rfl
theorem in_X19 : ∀ w ∈ wsX190, w ∈ lw_all := lw_in wsX190 [1233, 1234, 1232, 1231, 1229] (by decide +kernel) (by decide +kernel)
/-! NineKeysRound$Dice -/
set_option maxRecDepth 100000
def RX20 : String := "NineKeysRound$Dice"
def TX20 : u_T := fun k => match k with
  | 0 => ("NineKeysRound$Key", "number", "I", true)
  | 1 => ("NineKeysRound$Key", "this$0", "LNineKeysRound;", true)
  | _ => ("NineKeysRound$Dice", "this$0", "LNineKeysRound;", true)
def tyX20 : Nat → FieldType := fun k => match k with
  | 0 => .int
  | 1 => .object "NineKeysRound"
  | _ => .object "NineKeysRound"
abbrev wsX200 : List Cond := u_ws RX20 TX20 3
-- two fields of one name: no nmX20
theorem tyX20_ok : ∀ k, k < 3 → parseFieldDescriptor (TX20 k).2.2.1 = some (tyX20 k) := by decide +kernel
abbrev cX20_init : ByteArray := prog_7_method_1_code
def yX20_init : MethodName := ⟨RX20, "<init>", "(LNineKeysRound;I)V"⟩
def dkwX20_init_0 : List UInt8 := [42, 43, 181, 0, 1, 42, 43, 28, 183, 0, 7, 177]
abbrev dktX20_init_0 : List UInt8 := dkwX20_init_0 ++ []
theorem dksX20_init_0 : cX20_init.data.toList.drop 0 = dktX20_init_0 := by decide +kernel
theorem dX20_init_0 : decode cX20_init 0 = .ok (.aload_n 0, 1) := dk_42 (dk_at dksX20_init_0 0 rfl rfl)
theorem dX20_init_1 : decode cX20_init 1 = .ok (.aload_n 1, 1) := dk_43 (dk_at dksX20_init_0 1 rfl rfl)
theorem dX20_init_2 : decode cX20_init 2 = .ok (.putfield 1, 3) := dk_181 0 1 (dk_at dksX20_init_0 2 rfl rfl)
theorem dX20_init_5 : decode cX20_init 5 = .ok (.aload_n 0, 1) := dk_42 (dk_at dksX20_init_0 5 rfl rfl)
theorem dX20_init_6 : decode cX20_init 6 = .ok (.aload_n 1, 1) := dk_43 (dk_at dksX20_init_0 6 rfl rfl)
theorem dX20_init_7 : decode cX20_init 7 = .ok (.iload_n 2, 1) := dk_28 (dk_at dksX20_init_0 7 rfl rfl)
theorem dX20_init_8 : decode cX20_init 8 = .ok (.invokespecial 7, 3) := dk_183 0 7 (dk_at dksX20_init_0 8 rfl rfl)
theorem dX20_init_11 : decode cX20_init 11 = .ok (.return_, 1) := dk_177 (dk_at dksX20_init_0 11 rfl rfl)
abbrev cX20_turnsIn : ByteArray := prog_7_method_3_code
def yX20_turnsIn : MethodName := ⟨RX20, "turnsIn", "(I)I"⟩
def dkwX20_turnsIn_0 : List UInt8 := [42, 180, 0, 1, 16, 70, 182, 0, 13, 42, 27, 183, 0, 19, 5, 104, 172]
abbrev dktX20_turnsIn_0 : List UInt8 := dkwX20_turnsIn_0 ++ []
theorem dksX20_turnsIn_0 : cX20_turnsIn.data.toList.drop 0 = dktX20_turnsIn_0 := by decide +kernel
theorem dX20_turnsIn_0 : decode cX20_turnsIn 0 = .ok (.aload_n 0, 1) := dk_42 (dk_at dksX20_turnsIn_0 0 rfl rfl)
theorem dX20_turnsIn_1 : decode cX20_turnsIn 1 = .ok (.getfield 1, 3) := dk_180 0 1 (dk_at dksX20_turnsIn_0 1 rfl rfl)
theorem dX20_turnsIn_4 : decode cX20_turnsIn 4 = .ok (.bipush 70, 2) := dk_16 70 (dk_at dksX20_turnsIn_0 4 rfl rfl)
theorem dX20_turnsIn_6 : decode cX20_turnsIn 6 = .ok (.invokevirtual 13, 3) := dk_182 0 13 (dk_at dksX20_turnsIn_0 6 rfl rfl)
theorem dX20_turnsIn_9 : decode cX20_turnsIn 9 = .ok (.aload_n 0, 1) := dk_42 (dk_at dksX20_turnsIn_0 9 rfl rfl)
theorem dX20_turnsIn_10 : decode cX20_turnsIn 10 = .ok (.iload_n 1, 1) := dk_27 (dk_at dksX20_turnsIn_0 10 rfl rfl)
theorem dX20_turnsIn_11 : decode cX20_turnsIn 11 = .ok (.invokespecial 19, 3) := dk_183 0 19 (dk_at dksX20_turnsIn_0 11 rfl rfl)
theorem dX20_turnsIn_14 : decode cX20_turnsIn 14 = .ok (.iconst 2, 1) := dk_5 (dk_at dksX20_turnsIn_0 14 rfl rfl)
theorem dX20_turnsIn_15 : decode cX20_turnsIn 15 = .ok (.imul, 1) := dk_104 (dk_at dksX20_turnsIn_0 15 rfl rfl)
theorem dX20_turnsIn_16 : decode cX20_turnsIn 16 = .ok (.ireturn, 1) := dk_172 (dk_at dksX20_turnsIn_0 16 rfl rfl)
abbrev cX20_kind : ByteArray := prog_7_method_2_code
def yX20_kind : MethodName := ⟨RX20, "kind", "()I"⟩
theorem dX20_kind_0 : decode cX20_kind 0 = .ok (.bipush 6, 2) := by decide +kernel
theorem dX20_kind_2 : decode cX20_kind 2 = .ok (.ireturn, 1) := by decide +kernel
theorem q147 : (Jvm.Cond.initialized "NineKeysRound$Dice") ∈ lw_all := lw_g (lw_at lw_m1 35 rfl) rfl
theorem q1237 : (Jvm.Cond.instantiable "NineKeysRound$Dice" (3 : Nat)) ∈ lw_all := lw_g (lw_at lw_m5 165 rfl) rfl
theorem q1239 : (Jvm.Cond.instanceMethod ({ cls := "NineKeysRound$Dice", name := "<init>", desc := "(LNineKeysRound;I)V" } : Jvm.MethodName)) ∈ lw_all := lw_g (lw_at lw_m5 167 rfl) rfl
theorem q1240 : (Jvm.Cond.code ({ cls := "NineKeysRound$Dice", name := "<init>", desc := "(LNineKeysRound;I)V" } : Jvm.MethodName) prog_7_method_1_code (3 : Nat) (Option.none : Option Jvm.ClassFile.FieldType)) ∈ lw_all := lw_g (lw_at lw_m5 168 rfl) rfl
theorem q1241 : (Jvm.Cond.methodLink "NineKeysRound$Dice" (7 : Nat) ({ cls := "NineKeysRound$Key", name := "<init>", desc := "(LNineKeysRound;I)V" } : Jvm.MethodName)) ∈ lw_all := lw_g (lw_at lw_m5 169 rfl) rfl
theorem q1242 : (Jvm.Cond.fieldLink "NineKeysRound$Dice" (1 : Nat) "NineKeysRound$Dice" "this$0" "LNineKeysRound;") ∈ lw_all := lw_g (lw_at lw_m5 170 rfl) rfl
theorem q1243 : (Jvm.Cond.laysFinal "NineKeysRound$Dice" "NineKeysRound$Dice" "this$0" "LNineKeysRound;") ∈ lw_all := lw_g (lw_at lw_m5 171 rfl) rfl
theorem q1244 : (Jvm.Cond.soleField "NineKeysRound$Dice" "this$0") ∈ lw_all := lw_g (lw_at lw_m5 172 rfl) rfl
theorem q1245 : (Jvm.Cond.laysFinal "NineKeysRound$Dice" "NineKeysRound$Key" "number" "I") ∈ lw_all := lw_g (lw_at lw_m5 173 rfl) rfl
theorem q1246 : (Jvm.Cond.laysFinal "NineKeysRound$Dice" "NineKeysRound$Key" "this$0" "LNineKeysRound;") ∈ lw_all := lw_g (lw_at lw_m5 174 rfl) rfl
theorem q1247 : (Jvm.Cond.superclass "NineKeysRound$Dice" "NineKeysRound$Key") ∈ lw_all := lw_g (lw_at lw_m5 175 rfl) rfl
theorem q1293 : (Jvm.Cond.castable "NineKeysRound$Dice" "NineKeysRound$Turns") ∈ lw_tbl := lw_at lw_m5 221 rfl
theorem q1294 : (Jvm.Cond.selects "NineKeysRound$Dice" ({ cls := "NineKeysRound$Turns", name := "turnsIn", desc := "(I)I" } : Jvm.MethodName) ({ cls := "NineKeysRound$Dice", name := "turnsIn", desc := "(I)I" } : Jvm.MethodName)) ∈ lw_all := lw_g (lw_at lw_m5 222 rfl) rfl
theorem q1295 : (Jvm.Cond.unhidden "NineKeysRound$Dice" "turnsIn" "(I)I") ∈ lw_tbl := lw_at lw_m5 223 rfl
theorem q1296 : (Jvm.Cond.instanceMethod ({ cls := "NineKeysRound$Dice", name := "turnsIn", desc := "(I)I" } : Jvm.MethodName)) ∈ lw_all := lw_g (lw_at lw_m5 224 rfl) rfl
theorem q1297 : (Jvm.Cond.publicMethod ({ cls := "NineKeysRound$Dice", name := "turnsIn", desc := "(I)I" } : Jvm.MethodName)) ∈ lw_tbl := lw_at lw_m5 225 rfl
theorem q1298 : (Jvm.Cond.code ({ cls := "NineKeysRound$Dice", name := "turnsIn", desc := "(I)I" } : Jvm.MethodName) prog_7_method_3_code (2 : Nat) (Option.some Jvm.ClassFile.FieldType.int)) ∈ lw_all := lw_g (lw_at lw_m5 226 rfl) rfl
theorem q1299 : (Jvm.Cond.methodLinkNest "NineKeysRound$Dice" (13 : Nat) ({ cls := "NineKeysRound", name := "ran", desc := "(I)V" } : Jvm.MethodName) "NineKeysRound") ∈ lw_tbl := lw_at lw_m5 227 rfl
theorem q1300 : (Jvm.Cond.methodLink "NineKeysRound$Dice" (19 : Nat) ({ cls := "NineKeysRound$Key", name := "turnsIn", desc := "(I)I" } : Jvm.MethodName)) ∈ lw_all := lw_g (lw_at lw_m5 228 rfl) rfl
theorem q1335 : (Jvm.Cond.selects "NineKeysRound$Dice" ({ cls := "NineKeysRound$Key", name := "sees", desc := "(I)I" } : Jvm.MethodName) ({ cls := "NineKeysRound$Key", name := "sees", desc := "(I)I" } : Jvm.MethodName)) ∈ lw_all := lw_g (lw_at lw_m6 23 rfl) rfl
theorem q1379 : (Jvm.Cond.castable "NineKeysRound$Dice" "NineKeysRound$Tells") ∈ lw_tbl := lw_at lw_m6 67 rfl
theorem q1380 : (Jvm.Cond.selects "NineKeysRound$Dice" ({ cls := "NineKeysRound$Tells", name := "tells", desc := "(I)I" } : Jvm.MethodName) ({ cls := "NineKeysRound$Key", name := "tells", desc := "(I)I" } : Jvm.MethodName)) ∈ lw_all := lw_g (lw_at lw_m6 68 rfl) rfl
theorem q1381 : (Jvm.Cond.unhidden "NineKeysRound$Dice" "tells" "(I)I") ∈ lw_tbl := lw_at lw_m6 69 rfl
theorem q1592 : (Jvm.Cond.selects "NineKeysRound$Dice" ({ cls := "NineKeysRound$Key", name := "kind", desc := "()I" } : Jvm.MethodName) ({ cls := "NineKeysRound$Dice", name := "kind", desc := "()I" } : Jvm.MethodName)) ∈ lw_all := lw_g (lw_at lw_m7 40 rfl) rfl
theorem q1593 : (Jvm.Cond.instanceMethod ({ cls := "NineKeysRound$Dice", name := "kind", desc := "()I" } : Jvm.MethodName)) ∈ lw_all := lw_g (lw_at lw_m7 41 rfl) rfl
theorem q1594 : (Jvm.Cond.code ({ cls := "NineKeysRound$Dice", name := "kind", desc := "()I" } : Jvm.MethodName) prog_7_method_2_code (1 : Nat) (Option.some Jvm.ClassFile.FieldType.int)) ∈ lw_all := lw_g (lw_at lw_m7 42 rfl) rfl
theorem q1611 : (Jvm.Cond.selects "NineKeysRound$Dice" ({ cls := "NineKeysRound$Key", name := "isUnder", desc := "(I)Z" } : Jvm.MethodName) ({ cls := "NineKeysRound$Key", name := "isUnder", desc := "(I)Z" } : Jvm.MethodName)) ∈ lw_all := lw_g (lw_at lw_m7 59 rfl) rfl
theorem q2235 : (Jvm.Cond.selects "NineKeysRound$Dice" ({ cls := "NineKeysRound$Key", name := "turnsIn", desc := "(I)I" } : Jvm.MethodName) ({ cls := "NineKeysRound$Dice", name := "turnsIn", desc := "(I)I" } : Jvm.MethodName)) ∈ lw_all := lw_g (lw_at lw_m9 203 rfl) rfl
theorem q2244 : (Jvm.Cond.selects "NineKeysRound$Dice" ({ cls := "NineKeysRound$Key", name := "fears", desc := "(I)I" } : Jvm.MethodName) ({ cls := "NineKeysRound$Key", name := "fears", desc := "(I)I" } : Jvm.MethodName)) ∈ lw_all := lw_g (lw_at lw_m9 212 rfl) rfl
theorem q2260 : (Jvm.Cond.castable "NineKeysRound$Dice" "NineKeysRound$Key") ∈ lw_tbl := lw_at lw_m9 228 rfl
theorem q2271 : (Jvm.Cond.castable "NineKeysRound$Dice" "NineKeysRound$Held") ∈ lw_tbl := lw_at lw_m9 239 rfl
theorem in_X20 : ∀ w ∈ wsX200, w ∈ lw_all := lw_in wsX200 [1245, 1246, 1243] (by decide +kernel) (by decide +kernel)
/-! NineKeysRound$Sleep -/
set_option maxRecDepth 100000
def RX21 : String := "NineKeysRound$Sleep"
def TX21 : u_T := fun k => match k with
  | 0 => ("NineKeysRound$Key", "number", "I", true)
  | 1 => ("NineKeysRound$Key", "this$0", "LNineKeysRound;", true)
  | 2 => ("NineKeysRound$Dent", "this$0", "LNineKeysRound;", true)
  | 3 => ("NineKeysRound$Paper", "this$0", "LNineKeysRound;", true)
  | _ => ("NineKeysRound$Sleep", "this$0", "LNineKeysRound;", true)
def tyX21 : Nat → FieldType := fun k => match k with
  | 0 => .int
  | 1 => .object "NineKeysRound"
  | 2 => .object "NineKeysRound"
  | 3 => .object "NineKeysRound"
  | _ => .object "NineKeysRound"
abbrev wsX210 : List Cond := u_ws RX21 TX21 5
-- two fields of one name: no nmX21
theorem tyX21_ok : ∀ k, k < 5 → parseFieldDescriptor (TX21 k).2.2.1 = some (tyX21 k) := by decide +kernel
abbrev cX21_init : ByteArray := prog_25_method_1_code
def yX21_init : MethodName := ⟨RX21, "<init>", "(LNineKeysRound;I)V"⟩
def dkwX21_init_0 : List UInt8 := [42, 43, 181, 0, 1, 42, 43, 28, 183, 0, 7, 177]
abbrev dktX21_init_0 : List UInt8 := dkwX21_init_0 ++ []
theorem dksX21_init_0 : cX21_init.data.toList.drop 0 = dktX21_init_0 := by decide +kernel
theorem dX21_init_0 : decode cX21_init 0 = .ok (.aload_n 0, 1) := dk_42 (dk_at dksX21_init_0 0 rfl rfl)
theorem dX21_init_1 : decode cX21_init 1 = .ok (.aload_n 1, 1) := dk_43 (dk_at dksX21_init_0 1 rfl rfl)
theorem dX21_init_2 : decode cX21_init 2 = .ok (.putfield 1, 3) := dk_181 0 1 (dk_at dksX21_init_0 2 rfl rfl)
theorem dX21_init_5 : decode cX21_init 5 = .ok (.aload_n 0, 1) := dk_42 (dk_at dksX21_init_0 5 rfl rfl)
theorem dX21_init_6 : decode cX21_init 6 = .ok (.aload_n 1, 1) := dk_43 (dk_at dksX21_init_0 6 rfl rfl)
theorem dX21_init_7 : decode cX21_init 7 = .ok (.iload_n 2, 1) := dk_28 (dk_at dksX21_init_0 7 rfl rfl)
theorem dX21_init_8 : decode cX21_init 8 = .ok (.invokespecial 7, 3) := dk_183 0 7 (dk_at dksX21_init_0 8 rfl rfl)
theorem dX21_init_11 : decode cX21_init 11 = .ok (.return_, 1) := dk_177 (dk_at dksX21_init_0 11 rfl rfl)
abbrev cX21_sees : ByteArray := prog_25_method_3_code
def yX21_sees : MethodName := ⟨RX21, "sees", "(I)I"⟩
def dkwX21_sees_0 : List UInt8 := [42, 180, 0, 1, 16, 80, 182, 0, 13, 42, 27, 183, 0, 19, 61, 28, 42, 5, 182, 0, 23, 96, 172]
abbrev dktX21_sees_0 : List UInt8 := dkwX21_sees_0 ++ []
theorem dksX21_sees_0 : cX21_sees.data.toList.drop 0 = dktX21_sees_0 := by decide +kernel
theorem dX21_sees_0 : decode cX21_sees 0 = .ok (.aload_n 0, 1) := dk_42 (dk_at dksX21_sees_0 0 rfl rfl)
theorem dX21_sees_1 : decode cX21_sees 1 = .ok (.getfield 1, 3) := dk_180 0 1 (dk_at dksX21_sees_0 1 rfl rfl)
theorem dX21_sees_4 : decode cX21_sees 4 = .ok (.bipush 80, 2) := dk_16 80 (dk_at dksX21_sees_0 4 rfl rfl)
theorem dX21_sees_6 : decode cX21_sees 6 = .ok (.invokevirtual 13, 3) := dk_182 0 13 (dk_at dksX21_sees_0 6 rfl rfl)
theorem dX21_sees_9 : decode cX21_sees 9 = .ok (.aload_n 0, 1) := dk_42 (dk_at dksX21_sees_0 9 rfl rfl)
theorem dX21_sees_10 : decode cX21_sees 10 = .ok (.iload_n 1, 1) := dk_27 (dk_at dksX21_sees_0 10 rfl rfl)
theorem dX21_sees_11 : decode cX21_sees 11 = .ok (.invokespecial 19, 3) := dk_183 0 19 (dk_at dksX21_sees_0 11 rfl rfl)
theorem dX21_sees_14 : decode cX21_sees 14 = .ok (.istore_n 2, 1) := dk_61 (dk_at dksX21_sees_0 14 rfl rfl)
theorem dX21_sees_15 : decode cX21_sees 15 = .ok (.iload_n 2, 1) := dk_28 (dk_at dksX21_sees_0 15 rfl rfl)
theorem dX21_sees_16 : decode cX21_sees 16 = .ok (.aload_n 0, 1) := dk_42 (dk_at dksX21_sees_0 16 rfl rfl)
theorem dX21_sees_17 : decode cX21_sees 17 = .ok (.iconst 2, 1) := dk_5 (dk_at dksX21_sees_0 17 rfl rfl)
theorem dX21_sees_18 : decode cX21_sees 18 = .ok (.invokevirtual 23, 3) := dk_182 0 23 (dk_at dksX21_sees_0 18 rfl rfl)
theorem dX21_sees_21 : decode cX21_sees 21 = .ok (.iadd, 1) := dk_96 (dk_at dksX21_sees_0 21 rfl rfl)
theorem dX21_sees_22 : decode cX21_sees 22 = .ok (.ireturn, 1) := dk_172 (dk_at dksX21_sees_0 22 rfl rfl)
abbrev cX21_tells : ByteArray := prog_25_method_4_code
def yX21_tells : MethodName := ⟨RX21, "tells", "(I)I"⟩
def dkwX21_tells_0 : List UInt8 := [42, 180, 0, 1, 16, 81, 182, 0, 13, 42, 27, 183, 0, 26, 4, 100, 172]
abbrev dktX21_tells_0 : List UInt8 := dkwX21_tells_0 ++ []
theorem dksX21_tells_0 : cX21_tells.data.toList.drop 0 = dktX21_tells_0 := by decide +kernel
theorem dX21_tells_0 : decode cX21_tells 0 = .ok (.aload_n 0, 1) := dk_42 (dk_at dksX21_tells_0 0 rfl rfl)
theorem dX21_tells_1 : decode cX21_tells 1 = .ok (.getfield 1, 3) := dk_180 0 1 (dk_at dksX21_tells_0 1 rfl rfl)
theorem dX21_tells_4 : decode cX21_tells 4 = .ok (.bipush 81, 2) := dk_16 81 (dk_at dksX21_tells_0 4 rfl rfl)
theorem dX21_tells_6 : decode cX21_tells 6 = .ok (.invokevirtual 13, 3) := dk_182 0 13 (dk_at dksX21_tells_0 6 rfl rfl)
theorem dX21_tells_9 : decode cX21_tells 9 = .ok (.aload_n 0, 1) := dk_42 (dk_at dksX21_tells_0 9 rfl rfl)
theorem dX21_tells_10 : decode cX21_tells 10 = .ok (.iload_n 1, 1) := dk_27 (dk_at dksX21_tells_0 10 rfl rfl)
theorem dX21_tells_11 : decode cX21_tells 11 = .ok (.invokespecial 26, 3) := dk_183 0 26 (dk_at dksX21_tells_0 11 rfl rfl)
theorem dX21_tells_14 : decode cX21_tells 14 = .ok (.iconst 1, 1) := dk_4 (dk_at dksX21_tells_0 14 rfl rfl)
theorem dX21_tells_15 : decode cX21_tells 15 = .ok (.isub, 1) := dk_100 (dk_at dksX21_tells_0 15 rfl rfl)
theorem dX21_tells_16 : decode cX21_tells 16 = .ok (.ireturn, 1) := dk_172 (dk_at dksX21_tells_0 16 rfl rfl)
abbrev cX21_kind : ByteArray := prog_25_method_2_code
def yX21_kind : MethodName := ⟨RX21, "kind", "()I"⟩
theorem dX21_kind_0 : decode cX21_kind 0 = .ok (.bipush 7, 2) := by decide +kernel
theorem dX21_kind_2 : decode cX21_kind 2 = .ok (.ireturn, 1) := by decide +kernel
theorem q148 : (Jvm.Cond.initialized "NineKeysRound$Sleep") ∈ lw_all := lw_g (lw_at lw_m1 36 rfl) rfl
theorem q1249 : (Jvm.Cond.instantiable "NineKeysRound$Sleep" (5 : Nat)) ∈ lw_all := lw_g (lw_at lw_m5 177 rfl) rfl
theorem q1251 : (Jvm.Cond.instanceMethod ({ cls := "NineKeysRound$Sleep", name := "<init>", desc := "(LNineKeysRound;I)V" } : Jvm.MethodName)) ∈ lw_all := lw_g (lw_at lw_m5 179 rfl) rfl
theorem q1252 : (Jvm.Cond.code ({ cls := "NineKeysRound$Sleep", name := "<init>", desc := "(LNineKeysRound;I)V" } : Jvm.MethodName) prog_25_method_1_code (3 : Nat) (Option.none : Option Jvm.ClassFile.FieldType)) ∈ lw_all := lw_g (lw_at lw_m5 180 rfl) rfl
theorem q1253 : (Jvm.Cond.methodLink "NineKeysRound$Sleep" (7 : Nat) ({ cls := "NineKeysRound$Paper", name := "<init>", desc := "(LNineKeysRound;I)V" } : Jvm.MethodName)) ∈ lw_all := lw_g (lw_at lw_m5 181 rfl) rfl
theorem q1254 : (Jvm.Cond.fieldLink "NineKeysRound$Sleep" (1 : Nat) "NineKeysRound$Sleep" "this$0" "LNineKeysRound;") ∈ lw_all := lw_g (lw_at lw_m5 182 rfl) rfl
theorem q1255 : (Jvm.Cond.laysFinal "NineKeysRound$Sleep" "NineKeysRound$Sleep" "this$0" "LNineKeysRound;") ∈ lw_all := lw_g (lw_at lw_m5 183 rfl) rfl
theorem q1256 : (Jvm.Cond.soleField "NineKeysRound$Sleep" "this$0") ∈ lw_all := lw_g (lw_at lw_m5 184 rfl) rfl
theorem q1257 : (Jvm.Cond.laysFinal "NineKeysRound$Sleep" "NineKeysRound$Paper" "this$0" "LNineKeysRound;") ∈ lw_all := lw_g (lw_at lw_m5 185 rfl) rfl
theorem q1258 : (Jvm.Cond.laysFinal "NineKeysRound$Sleep" "NineKeysRound$Dent" "this$0" "LNineKeysRound;") ∈ lw_all := lw_g (lw_at lw_m5 186 rfl) rfl
theorem q1259 : (Jvm.Cond.laysFinal "NineKeysRound$Sleep" "NineKeysRound$Key" "number" "I") ∈ lw_all := lw_g (lw_at lw_m5 187 rfl) rfl
theorem q1260 : (Jvm.Cond.laysFinal "NineKeysRound$Sleep" "NineKeysRound$Key" "this$0" "LNineKeysRound;") ∈ lw_all := lw_g (lw_at lw_m5 188 rfl) rfl
theorem q1261 : (Jvm.Cond.superclass "NineKeysRound$Sleep" "NineKeysRound$Paper") ∈ lw_all := lw_g (lw_at lw_m5 189 rfl) rfl
theorem q1314 : (Jvm.Cond.castable "NineKeysRound$Sleep" "NineKeysRound$Turns") ∈ lw_tbl := lw_at lw_m6 2 rfl
theorem q1315 : (Jvm.Cond.selects "NineKeysRound$Sleep" ({ cls := "NineKeysRound$Turns", name := "turnsIn", desc := "(I)I" } : Jvm.MethodName) ({ cls := "NineKeysRound$Dent", name := "turnsIn", desc := "(I)I" } : Jvm.MethodName)) ∈ lw_all := lw_g (lw_at lw_m6 3 rfl) rfl
theorem q1316 : (Jvm.Cond.unhidden "NineKeysRound$Sleep" "turnsIn" "(I)I") ∈ lw_tbl := lw_at lw_m6 4 rfl
theorem q1349 : (Jvm.Cond.selects "NineKeysRound$Sleep" ({ cls := "NineKeysRound$Key", name := "sees", desc := "(I)I" } : Jvm.MethodName) ({ cls := "NineKeysRound$Sleep", name := "sees", desc := "(I)I" } : Jvm.MethodName)) ∈ lw_all := lw_g (lw_at lw_m6 37 rfl) rfl
theorem q1350 : (Jvm.Cond.instanceMethod ({ cls := "NineKeysRound$Sleep", name := "sees", desc := "(I)I" } : Jvm.MethodName)) ∈ lw_all := lw_g (lw_at lw_m6 38 rfl) rfl
theorem q1351 : (Jvm.Cond.code ({ cls := "NineKeysRound$Sleep", name := "sees", desc := "(I)I" } : Jvm.MethodName) prog_25_method_3_code (3 : Nat) (Option.some Jvm.ClassFile.FieldType.int)) ∈ lw_all := lw_g (lw_at lw_m6 39 rfl) rfl
theorem q1352 : (Jvm.Cond.methodLinkNest "NineKeysRound$Sleep" (13 : Nat) ({ cls := "NineKeysRound", name := "ran", desc := "(I)V" } : Jvm.MethodName) "NineKeysRound") ∈ lw_tbl := lw_at lw_m6 40 rfl
theorem q1353 : (Jvm.Cond.methodLink "NineKeysRound$Sleep" (19 : Nat) ({ cls := "NineKeysRound$Paper", name := "sees", desc := "(I)I" } : Jvm.MethodName)) ∈ lw_all := lw_g (lw_at lw_m6 41 rfl) rfl
theorem q1356 : (Jvm.Cond.methodLink "NineKeysRound$Sleep" (23 : Nat) ({ cls := "NineKeysRound$Sleep", name := "fears", desc := "(I)I" } : Jvm.MethodName)) ∈ lw_all := lw_g (lw_at lw_m6 44 rfl) rfl
theorem q1357 : (Jvm.Cond.sameMethod "NineKeysRound$Sleep" "NineKeysRound$Paper" "fears" "(I)I") ∈ lw_all := lw_g (lw_at lw_m6 45 rfl) rfl
theorem q1359 : (Jvm.Cond.selects "NineKeysRound$Sleep" ({ cls := "NineKeysRound$Sleep", name := "fears", desc := "(I)I" } : Jvm.MethodName) ({ cls := "NineKeysRound$Paper", name := "fears", desc := "(I)I" } : Jvm.MethodName)) ∈ lw_all := lw_g (lw_at lw_m6 47 rfl) rfl
theorem q1372 : (Jvm.Cond.selects "NineKeysRound$Sleep" ({ cls := "NineKeysRound$Paper", name := "turnsIn", desc := "(I)I" } : Jvm.MethodName) ({ cls := "NineKeysRound$Dent", name := "turnsIn", desc := "(I)I" } : Jvm.MethodName)) ∈ lw_all := lw_g (lw_at lw_m6 60 rfl) rfl
theorem q1394 : (Jvm.Cond.castable "NineKeysRound$Sleep" "NineKeysRound$Tells") ∈ lw_tbl := lw_at lw_m6 82 rfl
theorem q1395 : (Jvm.Cond.selects "NineKeysRound$Sleep" ({ cls := "NineKeysRound$Tells", name := "tells", desc := "(I)I" } : Jvm.MethodName) ({ cls := "NineKeysRound$Sleep", name := "tells", desc := "(I)I" } : Jvm.MethodName)) ∈ lw_all := lw_g (lw_at lw_m6 83 rfl) rfl
theorem q1396 : (Jvm.Cond.unhidden "NineKeysRound$Sleep" "tells" "(I)I") ∈ lw_tbl := lw_at lw_m6 84 rfl
theorem q1397 : (Jvm.Cond.instanceMethod ({ cls := "NineKeysRound$Sleep", name := "tells", desc := "(I)I" } : Jvm.MethodName)) ∈ lw_all := lw_g (lw_at lw_m6 85 rfl) rfl
theorem q1398 : (Jvm.Cond.publicMethod ({ cls := "NineKeysRound$Sleep", name := "tells", desc := "(I)I" } : Jvm.MethodName)) ∈ lw_tbl := lw_at lw_m6 86 rfl
theorem q1399 : (Jvm.Cond.code ({ cls := "NineKeysRound$Sleep", name := "tells", desc := "(I)I" } : Jvm.MethodName) prog_25_method_4_code (2 : Nat) (Option.some Jvm.ClassFile.FieldType.int)) ∈ lw_all := lw_g (lw_at lw_m6 87 rfl) rfl
theorem q1400 : (Jvm.Cond.methodLink "NineKeysRound$Sleep" (26 : Nat) ({ cls := "NineKeysRound$Paper", name := "tells", desc := "(I)I" } : Jvm.MethodName)) ∈ lw_all := lw_g (lw_at lw_m6 88 rfl) rfl
theorem q1604 : (Jvm.Cond.selects "NineKeysRound$Sleep" ({ cls := "NineKeysRound$Key", name := "kind", desc := "()I" } : Jvm.MethodName) ({ cls := "NineKeysRound$Sleep", name := "kind", desc := "()I" } : Jvm.MethodName)) ∈ lw_all := lw_g (lw_at lw_m7 52 rfl) rfl
theorem q1605 : (Jvm.Cond.instanceMethod ({ cls := "NineKeysRound$Sleep", name := "kind", desc := "()I" } : Jvm.MethodName)) ∈ lw_all := lw_g (lw_at lw_m7 53 rfl) rfl
theorem q1606 : (Jvm.Cond.code ({ cls := "NineKeysRound$Sleep", name := "kind", desc := "()I" } : Jvm.MethodName) prog_25_method_2_code (1 : Nat) (Option.some Jvm.ClassFile.FieldType.int)) ∈ lw_all := lw_g (lw_at lw_m7 54 rfl) rfl
theorem q1624 : (Jvm.Cond.selects "NineKeysRound$Sleep" ({ cls := "NineKeysRound$Key", name := "isUnder", desc := "(I)Z" } : Jvm.MethodName) ({ cls := "NineKeysRound$Paper", name := "isUnder", desc := "(I)Z" } : Jvm.MethodName)) ∈ lw_all := lw_g (lw_at lw_m7 72 rfl) rfl
theorem q2240 : (Jvm.Cond.selects "NineKeysRound$Sleep" ({ cls := "NineKeysRound$Key", name := "turnsIn", desc := "(I)I" } : Jvm.MethodName) ({ cls := "NineKeysRound$Dent", name := "turnsIn", desc := "(I)I" } : Jvm.MethodName)) ∈ lw_all := lw_g (lw_at lw_m9 208 rfl) rfl
theorem q2249 : (Jvm.Cond.selects "NineKeysRound$Sleep" ({ cls := "NineKeysRound$Key", name := "fears", desc := "(I)I" } : Jvm.MethodName) ({ cls := "NineKeysRound$Paper", name := "fears", desc := "(I)I" } : Jvm.MethodName)) ∈ lw_all := lw_g (lw_at lw_m9 217 rfl) rfl
theorem q2264 : (Jvm.Cond.castable "NineKeysRound$Sleep" "NineKeysRound$Key") ∈ lw_tbl := lw_at lw_m9 232 rfl
theorem q2272 : (Jvm.Cond.castable "NineKeysRound$Sleep" "NineKeysRound$Held") ∈ lw_tbl := lw_at lw_m10 0 rfl
theorem in_X21 : ∀ w ∈ wsX210, w ∈ lw_all := lw_in wsX210 [1259, 1260, 1258, 1257, 1255] (by decide +kernel) (by decide +kernel)
/-! java/lang/NegativeArraySizeException -/
set_option maxRecDepth 100000
def RJ14 : String := "java/lang/NegativeArraySizeException"
def TJ14 : u_T := fun k => match k with
  | 0 => ("java/lang/Throwable", "backtrace", "Ljava/lang/Object;", false)
  | 1 => ("java/lang/Throwable", "detailMessage", "Ljava/lang/String;", false)
  | 2 => ("java/lang/Throwable", "cause", "Ljava/lang/Throwable;", false)
  | 3 => ("java/lang/Throwable", "stackTrace", "[Ljava/lang/StackTraceElement;", false)
  | 4 => ("java/lang/Throwable", "depth", "I", false)
  | _ => ("java/lang/Throwable", "suppressedExceptions", "Ljava/util/List;", false)
def tyJ14 : Nat → FieldType := fun k => match k with
  | 0 => .object "java/lang/Object"
  | 1 => .object "java/lang/String"
  | 2 => .object "java/lang/Throwable"
  | 3 => .array (.object "java/lang/StackTraceElement")
  | 4 => .int
  | _ => .object "java/util/List"
abbrev wsJ140 : List Cond := u_ws RJ14 TJ14 6
theorem nmJ14 : ∀ a, a < 6 → ∀ b, b < 6 → a ≠ b → (TJ14 a).2.1 ≠ (TJ14 b).2.1 := by decide +kernel
theorem tyJ14_ok : ∀ k, k < 6 → parseFieldDescriptor (TJ14 k).2.2.1 = some (tyJ14 k) := by decide +kernel
abbrev cJ14_init : ByteArray := prog_39_method_2_code
def yJ14_init : MethodName := ⟨RJ14, "<init>", "(Ljava/lang/String;)V"⟩
def dkwJ14_init_0 : List UInt8 := [42, 43, 183, 0, 7, 177]
abbrev dktJ14_init_0 : List UInt8 := dkwJ14_init_0 ++ []
theorem dksJ14_init_0 : cJ14_init.data.toList.drop 0 = dktJ14_init_0 := by decide +kernel
theorem dJ14_init_0 : decode cJ14_init 0 = .ok (.aload_n 0, 1) := dk_42 (dk_at dksJ14_init_0 0 rfl rfl)
theorem dJ14_init_1 : decode cJ14_init 1 = .ok (.aload_n 1, 1) := dk_43 (dk_at dksJ14_init_0 1 rfl rfl)
theorem dJ14_init_2 : decode cJ14_init 2 = .ok (.invokespecial 7, 3) := dk_183 0 7 (dk_at dksJ14_init_0 2 rfl rfl)
theorem dJ14_init_5 : decode cJ14_init 5 = .ok (.return_, 1) := dk_177 (dk_at dksJ14_init_0 5 rfl rfl)
theorem q149 : (Jvm.Cond.initialized "java/lang/NegativeArraySizeException") ∈ lw_all := lw_g (lw_at lw_m1 37 rfl) rfl
theorem q404 : (Jvm.Cond.selects "java/lang/NegativeArraySizeException" ({ cls := "java/lang/Throwable", name := "fillInStackTrace", desc := "()Ljava/lang/Throwable;" } : Jvm.MethodName) ({ cls := "java/lang/Throwable", name := "fillInStackTrace", desc := "()Ljava/lang/Throwable;" } : Jvm.MethodName)) ∈ lw_all := lw_g (lw_at lw_m2 52 rfl) rfl
theorem q1427 : (Jvm.Cond.instantiable "java/lang/NegativeArraySizeException" (6 : Nat)) ∈ lw_all := lw_g (lw_at lw_m6 115 rfl) rfl
theorem q1428 : (Jvm.Cond.instanceMethod ({ cls := "java/lang/NegativeArraySizeException", name := "<init>", desc := "(Ljava/lang/String;)V" } : Jvm.MethodName)) ∈ lw_all := lw_g (lw_at lw_m6 116 rfl) rfl
theorem q1429 : (Jvm.Cond.code ({ cls := "java/lang/NegativeArraySizeException", name := "<init>", desc := "(Ljava/lang/String;)V" } : Jvm.MethodName) prog_39_method_2_code (2 : Nat) (Option.none : Option Jvm.ClassFile.FieldType)) ∈ lw_all := lw_g (lw_at lw_m6 117 rfl) rfl
theorem q1430 : (Jvm.Cond.methodLink "java/lang/NegativeArraySizeException" (7 : Nat) ({ cls := "java/lang/RuntimeException", name := "<init>", desc := "(Ljava/lang/String;)V" } : Jvm.MethodName)) ∈ lw_all := lw_g (lw_at lw_m6 118 rfl) rfl
theorem q1431 : (Jvm.Cond.lays "java/lang/NegativeArraySizeException" "java/lang/Throwable" "backtrace" "Ljava/lang/Object;") ∈ lw_all := lw_g (lw_at lw_m6 119 rfl) rfl
theorem q1432 : (Jvm.Cond.lays "java/lang/NegativeArraySizeException" "java/lang/Throwable" "detailMessage" "Ljava/lang/String;") ∈ lw_all := lw_g (lw_at lw_m6 120 rfl) rfl
theorem q1433 : (Jvm.Cond.lays "java/lang/NegativeArraySizeException" "java/lang/Throwable" "cause" "Ljava/lang/Throwable;") ∈ lw_all := lw_g (lw_at lw_m6 121 rfl) rfl
theorem q1434 : (Jvm.Cond.lays "java/lang/NegativeArraySizeException" "java/lang/Throwable" "stackTrace" "[Ljava/lang/StackTraceElement;") ∈ lw_all := lw_g (lw_at lw_m6 122 rfl) rfl
theorem q1435 : (Jvm.Cond.lays "java/lang/NegativeArraySizeException" "java/lang/Throwable" "depth" "I") ∈ lw_all := lw_g (lw_at lw_m6 123 rfl) rfl
theorem q1436 : (Jvm.Cond.lays "java/lang/NegativeArraySizeException" "java/lang/Throwable" "suppressedExceptions" "Ljava/util/List;") ∈ lw_all := lw_g (lw_at lw_m6 124 rfl) rfl
theorem q1437 : (Jvm.Cond.superclass "java/lang/NegativeArraySizeException" "java/lang/RuntimeException") ∈ lw_all := lw_g (lw_at lw_m6 125 rfl) rfl
theorem q1438 : (Jvm.Cond.castable "java/lang/NegativeArraySizeException" "java/lang/NegativeArraySizeException") ∈ lw_tbl := lw_at lw_m6 126 rfl
theorem q1439 : (Jvm.Cond.selects "java/lang/NegativeArraySizeException" ({ cls := "java/lang/Throwable", name := "fillInStackTrace", desc := "(I)Ljava/lang/Throwable;" } : Jvm.MethodName) ({ cls := "java/lang/Throwable", name := "fillInStackTrace", desc := "(I)Ljava/lang/Throwable;" } : Jvm.MethodName)) ∈ lw_all := lw_g (lw_at lw_m6 127 rfl) rfl
theorem in_J14 : ∀ w ∈ wsJ140, w ∈ lw_all := lw_in wsJ140 [1431, 1432, 1433, 1434, 1435, 1436] (by decide +kernel) (by decide +kernel)
/-! NineKeysRound$Row -/
set_option maxRecDepth 100000
def RX22 : String := "NineKeysRound$Row"
abbrev cX22_init : ByteArray := prog_23_method_1_code
def yX22_init : MethodName := ⟨RX22, "<init>", "()V"⟩
theorem dX22_init_0 : decode cX22_init 0 = .ok (.aload_n 0, 1) := by decide +kernel
theorem dX22_init_1 : decode cX22_init 1 = .ok (.invokespecial 1, 3) := by decide +kernel
theorem dX22_init_4 : decode cX22_init 4 = .ok (.return_, 1) := by decide +kernel
theorem q150 : (Jvm.Cond.initialized "NineKeysRound$Row") ∈ lw_all := lw_g (lw_at lw_m1 38 rfl) rfl
theorem q1448 : (Jvm.Cond.instanceMethod ({ cls := "NineKeysRound$Row", name := "<init>", desc := "()V" } : Jvm.MethodName)) ∈ lw_all := lw_g (lw_at lw_m6 136 rfl) rfl
theorem q1449 : (Jvm.Cond.code ({ cls := "NineKeysRound$Row", name := "<init>", desc := "()V" } : Jvm.MethodName) prog_23_method_1_code (1 : Nat) (Option.none : Option Jvm.ClassFile.FieldType)) ∈ lw_all := lw_g (lw_at lw_m6 137 rfl) rfl
theorem q1450 : (Jvm.Cond.methodLinkNest "NineKeysRound$Row" (1 : Nat) ({ cls := "NineKeysRound$Held", name := "<init>", desc := "()V" } : Jvm.MethodName) "NineKeysRound") ∈ lw_tbl := lw_at lw_m6 138 rfl
theorem q1502 : (Jvm.Cond.declares ({ cls := "NineKeysRound$Row", name := "put", desc := "(IJ)Z" } : Jvm.MethodName)) ∈ lw_tbl := lw_at lw_m6 190 rfl
theorem q1503 : (Jvm.Cond.sameMethod "NineKeysRound$Row" "NineKeysRound$Row" "put" "(IJ)Z") ∈ lw_all := lw_g (lw_at lw_m6 191 rfl) rfl
theorem q1525 : (Jvm.Cond.declares ({ cls := "NineKeysRound$Row", name := "at", desc := "(I)J" } : Jvm.MethodName)) ∈ lw_tbl := lw_at lw_m6 213 rfl
theorem q1526 : (Jvm.Cond.sameMethod "NineKeysRound$Row" "NineKeysRound$Row" "at" "(I)J") ∈ lw_all := lw_g (lw_at lw_m6 214 rfl) rfl
theorem q1543 : (Jvm.Cond.declares ({ cls := "NineKeysRound$Row", name := "copy", desc := "(ILNineKeysRound$Row;II)V" } : Jvm.MethodName)) ∈ lw_tbl := lw_at lw_m6 231 rfl
theorem q1544 : (Jvm.Cond.sameMethod "NineKeysRound$Row" "NineKeysRound$Row" "copy" "(ILNineKeysRound$Row;II)V") ∈ lw_all := lw_g (lw_at lw_m6 232 rfl) rfl
/-! NineKeysRound$ByteRow -/
set_option maxRecDepth 100000
def RX23 : String := "NineKeysRound$ByteRow"
def TX23 : u_T := fun k => match k with
  | _ => ("NineKeysRound$ByteRow", "items", "[B", true)
def tyX23 : Nat → FieldType := fun k => match k with
  | _ => .array .byte
abbrev wsX230 : List Cond := u_ws RX23 TX23 1
theorem nmX23 : ∀ a, a < 1 → ∀ b, b < 1 → a ≠ b → (TX23 a).2.1 ≠ (TX23 b).2.1 := by decide +kernel
theorem tyX23_ok : ∀ k, k < 1 → parseFieldDescriptor (TX23 k).2.2.1 = some (tyX23 k) := by decide +kernel
abbrev cX23_at : ByteArray := prog_3_method_4_code
def yX23_at : MethodName := ⟨RX23, "at", "(I)J"⟩
def dkwX23_at_0 : List UInt8 := [42, 180, 0, 7, 27, 51, 133, 173]
abbrev dktX23_at_0 : List UInt8 := dkwX23_at_0 ++ []
theorem dksX23_at_0 : cX23_at.data.toList.drop 0 = dktX23_at_0 := by decide +kernel
theorem dX23_at_0 : decode cX23_at 0 = .ok (.aload_n 0, 1) := dk_42 (dk_at dksX23_at_0 0 rfl rfl)
theorem dX23_at_1 : decode cX23_at 1 = .ok (.getfield 7, 3) := dk_180 0 7 (dk_at dksX23_at_0 1 rfl rfl)
theorem dX23_at_4 : decode cX23_at 4 = .ok (.iload_n 1, 1) := dk_27 (dk_at dksX23_at_0 4 rfl rfl)
theorem dX23_at_5 : decode cX23_at 5 = .ok (.baload, 1) := dk_51 (dk_at dksX23_at_0 5 rfl rfl)
theorem dX23_at_6 : decode cX23_at 6 = .ok (.i2l, 1) := dk_133 (dk_at dksX23_at_0 6 rfl rfl)
theorem dX23_at_7 : decode cX23_at 7 = .ok (.lreturn, 1) := dk_173 (dk_at dksX23_at_0 7 rfl rfl)
abbrev cX23_size : ByteArray := prog_3_method_3_code
def yX23_size : MethodName := ⟨RX23, "size", "()I"⟩
def dkwX23_size_0 : List UInt8 := [42, 180, 0, 7, 190, 172]
abbrev dktX23_size_0 : List UInt8 := dkwX23_size_0 ++ []
theorem dksX23_size_0 : cX23_size.data.toList.drop 0 = dktX23_size_0 := by decide +kernel
theorem dX23_size_0 : decode cX23_size 0 = .ok (.aload_n 0, 1) := dk_42 (dk_at dksX23_size_0 0 rfl rfl)
theorem dX23_size_1 : decode cX23_size 1 = .ok (.getfield 7, 3) := dk_180 0 7 (dk_at dksX23_size_0 1 rfl rfl)
theorem dX23_size_4 : decode cX23_size 4 = .ok (.arraylength, 1) := dk_190 (dk_at dksX23_size_0 4 rfl rfl)
theorem dX23_size_5 : decode cX23_size 5 = .ok (.ireturn, 1) := dk_172 (dk_at dksX23_size_0 5 rfl rfl)
abbrev cX23_init : ByteArray := prog_3_method_1_code
def yX23_init : MethodName := ⟨RX23, "<init>", "(I)V"⟩
def dkwX23_init_0 : List UInt8 := [42, 183, 0, 1, 42, 27, 188, 8, 181, 0, 7, 177]
abbrev dktX23_init_0 : List UInt8 := dkwX23_init_0 ++ []
theorem dksX23_init_0 : cX23_init.data.toList.drop 0 = dktX23_init_0 := by decide +kernel
theorem dX23_init_0 : decode cX23_init 0 = .ok (.aload_n 0, 1) := dk_42 (dk_at dksX23_init_0 0 rfl rfl)
theorem dX23_init_1 : decode cX23_init 1 = .ok (.invokespecial 1, 3) := dk_183 0 1 (dk_at dksX23_init_0 1 rfl rfl)
theorem dX23_init_4 : decode cX23_init 4 = .ok (.aload_n 0, 1) := dk_42 (dk_at dksX23_init_0 4 rfl rfl)
theorem dX23_init_5 : decode cX23_init 5 = .ok (.iload_n 1, 1) := dk_27 (dk_at dksX23_init_0 5 rfl rfl)
theorem dX23_init_6 : decode cX23_init 6 = .ok (.newarray .byte, 2) := dk_188_8 (dk_at dksX23_init_0 6 rfl rfl)
theorem dX23_init_8 : decode cX23_init 8 = .ok (.putfield 7, 3) := dk_181 0 7 (dk_at dksX23_init_0 8 rfl rfl)
theorem dX23_init_11 : decode cX23_init 11 = .ok (.return_, 1) := dk_177 (dk_at dksX23_init_0 11 rfl rfl)
abbrev cX23_put : ByteArray := prog_3_method_5_code
def yX23_put : MethodName := ⟨RX23, "put", "(IJ)Z"⟩
def dkwX23_put_0 : List UInt8 := [42, 180, 0, 7, 27, 32, 136, 145, 84, 4, 172]
abbrev dktX23_put_0 : List UInt8 := dkwX23_put_0 ++ []
theorem dksX23_put_0 : cX23_put.data.toList.drop 0 = dktX23_put_0 := by decide +kernel
theorem dX23_put_0 : decode cX23_put 0 = .ok (.aload_n 0, 1) := dk_42 (dk_at dksX23_put_0 0 rfl rfl)
theorem dX23_put_1 : decode cX23_put 1 = .ok (.getfield 7, 3) := dk_180 0 7 (dk_at dksX23_put_0 1 rfl rfl)
theorem dX23_put_4 : decode cX23_put 4 = .ok (.iload_n 1, 1) := dk_27 (dk_at dksX23_put_0 4 rfl rfl)
theorem dX23_put_5 : decode cX23_put 5 = .ok (.lload_n 2, 1) := dk_32 (dk_at dksX23_put_0 5 rfl rfl)
theorem dX23_put_6 : decode cX23_put 6 = .ok (.l2i, 1) := dk_136 (dk_at dksX23_put_0 6 rfl rfl)
theorem dX23_put_7 : decode cX23_put 7 = .ok (.i2b, 1) := dk_145 (dk_at dksX23_put_0 7 rfl rfl)
theorem dX23_put_8 : decode cX23_put 8 = .ok (.bastore, 1) := dk_84 (dk_at dksX23_put_0 8 rfl rfl)
theorem dX23_put_9 : decode cX23_put 9 = .ok (.iconst 1, 1) := dk_4 (dk_at dksX23_put_0 9 rfl rfl)
theorem dX23_put_10 : decode cX23_put 10 = .ok (.ireturn, 1) := dk_172 (dk_at dksX23_put_0 10 rfl rfl)
abbrev cX23_copy : ByteArray := prog_3_method_6_code
def yX23_copy : MethodName := ⟨RX23, "copy", "(ILNineKeysRound$Row;II)V"⟩
def dkwX23_copy_0 : List UInt8 := [42, 180, 0, 7, 27, 44, 192, 0, 8, 180, 0, 7, 29, 21, 4, 184, 0, 13, 177]
abbrev dktX23_copy_0 : List UInt8 := dkwX23_copy_0 ++ []
theorem dksX23_copy_0 : cX23_copy.data.toList.drop 0 = dktX23_copy_0 := by decide +kernel
theorem dX23_copy_0 : decode cX23_copy 0 = .ok (.aload_n 0, 1) := dk_42 (dk_at dksX23_copy_0 0 rfl rfl)
theorem dX23_copy_1 : decode cX23_copy 1 = .ok (.getfield 7, 3) := dk_180 0 7 (dk_at dksX23_copy_0 1 rfl rfl)
theorem dX23_copy_4 : decode cX23_copy 4 = .ok (.iload_n 1, 1) := dk_27 (dk_at dksX23_copy_0 4 rfl rfl)
theorem dX23_copy_5 : decode cX23_copy 5 = .ok (.aload_n 2, 1) := dk_44 (dk_at dksX23_copy_0 5 rfl rfl)
theorem dX23_copy_6 : decode cX23_copy 6 = .ok (.checkcast 8, 3) := dk_192 0 8 (dk_at dksX23_copy_0 6 rfl rfl)
theorem dX23_copy_9 : decode cX23_copy 9 = .ok (.getfield 7, 3) := dk_180 0 7 (dk_at dksX23_copy_0 9 rfl rfl)
theorem dX23_copy_12 : decode cX23_copy 12 = .ok (.iload_n 3, 1) := dk_29 (dk_at dksX23_copy_0 12 rfl rfl)
theorem dX23_copy_13 : decode cX23_copy 13 = .ok (.iload 4, 2) := dk_21 4 (dk_at dksX23_copy_0 13 rfl rfl)
theorem dX23_copy_15 : decode cX23_copy 15 = .ok (.invokestatic 13, 3) := dk_184 0 13 (dk_at dksX23_copy_0 15 rfl rfl)
theorem dX23_copy_18 : decode cX23_copy 18 = .ok (.return_, 1) := dk_177 (dk_at dksX23_copy_0 18 rfl rfl)
theorem q151 : (Jvm.Cond.initialized "NineKeysRound$ByteRow") ∈ lw_all := lw_g (lw_at lw_m1 39 rfl) rfl
theorem q514 : (Jvm.Cond.instanceMethod ({ cls := "NineKeysRound$ByteRow", name := "at", desc := "(I)J" } : Jvm.MethodName)) ∈ lw_all := lw_g (lw_at lw_m2 162 rfl) rfl
theorem q515 : (Jvm.Cond.selects "NineKeysRound$ByteRow" ({ cls := "NineKeysRound$ByteRow", name := "at", desc := "(I)J" } : Jvm.MethodName) ({ cls := "NineKeysRound$ByteRow", name := "at", desc := "(I)J" } : Jvm.MethodName)) ∈ lw_all := lw_g (lw_at lw_m2 163 rfl) rfl
theorem q516 : (Jvm.Cond.code ({ cls := "NineKeysRound$ByteRow", name := "at", desc := "(I)J" } : Jvm.MethodName) prog_3_method_4_code (2 : Nat) (Option.some Jvm.ClassFile.FieldType.long)) ∈ lw_all := lw_g (lw_at lw_m2 164 rfl) rfl
theorem q836 : (Jvm.Cond.instanceMethod ({ cls := "NineKeysRound$ByteRow", name := "size", desc := "()I" } : Jvm.MethodName)) ∈ lw_all := lw_g (lw_at lw_m4 4 rfl) rfl
theorem q837 : (Jvm.Cond.selects "NineKeysRound$ByteRow" ({ cls := "NineKeysRound$ByteRow", name := "size", desc := "()I" } : Jvm.MethodName) ({ cls := "NineKeysRound$ByteRow", name := "size", desc := "()I" } : Jvm.MethodName)) ∈ lw_all := lw_g (lw_at lw_m4 5 rfl) rfl
theorem q838 : (Jvm.Cond.code ({ cls := "NineKeysRound$ByteRow", name := "size", desc := "()I" } : Jvm.MethodName) prog_3_method_3_code (1 : Nat) (Option.some Jvm.ClassFile.FieldType.int)) ∈ lw_all := lw_g (lw_at lw_m4 6 rfl) rfl
theorem q1443 : (Jvm.Cond.instantiable "NineKeysRound$ByteRow" (1 : Nat)) ∈ lw_all := lw_g (lw_at lw_m6 131 rfl) rfl
theorem q1445 : (Jvm.Cond.instanceMethod ({ cls := "NineKeysRound$ByteRow", name := "<init>", desc := "(I)V" } : Jvm.MethodName)) ∈ lw_all := lw_g (lw_at lw_m6 133 rfl) rfl
theorem q1446 : (Jvm.Cond.code ({ cls := "NineKeysRound$ByteRow", name := "<init>", desc := "(I)V" } : Jvm.MethodName) prog_3_method_1_code (2 : Nat) (Option.none : Option Jvm.ClassFile.FieldType)) ∈ lw_all := lw_g (lw_at lw_m6 134 rfl) rfl
theorem q1447 : (Jvm.Cond.methodLinkNest "NineKeysRound$ByteRow" (1 : Nat) ({ cls := "NineKeysRound$Row", name := "<init>", desc := "()V" } : Jvm.MethodName) "NineKeysRound") ∈ lw_tbl := lw_at lw_m6 135 rfl
theorem q1451 : (Jvm.Cond.fieldLink "NineKeysRound$ByteRow" (7 : Nat) "NineKeysRound$ByteRow" "items" "[B") ∈ lw_all := lw_g (lw_at lw_m6 139 rfl) rfl
theorem q1452 : (Jvm.Cond.laysFinal "NineKeysRound$ByteRow" "NineKeysRound$ByteRow" "items" "[B") ∈ lw_all := lw_g (lw_at lw_m6 140 rfl) rfl
theorem q1453 : (Jvm.Cond.soleField "NineKeysRound$ByteRow" "items") ∈ lw_all := lw_g (lw_at lw_m6 141 rfl) rfl
theorem q1454 : (Jvm.Cond.superclass "NineKeysRound$ByteRow" "NineKeysRound$Row") ∈ lw_all := lw_g (lw_at lw_m6 142 rfl) rfl
theorem q1507 : (Jvm.Cond.selects "NineKeysRound$ByteRow" ({ cls := "NineKeysRound$Row", name := "put", desc := "(IJ)Z" } : Jvm.MethodName) ({ cls := "NineKeysRound$ByteRow", name := "put", desc := "(IJ)Z" } : Jvm.MethodName)) ∈ lw_all := lw_g (lw_at lw_m6 195 rfl) rfl
theorem q1508 : (Jvm.Cond.instanceMethod ({ cls := "NineKeysRound$ByteRow", name := "put", desc := "(IJ)Z" } : Jvm.MethodName)) ∈ lw_all := lw_g (lw_at lw_m6 196 rfl) rfl
theorem q1509 : (Jvm.Cond.code ({ cls := "NineKeysRound$ByteRow", name := "put", desc := "(IJ)Z" } : Jvm.MethodName) prog_3_method_5_code (4 : Nat) (Option.some Jvm.ClassFile.FieldType.boolean)) ∈ lw_all := lw_g (lw_at lw_m6 197 rfl) rfl
theorem q1530 : (Jvm.Cond.selects "NineKeysRound$ByteRow" ({ cls := "NineKeysRound$Row", name := "at", desc := "(I)J" } : Jvm.MethodName) ({ cls := "NineKeysRound$ByteRow", name := "at", desc := "(I)J" } : Jvm.MethodName)) ∈ lw_all := lw_g (lw_at lw_m6 218 rfl) rfl
theorem q1552 : (Jvm.Cond.selects "NineKeysRound$ByteRow" ({ cls := "NineKeysRound$Row", name := "copy", desc := "(ILNineKeysRound$Row;II)V" } : Jvm.MethodName) ({ cls := "NineKeysRound$ByteRow", name := "copy", desc := "(ILNineKeysRound$Row;II)V" } : Jvm.MethodName)) ∈ lw_all := lw_g (lw_at lw_m7 0 rfl) rfl
theorem q1553 : (Jvm.Cond.instanceMethod ({ cls := "NineKeysRound$ByteRow", name := "copy", desc := "(ILNineKeysRound$Row;II)V" } : Jvm.MethodName)) ∈ lw_all := lw_g (lw_at lw_m7 1 rfl) rfl
theorem q1554 : (Jvm.Cond.code ({ cls := "NineKeysRound$ByteRow", name := "copy", desc := "(ILNineKeysRound$Row;II)V" } : Jvm.MethodName) prog_3_method_6_code (5 : Nat) (Option.none : Option Jvm.ClassFile.FieldType)) ∈ lw_all := lw_g (lw_at lw_m7 2 rfl) rfl
theorem q1555 : (Jvm.Cond.classLink "NineKeysRound$ByteRow" (8 : Nat) "NineKeysRound$ByteRow") ∈ lw_all := lw_g (lw_at lw_m7 3 rfl) rfl
theorem q1556 : (Jvm.Cond.methodLink "NineKeysRound$ByteRow" (13 : Nat) ({ cls := "java/lang/System", name := "arraycopy", desc := "(Ljava/lang/Object;ILjava/lang/Object;II)V" } : Jvm.MethodName)) ∈ lw_all := lw_g (lw_at lw_m7 4 rfl) rfl
theorem q2255 : (Jvm.Cond.castable "NineKeysRound$ByteRow" "NineKeysRound$Row") ∈ lw_tbl := lw_at lw_m9 223 rfl
theorem q2274 : (Jvm.Cond.castable "NineKeysRound$ByteRow" "NineKeysRound$Held") ∈ lw_tbl := lw_at lw_m10 2 rfl
theorem in_X23 : ∀ w ∈ wsX230, w ∈ lw_all := lw_in wsX230 [1452] (by decide +kernel) (by decide +kernel)
/-! NineKeysRound$ShortRow -/
set_option maxRecDepth 100000
def RX24 : String := "NineKeysRound$ShortRow"
def TX24 : u_T := fun k => match k with
  | _ => ("NineKeysRound$ShortRow", "items", "[S", true)
def tyX24 : Nat → FieldType := fun k => match k with
  | _ => .array .short
abbrev wsX240 : List Cond := u_ws RX24 TX24 1
theorem nmX24 : ∀ a, a < 1 → ∀ b, b < 1 → a ≠ b → (TX24 a).2.1 ≠ (TX24 b).2.1 := by decide +kernel
theorem tyX24_ok : ∀ k, k < 1 → parseFieldDescriptor (TX24 k).2.2.1 = some (tyX24 k) := by decide +kernel
abbrev cX24_size : ByteArray := prog_24_method_3_code
def yX24_size : MethodName := ⟨RX24, "size", "()I"⟩
def dkwX24_size_0 : List UInt8 := [42, 180, 0, 7, 190, 172]
abbrev dktX24_size_0 : List UInt8 := dkwX24_size_0 ++ []
theorem dksX24_size_0 : cX24_size.data.toList.drop 0 = dktX24_size_0 := by decide +kernel
theorem dX24_size_0 : decode cX24_size 0 = .ok (.aload_n 0, 1) := dk_42 (dk_at dksX24_size_0 0 rfl rfl)
theorem dX24_size_1 : decode cX24_size 1 = .ok (.getfield 7, 3) := dk_180 0 7 (dk_at dksX24_size_0 1 rfl rfl)
theorem dX24_size_4 : decode cX24_size 4 = .ok (.arraylength, 1) := dk_190 (dk_at dksX24_size_0 4 rfl rfl)
theorem dX24_size_5 : decode cX24_size 5 = .ok (.ireturn, 1) := dk_172 (dk_at dksX24_size_0 5 rfl rfl)
abbrev cX24_at : ByteArray := prog_24_method_4_code
def yX24_at : MethodName := ⟨RX24, "at", "(I)J"⟩
def dkwX24_at_0 : List UInt8 := [42, 180, 0, 7, 27, 53, 133, 173]
abbrev dktX24_at_0 : List UInt8 := dkwX24_at_0 ++ []
theorem dksX24_at_0 : cX24_at.data.toList.drop 0 = dktX24_at_0 := by decide +kernel
theorem dX24_at_0 : decode cX24_at 0 = .ok (.aload_n 0, 1) := dk_42 (dk_at dksX24_at_0 0 rfl rfl)
theorem dX24_at_1 : decode cX24_at 1 = .ok (.getfield 7, 3) := dk_180 0 7 (dk_at dksX24_at_0 1 rfl rfl)
theorem dX24_at_4 : decode cX24_at 4 = .ok (.iload_n 1, 1) := dk_27 (dk_at dksX24_at_0 4 rfl rfl)
theorem dX24_at_5 : decode cX24_at 5 = .ok (.saload, 1) := dk_53 (dk_at dksX24_at_0 5 rfl rfl)
theorem dX24_at_6 : decode cX24_at 6 = .ok (.i2l, 1) := dk_133 (dk_at dksX24_at_0 6 rfl rfl)
theorem dX24_at_7 : decode cX24_at 7 = .ok (.lreturn, 1) := dk_173 (dk_at dksX24_at_0 7 rfl rfl)
abbrev cX24_init : ByteArray := prog_24_method_1_code
def yX24_init : MethodName := ⟨RX24, "<init>", "(I)V"⟩
def dkwX24_init_0 : List UInt8 := [42, 183, 0, 1, 42, 27, 188, 9, 181, 0, 7, 177]
abbrev dktX24_init_0 : List UInt8 := dkwX24_init_0 ++ []
theorem dksX24_init_0 : cX24_init.data.toList.drop 0 = dktX24_init_0 := by decide +kernel
theorem dX24_init_0 : decode cX24_init 0 = .ok (.aload_n 0, 1) := dk_42 (dk_at dksX24_init_0 0 rfl rfl)
theorem dX24_init_1 : decode cX24_init 1 = .ok (.invokespecial 1, 3) := dk_183 0 1 (dk_at dksX24_init_0 1 rfl rfl)
theorem dX24_init_4 : decode cX24_init 4 = .ok (.aload_n 0, 1) := dk_42 (dk_at dksX24_init_0 4 rfl rfl)
theorem dX24_init_5 : decode cX24_init 5 = .ok (.iload_n 1, 1) := dk_27 (dk_at dksX24_init_0 5 rfl rfl)
theorem dX24_init_6 : decode cX24_init 6 = .ok (.newarray .short, 2) := dk_188_9 (dk_at dksX24_init_0 6 rfl rfl)
theorem dX24_init_8 : decode cX24_init 8 = .ok (.putfield 7, 3) := dk_181 0 7 (dk_at dksX24_init_0 8 rfl rfl)
theorem dX24_init_11 : decode cX24_init 11 = .ok (.return_, 1) := dk_177 (dk_at dksX24_init_0 11 rfl rfl)
abbrev cX24_put : ByteArray := prog_24_method_5_code
def yX24_put : MethodName := ⟨RX24, "put", "(IJ)Z"⟩
def dkwX24_put_0 : List UInt8 := [42, 180, 0, 7, 27, 32, 136, 147, 86, 4, 172]
abbrev dktX24_put_0 : List UInt8 := dkwX24_put_0 ++ []
theorem dksX24_put_0 : cX24_put.data.toList.drop 0 = dktX24_put_0 := by decide +kernel
theorem dX24_put_0 : decode cX24_put 0 = .ok (.aload_n 0, 1) := dk_42 (dk_at dksX24_put_0 0 rfl rfl)
theorem dX24_put_1 : decode cX24_put 1 = .ok (.getfield 7, 3) := dk_180 0 7 (dk_at dksX24_put_0 1 rfl rfl)
theorem dX24_put_4 : decode cX24_put 4 = .ok (.iload_n 1, 1) := dk_27 (dk_at dksX24_put_0 4 rfl rfl)
theorem dX24_put_5 : decode cX24_put 5 = .ok (.lload_n 2, 1) := dk_32 (dk_at dksX24_put_0 5 rfl rfl)
theorem dX24_put_6 : decode cX24_put 6 = .ok (.l2i, 1) := dk_136 (dk_at dksX24_put_0 6 rfl rfl)
theorem dX24_put_7 : decode cX24_put 7 = .ok (.i2s, 1) := dk_147 (dk_at dksX24_put_0 7 rfl rfl)
theorem dX24_put_8 : decode cX24_put 8 = .ok (.sastore, 1) := dk_86 (dk_at dksX24_put_0 8 rfl rfl)
theorem dX24_put_9 : decode cX24_put 9 = .ok (.iconst 1, 1) := dk_4 (dk_at dksX24_put_0 9 rfl rfl)
theorem dX24_put_10 : decode cX24_put 10 = .ok (.ireturn, 1) := dk_172 (dk_at dksX24_put_0 10 rfl rfl)
abbrev cX24_copy : ByteArray := prog_24_method_6_code
def yX24_copy : MethodName := ⟨RX24, "copy", "(ILNineKeysRound$Row;II)V"⟩
def dkwX24_copy_0 : List UInt8 := [42, 180, 0, 7, 27, 44, 192, 0, 8, 180, 0, 7, 29, 21, 4, 184, 0, 13, 177]
abbrev dktX24_copy_0 : List UInt8 := dkwX24_copy_0 ++ []
theorem dksX24_copy_0 : cX24_copy.data.toList.drop 0 = dktX24_copy_0 := by decide +kernel
theorem dX24_copy_0 : decode cX24_copy 0 = .ok (.aload_n 0, 1) := dk_42 (dk_at dksX24_copy_0 0 rfl rfl)
theorem dX24_copy_1 : decode cX24_copy 1 = .ok (.getfield 7, 3) := dk_180 0 7 (dk_at dksX24_copy_0 1 rfl rfl)
theorem dX24_copy_4 : decode cX24_copy 4 = .ok (.iload_n 1, 1) := dk_27 (dk_at dksX24_copy_0 4 rfl rfl)
theorem dX24_copy_5 : decode cX24_copy 5 = .ok (.aload_n 2, 1) := dk_44 (dk_at dksX24_copy_0 5 rfl rfl)
theorem dX24_copy_6 : decode cX24_copy 6 = .ok (.checkcast 8, 3) := dk_192 0 8 (dk_at dksX24_copy_0 6 rfl rfl)
theorem dX24_copy_9 : decode cX24_copy 9 = .ok (.getfield 7, 3) := dk_180 0 7 (dk_at dksX24_copy_0 9 rfl rfl)
theorem dX24_copy_12 : decode cX24_copy 12 = .ok (.iload_n 3, 1) := dk_29 (dk_at dksX24_copy_0 12 rfl rfl)
theorem dX24_copy_13 : decode cX24_copy 13 = .ok (.iload 4, 2) := dk_21 4 (dk_at dksX24_copy_0 13 rfl rfl)
theorem dX24_copy_15 : decode cX24_copy 15 = .ok (.invokestatic 13, 3) := dk_184 0 13 (dk_at dksX24_copy_0 15 rfl rfl)
theorem dX24_copy_18 : decode cX24_copy 18 = .ok (.return_, 1) := dk_177 (dk_at dksX24_copy_0 18 rfl rfl)
theorem q152 : (Jvm.Cond.initialized "NineKeysRound$ShortRow") ∈ lw_all := lw_g (lw_at lw_m1 40 rfl) rfl
theorem q1072 : (Jvm.Cond.instanceMethod ({ cls := "NineKeysRound$ShortRow", name := "size", desc := "()I" } : Jvm.MethodName)) ∈ lw_all := lw_g (lw_at lw_m5 0 rfl) rfl
theorem q1073 : (Jvm.Cond.selects "NineKeysRound$ShortRow" ({ cls := "NineKeysRound$ShortRow", name := "size", desc := "()I" } : Jvm.MethodName) ({ cls := "NineKeysRound$ShortRow", name := "size", desc := "()I" } : Jvm.MethodName)) ∈ lw_all := lw_g (lw_at lw_m5 1 rfl) rfl
theorem q1074 : (Jvm.Cond.code ({ cls := "NineKeysRound$ShortRow", name := "size", desc := "()I" } : Jvm.MethodName) prog_24_method_3_code (1 : Nat) (Option.some Jvm.ClassFile.FieldType.int)) ∈ lw_all := lw_g (lw_at lw_m5 2 rfl) rfl
theorem q1076 : (Jvm.Cond.instanceMethod ({ cls := "NineKeysRound$ShortRow", name := "at", desc := "(I)J" } : Jvm.MethodName)) ∈ lw_all := lw_g (lw_at lw_m5 4 rfl) rfl
theorem q1077 : (Jvm.Cond.selects "NineKeysRound$ShortRow" ({ cls := "NineKeysRound$ShortRow", name := "at", desc := "(I)J" } : Jvm.MethodName) ({ cls := "NineKeysRound$ShortRow", name := "at", desc := "(I)J" } : Jvm.MethodName)) ∈ lw_all := lw_g (lw_at lw_m5 5 rfl) rfl
theorem q1078 : (Jvm.Cond.code ({ cls := "NineKeysRound$ShortRow", name := "at", desc := "(I)J" } : Jvm.MethodName) prog_24_method_4_code (2 : Nat) (Option.some Jvm.ClassFile.FieldType.long)) ∈ lw_all := lw_g (lw_at lw_m5 6 rfl) rfl
theorem q1455 : (Jvm.Cond.instantiable "NineKeysRound$ShortRow" (1 : Nat)) ∈ lw_all := lw_g (lw_at lw_m6 143 rfl) rfl
theorem q1457 : (Jvm.Cond.instanceMethod ({ cls := "NineKeysRound$ShortRow", name := "<init>", desc := "(I)V" } : Jvm.MethodName)) ∈ lw_all := lw_g (lw_at lw_m6 145 rfl) rfl
theorem q1458 : (Jvm.Cond.code ({ cls := "NineKeysRound$ShortRow", name := "<init>", desc := "(I)V" } : Jvm.MethodName) prog_24_method_1_code (2 : Nat) (Option.none : Option Jvm.ClassFile.FieldType)) ∈ lw_all := lw_g (lw_at lw_m6 146 rfl) rfl
theorem q1459 : (Jvm.Cond.methodLinkNest "NineKeysRound$ShortRow" (1 : Nat) ({ cls := "NineKeysRound$Row", name := "<init>", desc := "()V" } : Jvm.MethodName) "NineKeysRound") ∈ lw_tbl := lw_at lw_m6 147 rfl
theorem q1460 : (Jvm.Cond.fieldLink "NineKeysRound$ShortRow" (7 : Nat) "NineKeysRound$ShortRow" "items" "[S") ∈ lw_all := lw_g (lw_at lw_m6 148 rfl) rfl
theorem q1461 : (Jvm.Cond.laysFinal "NineKeysRound$ShortRow" "NineKeysRound$ShortRow" "items" "[S") ∈ lw_all := lw_g (lw_at lw_m6 149 rfl) rfl
theorem q1462 : (Jvm.Cond.soleField "NineKeysRound$ShortRow" "items") ∈ lw_all := lw_g (lw_at lw_m6 150 rfl) rfl
theorem q1463 : (Jvm.Cond.superclass "NineKeysRound$ShortRow" "NineKeysRound$Row") ∈ lw_all := lw_g (lw_at lw_m6 151 rfl) rfl
theorem q1516 : (Jvm.Cond.selects "NineKeysRound$ShortRow" ({ cls := "NineKeysRound$Row", name := "put", desc := "(IJ)Z" } : Jvm.MethodName) ({ cls := "NineKeysRound$ShortRow", name := "put", desc := "(IJ)Z" } : Jvm.MethodName)) ∈ lw_all := lw_g (lw_at lw_m6 204 rfl) rfl
theorem q1517 : (Jvm.Cond.instanceMethod ({ cls := "NineKeysRound$ShortRow", name := "put", desc := "(IJ)Z" } : Jvm.MethodName)) ∈ lw_all := lw_g (lw_at lw_m6 205 rfl) rfl
theorem q1518 : (Jvm.Cond.code ({ cls := "NineKeysRound$ShortRow", name := "put", desc := "(IJ)Z" } : Jvm.MethodName) prog_24_method_5_code (4 : Nat) (Option.some Jvm.ClassFile.FieldType.boolean)) ∈ lw_all := lw_g (lw_at lw_m6 206 rfl) rfl
theorem q1537 : (Jvm.Cond.selects "NineKeysRound$ShortRow" ({ cls := "NineKeysRound$Row", name := "at", desc := "(I)J" } : Jvm.MethodName) ({ cls := "NineKeysRound$ShortRow", name := "at", desc := "(I)J" } : Jvm.MethodName)) ∈ lw_all := lw_g (lw_at lw_m6 225 rfl) rfl
theorem q1567 : (Jvm.Cond.selects "NineKeysRound$ShortRow" ({ cls := "NineKeysRound$Row", name := "copy", desc := "(ILNineKeysRound$Row;II)V" } : Jvm.MethodName) ({ cls := "NineKeysRound$ShortRow", name := "copy", desc := "(ILNineKeysRound$Row;II)V" } : Jvm.MethodName)) ∈ lw_all := lw_g (lw_at lw_m7 15 rfl) rfl
theorem q1568 : (Jvm.Cond.instanceMethod ({ cls := "NineKeysRound$ShortRow", name := "copy", desc := "(ILNineKeysRound$Row;II)V" } : Jvm.MethodName)) ∈ lw_all := lw_g (lw_at lw_m7 16 rfl) rfl
theorem q1569 : (Jvm.Cond.code ({ cls := "NineKeysRound$ShortRow", name := "copy", desc := "(ILNineKeysRound$Row;II)V" } : Jvm.MethodName) prog_24_method_6_code (5 : Nat) (Option.none : Option Jvm.ClassFile.FieldType)) ∈ lw_all := lw_g (lw_at lw_m7 17 rfl) rfl
theorem q1570 : (Jvm.Cond.classLink "NineKeysRound$ShortRow" (8 : Nat) "NineKeysRound$ShortRow") ∈ lw_all := lw_g (lw_at lw_m7 18 rfl) rfl
theorem q1571 : (Jvm.Cond.methodLink "NineKeysRound$ShortRow" (13 : Nat) ({ cls := "java/lang/System", name := "arraycopy", desc := "(Ljava/lang/Object;ILjava/lang/Object;II)V" } : Jvm.MethodName)) ∈ lw_all := lw_g (lw_at lw_m7 19 rfl) rfl
theorem q2258 : (Jvm.Cond.castable "NineKeysRound$ShortRow" "NineKeysRound$Row") ∈ lw_tbl := lw_at lw_m9 226 rfl
theorem q2275 : (Jvm.Cond.castable "NineKeysRound$ShortRow" "NineKeysRound$Held") ∈ lw_tbl := lw_at lw_m10 3 rfl
theorem in_X24 : ∀ w ∈ wsX240, w ∈ lw_all := lw_in wsX240 [1461] (by decide +kernel) (by decide +kernel)
/-! NineKeysRound$IntRow -/
set_option maxRecDepth 100000
def RX25 : String := "NineKeysRound$IntRow"
def TX25 : u_T := fun k => match k with
  | _ => ("NineKeysRound$IntRow", "items", "[I", true)
def tyX25 : Nat → FieldType := fun k => match k with
  | _ => .array .int
abbrev wsX250 : List Cond := u_ws RX25 TX25 1
theorem nmX25 : ∀ a, a < 1 → ∀ b, b < 1 → a ≠ b → (TX25 a).2.1 ≠ (TX25 b).2.1 := by decide +kernel
theorem tyX25_ok : ∀ k, k < 1 → parseFieldDescriptor (TX25 k).2.2.1 = some (tyX25 k) := by decide +kernel
abbrev cX25_init : ByteArray := prog_11_method_1_code
def yX25_init : MethodName := ⟨RX25, "<init>", "(I)V"⟩
def dkwX25_init_0 : List UInt8 := [42, 183, 0, 1, 42, 27, 188, 10, 181, 0, 7, 177]
abbrev dktX25_init_0 : List UInt8 := dkwX25_init_0 ++ []
theorem dksX25_init_0 : cX25_init.data.toList.drop 0 = dktX25_init_0 := by decide +kernel
theorem dX25_init_0 : decode cX25_init 0 = .ok (.aload_n 0, 1) := dk_42 (dk_at dksX25_init_0 0 rfl rfl)
theorem dX25_init_1 : decode cX25_init 1 = .ok (.invokespecial 1, 3) := dk_183 0 1 (dk_at dksX25_init_0 1 rfl rfl)
theorem dX25_init_4 : decode cX25_init 4 = .ok (.aload_n 0, 1) := dk_42 (dk_at dksX25_init_0 4 rfl rfl)
theorem dX25_init_5 : decode cX25_init 5 = .ok (.iload_n 1, 1) := dk_27 (dk_at dksX25_init_0 5 rfl rfl)
theorem dX25_init_6 : decode cX25_init 6 = .ok (.newarray .int, 2) := dk_188_10 (dk_at dksX25_init_0 6 rfl rfl)
theorem dX25_init_8 : decode cX25_init 8 = .ok (.putfield 7, 3) := dk_181 0 7 (dk_at dksX25_init_0 8 rfl rfl)
theorem dX25_init_11 : decode cX25_init 11 = .ok (.return_, 1) := dk_177 (dk_at dksX25_init_0 11 rfl rfl)
abbrev cX25_put : ByteArray := prog_11_method_5_code
def yX25_put : MethodName := ⟨RX25, "put", "(IJ)Z"⟩
def dkwX25_put_0 : List UInt8 := [42, 180, 0, 7, 27, 32, 136, 79, 4, 172]
abbrev dktX25_put_0 : List UInt8 := dkwX25_put_0 ++ []
theorem dksX25_put_0 : cX25_put.data.toList.drop 0 = dktX25_put_0 := by decide +kernel
theorem dX25_put_0 : decode cX25_put 0 = .ok (.aload_n 0, 1) := dk_42 (dk_at dksX25_put_0 0 rfl rfl)
theorem dX25_put_1 : decode cX25_put 1 = .ok (.getfield 7, 3) := dk_180 0 7 (dk_at dksX25_put_0 1 rfl rfl)
theorem dX25_put_4 : decode cX25_put 4 = .ok (.iload_n 1, 1) := dk_27 (dk_at dksX25_put_0 4 rfl rfl)
theorem dX25_put_5 : decode cX25_put 5 = .ok (.lload_n 2, 1) := dk_32 (dk_at dksX25_put_0 5 rfl rfl)
theorem dX25_put_6 : decode cX25_put 6 = .ok (.l2i, 1) := dk_136 (dk_at dksX25_put_0 6 rfl rfl)
theorem dX25_put_7 : decode cX25_put 7 = .ok (.iastore, 1) := dk_79 (dk_at dksX25_put_0 7 rfl rfl)
theorem dX25_put_8 : decode cX25_put 8 = .ok (.iconst 1, 1) := dk_4 (dk_at dksX25_put_0 8 rfl rfl)
theorem dX25_put_9 : decode cX25_put 9 = .ok (.ireturn, 1) := dk_172 (dk_at dksX25_put_0 9 rfl rfl)
abbrev cX25_at : ByteArray := prog_11_method_4_code
def yX25_at : MethodName := ⟨RX25, "at", "(I)J"⟩
def dkwX25_at_0 : List UInt8 := [42, 180, 0, 7, 27, 46, 133, 173]
abbrev dktX25_at_0 : List UInt8 := dkwX25_at_0 ++ []
theorem dksX25_at_0 : cX25_at.data.toList.drop 0 = dktX25_at_0 := by decide +kernel
theorem dX25_at_0 : decode cX25_at 0 = .ok (.aload_n 0, 1) := dk_42 (dk_at dksX25_at_0 0 rfl rfl)
theorem dX25_at_1 : decode cX25_at 1 = .ok (.getfield 7, 3) := dk_180 0 7 (dk_at dksX25_at_0 1 rfl rfl)
theorem dX25_at_4 : decode cX25_at 4 = .ok (.iload_n 1, 1) := dk_27 (dk_at dksX25_at_0 4 rfl rfl)
theorem dX25_at_5 : decode cX25_at 5 = .ok (.iaload, 1) := dk_46 (dk_at dksX25_at_0 5 rfl rfl)
theorem dX25_at_6 : decode cX25_at 6 = .ok (.i2l, 1) := dk_133 (dk_at dksX25_at_0 6 rfl rfl)
theorem dX25_at_7 : decode cX25_at 7 = .ok (.lreturn, 1) := dk_173 (dk_at dksX25_at_0 7 rfl rfl)
abbrev cX25_copy : ByteArray := prog_11_method_6_code
def yX25_copy : MethodName := ⟨RX25, "copy", "(ILNineKeysRound$Row;II)V"⟩
def dkwX25_copy_0 : List UInt8 := [42, 180, 0, 7, 27, 44, 192, 0, 8, 180, 0, 7, 29, 21, 4, 184, 0, 13, 177]
abbrev dktX25_copy_0 : List UInt8 := dkwX25_copy_0 ++ []
theorem dksX25_copy_0 : cX25_copy.data.toList.drop 0 = dktX25_copy_0 := by decide +kernel
theorem dX25_copy_0 : decode cX25_copy 0 = .ok (.aload_n 0, 1) := dk_42 (dk_at dksX25_copy_0 0 rfl rfl)
theorem dX25_copy_1 : decode cX25_copy 1 = .ok (.getfield 7, 3) := dk_180 0 7 (dk_at dksX25_copy_0 1 rfl rfl)
theorem dX25_copy_4 : decode cX25_copy 4 = .ok (.iload_n 1, 1) := dk_27 (dk_at dksX25_copy_0 4 rfl rfl)
theorem dX25_copy_5 : decode cX25_copy 5 = .ok (.aload_n 2, 1) := dk_44 (dk_at dksX25_copy_0 5 rfl rfl)
theorem dX25_copy_6 : decode cX25_copy 6 = .ok (.checkcast 8, 3) := dk_192 0 8 (dk_at dksX25_copy_0 6 rfl rfl)
theorem dX25_copy_9 : decode cX25_copy 9 = .ok (.getfield 7, 3) := dk_180 0 7 (dk_at dksX25_copy_0 9 rfl rfl)
theorem dX25_copy_12 : decode cX25_copy 12 = .ok (.iload_n 3, 1) := dk_29 (dk_at dksX25_copy_0 12 rfl rfl)
theorem dX25_copy_13 : decode cX25_copy 13 = .ok (.iload 4, 2) := dk_21 4 (dk_at dksX25_copy_0 13 rfl rfl)
theorem dX25_copy_15 : decode cX25_copy 15 = .ok (.invokestatic 13, 3) := dk_184 0 13 (dk_at dksX25_copy_0 15 rfl rfl)
theorem dX25_copy_18 : decode cX25_copy 18 = .ok (.return_, 1) := dk_177 (dk_at dksX25_copy_0 18 rfl rfl)
theorem q153 : (Jvm.Cond.initialized "NineKeysRound$IntRow") ∈ lw_all := lw_g (lw_at lw_m1 41 rfl) rfl
theorem q1466 : (Jvm.Cond.instantiable "NineKeysRound$IntRow" (1 : Nat)) ∈ lw_all := lw_g (lw_at lw_m6 154 rfl) rfl
theorem q1468 : (Jvm.Cond.instanceMethod ({ cls := "NineKeysRound$IntRow", name := "<init>", desc := "(I)V" } : Jvm.MethodName)) ∈ lw_all := lw_g (lw_at lw_m6 156 rfl) rfl
theorem q1469 : (Jvm.Cond.code ({ cls := "NineKeysRound$IntRow", name := "<init>", desc := "(I)V" } : Jvm.MethodName) prog_11_method_1_code (2 : Nat) (Option.none : Option Jvm.ClassFile.FieldType)) ∈ lw_all := lw_g (lw_at lw_m6 157 rfl) rfl
theorem q1470 : (Jvm.Cond.methodLinkNest "NineKeysRound$IntRow" (1 : Nat) ({ cls := "NineKeysRound$Row", name := "<init>", desc := "()V" } : Jvm.MethodName) "NineKeysRound") ∈ lw_tbl := lw_at lw_m6 158 rfl
theorem q1471 : (Jvm.Cond.fieldLink "NineKeysRound$IntRow" (7 : Nat) "NineKeysRound$IntRow" "items" "[I") ∈ lw_all := lw_g (lw_at lw_m6 159 rfl) rfl
theorem q1472 : (Jvm.Cond.laysFinal "NineKeysRound$IntRow" "NineKeysRound$IntRow" "items" "[I") ∈ lw_all := lw_g (lw_at lw_m6 160 rfl) rfl
theorem q1473 : (Jvm.Cond.soleField "NineKeysRound$IntRow" "items") ∈ lw_all := lw_g (lw_at lw_m6 161 rfl) rfl
theorem q1474 : (Jvm.Cond.superclass "NineKeysRound$IntRow" "NineKeysRound$Row") ∈ lw_all := lw_g (lw_at lw_m6 162 rfl) rfl
theorem q1510 : (Jvm.Cond.selects "NineKeysRound$IntRow" ({ cls := "NineKeysRound$Row", name := "put", desc := "(IJ)Z" } : Jvm.MethodName) ({ cls := "NineKeysRound$IntRow", name := "put", desc := "(IJ)Z" } : Jvm.MethodName)) ∈ lw_all := lw_g (lw_at lw_m6 198 rfl) rfl
theorem q1511 : (Jvm.Cond.instanceMethod ({ cls := "NineKeysRound$IntRow", name := "put", desc := "(IJ)Z" } : Jvm.MethodName)) ∈ lw_all := lw_g (lw_at lw_m6 199 rfl) rfl
theorem q1512 : (Jvm.Cond.code ({ cls := "NineKeysRound$IntRow", name := "put", desc := "(IJ)Z" } : Jvm.MethodName) prog_11_method_5_code (4 : Nat) (Option.some Jvm.ClassFile.FieldType.boolean)) ∈ lw_all := lw_g (lw_at lw_m6 200 rfl) rfl
theorem q1531 : (Jvm.Cond.selects "NineKeysRound$IntRow" ({ cls := "NineKeysRound$Row", name := "at", desc := "(I)J" } : Jvm.MethodName) ({ cls := "NineKeysRound$IntRow", name := "at", desc := "(I)J" } : Jvm.MethodName)) ∈ lw_all := lw_g (lw_at lw_m6 219 rfl) rfl
theorem q1532 : (Jvm.Cond.instanceMethod ({ cls := "NineKeysRound$IntRow", name := "at", desc := "(I)J" } : Jvm.MethodName)) ∈ lw_all := lw_g (lw_at lw_m6 220 rfl) rfl
theorem q1533 : (Jvm.Cond.code ({ cls := "NineKeysRound$IntRow", name := "at", desc := "(I)J" } : Jvm.MethodName) prog_11_method_4_code (2 : Nat) (Option.some Jvm.ClassFile.FieldType.long)) ∈ lw_all := lw_g (lw_at lw_m6 221 rfl) rfl
theorem q1557 : (Jvm.Cond.selects "NineKeysRound$IntRow" ({ cls := "NineKeysRound$Row", name := "copy", desc := "(ILNineKeysRound$Row;II)V" } : Jvm.MethodName) ({ cls := "NineKeysRound$IntRow", name := "copy", desc := "(ILNineKeysRound$Row;II)V" } : Jvm.MethodName)) ∈ lw_all := lw_g (lw_at lw_m7 5 rfl) rfl
theorem q1558 : (Jvm.Cond.instanceMethod ({ cls := "NineKeysRound$IntRow", name := "copy", desc := "(ILNineKeysRound$Row;II)V" } : Jvm.MethodName)) ∈ lw_all := lw_g (lw_at lw_m7 6 rfl) rfl
theorem q1559 : (Jvm.Cond.code ({ cls := "NineKeysRound$IntRow", name := "copy", desc := "(ILNineKeysRound$Row;II)V" } : Jvm.MethodName) prog_11_method_6_code (5 : Nat) (Option.none : Option Jvm.ClassFile.FieldType)) ∈ lw_all := lw_g (lw_at lw_m7 7 rfl) rfl
theorem q1560 : (Jvm.Cond.classLink "NineKeysRound$IntRow" (8 : Nat) "NineKeysRound$IntRow") ∈ lw_all := lw_g (lw_at lw_m7 8 rfl) rfl
theorem q1561 : (Jvm.Cond.methodLink "NineKeysRound$IntRow" (13 : Nat) ({ cls := "java/lang/System", name := "arraycopy", desc := "(Ljava/lang/Object;ILjava/lang/Object;II)V" } : Jvm.MethodName)) ∈ lw_all := lw_g (lw_at lw_m7 9 rfl) rfl
theorem q2256 : (Jvm.Cond.castable "NineKeysRound$IntRow" "NineKeysRound$Row") ∈ lw_tbl := lw_at lw_m9 224 rfl
theorem q2276 : (Jvm.Cond.castable "NineKeysRound$IntRow" "NineKeysRound$Held") ∈ lw_tbl := lw_at lw_m10 4 rfl
theorem in_X25 : ∀ w ∈ wsX250, w ∈ lw_all := lw_in wsX250 [1472] (by decide +kernel) (by decide +kernel)
/-! NineKeysRound$LongRow -/
set_option maxRecDepth 100000
def RX26 : String := "NineKeysRound$LongRow"
def TX26 : u_T := fun k => match k with
  | _ => ("NineKeysRound$LongRow", "items", "[J", true)
def tyX26 : Nat → FieldType := fun k => match k with
  | _ => .array .long
abbrev wsX260 : List Cond := u_ws RX26 TX26 1
theorem nmX26 : ∀ a, a < 1 → ∀ b, b < 1 → a ≠ b → (TX26 a).2.1 ≠ (TX26 b).2.1 := by decide +kernel
theorem tyX26_ok : ∀ k, k < 1 → parseFieldDescriptor (TX26 k).2.2.1 = some (tyX26 k) := by decide +kernel
abbrev cX26_init : ByteArray := prog_16_method_1_code
def yX26_init : MethodName := ⟨RX26, "<init>", "(I)V"⟩
def dkwX26_init_0 : List UInt8 := [42, 183, 0, 1, 42, 27, 188, 11, 181, 0, 7, 177]
abbrev dktX26_init_0 : List UInt8 := dkwX26_init_0 ++ []
theorem dksX26_init_0 : cX26_init.data.toList.drop 0 = dktX26_init_0 := by decide +kernel
theorem dX26_init_0 : decode cX26_init 0 = .ok (.aload_n 0, 1) := dk_42 (dk_at dksX26_init_0 0 rfl rfl)
theorem dX26_init_1 : decode cX26_init 1 = .ok (.invokespecial 1, 3) := dk_183 0 1 (dk_at dksX26_init_0 1 rfl rfl)
theorem dX26_init_4 : decode cX26_init 4 = .ok (.aload_n 0, 1) := dk_42 (dk_at dksX26_init_0 4 rfl rfl)
theorem dX26_init_5 : decode cX26_init 5 = .ok (.iload_n 1, 1) := dk_27 (dk_at dksX26_init_0 5 rfl rfl)
theorem dX26_init_6 : decode cX26_init 6 = .ok (.newarray .long, 2) := dk_188_11 (dk_at dksX26_init_0 6 rfl rfl)
theorem dX26_init_8 : decode cX26_init 8 = .ok (.putfield 7, 3) := dk_181 0 7 (dk_at dksX26_init_0 8 rfl rfl)
theorem dX26_init_11 : decode cX26_init 11 = .ok (.return_, 1) := dk_177 (dk_at dksX26_init_0 11 rfl rfl)
abbrev cX26_put : ByteArray := prog_16_method_5_code
def yX26_put : MethodName := ⟨RX26, "put", "(IJ)Z"⟩
def dkwX26_put_0 : List UInt8 := [42, 180, 0, 7, 27, 32, 80, 4, 172]
abbrev dktX26_put_0 : List UInt8 := dkwX26_put_0 ++ []
theorem dksX26_put_0 : cX26_put.data.toList.drop 0 = dktX26_put_0 := by decide +kernel
theorem dX26_put_0 : decode cX26_put 0 = .ok (.aload_n 0, 1) := dk_42 (dk_at dksX26_put_0 0 rfl rfl)
theorem dX26_put_1 : decode cX26_put 1 = .ok (.getfield 7, 3) := dk_180 0 7 (dk_at dksX26_put_0 1 rfl rfl)
theorem dX26_put_4 : decode cX26_put 4 = .ok (.iload_n 1, 1) := dk_27 (dk_at dksX26_put_0 4 rfl rfl)
theorem dX26_put_5 : decode cX26_put 5 = .ok (.lload_n 2, 1) := dk_32 (dk_at dksX26_put_0 5 rfl rfl)
theorem dX26_put_6 : decode cX26_put 6 = .ok (.lastore, 1) := dk_80 (dk_at dksX26_put_0 6 rfl rfl)
theorem dX26_put_7 : decode cX26_put 7 = .ok (.iconst 1, 1) := dk_4 (dk_at dksX26_put_0 7 rfl rfl)
theorem dX26_put_8 : decode cX26_put 8 = .ok (.ireturn, 1) := dk_172 (dk_at dksX26_put_0 8 rfl rfl)
abbrev cX26_at : ByteArray := prog_16_method_4_code
def yX26_at : MethodName := ⟨RX26, "at", "(I)J"⟩
def dkwX26_at_0 : List UInt8 := [42, 180, 0, 7, 27, 47, 173]
abbrev dktX26_at_0 : List UInt8 := dkwX26_at_0 ++ []
theorem dksX26_at_0 : cX26_at.data.toList.drop 0 = dktX26_at_0 := by decide +kernel
theorem dX26_at_0 : decode cX26_at 0 = .ok (.aload_n 0, 1) := dk_42 (dk_at dksX26_at_0 0 rfl rfl)
theorem dX26_at_1 : decode cX26_at 1 = .ok (.getfield 7, 3) := dk_180 0 7 (dk_at dksX26_at_0 1 rfl rfl)
theorem dX26_at_4 : decode cX26_at 4 = .ok (.iload_n 1, 1) := dk_27 (dk_at dksX26_at_0 4 rfl rfl)
theorem dX26_at_5 : decode cX26_at 5 = .ok (.laload, 1) := dk_47 (dk_at dksX26_at_0 5 rfl rfl)
theorem dX26_at_6 : decode cX26_at 6 = .ok (.lreturn, 1) := dk_173 (dk_at dksX26_at_0 6 rfl rfl)
abbrev cX26_copy : ByteArray := prog_16_method_6_code
def yX26_copy : MethodName := ⟨RX26, "copy", "(ILNineKeysRound$Row;II)V"⟩
def dkwX26_copy_0 : List UInt8 := [42, 180, 0, 7, 27, 44, 192, 0, 8, 180, 0, 7, 29, 21, 4, 184, 0, 13, 177]
abbrev dktX26_copy_0 : List UInt8 := dkwX26_copy_0 ++ []
theorem dksX26_copy_0 : cX26_copy.data.toList.drop 0 = dktX26_copy_0 := by decide +kernel
theorem dX26_copy_0 : decode cX26_copy 0 = .ok (.aload_n 0, 1) := dk_42 (dk_at dksX26_copy_0 0 rfl rfl)
theorem dX26_copy_1 : decode cX26_copy 1 = .ok (.getfield 7, 3) := dk_180 0 7 (dk_at dksX26_copy_0 1 rfl rfl)
theorem dX26_copy_4 : decode cX26_copy 4 = .ok (.iload_n 1, 1) := dk_27 (dk_at dksX26_copy_0 4 rfl rfl)
theorem dX26_copy_5 : decode cX26_copy 5 = .ok (.aload_n 2, 1) := dk_44 (dk_at dksX26_copy_0 5 rfl rfl)
theorem dX26_copy_6 : decode cX26_copy 6 = .ok (.checkcast 8, 3) := dk_192 0 8 (dk_at dksX26_copy_0 6 rfl rfl)
theorem dX26_copy_9 : decode cX26_copy 9 = .ok (.getfield 7, 3) := dk_180 0 7 (dk_at dksX26_copy_0 9 rfl rfl)
theorem dX26_copy_12 : decode cX26_copy 12 = .ok (.iload_n 3, 1) := dk_29 (dk_at dksX26_copy_0 12 rfl rfl)
theorem dX26_copy_13 : decode cX26_copy 13 = .ok (.iload 4, 2) := dk_21 4 (dk_at dksX26_copy_0 13 rfl rfl)
theorem dX26_copy_15 : decode cX26_copy 15 = .ok (.invokestatic 13, 3) := dk_184 0 13 (dk_at dksX26_copy_0 15 rfl rfl)
theorem dX26_copy_18 : decode cX26_copy 18 = .ok (.return_, 1) := dk_177 (dk_at dksX26_copy_0 18 rfl rfl)
theorem q154 : (Jvm.Cond.initialized "NineKeysRound$LongRow") ∈ lw_all := lw_g (lw_at lw_m1 42 rfl) rfl
theorem q1476 : (Jvm.Cond.instantiable "NineKeysRound$LongRow" (1 : Nat)) ∈ lw_all := lw_g (lw_at lw_m6 164 rfl) rfl
theorem q1478 : (Jvm.Cond.instanceMethod ({ cls := "NineKeysRound$LongRow", name := "<init>", desc := "(I)V" } : Jvm.MethodName)) ∈ lw_all := lw_g (lw_at lw_m6 166 rfl) rfl
theorem q1479 : (Jvm.Cond.code ({ cls := "NineKeysRound$LongRow", name := "<init>", desc := "(I)V" } : Jvm.MethodName) prog_16_method_1_code (2 : Nat) (Option.none : Option Jvm.ClassFile.FieldType)) ∈ lw_all := lw_g (lw_at lw_m6 167 rfl) rfl
theorem q1480 : (Jvm.Cond.methodLinkNest "NineKeysRound$LongRow" (1 : Nat) ({ cls := "NineKeysRound$Row", name := "<init>", desc := "()V" } : Jvm.MethodName) "NineKeysRound") ∈ lw_tbl := lw_at lw_m6 168 rfl
theorem q1481 : (Jvm.Cond.fieldLink "NineKeysRound$LongRow" (7 : Nat) "NineKeysRound$LongRow" "items" "[J") ∈ lw_all := lw_g (lw_at lw_m6 169 rfl) rfl
theorem q1482 : (Jvm.Cond.laysFinal "NineKeysRound$LongRow" "NineKeysRound$LongRow" "items" "[J") ∈ lw_all := lw_g (lw_at lw_m6 170 rfl) rfl
theorem q1483 : (Jvm.Cond.soleField "NineKeysRound$LongRow" "items") ∈ lw_all := lw_g (lw_at lw_m6 171 rfl) rfl
theorem q1484 : (Jvm.Cond.superclass "NineKeysRound$LongRow" "NineKeysRound$Row") ∈ lw_all := lw_g (lw_at lw_m6 172 rfl) rfl
theorem q1513 : (Jvm.Cond.selects "NineKeysRound$LongRow" ({ cls := "NineKeysRound$Row", name := "put", desc := "(IJ)Z" } : Jvm.MethodName) ({ cls := "NineKeysRound$LongRow", name := "put", desc := "(IJ)Z" } : Jvm.MethodName)) ∈ lw_all := lw_g (lw_at lw_m6 201 rfl) rfl
theorem q1514 : (Jvm.Cond.instanceMethod ({ cls := "NineKeysRound$LongRow", name := "put", desc := "(IJ)Z" } : Jvm.MethodName)) ∈ lw_all := lw_g (lw_at lw_m6 202 rfl) rfl
theorem q1515 : (Jvm.Cond.code ({ cls := "NineKeysRound$LongRow", name := "put", desc := "(IJ)Z" } : Jvm.MethodName) prog_16_method_5_code (4 : Nat) (Option.some Jvm.ClassFile.FieldType.boolean)) ∈ lw_all := lw_g (lw_at lw_m6 203 rfl) rfl
theorem q1534 : (Jvm.Cond.selects "NineKeysRound$LongRow" ({ cls := "NineKeysRound$Row", name := "at", desc := "(I)J" } : Jvm.MethodName) ({ cls := "NineKeysRound$LongRow", name := "at", desc := "(I)J" } : Jvm.MethodName)) ∈ lw_all := lw_g (lw_at lw_m6 222 rfl) rfl
theorem q1535 : (Jvm.Cond.instanceMethod ({ cls := "NineKeysRound$LongRow", name := "at", desc := "(I)J" } : Jvm.MethodName)) ∈ lw_all := lw_g (lw_at lw_m6 223 rfl) rfl
theorem q1536 : (Jvm.Cond.code ({ cls := "NineKeysRound$LongRow", name := "at", desc := "(I)J" } : Jvm.MethodName) prog_16_method_4_code (2 : Nat) (Option.some Jvm.ClassFile.FieldType.long)) ∈ lw_all := lw_g (lw_at lw_m6 224 rfl) rfl
theorem q1562 : (Jvm.Cond.selects "NineKeysRound$LongRow" ({ cls := "NineKeysRound$Row", name := "copy", desc := "(ILNineKeysRound$Row;II)V" } : Jvm.MethodName) ({ cls := "NineKeysRound$LongRow", name := "copy", desc := "(ILNineKeysRound$Row;II)V" } : Jvm.MethodName)) ∈ lw_all := lw_g (lw_at lw_m7 10 rfl) rfl
theorem q1563 : (Jvm.Cond.instanceMethod ({ cls := "NineKeysRound$LongRow", name := "copy", desc := "(ILNineKeysRound$Row;II)V" } : Jvm.MethodName)) ∈ lw_all := lw_g (lw_at lw_m7 11 rfl) rfl
theorem q1564 : (Jvm.Cond.code ({ cls := "NineKeysRound$LongRow", name := "copy", desc := "(ILNineKeysRound$Row;II)V" } : Jvm.MethodName) prog_16_method_6_code (5 : Nat) (Option.none : Option Jvm.ClassFile.FieldType)) ∈ lw_all := lw_g (lw_at lw_m7 12 rfl) rfl
theorem q1565 : (Jvm.Cond.classLink "NineKeysRound$LongRow" (8 : Nat) "NineKeysRound$LongRow") ∈ lw_all := lw_g (lw_at lw_m7 13 rfl) rfl
theorem q1566 : (Jvm.Cond.methodLink "NineKeysRound$LongRow" (13 : Nat) ({ cls := "java/lang/System", name := "arraycopy", desc := "(Ljava/lang/Object;ILjava/lang/Object;II)V" } : Jvm.MethodName)) ∈ lw_all := lw_g (lw_at lw_m7 14 rfl) rfl
theorem q2257 : (Jvm.Cond.castable "NineKeysRound$LongRow" "NineKeysRound$Row") ∈ lw_tbl := lw_at lw_m9 225 rfl
theorem q2277 : (Jvm.Cond.castable "NineKeysRound$LongRow" "NineKeysRound$Held") ∈ lw_tbl := lw_at lw_m10 5 rfl
theorem in_X26 : ∀ w ∈ wsX260, w ∈ lw_all := lw_in wsX260 [1482] (by decide +kernel) (by decide +kernel)
/-! NineKeysRound$BooleanRow -/
set_option maxRecDepth 100000
def RX27 : String := "NineKeysRound$BooleanRow"
def TX27 : u_T := fun k => match k with
  | _ => ("NineKeysRound$BooleanRow", "items", "[Z", true)
def tyX27 : Nat → FieldType := fun k => match k with
  | _ => .array .boolean
abbrev wsX270 : List Cond := u_ws RX27 TX27 1
theorem nmX27 : ∀ a, a < 1 → ∀ b, b < 1 → a ≠ b → (TX27 a).2.1 ≠ (TX27 b).2.1 := by decide +kernel
theorem tyX27_ok : ∀ k, k < 1 → parseFieldDescriptor (TX27 k).2.2.1 = some (tyX27 k) := by decide +kernel
abbrev cX27_init : ByteArray := prog_2_method_1_code
def yX27_init : MethodName := ⟨RX27, "<init>", "(I)V"⟩
def dkwX27_init_0 : List UInt8 := [42, 183, 0, 1, 42, 27, 188, 4, 181, 0, 7, 177]
abbrev dktX27_init_0 : List UInt8 := dkwX27_init_0 ++ []
theorem dksX27_init_0 : cX27_init.data.toList.drop 0 = dktX27_init_0 := by decide +kernel
theorem dX27_init_0 : decode cX27_init 0 = .ok (.aload_n 0, 1) := dk_42 (dk_at dksX27_init_0 0 rfl rfl)
theorem dX27_init_1 : decode cX27_init 1 = .ok (.invokespecial 1, 3) := dk_183 0 1 (dk_at dksX27_init_0 1 rfl rfl)
theorem dX27_init_4 : decode cX27_init 4 = .ok (.aload_n 0, 1) := dk_42 (dk_at dksX27_init_0 4 rfl rfl)
theorem dX27_init_5 : decode cX27_init 5 = .ok (.iload_n 1, 1) := dk_27 (dk_at dksX27_init_0 5 rfl rfl)
theorem dX27_init_6 : decode cX27_init 6 = .ok (.newarray .boolean, 2) := dk_188_4 (dk_at dksX27_init_0 6 rfl rfl)
theorem dX27_init_8 : decode cX27_init 8 = .ok (.putfield 7, 3) := dk_181 0 7 (dk_at dksX27_init_0 8 rfl rfl)
theorem dX27_init_11 : decode cX27_init 11 = .ok (.return_, 1) := dk_177 (dk_at dksX27_init_0 11 rfl rfl)
abbrev cX27_put : ByteArray := prog_2_method_5_code
def yX27_put : MethodName := ⟨RX27, "put", "(IJ)Z"⟩
def dkwX27_put_0 : List UInt8 := [42, 180, 0, 7, 27, 32, 9, 148, 153, 0, 7, 4, 167, 0, 4, 3, 84, 4, 172]
abbrev dktX27_put_0 : List UInt8 := dkwX27_put_0 ++ []
theorem dksX27_put_0 : cX27_put.data.toList.drop 0 = dktX27_put_0 := by decide +kernel
theorem dX27_put_0 : decode cX27_put 0 = .ok (.aload_n 0, 1) := dk_42 (dk_at dksX27_put_0 0 rfl rfl)
theorem dX27_put_1 : decode cX27_put 1 = .ok (.getfield 7, 3) := dk_180 0 7 (dk_at dksX27_put_0 1 rfl rfl)
theorem dX27_put_4 : decode cX27_put 4 = .ok (.iload_n 1, 1) := dk_27 (dk_at dksX27_put_0 4 rfl rfl)
theorem dX27_put_5 : decode cX27_put 5 = .ok (.lload_n 2, 1) := dk_32 (dk_at dksX27_put_0 5 rfl rfl)
theorem dX27_put_6 : decode cX27_put 6 = .ok (.lconst 0, 1) := dk_9 (dk_at dksX27_put_0 6 rfl rfl)
theorem dX27_put_7 : decode cX27_put 7 = .ok (.lcmp, 1) := dk_148 (dk_at dksX27_put_0 7 rfl rfl)
theorem dX27_put_8 : decode cX27_put 8 = .ok (.ifCond .eq 7, 3) := dk_153 0 7 (dk_at dksX27_put_0 8 rfl rfl)
theorem dX27_put_11 : decode cX27_put 11 = .ok (.iconst 1, 1) := dk_4 (dk_at dksX27_put_0 11 rfl rfl)
theorem dX27_put_12 : decode cX27_put 12 = .ok (.goto 4, 3) := dk_167 0 4 (dk_at dksX27_put_0 12 rfl rfl)
theorem dX27_put_15 : decode cX27_put 15 = .ok (.iconst 0, 1) := dk_3 (dk_at dksX27_put_0 15 rfl rfl)
theorem dX27_put_16 : decode cX27_put 16 = .ok (.bastore, 1) := dk_84 (dk_at dksX27_put_0 16 rfl rfl)
theorem dX27_put_17 : decode cX27_put 17 = .ok (.iconst 1, 1) := dk_4 (dk_at dksX27_put_0 17 rfl rfl)
theorem dX27_put_18 : decode cX27_put 18 = .ok (.ireturn, 1) := dk_172 (dk_at dksX27_put_0 18 rfl rfl)
abbrev cX27_at : ByteArray := prog_2_method_4_code
def yX27_at : MethodName := ⟨RX27, "at", "(I)J"⟩
def dkwX27_at_0 : List UInt8 := [42, 180, 0, 7, 27, 51, 153, 0, 7, 10, 167, 0, 4, 9, 173]
abbrev dktX27_at_0 : List UInt8 := dkwX27_at_0 ++ []
theorem dksX27_at_0 : cX27_at.data.toList.drop 0 = dktX27_at_0 := by decide +kernel
theorem dX27_at_0 : decode cX27_at 0 = .ok (.aload_n 0, 1) := dk_42 (dk_at dksX27_at_0 0 rfl rfl)
theorem dX27_at_1 : decode cX27_at 1 = .ok (.getfield 7, 3) := dk_180 0 7 (dk_at dksX27_at_0 1 rfl rfl)
theorem dX27_at_4 : decode cX27_at 4 = .ok (.iload_n 1, 1) := dk_27 (dk_at dksX27_at_0 4 rfl rfl)
theorem dX27_at_5 : decode cX27_at 5 = .ok (.baload, 1) := dk_51 (dk_at dksX27_at_0 5 rfl rfl)
theorem dX27_at_6 : decode cX27_at 6 = .ok (.ifCond .eq 7, 3) := dk_153 0 7 (dk_at dksX27_at_0 6 rfl rfl)
theorem dX27_at_9 : decode cX27_at 9 = .ok (.lconst 1, 1) := dk_10 (dk_at dksX27_at_0 9 rfl rfl)
theorem dX27_at_10 : decode cX27_at 10 = .ok (.goto 4, 3) := dk_167 0 4 (dk_at dksX27_at_0 10 rfl rfl)
theorem dX27_at_13 : decode cX27_at 13 = .ok (.lconst 0, 1) := dk_9 (dk_at dksX27_at_0 13 rfl rfl)
theorem dX27_at_14 : decode cX27_at 14 = .ok (.lreturn, 1) := dk_173 (dk_at dksX27_at_0 14 rfl rfl)
abbrev cX27_copy : ByteArray := prog_2_method_6_code
def yX27_copy : MethodName := ⟨RX27, "copy", "(ILNineKeysRound$Row;II)V"⟩
def dkwX27_copy_0 : List UInt8 := [42, 180, 0, 7, 27, 44, 192, 0, 8, 180, 0, 7, 29, 21, 4, 184, 0, 13, 177]
abbrev dktX27_copy_0 : List UInt8 := dkwX27_copy_0 ++ []
theorem dksX27_copy_0 : cX27_copy.data.toList.drop 0 = dktX27_copy_0 := by decide +kernel
theorem dX27_copy_0 : decode cX27_copy 0 = .ok (.aload_n 0, 1) := dk_42 (dk_at dksX27_copy_0 0 rfl rfl)
theorem dX27_copy_1 : decode cX27_copy 1 = .ok (.getfield 7, 3) := dk_180 0 7 (dk_at dksX27_copy_0 1 rfl rfl)
theorem dX27_copy_4 : decode cX27_copy 4 = .ok (.iload_n 1, 1) := dk_27 (dk_at dksX27_copy_0 4 rfl rfl)
theorem dX27_copy_5 : decode cX27_copy 5 = .ok (.aload_n 2, 1) := dk_44 (dk_at dksX27_copy_0 5 rfl rfl)
theorem dX27_copy_6 : decode cX27_copy 6 = .ok (.checkcast 8, 3) := dk_192 0 8 (dk_at dksX27_copy_0 6 rfl rfl)
theorem dX27_copy_9 : decode cX27_copy 9 = .ok (.getfield 7, 3) := dk_180 0 7 (dk_at dksX27_copy_0 9 rfl rfl)
theorem dX27_copy_12 : decode cX27_copy 12 = .ok (.iload_n 3, 1) := dk_29 (dk_at dksX27_copy_0 12 rfl rfl)
theorem dX27_copy_13 : decode cX27_copy 13 = .ok (.iload 4, 2) := dk_21 4 (dk_at dksX27_copy_0 13 rfl rfl)
theorem dX27_copy_15 : decode cX27_copy 15 = .ok (.invokestatic 13, 3) := dk_184 0 13 (dk_at dksX27_copy_0 15 rfl rfl)
theorem dX27_copy_18 : decode cX27_copy 18 = .ok (.return_, 1) := dk_177 (dk_at dksX27_copy_0 18 rfl rfl)
theorem q155 : (Jvm.Cond.initialized "NineKeysRound$BooleanRow") ∈ lw_all := lw_g (lw_at lw_m1 43 rfl) rfl
theorem q1487 : (Jvm.Cond.instantiable "NineKeysRound$BooleanRow" (1 : Nat)) ∈ lw_all := lw_g (lw_at lw_m6 175 rfl) rfl
theorem q1489 : (Jvm.Cond.instanceMethod ({ cls := "NineKeysRound$BooleanRow", name := "<init>", desc := "(I)V" } : Jvm.MethodName)) ∈ lw_all := lw_g (lw_at lw_m6 177 rfl) rfl
theorem q1490 : (Jvm.Cond.code ({ cls := "NineKeysRound$BooleanRow", name := "<init>", desc := "(I)V" } : Jvm.MethodName) prog_2_method_1_code (2 : Nat) (Option.none : Option Jvm.ClassFile.FieldType)) ∈ lw_all := lw_g (lw_at lw_m6 178 rfl) rfl
theorem q1491 : (Jvm.Cond.methodLinkNest "NineKeysRound$BooleanRow" (1 : Nat) ({ cls := "NineKeysRound$Row", name := "<init>", desc := "()V" } : Jvm.MethodName) "NineKeysRound") ∈ lw_tbl := lw_at lw_m6 179 rfl
theorem q1492 : (Jvm.Cond.fieldLink "NineKeysRound$BooleanRow" (7 : Nat) "NineKeysRound$BooleanRow" "items" "[Z") ∈ lw_all := lw_g (lw_at lw_m6 180 rfl) rfl
theorem q1493 : (Jvm.Cond.laysFinal "NineKeysRound$BooleanRow" "NineKeysRound$BooleanRow" "items" "[Z") ∈ lw_all := lw_g (lw_at lw_m6 181 rfl) rfl
theorem q1494 : (Jvm.Cond.soleField "NineKeysRound$BooleanRow" "items") ∈ lw_all := lw_g (lw_at lw_m6 182 rfl) rfl
theorem q1495 : (Jvm.Cond.superclass "NineKeysRound$BooleanRow" "NineKeysRound$Row") ∈ lw_all := lw_g (lw_at lw_m6 183 rfl) rfl
theorem q1504 : (Jvm.Cond.selects "NineKeysRound$BooleanRow" ({ cls := "NineKeysRound$Row", name := "put", desc := "(IJ)Z" } : Jvm.MethodName) ({ cls := "NineKeysRound$BooleanRow", name := "put", desc := "(IJ)Z" } : Jvm.MethodName)) ∈ lw_all := lw_g (lw_at lw_m6 192 rfl) rfl
theorem q1505 : (Jvm.Cond.instanceMethod ({ cls := "NineKeysRound$BooleanRow", name := "put", desc := "(IJ)Z" } : Jvm.MethodName)) ∈ lw_all := lw_g (lw_at lw_m6 193 rfl) rfl
theorem q1506 : (Jvm.Cond.code ({ cls := "NineKeysRound$BooleanRow", name := "put", desc := "(IJ)Z" } : Jvm.MethodName) prog_2_method_5_code (4 : Nat) (Option.some Jvm.ClassFile.FieldType.boolean)) ∈ lw_all := lw_g (lw_at lw_m6 194 rfl) rfl
theorem q1527 : (Jvm.Cond.selects "NineKeysRound$BooleanRow" ({ cls := "NineKeysRound$Row", name := "at", desc := "(I)J" } : Jvm.MethodName) ({ cls := "NineKeysRound$BooleanRow", name := "at", desc := "(I)J" } : Jvm.MethodName)) ∈ lw_all := lw_g (lw_at lw_m6 215 rfl) rfl
theorem q1528 : (Jvm.Cond.instanceMethod ({ cls := "NineKeysRound$BooleanRow", name := "at", desc := "(I)J" } : Jvm.MethodName)) ∈ lw_all := lw_g (lw_at lw_m6 216 rfl) rfl
theorem q1529 : (Jvm.Cond.code ({ cls := "NineKeysRound$BooleanRow", name := "at", desc := "(I)J" } : Jvm.MethodName) prog_2_method_4_code (2 : Nat) (Option.some Jvm.ClassFile.FieldType.long)) ∈ lw_all := lw_g (lw_at lw_m6 217 rfl) rfl
theorem q1545 : (Jvm.Cond.selects "NineKeysRound$BooleanRow" ({ cls := "NineKeysRound$Row", name := "copy", desc := "(ILNineKeysRound$Row;II)V" } : Jvm.MethodName) ({ cls := "NineKeysRound$BooleanRow", name := "copy", desc := "(ILNineKeysRound$Row;II)V" } : Jvm.MethodName)) ∈ lw_all := lw_g (lw_at lw_m6 233 rfl) rfl
theorem q1546 : (Jvm.Cond.instanceMethod ({ cls := "NineKeysRound$BooleanRow", name := "copy", desc := "(ILNineKeysRound$Row;II)V" } : Jvm.MethodName)) ∈ lw_all := lw_g (lw_at lw_m6 234 rfl) rfl
theorem q1547 : (Jvm.Cond.code ({ cls := "NineKeysRound$BooleanRow", name := "copy", desc := "(ILNineKeysRound$Row;II)V" } : Jvm.MethodName) prog_2_method_6_code (5 : Nat) (Option.none : Option Jvm.ClassFile.FieldType)) ∈ lw_all := lw_g (lw_at lw_m6 235 rfl) rfl
theorem q1548 : (Jvm.Cond.classLink "NineKeysRound$BooleanRow" (8 : Nat) "NineKeysRound$BooleanRow") ∈ lw_all := lw_g (lw_at lw_m6 236 rfl) rfl
theorem q1549 : (Jvm.Cond.methodLink "NineKeysRound$BooleanRow" (13 : Nat) ({ cls := "java/lang/System", name := "arraycopy", desc := "(Ljava/lang/Object;ILjava/lang/Object;II)V" } : Jvm.MethodName)) ∈ lw_all := lw_g (lw_at lw_m6 237 rfl) rfl
theorem q2254 : (Jvm.Cond.castable "NineKeysRound$BooleanRow" "NineKeysRound$Row") ∈ lw_tbl := lw_at lw_m9 222 rfl
theorem q2278 : (Jvm.Cond.castable "NineKeysRound$BooleanRow" "NineKeysRound$Held") ∈ lw_tbl := lw_at lw_m10 6 rfl
theorem in_X27 : ∀ w ∈ wsX270, w ∈ lw_all := lw_in wsX270 [1493] (by decide +kernel) (by decide +kernel)
/-! java/lang/Object -/
set_option maxRecDepth 100000
def RJ15 : String := "java/lang/Object"
abbrev cJ15_init : ByteArray := object_method_1_code
def yJ15_init : MethodName := ⟨RJ15, "<init>", "()V"⟩
theorem dJ15_init_0 : decode cJ15_init 0 = .ok (.return_, 1) := by decide +kernel
theorem q163 : (Jvm.Cond.instanceMethod ({ cls := "java/lang/Object", name := "<init>", desc := "()V" } : Jvm.MethodName)) ∈ lw_all := lw_g (lw_at lw_m1 51 rfl) rfl
theorem q164 : (Jvm.Cond.code ({ cls := "java/lang/Object", name := "<init>", desc := "()V" } : Jvm.MethodName) object_method_1_code (1 : Nat) (Option.none : Option Jvm.ClassFile.FieldType)) ∈ lw_all := lw_g (lw_at lw_m1 52 rfl) rfl
theorem q166 : (Jvm.Cond.arrayOver (Jvm.ClassFile.FieldType.object "NineKeysRound$Post")) ∈ lw_tbl := lw_at lw_m1 54 rfl
set_option maxRecDepth 100000
theorem q168 : (Jvm.Cond.arrayOver (Jvm.ClassFile.FieldType.object "NineKeysRound$Change")) ∈ lw_tbl := lw_at lw_m1 56 rfl
theorem q181 : (Jvm.Cond.arrayClass Jvm.ClassFile.FieldType.byte) ∈ lw_all := lw_g (lw_at lw_m1 69 rfl) rfl
theorem q182 : (Jvm.Cond.arrayClass Jvm.ClassFile.FieldType.int) ∈ lw_all := lw_g (lw_at lw_m1 70 rfl) rfl
theorem q184 : (Jvm.Cond.arrayOver (Jvm.ClassFile.FieldType.object "NineKeysRound$Key")) ∈ lw_tbl := lw_at lw_m1 72 rfl
theorem q186 : (Jvm.Cond.arrayOver (Jvm.ClassFile.FieldType.object "NineKeysRound$Held")) ∈ lw_tbl := lw_at lw_m1 74 rfl
theorem q337 : (Jvm.Cond.arrayClass Jvm.ClassFile.FieldType.boolean) ∈ lw_all := lw_g (lw_at lw_m1 225 rfl) rfl
theorem q1464 : (Jvm.Cond.arrayClass Jvm.ClassFile.FieldType.short) ∈ lw_all := lw_g (lw_at lw_m6 152 rfl) rfl
theorem q1485 : (Jvm.Cond.arrayClass Jvm.ClassFile.FieldType.long) ∈ lw_all := lw_g (lw_at lw_m6 173 rfl) rfl
theorem q112 : (Jvm.Cond.initialized "NineKeysRoundLaw") ∈ lw_all := lw_g (lw_at lw_m1 0 rfl) rfl
set_option maxRecDepth 100000
theorem q157 : (Jvm.Cond.classLink "NineKeysRoundLaw" (7 : Nat) "NineKeysRound") ∈ lw_all := lw_g (lw_at lw_m1 45 rfl) rfl
theorem q159 : (Jvm.Cond.methodLink "NineKeysRoundLaw" (9 : Nat) ({ cls := "NineKeysRound", name := "<init>", desc := "()V" } : Jvm.MethodName)) ∈ lw_all := lw_g (lw_at lw_m1 47 rfl) rfl
theorem q338 : (Jvm.Cond.methodLink "NineKeysRoundLaw" (13 : Nat) ({ cls := "NineKeysRound", name := "post", desc := "(I)I" } : Jvm.MethodName)) ∈ lw_all := lw_g (lw_at lw_m1 226 rfl) rfl
theorem q377 : (Jvm.Cond.methodLink "NineKeysRoundLaw" (18 : Nat) ({ cls := "NineKeysRound", name := "posts", desc := "(III)I" } : Jvm.MethodName)) ∈ lw_all := lw_g (lw_at lw_m2 25 rfl) rfl
theorem q517 : (Jvm.Cond.methodLink "NineKeysRoundLaw" (150 : Nat) ({ cls := "NineKeysRound", name := "undo", desc := "()I" } : Jvm.MethodName)) ∈ lw_all := lw_g (lw_at lw_m2 165 rfl) rfl
theorem q525 : (Jvm.Cond.methodLink "NineKeysRoundLaw" (154 : Nat) ({ cls := "NineKeysRound", name := "redo", desc := "()I" } : Jvm.MethodName)) ∈ lw_all := lw_g (lw_at lw_m2 173 rfl) rfl
theorem q529 : (Jvm.Cond.methodLink "NineKeysRoundLaw" (23 : Nat) ({ cls := "NineKeysRound", name := "mend", desc := "(III)I" } : Jvm.MethodName)) ∈ lw_all := lw_g (lw_at lw_m2 177 rfl) rfl
theorem q574 : (Jvm.Cond.methodLink "NineKeysRoundLaw" (27 : Nat) ({ cls := "NineKeysRound", name := "of", desc := "(II)I" } : Jvm.MethodName)) ∈ lw_all := lw_g (lw_at lw_m2 222 rfl) rfl
theorem q578 : (Jvm.Cond.methodLink "NineKeysRoundLaw" (32 : Nat) ({ cls := "NineKeysRound", name := "feed", desc := "(I)I" } : Jvm.MethodName)) ∈ lw_all := lw_g (lw_at lw_m2 226 rfl) rfl
theorem q582 : (Jvm.Cond.methodLink "NineKeysRoundLaw" (36 : Nat) ({ cls := "NineKeysRound", name := "law", desc := "()I" } : Jvm.MethodName)) ∈ lw_all := lw_g (lw_at lw_m2 230 rfl) rfl
theorem q827 : (Jvm.Cond.methodLink "NineKeysRoundLaw" (41 : Nat) ({ cls := "NineKeysRound", name := "round", desc := "(II)I" } : Jvm.MethodName)) ∈ lw_all := lw_g (lw_at lw_m3 235 rfl) rfl
theorem q862 : (Jvm.Cond.methodLink "NineKeysRoundLaw" (45 : Nat) ({ cls := "NineKeysRound", name := "first", desc := "(II)I" } : Jvm.MethodName)) ∈ lw_all := lw_g (lw_at lw_m4 30 rfl) rfl
theorem q883 : (Jvm.Cond.methodLink "NineKeysRoundLaw" (49 : Nat) ({ cls := "NineKeysRound", name := "by", desc := "(III)I" } : Jvm.MethodName)) ∈ lw_all := lw_g (lw_at lw_m4 51 rfl) rfl
theorem q890 : (Jvm.Cond.methodLink "NineKeysRoundLaw" (53 : Nat) ({ cls := "NineKeysRound", name := "unseen", desc := "(IIII)I" } : Jvm.MethodName)) ∈ lw_all := lw_g (lw_at lw_m4 58 rfl) rfl
theorem q903 : (Jvm.Cond.methodLink "NineKeysRoundLaw" (58 : Nat) ({ cls := "NineKeysRound", name := "lost", desc := "(IIII)I" } : Jvm.MethodName)) ∈ lw_all := lw_g (lw_at lw_m4 71 rfl) rfl
theorem q948 : (Jvm.Cond.methodLink "NineKeysRoundLaw" (62 : Nat) ({ cls := "NineKeysRound", name := "red", desc := "(II)I" } : Jvm.MethodName)) ∈ lw_all := lw_g (lw_at lw_m4 116 rfl) rfl
theorem q952 : (Jvm.Cond.methodLink "NineKeysRoundLaw" (66 : Nat) ({ cls := "NineKeysRound", name := "gap", desc := "(II)I" } : Jvm.MethodName)) ∈ lw_all := lw_g (lw_at lw_m4 120 rfl) rfl
theorem q964 : (Jvm.Cond.methodLink "NineKeysRoundLaw" (70 : Nat) ({ cls := "NineKeysRound", name := "late", desc := "(I)I" } : Jvm.MethodName)) ∈ lw_all := lw_g (lw_at lw_m4 132 rfl) rfl
theorem q968 : (Jvm.Cond.methodLink "NineKeysRoundLaw" (74 : Nat) ({ cls := "NineKeysRound", name := "shortest", desc := "(II)I" } : Jvm.MethodName)) ∈ lw_all := lw_g (lw_at lw_m4 136 rfl) rfl
theorem q993 : (Jvm.Cond.methodLink "NineKeysRoundLaw" (78 : Nat) ({ cls := "NineKeysRound", name := "leftOut", desc := "(II)I" } : Jvm.MethodName)) ∈ lw_all := lw_g (lw_at lw_m4 161 rfl) rfl
theorem q997 : (Jvm.Cond.methodLink "NineKeysRoundLaw" (82 : Nat) ({ cls := "NineKeysRound", name := "thief", desc := "(IIII)I" } : Jvm.MethodName)) ∈ lw_all := lw_g (lw_at lw_m4 165 rfl) rfl
theorem q1008 : (Jvm.Cond.methodLink "NineKeysRoundLaw" (86 : Nat) ({ cls := "NineKeysRound", name := "safe", desc := "(II)I" } : Jvm.MethodName)) ∈ lw_all := lw_g (lw_at lw_m4 176 rfl) rfl
theorem q1012 : (Jvm.Cond.methodLink "NineKeysRoundLaw" (90 : Nat) ({ cls := "NineKeysRound", name := "two", desc := "(III)I" } : Jvm.MethodName)) ∈ lw_all := lw_g (lw_at lw_m4 180 rfl) rfl
theorem q1028 : (Jvm.Cond.methodLink "NineKeysRoundLaw" (94 : Nat) ({ cls := "NineKeysRound", name := "success", desc := "(IIII)I" } : Jvm.MethodName)) ∈ lw_all := lw_g (lw_at lw_m4 196 rfl) rfl
theorem q1050 : (Jvm.Cond.methodLink "NineKeysRoundLaw" (98 : Nat) ({ cls := "NineKeysRound", name := "bestMinute", desc := "(IIII)I" } : Jvm.MethodName)) ∈ lw_all := lw_g (lw_at lw_m4 218 rfl) rfl
theorem q1058 : (Jvm.Cond.methodLink "NineKeysRoundLaw" (102 : Nat) ({ cls := "NineKeysRound", name := "mix", desc := "(III)I" } : Jvm.MethodName)) ∈ lw_all := lw_g (lw_at lw_m4 226 rfl) rfl
theorem q1062 : (Jvm.Cond.methodLink "NineKeysRoundLaw" (106 : Nat) ({ cls := "NineKeysRound", name := "paper", desc := "(II)I" } : Jvm.MethodName)) ∈ lw_all := lw_g (lw_at lw_m4 230 rfl) rfl
theorem q1096 : (Jvm.Cond.methodLink "NineKeysRoundLaw" (110 : Nat) ({ cls := "NineKeysRound", name := "which", desc := "(I)I" } : Jvm.MethodName)) ∈ lw_all := lw_g (lw_at lw_m5 24 rfl) rfl
theorem q1104 : (Jvm.Cond.methodLink "NineKeysRoundLaw" (114 : Nat) ({ cls := "NineKeysRound", name := "fit", desc := "(II)I" } : Jvm.MethodName)) ∈ lw_all := lw_g (lw_at lw_m5 32 rfl) rfl
theorem q1112 : (Jvm.Cond.methodLink "NineKeysRoundLaw" (118 : Nat) ({ cls := "NineKeysRound", name := "hang", desc := "(II)I" } : Jvm.MethodName)) ∈ lw_all := lw_g (lw_at lw_m5 40 rfl) rfl
theorem q1121 : (Jvm.Cond.methodLink "NineKeysRoundLaw" (122 : Nat) ({ cls := "NineKeysRound", name := "drawn", desc := "(III)I" } : Jvm.MethodName)) ∈ lw_all := lw_g (lw_at lw_m5 49 rfl) rfl
theorem q1130 : (Jvm.Cond.methodLink "NineKeysRoundLaw" (126 : Nat) ({ cls := "NineKeysRound", name := "walk", desc := "(I)I" } : Jvm.MethodName)) ∈ lw_all := lw_g (lw_at lw_m5 58 rfl) rfl
theorem q1134 : (Jvm.Cond.methodLink "NineKeysRoundLaw" (130 : Nat) ({ cls := "NineKeysRound", name := "waits", desc := "(I)I" } : Jvm.MethodName)) ∈ lw_all := lw_g (lw_at lw_m5 62 rfl) rfl
theorem q1138 : (Jvm.Cond.methodLink "NineKeysRoundLaw" (134 : Nat) ({ cls := "NineKeysRound", name := "home", desc := "()I" } : Jvm.MethodName)) ∈ lw_all := lw_g (lw_at lw_m5 66 rfl) rfl
theorem q1142 : (Jvm.Cond.methodLink "NineKeysRoundLaw" (138 : Nat) ({ cls := "NineKeysRound", name := "led", desc := "(I)I" } : Jvm.MethodName)) ∈ lw_all := lw_g (lw_at lw_m5 70 rfl) rfl
theorem q1146 : (Jvm.Cond.methodLink "NineKeysRoundLaw" (142 : Nat) ({ cls := "NineKeysRound", name := "image", desc := "()I" } : Jvm.MethodName)) ∈ lw_all := lw_g (lw_at lw_m5 74 rfl) rfl
theorem q1150 : (Jvm.Cond.methodLink "NineKeysRoundLaw" (146 : Nat) ({ cls := "NineKeysRound", name := "back", desc := "()I" } : Jvm.MethodName)) ∈ lw_all := lw_g (lw_at lw_m5 78 rfl) rfl
theorem q1154 : (Jvm.Cond.methodLink "NineKeysRoundLaw" (158 : Nat) ({ cls := "NineKeysRound", name := "body", desc := "(I)I" } : Jvm.MethodName)) ∈ lw_all := lw_g (lw_at lw_m5 82 rfl) rfl
theorem q1267 : (Jvm.Cond.methodLink "NineKeysRoundLaw" (162 : Nat) ({ cls := "NineKeysRound", name := "act", desc := "(III)I" } : Jvm.MethodName)) ∈ lw_all := lw_g (lw_at lw_m5 195 rfl) rfl
theorem q1414 : (Jvm.Cond.methodLink "NineKeysRoundLaw" (166 : Nat) ({ cls := "NineKeysRound", name := "trace", desc := "(I)I" } : Jvm.MethodName)) ∈ lw_all := lw_g (lw_at lw_m6 102 rfl) rfl
theorem q1418 : (Jvm.Cond.methodLink "NineKeysRoundLaw" (170 : Nat) ({ cls := "NineKeysRound", name := "keep", desc := "(II)I" } : Jvm.MethodName)) ∈ lw_all := lw_g (lw_at lw_m6 106 rfl) rfl
theorem q1422 : (Jvm.Cond.methodLink "NineKeysRoundLaw" (174 : Nat) ({ cls := "NineKeysRound", name := "row", desc := "(III)I" } : Jvm.MethodName)) ∈ lw_all := lw_g (lw_at lw_m6 110 rfl) rfl
theorem q1496 : (Jvm.Cond.methodLink "NineKeysRoundLaw" (180 : Nat) ({ cls := "NineKeysRound", name := "put", desc := "(IIJ)I" } : Jvm.MethodName)) ∈ lw_all := lw_g (lw_at lw_m6 184 rfl) rfl
theorem q1519 : (Jvm.Cond.methodLink "NineKeysRoundLaw" (185 : Nat) ({ cls := "NineKeysRound", name := "element", desc := "(II)J" } : Jvm.MethodName)) ∈ lw_all := lw_g (lw_at lw_m6 207 rfl) rfl
theorem q1538 : (Jvm.Cond.methodLink "NineKeysRoundLaw" (190 : Nat) ({ cls := "NineKeysRound", name := "shift", desc := "(IIIII)I" } : Jvm.MethodName)) ∈ lw_all := lw_g (lw_at lw_m6 226 rfl) rfl
theorem q1572 : (Jvm.Cond.methodLink "NineKeysRoundLaw" (195 : Nat) ({ cls := "NineKeysRound", name := "taken", desc := "(II)I" } : Jvm.MethodName)) ∈ lw_all := lw_g (lw_at lw_m7 20 rfl) rfl
theorem q1627 : (Jvm.Cond.methodLink "NineKeysRoundLaw" (199 : Nat) ({ cls := "NineKeysRound", name := "count", desc := "(I)I" } : Jvm.MethodName)) ∈ lw_all := lw_g (lw_at lw_m7 75 rfl) rfl
theorem q1631 : (Jvm.Cond.classLink "NineKeysRoundLaw" (10 : Nat) "NineKeysRoundModel") ∈ lw_all := lw_g (lw_at lw_m7 79 rfl) rfl
theorem q1633 : (Jvm.Cond.methodLink "NineKeysRoundLaw" (12 : Nat) ({ cls := "NineKeysRoundModel", name := "<init>", desc := "()V" } : Jvm.MethodName)) ∈ lw_all := lw_g (lw_at lw_m7 81 rfl) rfl
theorem q1800 : (Jvm.Cond.methodLink "NineKeysRoundLaw" (17 : Nat) ({ cls := "NineKeysRoundModel", name := "post", desc := "(I)I" } : Jvm.MethodName)) ∈ lw_all := lw_g (lw_at lw_m8 8 rfl) rfl
theorem q1808 : (Jvm.Cond.methodLink "NineKeysRoundLaw" (22 : Nat) ({ cls := "NineKeysRoundModel", name := "posts", desc := "(III)I" } : Jvm.MethodName)) ∈ lw_all := lw_g (lw_at lw_m8 16 rfl) rfl
theorem q1819 : (Jvm.Cond.methodLink "NineKeysRoundLaw" (26 : Nat) ({ cls := "NineKeysRoundModel", name := "mend", desc := "(III)I" } : Jvm.MethodName)) ∈ lw_all := lw_g (lw_at lw_m8 27 rfl) rfl
theorem q1842 : (Jvm.Cond.methodLink "NineKeysRoundLaw" (31 : Nat) ({ cls := "NineKeysRoundModel", name := "of", desc := "(II)I" } : Jvm.MethodName)) ∈ lw_all := lw_g (lw_at lw_m8 50 rfl) rfl
theorem q1846 : (Jvm.Cond.methodLink "NineKeysRoundLaw" (153 : Nat) ({ cls := "NineKeysRoundModel", name := "undo", desc := "()I" } : Jvm.MethodName)) ∈ lw_all := lw_g (lw_at lw_m8 54 rfl) rfl
theorem q1850 : (Jvm.Cond.methodLink "NineKeysRoundLaw" (157 : Nat) ({ cls := "NineKeysRoundModel", name := "redo", desc := "()I" } : Jvm.MethodName)) ∈ lw_all := lw_g (lw_at lw_m8 58 rfl) rfl
theorem q1854 : (Jvm.Cond.methodLink "NineKeysRoundLaw" (35 : Nat) ({ cls := "NineKeysRoundModel", name := "feed", desc := "(I)I" } : Jvm.MethodName)) ∈ lw_all := lw_g (lw_at lw_m8 62 rfl) rfl
theorem q1858 : (Jvm.Cond.methodLink "NineKeysRoundLaw" (40 : Nat) ({ cls := "NineKeysRoundModel", name := "law", desc := "()I" } : Jvm.MethodName)) ∈ lw_all := lw_g (lw_at lw_m8 66 rfl) rfl
theorem q1909 : (Jvm.Cond.methodLink "NineKeysRoundLaw" (44 : Nat) ({ cls := "NineKeysRoundModel", name := "round", desc := "(II)I" } : Jvm.MethodName)) ∈ lw_all := lw_g (lw_at lw_m8 117 rfl) rfl
theorem q1946 : (Jvm.Cond.methodLink "NineKeysRoundLaw" (48 : Nat) ({ cls := "NineKeysRoundModel", name := "first", desc := "(II)I" } : Jvm.MethodName)) ∈ lw_all := lw_g (lw_at lw_m8 154 rfl) rfl
theorem q1954 : (Jvm.Cond.methodLink "NineKeysRoundLaw" (52 : Nat) ({ cls := "NineKeysRoundModel", name := "by", desc := "(III)I" } : Jvm.MethodName)) ∈ lw_all := lw_g (lw_at lw_m8 162 rfl) rfl
theorem q1961 : (Jvm.Cond.methodLink "NineKeysRoundLaw" (57 : Nat) ({ cls := "NineKeysRoundModel", name := "unseen", desc := "(IIII)I" } : Jvm.MethodName)) ∈ lw_all := lw_g (lw_at lw_m8 169 rfl) rfl
theorem q1978 : (Jvm.Cond.methodLink "NineKeysRoundLaw" (61 : Nat) ({ cls := "NineKeysRoundModel", name := "lost", desc := "(IIII)I" } : Jvm.MethodName)) ∈ lw_all := lw_g (lw_at lw_m8 186 rfl) rfl
theorem q1994 : (Jvm.Cond.methodLink "NineKeysRoundLaw" (65 : Nat) ({ cls := "NineKeysRoundModel", name := "red", desc := "(II)I" } : Jvm.MethodName)) ∈ lw_all := lw_g (lw_at lw_m8 202 rfl) rfl
theorem q1998 : (Jvm.Cond.methodLink "NineKeysRoundLaw" (69 : Nat) ({ cls := "NineKeysRoundModel", name := "gap", desc := "(II)I" } : Jvm.MethodName)) ∈ lw_all := lw_g (lw_at lw_m8 206 rfl) rfl
theorem q2006 : (Jvm.Cond.methodLink "NineKeysRoundLaw" (73 : Nat) ({ cls := "NineKeysRoundModel", name := "late", desc := "(I)I" } : Jvm.MethodName)) ∈ lw_all := lw_g (lw_at lw_m8 214 rfl) rfl
theorem q2010 : (Jvm.Cond.methodLink "NineKeysRoundLaw" (77 : Nat) ({ cls := "NineKeysRoundModel", name := "shortest", desc := "(II)I" } : Jvm.MethodName)) ∈ lw_all := lw_g (lw_at lw_m8 218 rfl) rfl
theorem q2035 : (Jvm.Cond.methodLink "NineKeysRoundLaw" (81 : Nat) ({ cls := "NineKeysRoundModel", name := "leftOut", desc := "(II)I" } : Jvm.MethodName)) ∈ lw_all := lw_g (lw_at lw_m9 3 rfl) rfl
theorem q2039 : (Jvm.Cond.methodLink "NineKeysRoundLaw" (85 : Nat) ({ cls := "NineKeysRoundModel", name := "thief", desc := "(IIII)I" } : Jvm.MethodName)) ∈ lw_all := lw_g (lw_at lw_m9 7 rfl) rfl
theorem q2047 : (Jvm.Cond.methodLink "NineKeysRoundLaw" (89 : Nat) ({ cls := "NineKeysRoundModel", name := "safe", desc := "(II)I" } : Jvm.MethodName)) ∈ lw_all := lw_g (lw_at lw_m9 15 rfl) rfl
theorem q2051 : (Jvm.Cond.methodLink "NineKeysRoundLaw" (93 : Nat) ({ cls := "NineKeysRoundModel", name := "two", desc := "(III)I" } : Jvm.MethodName)) ∈ lw_all := lw_g (lw_at lw_m9 19 rfl) rfl
theorem q2063 : (Jvm.Cond.methodLink "NineKeysRoundLaw" (97 : Nat) ({ cls := "NineKeysRoundModel", name := "success", desc := "(IIII)I" } : Jvm.MethodName)) ∈ lw_all := lw_g (lw_at lw_m9 31 rfl) rfl
theorem q2086 : (Jvm.Cond.methodLink "NineKeysRoundLaw" (101 : Nat) ({ cls := "NineKeysRoundModel", name := "bestMinute", desc := "(IIII)I" } : Jvm.MethodName)) ∈ lw_all := lw_g (lw_at lw_m9 54 rfl) rfl
theorem q2094 : (Jvm.Cond.methodLink "NineKeysRoundLaw" (105 : Nat) ({ cls := "NineKeysRoundModel", name := "mix", desc := "(III)I" } : Jvm.MethodName)) ∈ lw_all := lw_g (lw_at lw_m9 62 rfl) rfl
theorem q2098 : (Jvm.Cond.methodLink "NineKeysRoundLaw" (109 : Nat) ({ cls := "NineKeysRoundModel", name := "paper", desc := "(II)I" } : Jvm.MethodName)) ∈ lw_all := lw_g (lw_at lw_m9 66 rfl) rfl
theorem q2106 : (Jvm.Cond.methodLink "NineKeysRoundLaw" (113 : Nat) ({ cls := "NineKeysRoundModel", name := "which", desc := "(I)I" } : Jvm.MethodName)) ∈ lw_all := lw_g (lw_at lw_m9 74 rfl) rfl
theorem q2114 : (Jvm.Cond.methodLink "NineKeysRoundLaw" (117 : Nat) ({ cls := "NineKeysRoundModel", name := "fit", desc := "(II)I" } : Jvm.MethodName)) ∈ lw_all := lw_g (lw_at lw_m9 82 rfl) rfl
theorem q2118 : (Jvm.Cond.methodLink "NineKeysRoundLaw" (121 : Nat) ({ cls := "NineKeysRoundModel", name := "hang", desc := "(II)I" } : Jvm.MethodName)) ∈ lw_all := lw_g (lw_at lw_m9 86 rfl) rfl
theorem q2130 : (Jvm.Cond.methodLink "NineKeysRoundLaw" (125 : Nat) ({ cls := "NineKeysRoundModel", name := "drawn", desc := "(III)I" } : Jvm.MethodName)) ∈ lw_all := lw_g (lw_at lw_m9 98 rfl) rfl
theorem q2135 : (Jvm.Cond.methodLink "NineKeysRoundLaw" (129 : Nat) ({ cls := "NineKeysRoundModel", name := "walk", desc := "(I)I" } : Jvm.MethodName)) ∈ lw_all := lw_g (lw_at lw_m9 103 rfl) rfl
theorem q2139 : (Jvm.Cond.methodLink "NineKeysRoundLaw" (133 : Nat) ({ cls := "NineKeysRoundModel", name := "waits", desc := "(I)I" } : Jvm.MethodName)) ∈ lw_all := lw_g (lw_at lw_m9 107 rfl) rfl
theorem q2143 : (Jvm.Cond.methodLink "NineKeysRoundLaw" (137 : Nat) ({ cls := "NineKeysRoundModel", name := "home", desc := "()I" } : Jvm.MethodName)) ∈ lw_all := lw_g (lw_at lw_m9 111 rfl) rfl
theorem q2147 : (Jvm.Cond.methodLink "NineKeysRoundLaw" (141 : Nat) ({ cls := "NineKeysRoundModel", name := "led", desc := "(I)I" } : Jvm.MethodName)) ∈ lw_all := lw_g (lw_at lw_m9 115 rfl) rfl
theorem q2151 : (Jvm.Cond.methodLink "NineKeysRoundLaw" (145 : Nat) ({ cls := "NineKeysRoundModel", name := "image", desc := "()I" } : Jvm.MethodName)) ∈ lw_all := lw_g (lw_at lw_m9 119 rfl) rfl
theorem q2155 : (Jvm.Cond.methodLink "NineKeysRoundLaw" (149 : Nat) ({ cls := "NineKeysRoundModel", name := "back", desc := "()I" } : Jvm.MethodName)) ∈ lw_all := lw_g (lw_at lw_m9 123 rfl) rfl
theorem q2159 : (Jvm.Cond.methodLink "NineKeysRoundLaw" (161 : Nat) ({ cls := "NineKeysRoundModel", name := "body", desc := "(I)I" } : Jvm.MethodName)) ∈ lw_all := lw_g (lw_at lw_m9 127 rfl) rfl
theorem q2163 : (Jvm.Cond.methodLink "NineKeysRoundLaw" (165 : Nat) ({ cls := "NineKeysRoundModel", name := "act", desc := "(III)I" } : Jvm.MethodName)) ∈ lw_all := lw_g (lw_at lw_m9 131 rfl) rfl
theorem q2190 : (Jvm.Cond.methodLink "NineKeysRoundLaw" (169 : Nat) ({ cls := "NineKeysRoundModel", name := "trace", desc := "(I)I" } : Jvm.MethodName)) ∈ lw_all := lw_g (lw_at lw_m9 158 rfl) rfl
theorem q2194 : (Jvm.Cond.methodLink "NineKeysRoundLaw" (173 : Nat) ({ cls := "NineKeysRoundModel", name := "keep", desc := "(II)I" } : Jvm.MethodName)) ∈ lw_all := lw_g (lw_at lw_m9 162 rfl) rfl
theorem q2198 : (Jvm.Cond.methodLink "NineKeysRoundLaw" (177 : Nat) ({ cls := "NineKeysRoundModel", name := "row", desc := "(III)I" } : Jvm.MethodName)) ∈ lw_all := lw_g (lw_at lw_m9 166 rfl) rfl
theorem q2202 : (Jvm.Cond.methodLink "NineKeysRoundLaw" (184 : Nat) ({ cls := "NineKeysRoundModel", name := "put", desc := "(IIJ)I" } : Jvm.MethodName)) ∈ lw_all := lw_g (lw_at lw_m9 170 rfl) rfl
theorem q2213 : (Jvm.Cond.methodLink "NineKeysRoundLaw" (189 : Nat) ({ cls := "NineKeysRoundModel", name := "element", desc := "(II)J" } : Jvm.MethodName)) ∈ lw_all := lw_g (lw_at lw_m9 181 rfl) rfl
theorem q2218 : (Jvm.Cond.methodLink "NineKeysRoundLaw" (194 : Nat) ({ cls := "NineKeysRoundModel", name := "shift", desc := "(IIIII)I" } : Jvm.MethodName)) ∈ lw_all := lw_g (lw_at lw_m9 186 rfl) rfl
theorem q2222 : (Jvm.Cond.methodLink "NineKeysRoundLaw" (198 : Nat) ({ cls := "NineKeysRoundModel", name := "taken", desc := "(II)I" } : Jvm.MethodName)) ∈ lw_all := lw_g (lw_at lw_m9 190 rfl) rfl
theorem q2226 : (Jvm.Cond.methodLink "NineKeysRoundLaw" (202 : Nat) ({ cls := "NineKeysRoundModel", name := "count", desc := "(I)I" } : Jvm.MethodName)) ∈ lw_all := lw_g (lw_at lw_m9 194 rfl) rfl
theorem q2230 : (Jvm.Cond.constantLong "NineKeysRoundLaw" (178 : Nat) (4294967295 : Int64)) ∈ lw_all := lw_g (lw_at lw_m9 198 rfl) rfl
theorem q156 : (Jvm.Cond.initialized "java/lang/System") ∈ lw_all := lw_g (lw_at lw_m1 44 rfl) rfl
set_option maxRecDepth 100000
theorem q1550 : (Jvm.Cond.static ({ cls := "java/lang/System", name := "arraycopy", desc := "(Ljava/lang/Object;ILjava/lang/Object;II)V" } : Jvm.MethodName)) ∈ lw_all := lw_g (lw_at lw_m6 238 rfl) rfl
theorem q1551 : (Jvm.Cond.native ({ cls := "java/lang/System", name := "arraycopy", desc := "(Ljava/lang/Object;ILjava/lang/Object;II)V" } : Jvm.MethodName)) ∈ lw_all := lw_g (lw_at lw_m6 239 rfl) rfl
theorem q1277 : (Jvm.Cond.interfaceMethod "NineKeysRound$Turns" "NineKeysRound$Turns" "turnsIn" "(I)I") ∈ lw_tbl := lw_at lw_m5 205 rfl
set_option maxRecDepth 100000
theorem q1278 : (Jvm.Cond.declares ({ cls := "NineKeysRound$Turns", name := "turnsIn", desc := "(I)I" } : Jvm.MethodName)) ∈ lw_tbl := lw_at lw_m5 206 rfl
theorem q1322 : (Jvm.Cond.interfaceMethod "NineKeysRound$Tells" "NineKeysRound$Tells" "tells" "(I)I") ∈ lw_tbl := lw_at lw_m6 10 rfl
set_option maxRecDepth 100000
theorem q1323 : (Jvm.Cond.declares ({ cls := "NineKeysRound$Tells", name := "tells", desc := "(I)I" } : Jvm.MethodName)) ∈ lw_tbl := lw_at lw_m6 11 rfl
