/-! NineKeysRound -/
set_option maxRecDepth 100000
def RX0 : String := "NineKeysRound"
def TX0 : u_T := fun k => match k with
  | 0 => ("NineKeysRound", "posts", "[LNineKeysRound$Post;", true)
  | 1 => ("NineKeysRound", "many", "I", false)
  | 2 => ("NineKeysRound", "gateX", "I", false)
  | 3 => ("NineKeysRound", "gateY", "I", false)
  | 4 => ("NineKeysRound", "pace", "I", false)
  | 5 => ("NineKeysRound", "stand", "I", false)
  | 6 => ("NineKeysRound", "changes", "[LNineKeysRound$Change;", true)
  | 7 => ("NineKeysRound", "doneMany", "I", false)
  | 8 => ("NineKeysRound", "undoneMany", "I", false)
  | 9 => ("NineKeysRound", "tape", "[B", true)
  | 10 => ("NineKeysRound", "taped", "I", false)
  | 11 => ("NineKeysRound", "law", "LNineKeysRound$Line;", false)
  | 12 => ("NineKeysRound", "facts", "LNineKeysRound$Facts;", true)
  | 13 => ("NineKeysRound", "goes", "[I", true)
  | 14 => ("NineKeysRound", "dentPost", "[I", true)
  | 15 => ("NineKeysRound", "dentAt", "[I", true)
  | 16 => ("NineKeysRound", "long0", "I", false)
  | 17 => ("NineKeysRound", "dentMany", "I", false)
  | 18 => ("NineKeysRound", "order", "[I", true)
  | 19 => ("NineKeysRound", "bestOrder", "[I", true)
  | 20 => ("NineKeysRound", "bestMinutes", "I", false)
  | 21 => ("NineKeysRound", "mine", "[I", true)
  | 22 => ("NineKeysRound", "mineMany", "I", false)
  | 23 => ("NineKeysRound", "seenForth", "[Z", true)
  | 24 => ("NineKeysRound", "seenBack", "[Z", true)
  | 25 => ("NineKeysRound", "told", "[I", true)
  | 26 => ("NineKeysRound", "toldMany", "I", false)
  | 27 => ("NineKeysRound", "fitMany", "I", false)
  | 28 => ("NineKeysRound", "atPost", "I", false)
  | 29 => ("NineKeysRound", "isAt", "I", false)
  | 30 => ("NineKeysRound", "now", "I", false)
  | 31 => ("NineKeysRound", "ledWalked", "I", false)
  | 32 => ("NineKeysRound", "ledDents", "I", false)
  | 33 => ("NineKeysRound", "ledStood", "I", false)
  | 34 => ("NineKeysRound", "ledWaited", "I", false)
  | 35 => ("NineKeysRound", "hasImage", "Z", false)
  | 36 => ("NineKeysRound", "keptDents", "[I", true)
  | 37 => ("NineKeysRound", "keptMany", "I", false)
  | 38 => ("NineKeysRound", "keptAt", "I", false)
  | 39 => ("NineKeysRound", "keptNow", "I", false)
  | 40 => ("NineKeysRound", "keptWalked", "I", false)
  | 41 => ("NineKeysRound", "keptLed", "I", false)
  | 42 => ("NineKeysRound", "keptStood", "I", false)
  | 43 => ("NineKeysRound", "keptWaited", "I", false)
  | 44 => ("NineKeysRound", "traces", "I", false)
  | 45 => ("NineKeysRound", "traced", "[B", true)
  | 46 => ("NineKeysRound", "bodies", "[LNineKeysRound$Key;", true)
  | 47 => ("NineKeysRound", "bodyMany", "I", false)
  | _ => ("NineKeysRound", "shelves", "[LNineKeysRound$Held;", true)
def tyX0 : Nat → FieldType := fun k => match k with
  | 0 => .array (.object "NineKeysRound$Post")
  | 1 => .int
  | 2 => .int
  | 3 => .int
  | 4 => .int
  | 5 => .int
  | 6 => .array (.object "NineKeysRound$Change")
  | 7 => .int
  | 8 => .int
  | 9 => .array .byte
  | 10 => .int
  | 11 => .object "NineKeysRound$Line"
  | 12 => .object "NineKeysRound$Facts"
  | 13 => .array .int
  | 14 => .array .int
  | 15 => .array .int
  | 16 => .int
  | 17 => .int
  | 18 => .array .int
  | 19 => .array .int
  | 20 => .int
  | 21 => .array .int
  | 22 => .int
  | 23 => .array .boolean
  | 24 => .array .boolean
  | 25 => .array .int
  | 26 => .int
  | 27 => .int
  | 28 => .int
  | 29 => .int
  | 30 => .int
  | 31 => .int
  | 32 => .int
  | 33 => .int
  | 34 => .int
  | 35 => .boolean
  | 36 => .array .int
  | 37 => .int
  | 38 => .int
  | 39 => .int
  | 40 => .int
  | 41 => .int
  | 42 => .int
  | 43 => .int
  | 44 => .int
  | 45 => .array .byte
  | 46 => .array (.object "NineKeysRound$Key")
  | 47 => .int
  | _ => .array (.object "NineKeysRound$Held")
abbrev wsX00 : List Cond := u_ws RX0 TX0 49
set_option maxRecDepth 100000 in
theorem nmX0 : ∀ a, a < 49 → ∀ b, b < 49 → a ≠ b → (TX0 a).2.1 ≠ (TX0 b).2.1 := by decide +kernel
set_option maxRecDepth 100000 in
theorem tyX0_ok : ∀ k, k < 49 → parseFieldDescriptor (TX0 k).2.2.1 = some (tyX0 k) := by decide +kernel
abbrev cX0_init : ByteArray := prog_1_method_1_code
def yX0_init : MethodName := ⟨RX0, "<init>", "()V"⟩
def dkwX0_init_7 : List UInt8 := [181, 0, 85, 177]
abbrev dktX0_init_7 : List UInt8 := dkwX0_init_7 ++ []
def dkwX0_init_6 : List UInt8 := [42, 16, 24, 188, 8, 181, 0, 74, 42, 16, 50, 189, 0, 77, 181, 0, 79, 42, 16, 6, 189, 0, 83]
abbrev dktX0_init_6 : List UInt8 := dkwX0_init_6 ++ dktX0_init_7
def dkwX0_init_5 : List UInt8 := [181, 0, 62, 42, 16, 60, 188, 10, 181, 0, 65, 42, 2, 181, 0, 68, 42, 16, 9, 188, 10, 181, 0, 71]
abbrev dktX0_init_5 : List UInt8 := dkwX0_init_5 ++ dktX0_init_6
def dkwX0_init_4 : List UInt8 := [17, 15, 160, 188, 10, 181, 0, 55, 42, 17, 3, 232, 188, 4, 181, 0, 58, 42, 17, 3, 232, 188, 4]
abbrev dktX0_init_4 : List UInt8 := dkwX0_init_4 ++ dktX0_init_5
def dkwX0_init_3 : List UInt8 := [188, 10, 181, 0, 46, 42, 16, 9, 188, 10, 181, 0, 49, 42, 16, 9, 188, 10, 181, 0, 52, 42]
abbrev dktX0_init_3 : List UInt8 := dkwX0_init_3 ++ dktX0_init_4
def dkwX0_init_2 : List UInt8 := [181, 0, 35, 42, 16, 20, 188, 10, 181, 0, 39, 42, 17, 15, 160, 188, 10, 181, 0, 43, 42, 17, 15, 160]
abbrev dktX0_init_2 : List UInt8 := dkwX0_init_2 ++ dktX0_init_3
def dkwX0_init_1 : List UInt8 := [16, 40, 189, 0, 22, 181, 0, 24, 42, 16, 120, 188, 8, 181, 0, 28, 42, 187, 0, 32, 89, 183, 0, 34]
abbrev dktX0_init_1 : List UInt8 := dkwX0_init_1 ++ dktX0_init_2
def dkwX0_init_0 : List UInt8 := [42, 183, 0, 1, 42, 16, 9, 189, 0, 9, 181, 0, 11, 42, 4, 181, 0, 15, 42, 4, 181, 0, 19, 42]
abbrev dktX0_init_0 : List UInt8 := dkwX0_init_0 ++ dktX0_init_1
theorem dksX0_init_0 : cX0_init.data.toList.drop 0 = dktX0_init_0 := by decide +kernel
theorem dksX0_init_1 : cX0_init.data.toList.drop 24 = dktX0_init_1 := dk_seg dksX0_init_0 24 rfl rfl
theorem dksX0_init_2 : cX0_init.data.toList.drop 48 = dktX0_init_2 := dk_seg dksX0_init_1 24 rfl rfl
theorem dksX0_init_3 : cX0_init.data.toList.drop 72 = dktX0_init_3 := dk_seg dksX0_init_2 24 rfl rfl
theorem dksX0_init_4 : cX0_init.data.toList.drop 94 = dktX0_init_4 := dk_seg dksX0_init_3 22 rfl rfl
theorem dksX0_init_5 : cX0_init.data.toList.drop 117 = dktX0_init_5 := dk_seg dksX0_init_4 23 rfl rfl
theorem dksX0_init_6 : cX0_init.data.toList.drop 141 = dktX0_init_6 := dk_seg dksX0_init_5 24 rfl rfl
theorem dksX0_init_7 : cX0_init.data.toList.drop 164 = dktX0_init_7 := dk_seg dksX0_init_6 23 rfl rfl
theorem dX0_init_0 : decode cX0_init 0 = .ok (.aload_n 0, 1) := dk_42 (dk_at dksX0_init_0 0 rfl rfl)
theorem dX0_init_1 : decode cX0_init 1 = .ok (.invokespecial 1, 3) := dk_183 0 1 (dk_at dksX0_init_0 1 rfl rfl)
theorem dX0_init_4 : decode cX0_init 4 = .ok (.aload_n 0, 1) := dk_42 (dk_at dksX0_init_0 4 rfl rfl)
theorem dX0_init_5 : decode cX0_init 5 = .ok (.bipush 9, 2) := dk_16 9 (dk_at dksX0_init_0 5 rfl rfl)
theorem dX0_init_7 : decode cX0_init 7 = .ok (.anewarray 9, 3) := dk_189 0 9 (dk_at dksX0_init_0 7 rfl rfl)
theorem dX0_init_10 : decode cX0_init 10 = .ok (.putfield 11, 3) := dk_181 0 11 (dk_at dksX0_init_0 10 rfl rfl)
theorem dX0_init_13 : decode cX0_init 13 = .ok (.aload_n 0, 1) := dk_42 (dk_at dksX0_init_0 13 rfl rfl)
theorem dX0_init_14 : decode cX0_init 14 = .ok (.iconst 1, 1) := dk_4 (dk_at dksX0_init_0 14 rfl rfl)
theorem dX0_init_15 : decode cX0_init 15 = .ok (.putfield 15, 3) := dk_181 0 15 (dk_at dksX0_init_0 15 rfl rfl)
theorem dX0_init_18 : decode cX0_init 18 = .ok (.aload_n 0, 1) := dk_42 (dk_at dksX0_init_0 18 rfl rfl)
theorem dX0_init_19 : decode cX0_init 19 = .ok (.iconst 1, 1) := dk_4 (dk_at dksX0_init_0 19 rfl rfl)
theorem dX0_init_20 : decode cX0_init 20 = .ok (.putfield 19, 3) := dk_181 0 19 (dk_at dksX0_init_0 20 rfl rfl)
theorem dX0_init_23 : decode cX0_init 23 = .ok (.aload_n 0, 1) := dk_42 (dk_at dksX0_init_0 23 rfl rfl)
theorem dX0_init_24 : decode cX0_init 24 = .ok (.bipush 40, 2) := dk_16 40 (dk_at dksX0_init_1 0 rfl rfl)
theorem dX0_init_26 : decode cX0_init 26 = .ok (.anewarray 22, 3) := dk_189 0 22 (dk_at dksX0_init_1 2 rfl rfl)
theorem dX0_init_29 : decode cX0_init 29 = .ok (.putfield 24, 3) := dk_181 0 24 (dk_at dksX0_init_1 5 rfl rfl)
theorem dX0_init_32 : decode cX0_init 32 = .ok (.aload_n 0, 1) := dk_42 (dk_at dksX0_init_1 8 rfl rfl)
theorem dX0_init_33 : decode cX0_init 33 = .ok (.bipush 120, 2) := dk_16 120 (dk_at dksX0_init_1 9 rfl rfl)
theorem dX0_init_35 : decode cX0_init 35 = .ok (.newarray .byte, 2) := dk_188_8 (dk_at dksX0_init_1 11 rfl rfl)
theorem dX0_init_37 : decode cX0_init 37 = .ok (.putfield 28, 3) := dk_181 0 28 (dk_at dksX0_init_1 13 rfl rfl)
theorem dX0_init_40 : decode cX0_init 40 = .ok (.aload_n 0, 1) := dk_42 (dk_at dksX0_init_1 16 rfl rfl)
theorem dX0_init_41 : decode cX0_init 41 = .ok (.new 32, 3) := dk_187 0 32 (dk_at dksX0_init_1 17 rfl rfl)
theorem dX0_init_44 : decode cX0_init 44 = .ok (.dup, 1) := dk_89 (dk_at dksX0_init_1 20 rfl rfl)
theorem dX0_init_45 : decode cX0_init 45 = .ok (.invokespecial 34, 3) := dk_183 0 34 (dk_at dksX0_init_1 21 rfl rfl)
theorem dX0_init_48 : decode cX0_init 48 = .ok (.putfield 35, 3) := dk_181 0 35 (dk_at dksX0_init_2 0 rfl rfl)
theorem dX0_init_51 : decode cX0_init 51 = .ok (.aload_n 0, 1) := dk_42 (dk_at dksX0_init_2 3 rfl rfl)
theorem dX0_init_52 : decode cX0_init 52 = .ok (.bipush 20, 2) := dk_16 20 (dk_at dksX0_init_2 4 rfl rfl)
theorem dX0_init_54 : decode cX0_init 54 = .ok (.newarray .int, 2) := dk_188_10 (dk_at dksX0_init_2 6 rfl rfl)
theorem dX0_init_56 : decode cX0_init 56 = .ok (.putfield 39, 3) := dk_181 0 39 (dk_at dksX0_init_2 8 rfl rfl)
theorem dX0_init_59 : decode cX0_init 59 = .ok (.aload_n 0, 1) := dk_42 (dk_at dksX0_init_2 11 rfl rfl)
theorem dX0_init_60 : decode cX0_init 60 = .ok (.sipush 4000, 3) := dk_17 15 160 (dk_at dksX0_init_2 12 rfl rfl)
theorem dX0_init_63 : decode cX0_init 63 = .ok (.newarray .int, 2) := dk_188_10 (dk_at dksX0_init_2 15 rfl rfl)
theorem dX0_init_65 : decode cX0_init 65 = .ok (.putfield 43, 3) := dk_181 0 43 (dk_at dksX0_init_2 17 rfl rfl)
theorem dX0_init_68 : decode cX0_init 68 = .ok (.aload_n 0, 1) := dk_42 (dk_at dksX0_init_2 20 rfl rfl)
theorem dX0_init_69 : decode cX0_init 69 = .ok (.sipush 4000, 3) := dk_17 15 160 (dk_at dksX0_init_2 21 rfl rfl)
theorem dX0_init_72 : decode cX0_init 72 = .ok (.newarray .int, 2) := dk_188_10 (dk_at dksX0_init_3 0 rfl rfl)
theorem dX0_init_74 : decode cX0_init 74 = .ok (.putfield 46, 3) := dk_181 0 46 (dk_at dksX0_init_3 2 rfl rfl)
theorem dX0_init_77 : decode cX0_init 77 = .ok (.aload_n 0, 1) := dk_42 (dk_at dksX0_init_3 5 rfl rfl)
theorem dX0_init_78 : decode cX0_init 78 = .ok (.bipush 9, 2) := dk_16 9 (dk_at dksX0_init_3 6 rfl rfl)
theorem dX0_init_80 : decode cX0_init 80 = .ok (.newarray .int, 2) := dk_188_10 (dk_at dksX0_init_3 8 rfl rfl)
theorem dX0_init_82 : decode cX0_init 82 = .ok (.putfield 49, 3) := dk_181 0 49 (dk_at dksX0_init_3 10 rfl rfl)
theorem dX0_init_85 : decode cX0_init 85 = .ok (.aload_n 0, 1) := dk_42 (dk_at dksX0_init_3 13 rfl rfl)
theorem dX0_init_86 : decode cX0_init 86 = .ok (.bipush 9, 2) := dk_16 9 (dk_at dksX0_init_3 14 rfl rfl)
theorem dX0_init_88 : decode cX0_init 88 = .ok (.newarray .int, 2) := dk_188_10 (dk_at dksX0_init_3 16 rfl rfl)
theorem dX0_init_90 : decode cX0_init 90 = .ok (.putfield 52, 3) := dk_181 0 52 (dk_at dksX0_init_3 18 rfl rfl)
theorem dX0_init_93 : decode cX0_init 93 = .ok (.aload_n 0, 1) := dk_42 (dk_at dksX0_init_3 21 rfl rfl)
theorem dX0_init_94 : decode cX0_init 94 = .ok (.sipush 4000, 3) := dk_17 15 160 (dk_at dksX0_init_4 0 rfl rfl)
theorem dX0_init_97 : decode cX0_init 97 = .ok (.newarray .int, 2) := dk_188_10 (dk_at dksX0_init_4 3 rfl rfl)
theorem dX0_init_99 : decode cX0_init 99 = .ok (.putfield 55, 3) := dk_181 0 55 (dk_at dksX0_init_4 5 rfl rfl)
theorem dX0_init_102 : decode cX0_init 102 = .ok (.aload_n 0, 1) := dk_42 (dk_at dksX0_init_4 8 rfl rfl)
theorem dX0_init_103 : decode cX0_init 103 = .ok (.sipush 1000, 3) := dk_17 3 232 (dk_at dksX0_init_4 9 rfl rfl)
theorem dX0_init_106 : decode cX0_init 106 = .ok (.newarray .boolean, 2) := dk_188_4 (dk_at dksX0_init_4 12 rfl rfl)
theorem dX0_init_108 : decode cX0_init 108 = .ok (.putfield 58, 3) := dk_181 0 58 (dk_at dksX0_init_4 14 rfl rfl)
theorem dX0_init_111 : decode cX0_init 111 = .ok (.aload_n 0, 1) := dk_42 (dk_at dksX0_init_4 17 rfl rfl)
theorem dX0_init_112 : decode cX0_init 112 = .ok (.sipush 1000, 3) := dk_17 3 232 (dk_at dksX0_init_4 18 rfl rfl)
theorem dX0_init_115 : decode cX0_init 115 = .ok (.newarray .boolean, 2) := dk_188_4 (dk_at dksX0_init_4 21 rfl rfl)
theorem dX0_init_117 : decode cX0_init 117 = .ok (.putfield 62, 3) := dk_181 0 62 (dk_at dksX0_init_5 0 rfl rfl)
theorem dX0_init_120 : decode cX0_init 120 = .ok (.aload_n 0, 1) := dk_42 (dk_at dksX0_init_5 3 rfl rfl)
theorem dX0_init_121 : decode cX0_init 121 = .ok (.bipush 60, 2) := dk_16 60 (dk_at dksX0_init_5 4 rfl rfl)
theorem dX0_init_123 : decode cX0_init 123 = .ok (.newarray .int, 2) := dk_188_10 (dk_at dksX0_init_5 6 rfl rfl)
theorem dX0_init_125 : decode cX0_init 125 = .ok (.putfield 65, 3) := dk_181 0 65 (dk_at dksX0_init_5 8 rfl rfl)
theorem dX0_init_128 : decode cX0_init 128 = .ok (.aload_n 0, 1) := dk_42 (dk_at dksX0_init_5 11 rfl rfl)
theorem dX0_init_129 : decode cX0_init 129 = .ok (.iconst (-1), 1) := dk_2 (dk_at dksX0_init_5 12 rfl rfl)
theorem dX0_init_130 : decode cX0_init 130 = .ok (.putfield 68, 3) := dk_181 0 68 (dk_at dksX0_init_5 13 rfl rfl)
theorem dX0_init_133 : decode cX0_init 133 = .ok (.aload_n 0, 1) := dk_42 (dk_at dksX0_init_5 16 rfl rfl)
theorem dX0_init_134 : decode cX0_init 134 = .ok (.bipush 9, 2) := dk_16 9 (dk_at dksX0_init_5 17 rfl rfl)
theorem dX0_init_136 : decode cX0_init 136 = .ok (.newarray .int, 2) := dk_188_10 (dk_at dksX0_init_5 19 rfl rfl)
theorem dX0_init_138 : decode cX0_init 138 = .ok (.putfield 71, 3) := dk_181 0 71 (dk_at dksX0_init_5 21 rfl rfl)
theorem dX0_init_141 : decode cX0_init 141 = .ok (.aload_n 0, 1) := dk_42 (dk_at dksX0_init_6 0 rfl rfl)
theorem dX0_init_142 : decode cX0_init 142 = .ok (.bipush 24, 2) := dk_16 24 (dk_at dksX0_init_6 1 rfl rfl)
theorem dX0_init_144 : decode cX0_init 144 = .ok (.newarray .byte, 2) := dk_188_8 (dk_at dksX0_init_6 3 rfl rfl)
theorem dX0_init_146 : decode cX0_init 146 = .ok (.putfield 74, 3) := dk_181 0 74 (dk_at dksX0_init_6 5 rfl rfl)
theorem dX0_init_149 : decode cX0_init 149 = .ok (.aload_n 0, 1) := dk_42 (dk_at dksX0_init_6 8 rfl rfl)
theorem dX0_init_150 : decode cX0_init 150 = .ok (.bipush 50, 2) := dk_16 50 (dk_at dksX0_init_6 9 rfl rfl)
theorem dX0_init_152 : decode cX0_init 152 = .ok (.anewarray 77, 3) := dk_189 0 77 (dk_at dksX0_init_6 11 rfl rfl)
theorem dX0_init_155 : decode cX0_init 155 = .ok (.putfield 79, 3) := dk_181 0 79 (dk_at dksX0_init_6 14 rfl rfl)
theorem dX0_init_158 : decode cX0_init 158 = .ok (.aload_n 0, 1) := dk_42 (dk_at dksX0_init_6 17 rfl rfl)
theorem dX0_init_159 : decode cX0_init 159 = .ok (.bipush 6, 2) := dk_16 6 (dk_at dksX0_init_6 18 rfl rfl)
theorem dX0_init_161 : decode cX0_init 161 = .ok (.anewarray 83, 3) := dk_189 0 83 (dk_at dksX0_init_6 20 rfl rfl)
theorem dX0_init_164 : decode cX0_init 164 = .ok (.putfield 85, 3) := dk_181 0 85 (dk_at dksX0_init_7 0 rfl rfl)
theorem dX0_init_167 : decode cX0_init 167 = .ok (.return_, 1) := dk_177 (dk_at dksX0_init_7 3 rfl rfl)
abbrev cX0_post : ByteArray := prog_1_method_11_code
def yX0_post : MethodName := ⟨RX0, "post", "(I)I"⟩
def dkwX0_post_2 : List UInt8 := [182, 0, 117, 87, 42, 180, 0, 93, 4, 100, 172]
abbrev dktX0_post_2 : List UInt8 := dkwX0_post_2 ++ []
def dkwX0_post_1 : List UInt8 := [2, 172, 42, 180, 0, 93, 16, 9, 160, 0, 6, 16, 253, 172, 42, 27, 16, 100, 112, 27, 16, 100, 108]
abbrev dktX0_post_1 : List UInt8 := dkwX0_post_1 ++ dktX0_post_2
def dkwX0_post_0 : List UInt8 := [27, 155, 0, 23, 27, 16, 100, 108, 184, 0, 113, 153, 0, 13, 27, 16, 100, 112, 184, 0, 113, 154, 0, 5]
abbrev dktX0_post_0 : List UInt8 := dkwX0_post_0 ++ dktX0_post_1
theorem dksX0_post_0 : cX0_post.data.toList.drop 0 = dktX0_post_0 := by decide +kernel
theorem dksX0_post_1 : cX0_post.data.toList.drop 24 = dktX0_post_1 := dk_seg dksX0_post_0 24 rfl rfl
theorem dksX0_post_2 : cX0_post.data.toList.drop 47 = dktX0_post_2 := dk_seg dksX0_post_1 23 rfl rfl
theorem dX0_post_0 : decode cX0_post 0 = .ok (.iload_n 1, 1) := dk_27 (dk_at dksX0_post_0 0 rfl rfl)
theorem dX0_post_1 : decode cX0_post 1 = .ok (.ifCond .lt 23, 3) := dk_155 0 23 (dk_at dksX0_post_0 1 rfl rfl)
theorem dX0_post_4 : decode cX0_post 4 = .ok (.iload_n 1, 1) := dk_27 (dk_at dksX0_post_0 4 rfl rfl)
theorem dX0_post_5 : decode cX0_post 5 = .ok (.bipush 100, 2) := dk_16 100 (dk_at dksX0_post_0 5 rfl rfl)
theorem dX0_post_7 : decode cX0_post 7 = .ok (.idiv, 1) := dk_108 (dk_at dksX0_post_0 7 rfl rfl)
theorem dX0_post_8 : decode cX0_post 8 = .ok (.invokestatic 113, 3) := dk_184 0 113 (dk_at dksX0_post_0 8 rfl rfl)
theorem dX0_post_11 : decode cX0_post 11 = .ok (.ifCond .eq 13, 3) := dk_153 0 13 (dk_at dksX0_post_0 11 rfl rfl)
theorem dX0_post_14 : decode cX0_post 14 = .ok (.iload_n 1, 1) := dk_27 (dk_at dksX0_post_0 14 rfl rfl)
theorem dX0_post_15 : decode cX0_post 15 = .ok (.bipush 100, 2) := dk_16 100 (dk_at dksX0_post_0 15 rfl rfl)
theorem dX0_post_17 : decode cX0_post 17 = .ok (.irem, 1) := dk_112 (dk_at dksX0_post_0 17 rfl rfl)
theorem dX0_post_18 : decode cX0_post 18 = .ok (.invokestatic 113, 3) := dk_184 0 113 (dk_at dksX0_post_0 18 rfl rfl)
theorem dX0_post_21 : decode cX0_post 21 = .ok (.ifCond .ne 5, 3) := dk_154 0 5 (dk_at dksX0_post_0 21 rfl rfl)
theorem dX0_post_24 : decode cX0_post 24 = .ok (.iconst (-1), 1) := dk_2 (dk_at dksX0_post_1 0 rfl rfl)
theorem dX0_post_25 : decode cX0_post 25 = .ok (.ireturn, 1) := dk_172 (dk_at dksX0_post_1 1 rfl rfl)
theorem dX0_post_26 : decode cX0_post 26 = .ok (.aload_n 0, 1) := dk_42 (dk_at dksX0_post_1 2 rfl rfl)
theorem dX0_post_27 : decode cX0_post 27 = .ok (.getfield 93, 3) := dk_180 0 93 (dk_at dksX0_post_1 3 rfl rfl)
theorem dX0_post_30 : decode cX0_post 30 = .ok (.bipush 9, 2) := dk_16 9 (dk_at dksX0_post_1 6 rfl rfl)
theorem dX0_post_32 : decode cX0_post 32 = .ok (.if_icmp .ne 6, 3) := dk_160 0 6 (dk_at dksX0_post_1 8 rfl rfl)
theorem dX0_post_35 : decode cX0_post 35 = .ok (.bipush (-3), 2) := dk_16 253 (dk_at dksX0_post_1 11 rfl rfl)
theorem dX0_post_37 : decode cX0_post 37 = .ok (.ireturn, 1) := dk_172 (dk_at dksX0_post_1 13 rfl rfl)
theorem dX0_post_38 : decode cX0_post 38 = .ok (.aload_n 0, 1) := dk_42 (dk_at dksX0_post_1 14 rfl rfl)
theorem dX0_post_39 : decode cX0_post 39 = .ok (.iload_n 1, 1) := dk_27 (dk_at dksX0_post_1 15 rfl rfl)
theorem dX0_post_40 : decode cX0_post 40 = .ok (.bipush 100, 2) := dk_16 100 (dk_at dksX0_post_1 16 rfl rfl)
theorem dX0_post_42 : decode cX0_post 42 = .ok (.irem, 1) := dk_112 (dk_at dksX0_post_1 18 rfl rfl)
theorem dX0_post_43 : decode cX0_post 43 = .ok (.iload_n 1, 1) := dk_27 (dk_at dksX0_post_1 19 rfl rfl)
theorem dX0_post_44 : decode cX0_post 44 = .ok (.bipush 100, 2) := dk_16 100 (dk_at dksX0_post_1 20 rfl rfl)
theorem dX0_post_46 : decode cX0_post 46 = .ok (.idiv, 1) := dk_108 (dk_at dksX0_post_1 22 rfl rfl)
theorem dX0_post_47 : decode cX0_post 47 = .ok (.invokevirtual 117, 3) := dk_182 0 117 (dk_at dksX0_post_2 0 rfl rfl)
theorem dX0_post_50 : decode cX0_post 50 = .ok (.pop, 1) := dk_87 (dk_at dksX0_post_2 3 rfl rfl)
theorem dX0_post_51 : decode cX0_post 51 = .ok (.aload_n 0, 1) := dk_42 (dk_at dksX0_post_2 4 rfl rfl)
theorem dX0_post_52 : decode cX0_post 52 = .ok (.getfield 93, 3) := dk_180 0 93 (dk_at dksX0_post_2 5 rfl rfl)
theorem dX0_post_55 : decode cX0_post 55 = .ok (.iconst 1, 1) := dk_4 (dk_at dksX0_post_2 8 rfl rfl)
theorem dX0_post_56 : decode cX0_post 56 = .ok (.isub, 1) := dk_100 (dk_at dksX0_post_2 9 rfl rfl)
theorem dX0_post_57 : decode cX0_post 57 = .ok (.ireturn, 1) := dk_172 (dk_at dksX0_post_2 10 rfl rfl)
abbrev cX0_isCell : ByteArray := prog_1_method_4_code
def yX0_isCell : MethodName := ⟨RX0, "isCell", "(I)Z"⟩
def dkwX0_isCell_0 : List UInt8 := [26, 3, 16, 15, 184, 0, 89, 172]
abbrev dktX0_isCell_0 : List UInt8 := dkwX0_isCell_0 ++ []
theorem dksX0_isCell_0 : cX0_isCell.data.toList.drop 0 = dktX0_isCell_0 := by decide +kernel
theorem dX0_isCell_0 : decode cX0_isCell 0 = .ok (.iload_n 0, 1) := dk_26 (dk_at dksX0_isCell_0 0 rfl rfl)
theorem dX0_isCell_1 : decode cX0_isCell 1 = .ok (.iconst 0, 1) := dk_3 (dk_at dksX0_isCell_0 1 rfl rfl)
theorem dX0_isCell_2 : decode cX0_isCell 2 = .ok (.bipush 15, 2) := dk_16 15 (dk_at dksX0_isCell_0 2 rfl rfl)
theorem dX0_isCell_4 : decode cX0_isCell 4 = .ok (.invokestatic 89, 3) := dk_184 0 89 (dk_at dksX0_isCell_0 4 rfl rfl)
theorem dX0_isCell_7 : decode cX0_isCell 7 = .ok (.ireturn, 1) := dk_172 (dk_at dksX0_isCell_0 7 rfl rfl)
abbrev cX0_in : ByteArray := prog_1_method_2_code
def yX0_in : MethodName := ⟨RX0, "in", "(III)Z"⟩
def dkwX0_in_0 : List UInt8 := [26, 27, 161, 0, 12, 26, 28, 163, 0, 7, 4, 167, 0, 4, 3, 172]
abbrev dktX0_in_0 : List UInt8 := dkwX0_in_0 ++ []
theorem dksX0_in_0 : cX0_in.data.toList.drop 0 = dktX0_in_0 := by decide +kernel
theorem dX0_in_0 : decode cX0_in 0 = .ok (.iload_n 0, 1) := dk_26 (dk_at dksX0_in_0 0 rfl rfl)
theorem dX0_in_1 : decode cX0_in 1 = .ok (.iload_n 1, 1) := dk_27 (dk_at dksX0_in_0 1 rfl rfl)
theorem dX0_in_2 : decode cX0_in 2 = .ok (.if_icmp .lt 12, 3) := dk_161 0 12 (dk_at dksX0_in_0 2 rfl rfl)
theorem dX0_in_5 : decode cX0_in 5 = .ok (.iload_n 0, 1) := dk_26 (dk_at dksX0_in_0 5 rfl rfl)
theorem dX0_in_6 : decode cX0_in 6 = .ok (.iload_n 2, 1) := dk_28 (dk_at dksX0_in_0 6 rfl rfl)
theorem dX0_in_7 : decode cX0_in 7 = .ok (.if_icmp .gt 7, 3) := dk_163 0 7 (dk_at dksX0_in_0 7 rfl rfl)
theorem dX0_in_10 : decode cX0_in 10 = .ok (.iconst 1, 1) := dk_4 (dk_at dksX0_in_0 10 rfl rfl)
theorem dX0_in_11 : decode cX0_in 11 = .ok (.goto 4, 3) := dk_167 0 4 (dk_at dksX0_in_0 11 rfl rfl)
theorem dX0_in_14 : decode cX0_in 14 = .ok (.iconst 0, 1) := dk_3 (dk_at dksX0_in_0 14 rfl rfl)
theorem dX0_in_15 : decode cX0_in 15 = .ok (.ireturn, 1) := dk_172 (dk_at dksX0_in_0 15 rfl rfl)
abbrev cX0_addPost : ByteArray := prog_1_method_10_code
def yX0_addPost : MethodName := ⟨RX0, "addPost", "(II)LNineKeysRound$Post;"⟩
def dkwX0_addPost_1 : List UInt8 := [96, 181, 0, 93, 42, 180, 0, 11, 42, 180, 0, 93, 4, 100, 50, 176]
abbrev dktX0_addPost_1 : List UInt8 := dkwX0_addPost_1 ++ []
def dkwX0_addPost_0 : List UInt8 := [42, 180, 0, 11, 42, 180, 0, 93, 187, 0, 9, 89, 27, 28, 183, 0, 110, 83, 42, 89, 180, 0, 93, 4]
abbrev dktX0_addPost_0 : List UInt8 := dkwX0_addPost_0 ++ dktX0_addPost_1
theorem dksX0_addPost_0 : cX0_addPost.data.toList.drop 0 = dktX0_addPost_0 := by decide +kernel
theorem dksX0_addPost_1 : cX0_addPost.data.toList.drop 24 = dktX0_addPost_1 := dk_seg dksX0_addPost_0 24 rfl rfl
theorem dX0_addPost_0 : decode cX0_addPost 0 = .ok (.aload_n 0, 1) := dk_42 (dk_at dksX0_addPost_0 0 rfl rfl)
theorem dX0_addPost_1 : decode cX0_addPost 1 = .ok (.getfield 11, 3) := dk_180 0 11 (dk_at dksX0_addPost_0 1 rfl rfl)
theorem dX0_addPost_4 : decode cX0_addPost 4 = .ok (.aload_n 0, 1) := dk_42 (dk_at dksX0_addPost_0 4 rfl rfl)
theorem dX0_addPost_5 : decode cX0_addPost 5 = .ok (.getfield 93, 3) := dk_180 0 93 (dk_at dksX0_addPost_0 5 rfl rfl)
theorem dX0_addPost_8 : decode cX0_addPost 8 = .ok (.new 9, 3) := dk_187 0 9 (dk_at dksX0_addPost_0 8 rfl rfl)
theorem dX0_addPost_11 : decode cX0_addPost 11 = .ok (.dup, 1) := dk_89 (dk_at dksX0_addPost_0 11 rfl rfl)
theorem dX0_addPost_12 : decode cX0_addPost 12 = .ok (.iload_n 1, 1) := dk_27 (dk_at dksX0_addPost_0 12 rfl rfl)
theorem dX0_addPost_13 : decode cX0_addPost 13 = .ok (.iload_n 2, 1) := dk_28 (dk_at dksX0_addPost_0 13 rfl rfl)
theorem dX0_addPost_14 : decode cX0_addPost 14 = .ok (.invokespecial 110, 3) := dk_183 0 110 (dk_at dksX0_addPost_0 14 rfl rfl)
theorem dX0_addPost_17 : decode cX0_addPost 17 = .ok (.aastore, 1) := dk_83 (dk_at dksX0_addPost_0 17 rfl rfl)
theorem dX0_addPost_18 : decode cX0_addPost 18 = .ok (.aload_n 0, 1) := dk_42 (dk_at dksX0_addPost_0 18 rfl rfl)
theorem dX0_addPost_19 : decode cX0_addPost 19 = .ok (.dup, 1) := dk_89 (dk_at dksX0_addPost_0 19 rfl rfl)
theorem dX0_addPost_20 : decode cX0_addPost 20 = .ok (.getfield 93, 3) := dk_180 0 93 (dk_at dksX0_addPost_0 20 rfl rfl)
theorem dX0_addPost_23 : decode cX0_addPost 23 = .ok (.iconst 1, 1) := dk_4 (dk_at dksX0_addPost_0 23 rfl rfl)
theorem dX0_addPost_24 : decode cX0_addPost 24 = .ok (.iadd, 1) := dk_96 (dk_at dksX0_addPost_1 0 rfl rfl)
theorem dX0_addPost_25 : decode cX0_addPost 25 = .ok (.putfield 93, 3) := dk_181 0 93 (dk_at dksX0_addPost_1 1 rfl rfl)
theorem dX0_addPost_28 : decode cX0_addPost 28 = .ok (.aload_n 0, 1) := dk_42 (dk_at dksX0_addPost_1 4 rfl rfl)
theorem dX0_addPost_29 : decode cX0_addPost 29 = .ok (.getfield 11, 3) := dk_180 0 11 (dk_at dksX0_addPost_1 5 rfl rfl)
theorem dX0_addPost_32 : decode cX0_addPost 32 = .ok (.aload_n 0, 1) := dk_42 (dk_at dksX0_addPost_1 8 rfl rfl)
theorem dX0_addPost_33 : decode cX0_addPost 33 = .ok (.getfield 93, 3) := dk_180 0 93 (dk_at dksX0_addPost_1 9 rfl rfl)
theorem dX0_addPost_36 : decode cX0_addPost 36 = .ok (.iconst 1, 1) := dk_4 (dk_at dksX0_addPost_1 12 rfl rfl)
theorem dX0_addPost_37 : decode cX0_addPost 37 = .ok (.isub, 1) := dk_100 (dk_at dksX0_addPost_1 13 rfl rfl)
theorem dX0_addPost_38 : decode cX0_addPost 38 = .ok (.aaload, 1) := dk_50 (dk_at dksX0_addPost_1 14 rfl rfl)
theorem dX0_addPost_39 : decode cX0_addPost 39 = .ok (.areturn, 1) := dk_176 (dk_at dksX0_addPost_1 15 rfl rfl)
abbrev cX0_posts : ByteArray := prog_1_method_12_code
def yX0_posts : MethodName := ⟨RX0, "posts", "(III)I"⟩
def dkwX0_posts_7 : List UInt8 := [172, 58, 5, 21, 4, 172, 21, 4, 172]
abbrev dktX0_posts_7 : List UInt8 := dkwX0_posts_7 ++ []
def dkwX0_posts_6 : List UInt8 := [181, 0, 130, 132, 4, 1, 132, 6, 1, 167, 255, 146, 167, 0, 18, 58, 5, 16, 244, 172, 58, 5, 21, 4]
abbrev dktX0_posts_6 : List UInt8 := dkwX0_posts_6 ++ dktX0_posts_7
def dkwX0_posts_5 : List UInt8 := [3, 16, 9, 184, 0, 89, 154, 0, 6, 21, 4, 172, 42, 21, 7, 21, 8, 182, 0, 117, 21, 9]
abbrev dktX0_posts_5 : List UInt8 := dkwX0_posts_5 ++ dktX0_posts_6
def dkwX0_posts_4 : List UInt8 := [182, 0, 126, 136, 54, 9, 21, 7, 184, 0, 113, 153, 0, 22, 21, 8, 184, 0, 113, 153, 0, 14, 21, 9]
abbrev dktX0_posts_4 : List UInt8 := dkwX0_posts_4 ++ dktX0_posts_5
def dkwX0_posts_3 : List UInt8 := [21, 6, 104, 96, 4, 96, 182, 0, 126, 136, 54, 8, 25, 5, 28, 6, 21, 6, 104, 96, 5, 96]
abbrev dktX0_posts_3 : List UInt8 := dkwX0_posts_3 ++ dktX0_posts_4
def dkwX0_posts_2 : List UInt8 := [16, 9, 162, 0, 101, 25, 5, 28, 6, 21, 6, 104, 96, 182, 0, 126, 136, 54, 7, 25, 5, 28, 6]
abbrev dktX0_posts_2 : List UInt8 := dkwX0_posts_2 ++ dktX0_posts_3
def dkwX0_posts_1 : List UInt8 := [180, 0, 85, 27, 50, 192, 0, 124, 58, 5, 3, 54, 6, 21, 6, 29, 162, 0, 110, 42, 180, 0, 93]
abbrev dktX0_posts_1 : List UInt8 := dkwX0_posts_1 ++ dktX0_posts_2
def dkwX0_posts_0 : List UInt8 := [27, 184, 0, 121, 153, 0, 13, 29, 4, 16, 9, 184, 0, 89, 154, 0, 5, 2, 172, 3, 54, 4, 42]
abbrev dktX0_posts_0 : List UInt8 := dkwX0_posts_0 ++ dktX0_posts_1
theorem dksX0_posts_0 : cX0_posts.data.toList.drop 0 = dktX0_posts_0 := by decide +kernel
theorem dksX0_posts_1 : cX0_posts.data.toList.drop 23 = dktX0_posts_1 := dk_seg dksX0_posts_0 23 rfl rfl
theorem dksX0_posts_2 : cX0_posts.data.toList.drop 46 = dktX0_posts_2 := dk_seg dksX0_posts_1 23 rfl rfl
theorem dksX0_posts_3 : cX0_posts.data.toList.drop 69 = dktX0_posts_3 := dk_seg dksX0_posts_2 23 rfl rfl
theorem dksX0_posts_4 : cX0_posts.data.toList.drop 91 = dktX0_posts_4 := dk_seg dksX0_posts_3 22 rfl rfl
theorem dksX0_posts_5 : cX0_posts.data.toList.drop 115 = dktX0_posts_5 := dk_seg dksX0_posts_4 24 rfl rfl
theorem dksX0_posts_6 : cX0_posts.data.toList.drop 137 = dktX0_posts_6 := dk_seg dksX0_posts_5 22 rfl rfl
theorem dksX0_posts_7 : cX0_posts.data.toList.drop 161 = dktX0_posts_7 := dk_seg dksX0_posts_6 24 rfl rfl
theorem dX0_posts_0 : decode cX0_posts 0 = .ok (.iload_n 1, 1) := dk_27 (dk_at dksX0_posts_0 0 rfl rfl)
theorem dX0_posts_1 : decode cX0_posts 1 = .ok (.invokestatic 121, 3) := dk_184 0 121 (dk_at dksX0_posts_0 1 rfl rfl)
theorem dX0_posts_4 : decode cX0_posts 4 = .ok (.ifCond .eq 13, 3) := dk_153 0 13 (dk_at dksX0_posts_0 4 rfl rfl)
theorem dX0_posts_7 : decode cX0_posts 7 = .ok (.iload_n 3, 1) := dk_29 (dk_at dksX0_posts_0 7 rfl rfl)
theorem dX0_posts_8 : decode cX0_posts 8 = .ok (.iconst 1, 1) := dk_4 (dk_at dksX0_posts_0 8 rfl rfl)
theorem dX0_posts_9 : decode cX0_posts 9 = .ok (.bipush 9, 2) := dk_16 9 (dk_at dksX0_posts_0 9 rfl rfl)
theorem dX0_posts_11 : decode cX0_posts 11 = .ok (.invokestatic 89, 3) := dk_184 0 89 (dk_at dksX0_posts_0 11 rfl rfl)
theorem dX0_posts_14 : decode cX0_posts 14 = .ok (.ifCond .ne 5, 3) := dk_154 0 5 (dk_at dksX0_posts_0 14 rfl rfl)
theorem dX0_posts_17 : decode cX0_posts 17 = .ok (.iconst (-1), 1) := dk_2 (dk_at dksX0_posts_0 17 rfl rfl)
theorem dX0_posts_18 : decode cX0_posts 18 = .ok (.ireturn, 1) := dk_172 (dk_at dksX0_posts_0 18 rfl rfl)
theorem dX0_posts_19 : decode cX0_posts 19 = .ok (.iconst 0, 1) := dk_3 (dk_at dksX0_posts_0 19 rfl rfl)
theorem dX0_posts_20 : decode cX0_posts 20 = .ok (.istore 4, 2) := dk_54 4 (dk_at dksX0_posts_0 20 rfl rfl)
theorem dX0_posts_22 : decode cX0_posts 22 = .ok (.aload_n 0, 1) := dk_42 (dk_at dksX0_posts_0 22 rfl rfl)
theorem dX0_posts_23 : decode cX0_posts 23 = .ok (.getfield 85, 3) := dk_180 0 85 (dk_at dksX0_posts_1 0 rfl rfl)
theorem dX0_posts_26 : decode cX0_posts 26 = .ok (.iload_n 1, 1) := dk_27 (dk_at dksX0_posts_1 3 rfl rfl)
theorem dX0_posts_27 : decode cX0_posts 27 = .ok (.aaload, 1) := dk_50 (dk_at dksX0_posts_1 4 rfl rfl)
theorem dX0_posts_28 : decode cX0_posts 28 = .ok (.checkcast 124, 3) := dk_192 0 124 (dk_at dksX0_posts_1 5 rfl rfl)
theorem dX0_posts_31 : decode cX0_posts 31 = .ok (.astore 5, 2) := dk_58 5 (dk_at dksX0_posts_1 8 rfl rfl)
theorem dX0_posts_33 : decode cX0_posts 33 = .ok (.iconst 0, 1) := dk_3 (dk_at dksX0_posts_1 10 rfl rfl)
theorem dX0_posts_34 : decode cX0_posts 34 = .ok (.istore 6, 2) := dk_54 6 (dk_at dksX0_posts_1 11 rfl rfl)
theorem dX0_posts_36 : decode cX0_posts 36 = .ok (.iload 6, 2) := dk_21 6 (dk_at dksX0_posts_1 13 rfl rfl)
theorem dX0_posts_38 : decode cX0_posts 38 = .ok (.iload_n 3, 1) := dk_29 (dk_at dksX0_posts_1 15 rfl rfl)
theorem dX0_posts_39 : decode cX0_posts 39 = .ok (.if_icmp .ge 110, 3) := dk_162 0 110 (dk_at dksX0_posts_1 16 rfl rfl)
theorem dX0_posts_42 : decode cX0_posts 42 = .ok (.aload_n 0, 1) := dk_42 (dk_at dksX0_posts_1 19 rfl rfl)
theorem dX0_posts_43 : decode cX0_posts 43 = .ok (.getfield 93, 3) := dk_180 0 93 (dk_at dksX0_posts_1 20 rfl rfl)
theorem dX0_posts_46 : decode cX0_posts 46 = .ok (.bipush 9, 2) := dk_16 9 (dk_at dksX0_posts_2 0 rfl rfl)
theorem dX0_posts_48 : decode cX0_posts 48 = .ok (.if_icmp .ge 101, 3) := dk_162 0 101 (dk_at dksX0_posts_2 2 rfl rfl)
theorem dX0_posts_51 : decode cX0_posts 51 = .ok (.aload 5, 2) := dk_25 5 (dk_at dksX0_posts_2 5 rfl rfl)
theorem dX0_posts_53 : decode cX0_posts 53 = .ok (.iload_n 2, 1) := dk_28 (dk_at dksX0_posts_2 7 rfl rfl)
theorem dX0_posts_54 : decode cX0_posts 54 = .ok (.iconst 3, 1) := dk_6 (dk_at dksX0_posts_2 8 rfl rfl)
theorem dX0_posts_55 : decode cX0_posts 55 = .ok (.iload 6, 2) := dk_21 6 (dk_at dksX0_posts_2 9 rfl rfl)
theorem dX0_posts_57 : decode cX0_posts 57 = .ok (.imul, 1) := dk_104 (dk_at dksX0_posts_2 11 rfl rfl)
theorem dX0_posts_58 : decode cX0_posts 58 = .ok (.iadd, 1) := dk_96 (dk_at dksX0_posts_2 12 rfl rfl)
theorem dX0_posts_59 : decode cX0_posts 59 = .ok (.invokevirtual 126, 3) := dk_182 0 126 (dk_at dksX0_posts_2 13 rfl rfl)
theorem dX0_posts_62 : decode cX0_posts 62 = .ok (.l2i, 1) := dk_136 (dk_at dksX0_posts_2 16 rfl rfl)
theorem dX0_posts_63 : decode cX0_posts 63 = .ok (.istore 7, 2) := dk_54 7 (dk_at dksX0_posts_2 17 rfl rfl)
theorem dX0_posts_65 : decode cX0_posts 65 = .ok (.aload 5, 2) := dk_25 5 (dk_at dksX0_posts_2 19 rfl rfl)
theorem dX0_posts_67 : decode cX0_posts 67 = .ok (.iload_n 2, 1) := dk_28 (dk_at dksX0_posts_2 21 rfl rfl)
theorem dX0_posts_68 : decode cX0_posts 68 = .ok (.iconst 3, 1) := dk_6 (dk_at dksX0_posts_2 22 rfl rfl)
theorem dX0_posts_69 : decode cX0_posts 69 = .ok (.iload 6, 2) := dk_21 6 (dk_at dksX0_posts_3 0 rfl rfl)
theorem dX0_posts_71 : decode cX0_posts 71 = .ok (.imul, 1) := dk_104 (dk_at dksX0_posts_3 2 rfl rfl)
theorem dX0_posts_72 : decode cX0_posts 72 = .ok (.iadd, 1) := dk_96 (dk_at dksX0_posts_3 3 rfl rfl)
theorem dX0_posts_73 : decode cX0_posts 73 = .ok (.iconst 1, 1) := dk_4 (dk_at dksX0_posts_3 4 rfl rfl)
theorem dX0_posts_74 : decode cX0_posts 74 = .ok (.iadd, 1) := dk_96 (dk_at dksX0_posts_3 5 rfl rfl)
theorem dX0_posts_75 : decode cX0_posts 75 = .ok (.invokevirtual 126, 3) := dk_182 0 126 (dk_at dksX0_posts_3 6 rfl rfl)
theorem dX0_posts_78 : decode cX0_posts 78 = .ok (.l2i, 1) := dk_136 (dk_at dksX0_posts_3 9 rfl rfl)
theorem dX0_posts_79 : decode cX0_posts 79 = .ok (.istore 8, 2) := dk_54 8 (dk_at dksX0_posts_3 10 rfl rfl)
theorem dX0_posts_81 : decode cX0_posts 81 = .ok (.aload 5, 2) := dk_25 5 (dk_at dksX0_posts_3 12 rfl rfl)
theorem dX0_posts_83 : decode cX0_posts 83 = .ok (.iload_n 2, 1) := dk_28 (dk_at dksX0_posts_3 14 rfl rfl)
theorem dX0_posts_84 : decode cX0_posts 84 = .ok (.iconst 3, 1) := dk_6 (dk_at dksX0_posts_3 15 rfl rfl)
theorem dX0_posts_85 : decode cX0_posts 85 = .ok (.iload 6, 2) := dk_21 6 (dk_at dksX0_posts_3 16 rfl rfl)
theorem dX0_posts_87 : decode cX0_posts 87 = .ok (.imul, 1) := dk_104 (dk_at dksX0_posts_3 18 rfl rfl)
theorem dX0_posts_88 : decode cX0_posts 88 = .ok (.iadd, 1) := dk_96 (dk_at dksX0_posts_3 19 rfl rfl)
theorem dX0_posts_89 : decode cX0_posts 89 = .ok (.iconst 2, 1) := dk_5 (dk_at dksX0_posts_3 20 rfl rfl)
theorem dX0_posts_90 : decode cX0_posts 90 = .ok (.iadd, 1) := dk_96 (dk_at dksX0_posts_3 21 rfl rfl)
theorem dX0_posts_91 : decode cX0_posts 91 = .ok (.invokevirtual 126, 3) := dk_182 0 126 (dk_at dksX0_posts_4 0 rfl rfl)
theorem dX0_posts_94 : decode cX0_posts 94 = .ok (.l2i, 1) := dk_136 (dk_at dksX0_posts_4 3 rfl rfl)
theorem dX0_posts_95 : decode cX0_posts 95 = .ok (.istore 9, 2) := dk_54 9 (dk_at dksX0_posts_4 4 rfl rfl)
theorem dX0_posts_97 : decode cX0_posts 97 = .ok (.iload 7, 2) := dk_21 7 (dk_at dksX0_posts_4 6 rfl rfl)
theorem dX0_posts_99 : decode cX0_posts 99 = .ok (.invokestatic 113, 3) := dk_184 0 113 (dk_at dksX0_posts_4 8 rfl rfl)
theorem dX0_posts_102 : decode cX0_posts 102 = .ok (.ifCond .eq 22, 3) := dk_153 0 22 (dk_at dksX0_posts_4 11 rfl rfl)
theorem dX0_posts_105 : decode cX0_posts 105 = .ok (.iload 8, 2) := dk_21 8 (dk_at dksX0_posts_4 14 rfl rfl)
theorem dX0_posts_107 : decode cX0_posts 107 = .ok (.invokestatic 113, 3) := dk_184 0 113 (dk_at dksX0_posts_4 16 rfl rfl)
theorem dX0_posts_110 : decode cX0_posts 110 = .ok (.ifCond .eq 14, 3) := dk_153 0 14 (dk_at dksX0_posts_4 19 rfl rfl)
theorem dX0_posts_113 : decode cX0_posts 113 = .ok (.iload 9, 2) := dk_21 9 (dk_at dksX0_posts_4 22 rfl rfl)
theorem dX0_posts_115 : decode cX0_posts 115 = .ok (.iconst 0, 1) := dk_3 (dk_at dksX0_posts_5 0 rfl rfl)
theorem dX0_posts_116 : decode cX0_posts 116 = .ok (.bipush 9, 2) := dk_16 9 (dk_at dksX0_posts_5 1 rfl rfl)
theorem dX0_posts_118 : decode cX0_posts 118 = .ok (.invokestatic 89, 3) := dk_184 0 89 (dk_at dksX0_posts_5 3 rfl rfl)
theorem dX0_posts_121 : decode cX0_posts 121 = .ok (.ifCond .ne 6, 3) := dk_154 0 6 (dk_at dksX0_posts_5 6 rfl rfl)
theorem dX0_posts_124 : decode cX0_posts 124 = .ok (.iload 4, 2) := dk_21 4 (dk_at dksX0_posts_5 9 rfl rfl)
theorem dX0_posts_126 : decode cX0_posts 126 = .ok (.ireturn, 1) := dk_172 (dk_at dksX0_posts_5 11 rfl rfl)
theorem dX0_posts_127 : decode cX0_posts 127 = .ok (.aload_n 0, 1) := dk_42 (dk_at dksX0_posts_5 12 rfl rfl)
theorem dX0_posts_128 : decode cX0_posts 128 = .ok (.iload 7, 2) := dk_21 7 (dk_at dksX0_posts_5 13 rfl rfl)
theorem dX0_posts_130 : decode cX0_posts 130 = .ok (.iload 8, 2) := dk_21 8 (dk_at dksX0_posts_5 15 rfl rfl)
theorem dX0_posts_132 : decode cX0_posts 132 = .ok (.invokevirtual 117, 3) := dk_182 0 117 (dk_at dksX0_posts_5 17 rfl rfl)
theorem dX0_posts_135 : decode cX0_posts 135 = .ok (.iload 9, 2) := dk_21 9 (dk_at dksX0_posts_5 20 rfl rfl)
theorem dX0_posts_137 : decode cX0_posts 137 = .ok (.putfield 130, 3) := dk_181 0 130 (dk_at dksX0_posts_6 0 rfl rfl)
theorem dX0_posts_140 : decode cX0_posts 140 = .ok (.iinc 4 1, 3) := dk_132 4 1 (dk_at dksX0_posts_6 3 rfl rfl)
theorem dX0_posts_143 : decode cX0_posts 143 = .ok (.iinc 6 1, 3) := dk_132 6 1 (dk_at dksX0_posts_6 6 rfl rfl)
theorem dX0_posts_146 : decode cX0_posts 146 = .ok (.goto (-110), 3) := dk_167 255 146 (dk_at dksX0_posts_6 9 rfl rfl)
theorem dX0_posts_149 : decode cX0_posts 149 = .ok (.goto 18, 3) := dk_167 0 18 (dk_at dksX0_posts_6 12 rfl rfl)
theorem dX0_posts_152 : decode cX0_posts 152 = .ok (.astore 5, 2) := dk_58 5 (dk_at dksX0_posts_6 15 rfl rfl)
theorem dX0_posts_154 : decode cX0_posts 154 = .ok (.bipush (-12), 2) := dk_16 244 (dk_at dksX0_posts_6 17 rfl rfl)
theorem dX0_posts_156 : decode cX0_posts 156 = .ok (.ireturn, 1) := dk_172 (dk_at dksX0_posts_6 19 rfl rfl)
theorem dX0_posts_157 : decode cX0_posts 157 = .ok (.astore 5, 2) := dk_58 5 (dk_at dksX0_posts_6 20 rfl rfl)
theorem dX0_posts_159 : decode cX0_posts 159 = .ok (.iload 4, 2) := dk_21 4 (dk_at dksX0_posts_6 22 rfl rfl)
theorem dX0_posts_161 : decode cX0_posts 161 = .ok (.ireturn, 1) := dk_172 (dk_at dksX0_posts_7 0 rfl rfl)
theorem dX0_posts_162 : decode cX0_posts 162 = .ok (.astore 5, 2) := dk_58 5 (dk_at dksX0_posts_7 1 rfl rfl)
theorem dX0_posts_164 : decode cX0_posts 164 = .ok (.iload 4, 2) := dk_21 4 (dk_at dksX0_posts_7 3 rfl rfl)
theorem dX0_posts_166 : decode cX0_posts 166 = .ok (.ireturn, 1) := dk_172 (dk_at dksX0_posts_7 5 rfl rfl)
theorem dX0_posts_167 : decode cX0_posts 167 = .ok (.iload 4, 2) := dk_21 4 (dk_at dksX0_posts_7 6 rfl rfl)
theorem dX0_posts_169 : decode cX0_posts 169 = .ok (.ireturn, 1) := dk_172 (dk_at dksX0_posts_7 8 rfl rfl)
abbrev cX0_isShelf : ByteArray := prog_1_method_90_code
def yX0_isShelf : MethodName := ⟨RX0, "isShelf", "(I)Z"⟩
def dkwX0_isShelf_0 : List UInt8 := [26, 3, 8, 184, 0, 89, 172]
abbrev dktX0_isShelf_0 : List UInt8 := dkwX0_isShelf_0 ++ []
theorem dksX0_isShelf_0 : cX0_isShelf.data.toList.drop 0 = dktX0_isShelf_0 := by decide +kernel
theorem dX0_isShelf_0 : decode cX0_isShelf 0 = .ok (.iload_n 0, 1) := dk_26 (dk_at dksX0_isShelf_0 0 rfl rfl)
theorem dX0_isShelf_1 : decode cX0_isShelf 1 = .ok (.iconst 0, 1) := dk_3 (dk_at dksX0_isShelf_0 1 rfl rfl)
theorem dX0_isShelf_2 : decode cX0_isShelf 2 = .ok (.iconst 5, 1) := dk_8 (dk_at dksX0_isShelf_0 2 rfl rfl)
theorem dX0_isShelf_3 : decode cX0_isShelf 3 = .ok (.invokestatic 89, 3) := dk_184 0 89 (dk_at dksX0_isShelf_0 3 rfl rfl)
theorem dX0_isShelf_6 : decode cX0_isShelf 6 = .ok (.ireturn, 1) := dk_172 (dk_at dksX0_isShelf_0 6 rfl rfl)
abbrev cX0_undo : ByteArray := prog_1_method_15_code
def yX0_undo : MethodName := ⟨RX0, "undo", "()I"⟩
def dkwX0_undo_3 : List UInt8 := [182, 0, 157, 42, 180, 0, 151, 172]
abbrev dktX0_undo_3 : List UInt8 := dkwX0_undo_3 ++ []
def dkwX0_undo_2 : List UInt8 := [180, 0, 24, 42, 180, 0, 151, 50, 180, 0, 164, 42, 180, 0, 24, 42, 180, 0, 151, 50, 180, 0, 166]
abbrev dktX0_undo_2 : List UInt8 := dkwX0_undo_2 ++ dktX0_undo_3
def dkwX0_undo_1 : List UInt8 := [180, 0, 148, 4, 96, 181, 0, 148, 42, 42, 180, 0, 24, 42, 180, 0, 151, 50, 180, 0, 161, 42]
abbrev dktX0_undo_1 : List UInt8 := dkwX0_undo_1 ++ dktX0_undo_2
def dkwX0_undo_0 : List UInt8 := [42, 180, 0, 151, 154, 0, 6, 16, 251, 172, 42, 89, 180, 0, 151, 4, 100, 181, 0, 151, 42, 89]
abbrev dktX0_undo_0 : List UInt8 := dkwX0_undo_0 ++ dktX0_undo_1
theorem dksX0_undo_0 : cX0_undo.data.toList.drop 0 = dktX0_undo_0 := by decide +kernel
theorem dksX0_undo_1 : cX0_undo.data.toList.drop 22 = dktX0_undo_1 := dk_seg dksX0_undo_0 22 rfl rfl
theorem dksX0_undo_2 : cX0_undo.data.toList.drop 44 = dktX0_undo_2 := dk_seg dksX0_undo_1 22 rfl rfl
theorem dksX0_undo_3 : cX0_undo.data.toList.drop 67 = dktX0_undo_3 := dk_seg dksX0_undo_2 23 rfl rfl
theorem dX0_undo_0 : decode cX0_undo 0 = .ok (.aload_n 0, 1) := dk_42 (dk_at dksX0_undo_0 0 rfl rfl)
theorem dX0_undo_1 : decode cX0_undo 1 = .ok (.getfield 151, 3) := dk_180 0 151 (dk_at dksX0_undo_0 1 rfl rfl)
theorem dX0_undo_4 : decode cX0_undo 4 = .ok (.ifCond .ne 6, 3) := dk_154 0 6 (dk_at dksX0_undo_0 4 rfl rfl)
theorem dX0_undo_7 : decode cX0_undo 7 = .ok (.bipush (-5), 2) := dk_16 251 (dk_at dksX0_undo_0 7 rfl rfl)
theorem dX0_undo_9 : decode cX0_undo 9 = .ok (.ireturn, 1) := dk_172 (dk_at dksX0_undo_0 9 rfl rfl)
theorem dX0_undo_10 : decode cX0_undo 10 = .ok (.aload_n 0, 1) := dk_42 (dk_at dksX0_undo_0 10 rfl rfl)
theorem dX0_undo_11 : decode cX0_undo 11 = .ok (.dup, 1) := dk_89 (dk_at dksX0_undo_0 11 rfl rfl)
theorem dX0_undo_12 : decode cX0_undo 12 = .ok (.getfield 151, 3) := dk_180 0 151 (dk_at dksX0_undo_0 12 rfl rfl)
theorem dX0_undo_15 : decode cX0_undo 15 = .ok (.iconst 1, 1) := dk_4 (dk_at dksX0_undo_0 15 rfl rfl)
theorem dX0_undo_16 : decode cX0_undo 16 = .ok (.isub, 1) := dk_100 (dk_at dksX0_undo_0 16 rfl rfl)
theorem dX0_undo_17 : decode cX0_undo 17 = .ok (.putfield 151, 3) := dk_181 0 151 (dk_at dksX0_undo_0 17 rfl rfl)
theorem dX0_undo_20 : decode cX0_undo 20 = .ok (.aload_n 0, 1) := dk_42 (dk_at dksX0_undo_0 20 rfl rfl)
theorem dX0_undo_21 : decode cX0_undo 21 = .ok (.dup, 1) := dk_89 (dk_at dksX0_undo_0 21 rfl rfl)
theorem dX0_undo_22 : decode cX0_undo 22 = .ok (.getfield 148, 3) := dk_180 0 148 (dk_at dksX0_undo_1 0 rfl rfl)
theorem dX0_undo_25 : decode cX0_undo 25 = .ok (.iconst 1, 1) := dk_4 (dk_at dksX0_undo_1 3 rfl rfl)
theorem dX0_undo_26 : decode cX0_undo 26 = .ok (.iadd, 1) := dk_96 (dk_at dksX0_undo_1 4 rfl rfl)
theorem dX0_undo_27 : decode cX0_undo 27 = .ok (.putfield 148, 3) := dk_181 0 148 (dk_at dksX0_undo_1 5 rfl rfl)
theorem dX0_undo_30 : decode cX0_undo 30 = .ok (.aload_n 0, 1) := dk_42 (dk_at dksX0_undo_1 8 rfl rfl)
theorem dX0_undo_31 : decode cX0_undo 31 = .ok (.aload_n 0, 1) := dk_42 (dk_at dksX0_undo_1 9 rfl rfl)
theorem dX0_undo_32 : decode cX0_undo 32 = .ok (.getfield 24, 3) := dk_180 0 24 (dk_at dksX0_undo_1 10 rfl rfl)
theorem dX0_undo_35 : decode cX0_undo 35 = .ok (.aload_n 0, 1) := dk_42 (dk_at dksX0_undo_1 13 rfl rfl)
theorem dX0_undo_36 : decode cX0_undo 36 = .ok (.getfield 151, 3) := dk_180 0 151 (dk_at dksX0_undo_1 14 rfl rfl)
theorem dX0_undo_39 : decode cX0_undo 39 = .ok (.aaload, 1) := dk_50 (dk_at dksX0_undo_1 17 rfl rfl)
theorem dX0_undo_40 : decode cX0_undo 40 = .ok (.getfield 161, 3) := dk_180 0 161 (dk_at dksX0_undo_1 18 rfl rfl)
theorem dX0_undo_43 : decode cX0_undo 43 = .ok (.aload_n 0, 1) := dk_42 (dk_at dksX0_undo_1 21 rfl rfl)
theorem dX0_undo_44 : decode cX0_undo 44 = .ok (.getfield 24, 3) := dk_180 0 24 (dk_at dksX0_undo_2 0 rfl rfl)
theorem dX0_undo_47 : decode cX0_undo 47 = .ok (.aload_n 0, 1) := dk_42 (dk_at dksX0_undo_2 3 rfl rfl)
theorem dX0_undo_48 : decode cX0_undo 48 = .ok (.getfield 151, 3) := dk_180 0 151 (dk_at dksX0_undo_2 4 rfl rfl)
theorem dX0_undo_51 : decode cX0_undo 51 = .ok (.aaload, 1) := dk_50 (dk_at dksX0_undo_2 7 rfl rfl)
theorem dX0_undo_52 : decode cX0_undo 52 = .ok (.getfield 164, 3) := dk_180 0 164 (dk_at dksX0_undo_2 8 rfl rfl)
theorem dX0_undo_55 : decode cX0_undo 55 = .ok (.aload_n 0, 1) := dk_42 (dk_at dksX0_undo_2 11 rfl rfl)
theorem dX0_undo_56 : decode cX0_undo 56 = .ok (.getfield 24, 3) := dk_180 0 24 (dk_at dksX0_undo_2 12 rfl rfl)
theorem dX0_undo_59 : decode cX0_undo 59 = .ok (.aload_n 0, 1) := dk_42 (dk_at dksX0_undo_2 15 rfl rfl)
theorem dX0_undo_60 : decode cX0_undo 60 = .ok (.getfield 151, 3) := dk_180 0 151 (dk_at dksX0_undo_2 16 rfl rfl)
theorem dX0_undo_63 : decode cX0_undo 63 = .ok (.aaload, 1) := dk_50 (dk_at dksX0_undo_2 19 rfl rfl)
theorem dX0_undo_64 : decode cX0_undo 64 = .ok (.getfield 166, 3) := dk_180 0 166 (dk_at dksX0_undo_2 20 rfl rfl)
theorem dX0_undo_67 : decode cX0_undo 67 = .ok (.invokevirtual 157, 3) := dk_182 0 157 (dk_at dksX0_undo_3 0 rfl rfl)
theorem dX0_undo_70 : decode cX0_undo 70 = .ok (.aload_n 0, 1) := dk_42 (dk_at dksX0_undo_3 3 rfl rfl)
theorem dX0_undo_71 : decode cX0_undo 71 = .ok (.getfield 151, 3) := dk_180 0 151 (dk_at dksX0_undo_3 4 rfl rfl)
theorem dX0_undo_74 : decode cX0_undo 74 = .ok (.ireturn, 1) := dk_172 (dk_at dksX0_undo_3 7 rfl rfl)
abbrev cX0_setTo : ByteArray := prog_1_method_13_code
def yX0_setTo : MethodName := ⟨RX0, "setTo", "(III)V"⟩
def dkwX0_setTo_5 : List UInt8 := [181, 0, 15, 167, 0, 8, 42, 29, 181, 0, 19, 177]
abbrev dktX0_setTo_5 : List UInt8 := dkwX0_setTo_5 ++ []
def dkwX0_setTo_4 : List UInt8 := [181, 0, 145, 167, 0, 32, 42, 29, 181, 0, 100, 167, 0, 24, 42, 29, 181, 0, 103, 167, 0, 16, 42, 29]
abbrev dktX0_setTo_4 : List UInt8 := dkwX0_setTo_4 ++ dktX0_setTo_5
def dkwX0_setTo_3 : List UInt8 := [167, 0, 58, 42, 180, 0, 11, 28, 50, 29, 181, 0, 130, 167, 0, 45, 42, 180, 0, 11, 28, 50, 29]
abbrev dktX0_setTo_3 : List UInt8 := dkwX0_setTo_3 ++ dktX0_setTo_4
def dkwX0_setTo_2 : List UInt8 := [42, 180, 0, 11, 28, 50, 29, 181, 0, 139, 167, 0, 71, 42, 180, 0, 11, 28, 50, 29, 181, 0, 142]
abbrev dktX0_setTo_2 : List UInt8 := dkwX0_setTo_2 ++ dktX0_setTo_3
def dkwX0_setTo_1 : List UInt8 := [170, 0, 0, 0, 0, 0, 119, 0, 0, 0, 0, 0, 0, 0, 6, 0, 0, 0, 43, 0, 0, 0, 56, 0, 0, 0, 69, 0, 0, 0, 82, 0, 0, 0, 95, 0, 0, 0, 103, 0, 0, 0, 111]
abbrev dktX0_setTo_1 : List UInt8 := dkwX0_setTo_1 ++ dktX0_setTo_2
def dkwX0_setTo_0 : List UInt8 := [27]
abbrev dktX0_setTo_0 : List UInt8 := dkwX0_setTo_0 ++ dktX0_setTo_1
theorem dksX0_setTo_0 : cX0_setTo.data.toList.drop 0 = dktX0_setTo_0 := by decide +kernel
theorem dksX0_setTo_1 : cX0_setTo.data.toList.drop 1 = dktX0_setTo_1 := dk_seg dksX0_setTo_0 1 rfl rfl
theorem dksX0_setTo_2 : cX0_setTo.data.toList.drop 44 = dktX0_setTo_2 := dk_seg dksX0_setTo_1 43 rfl rfl
theorem dksX0_setTo_3 : cX0_setTo.data.toList.drop 67 = dktX0_setTo_3 := dk_seg dksX0_setTo_2 23 rfl rfl
theorem dksX0_setTo_4 : cX0_setTo.data.toList.drop 90 = dktX0_setTo_4 := dk_seg dksX0_setTo_3 23 rfl rfl
theorem dksX0_setTo_5 : cX0_setTo.data.toList.drop 114 = dktX0_setTo_5 := dk_seg dksX0_setTo_4 24 rfl rfl
theorem dX0_setTo_0 : decode cX0_setTo 0 = .ok (.iload_n 1, 1) := dk_27 (dk_at dksX0_setTo_0 0 rfl rfl)
theorem dX0_setTo_1 : decode cX0_setTo 1 = .ok (.tableswitch 119 0 6 #[43, 56, 69, 82, 95, 103, 111], 43) := by decide +kernel
theorem dX0_setTo_44 : decode cX0_setTo 44 = .ok (.aload_n 0, 1) := dk_42 (dk_at dksX0_setTo_2 0 rfl rfl)
theorem dX0_setTo_45 : decode cX0_setTo 45 = .ok (.getfield 11, 3) := dk_180 0 11 (dk_at dksX0_setTo_2 1 rfl rfl)
theorem dX0_setTo_48 : decode cX0_setTo 48 = .ok (.iload_n 2, 1) := dk_28 (dk_at dksX0_setTo_2 4 rfl rfl)
theorem dX0_setTo_49 : decode cX0_setTo 49 = .ok (.aaload, 1) := dk_50 (dk_at dksX0_setTo_2 5 rfl rfl)
theorem dX0_setTo_50 : decode cX0_setTo 50 = .ok (.iload_n 3, 1) := dk_29 (dk_at dksX0_setTo_2 6 rfl rfl)
theorem dX0_setTo_51 : decode cX0_setTo 51 = .ok (.putfield 139, 3) := dk_181 0 139 (dk_at dksX0_setTo_2 7 rfl rfl)
theorem dX0_setTo_54 : decode cX0_setTo 54 = .ok (.goto 71, 3) := dk_167 0 71 (dk_at dksX0_setTo_2 10 rfl rfl)
theorem dX0_setTo_57 : decode cX0_setTo 57 = .ok (.aload_n 0, 1) := dk_42 (dk_at dksX0_setTo_2 13 rfl rfl)
theorem dX0_setTo_58 : decode cX0_setTo 58 = .ok (.getfield 11, 3) := dk_180 0 11 (dk_at dksX0_setTo_2 14 rfl rfl)
theorem dX0_setTo_61 : decode cX0_setTo 61 = .ok (.iload_n 2, 1) := dk_28 (dk_at dksX0_setTo_2 17 rfl rfl)
theorem dX0_setTo_62 : decode cX0_setTo 62 = .ok (.aaload, 1) := dk_50 (dk_at dksX0_setTo_2 18 rfl rfl)
theorem dX0_setTo_63 : decode cX0_setTo 63 = .ok (.iload_n 3, 1) := dk_29 (dk_at dksX0_setTo_2 19 rfl rfl)
theorem dX0_setTo_64 : decode cX0_setTo 64 = .ok (.putfield 142, 3) := dk_181 0 142 (dk_at dksX0_setTo_2 20 rfl rfl)
theorem dX0_setTo_67 : decode cX0_setTo 67 = .ok (.goto 58, 3) := dk_167 0 58 (dk_at dksX0_setTo_3 0 rfl rfl)
theorem dX0_setTo_70 : decode cX0_setTo 70 = .ok (.aload_n 0, 1) := dk_42 (dk_at dksX0_setTo_3 3 rfl rfl)
theorem dX0_setTo_71 : decode cX0_setTo 71 = .ok (.getfield 11, 3) := dk_180 0 11 (dk_at dksX0_setTo_3 4 rfl rfl)
theorem dX0_setTo_74 : decode cX0_setTo 74 = .ok (.iload_n 2, 1) := dk_28 (dk_at dksX0_setTo_3 7 rfl rfl)
theorem dX0_setTo_75 : decode cX0_setTo 75 = .ok (.aaload, 1) := dk_50 (dk_at dksX0_setTo_3 8 rfl rfl)
theorem dX0_setTo_76 : decode cX0_setTo 76 = .ok (.iload_n 3, 1) := dk_29 (dk_at dksX0_setTo_3 9 rfl rfl)
theorem dX0_setTo_77 : decode cX0_setTo 77 = .ok (.putfield 130, 3) := dk_181 0 130 (dk_at dksX0_setTo_3 10 rfl rfl)
theorem dX0_setTo_80 : decode cX0_setTo 80 = .ok (.goto 45, 3) := dk_167 0 45 (dk_at dksX0_setTo_3 13 rfl rfl)
theorem dX0_setTo_83 : decode cX0_setTo 83 = .ok (.aload_n 0, 1) := dk_42 (dk_at dksX0_setTo_3 16 rfl rfl)
theorem dX0_setTo_84 : decode cX0_setTo 84 = .ok (.getfield 11, 3) := dk_180 0 11 (dk_at dksX0_setTo_3 17 rfl rfl)
theorem dX0_setTo_87 : decode cX0_setTo 87 = .ok (.iload_n 2, 1) := dk_28 (dk_at dksX0_setTo_3 20 rfl rfl)
theorem dX0_setTo_88 : decode cX0_setTo 88 = .ok (.aaload, 1) := dk_50 (dk_at dksX0_setTo_3 21 rfl rfl)
theorem dX0_setTo_89 : decode cX0_setTo 89 = .ok (.iload_n 3, 1) := dk_29 (dk_at dksX0_setTo_3 22 rfl rfl)
theorem dX0_setTo_90 : decode cX0_setTo 90 = .ok (.putfield 145, 3) := dk_181 0 145 (dk_at dksX0_setTo_4 0 rfl rfl)
theorem dX0_setTo_93 : decode cX0_setTo 93 = .ok (.goto 32, 3) := dk_167 0 32 (dk_at dksX0_setTo_4 3 rfl rfl)
theorem dX0_setTo_96 : decode cX0_setTo 96 = .ok (.aload_n 0, 1) := dk_42 (dk_at dksX0_setTo_4 6 rfl rfl)
theorem dX0_setTo_97 : decode cX0_setTo 97 = .ok (.iload_n 3, 1) := dk_29 (dk_at dksX0_setTo_4 7 rfl rfl)
theorem dX0_setTo_98 : decode cX0_setTo 98 = .ok (.putfield 100, 3) := dk_181 0 100 (dk_at dksX0_setTo_4 8 rfl rfl)
theorem dX0_setTo_101 : decode cX0_setTo 101 = .ok (.goto 24, 3) := dk_167 0 24 (dk_at dksX0_setTo_4 11 rfl rfl)
theorem dX0_setTo_104 : decode cX0_setTo 104 = .ok (.aload_n 0, 1) := dk_42 (dk_at dksX0_setTo_4 14 rfl rfl)
theorem dX0_setTo_105 : decode cX0_setTo 105 = .ok (.iload_n 3, 1) := dk_29 (dk_at dksX0_setTo_4 15 rfl rfl)
theorem dX0_setTo_106 : decode cX0_setTo 106 = .ok (.putfield 103, 3) := dk_181 0 103 (dk_at dksX0_setTo_4 16 rfl rfl)
theorem dX0_setTo_109 : decode cX0_setTo 109 = .ok (.goto 16, 3) := dk_167 0 16 (dk_at dksX0_setTo_4 19 rfl rfl)
theorem dX0_setTo_112 : decode cX0_setTo 112 = .ok (.aload_n 0, 1) := dk_42 (dk_at dksX0_setTo_4 22 rfl rfl)
theorem dX0_setTo_113 : decode cX0_setTo 113 = .ok (.iload_n 3, 1) := dk_29 (dk_at dksX0_setTo_4 23 rfl rfl)
theorem dX0_setTo_114 : decode cX0_setTo 114 = .ok (.putfield 15, 3) := dk_181 0 15 (dk_at dksX0_setTo_5 0 rfl rfl)
theorem dX0_setTo_117 : decode cX0_setTo 117 = .ok (.goto 8, 3) := dk_167 0 8 (dk_at dksX0_setTo_5 3 rfl rfl)
theorem dX0_setTo_120 : decode cX0_setTo 120 = .ok (.aload_n 0, 1) := dk_42 (dk_at dksX0_setTo_5 6 rfl rfl)
theorem dX0_setTo_121 : decode cX0_setTo 121 = .ok (.iload_n 3, 1) := dk_29 (dk_at dksX0_setTo_5 7 rfl rfl)
theorem dX0_setTo_122 : decode cX0_setTo 122 = .ok (.putfield 19, 3) := dk_181 0 19 (dk_at dksX0_setTo_5 8 rfl rfl)
theorem dX0_setTo_125 : decode cX0_setTo 125 = .ok (.return_, 1) := dk_177 (dk_at dksX0_setTo_5 11 rfl rfl)
abbrev cX0_redo : ByteArray := prog_1_method_16_code
def yX0_redo : MethodName := ⟨RX0, "redo", "()I"⟩
def dkwX0_redo_3 : List UInt8 := [180, 0, 148, 172]
abbrev dktX0_redo_3 : List UInt8 := dkwX0_redo_3 ++ []
def dkwX0_redo_2 : List UInt8 := [182, 0, 157, 42, 89, 180, 0, 151, 4, 96, 181, 0, 151, 42, 89, 180, 0, 148, 4, 100, 181, 0, 148, 42]
abbrev dktX0_redo_2 : List UInt8 := dkwX0_redo_2 ++ dktX0_redo_3
def dkwX0_redo_1 : List UInt8 := [180, 0, 24, 42, 180, 0, 151, 50, 180, 0, 164, 42, 180, 0, 24, 42, 180, 0, 151, 50, 180, 0, 169]
abbrev dktX0_redo_1 : List UInt8 := dkwX0_redo_1 ++ dktX0_redo_2
def dkwX0_redo_0 : List UInt8 := [42, 180, 0, 148, 154, 0, 6, 16, 251, 172, 42, 42, 180, 0, 24, 42, 180, 0, 151, 50, 180, 0, 161, 42]
abbrev dktX0_redo_0 : List UInt8 := dkwX0_redo_0 ++ dktX0_redo_1
theorem dksX0_redo_0 : cX0_redo.data.toList.drop 0 = dktX0_redo_0 := by decide +kernel
theorem dksX0_redo_1 : cX0_redo.data.toList.drop 24 = dktX0_redo_1 := dk_seg dksX0_redo_0 24 rfl rfl
theorem dksX0_redo_2 : cX0_redo.data.toList.drop 47 = dktX0_redo_2 := dk_seg dksX0_redo_1 23 rfl rfl
theorem dksX0_redo_3 : cX0_redo.data.toList.drop 71 = dktX0_redo_3 := dk_seg dksX0_redo_2 24 rfl rfl
theorem dX0_redo_0 : decode cX0_redo 0 = .ok (.aload_n 0, 1) := dk_42 (dk_at dksX0_redo_0 0 rfl rfl)
theorem dX0_redo_1 : decode cX0_redo 1 = .ok (.getfield 148, 3) := dk_180 0 148 (dk_at dksX0_redo_0 1 rfl rfl)
theorem dX0_redo_4 : decode cX0_redo 4 = .ok (.ifCond .ne 6, 3) := dk_154 0 6 (dk_at dksX0_redo_0 4 rfl rfl)
theorem dX0_redo_7 : decode cX0_redo 7 = .ok (.bipush (-5), 2) := dk_16 251 (dk_at dksX0_redo_0 7 rfl rfl)
theorem dX0_redo_9 : decode cX0_redo 9 = .ok (.ireturn, 1) := dk_172 (dk_at dksX0_redo_0 9 rfl rfl)
theorem dX0_redo_10 : decode cX0_redo 10 = .ok (.aload_n 0, 1) := dk_42 (dk_at dksX0_redo_0 10 rfl rfl)
theorem dX0_redo_11 : decode cX0_redo 11 = .ok (.aload_n 0, 1) := dk_42 (dk_at dksX0_redo_0 11 rfl rfl)
theorem dX0_redo_12 : decode cX0_redo 12 = .ok (.getfield 24, 3) := dk_180 0 24 (dk_at dksX0_redo_0 12 rfl rfl)
theorem dX0_redo_15 : decode cX0_redo 15 = .ok (.aload_n 0, 1) := dk_42 (dk_at dksX0_redo_0 15 rfl rfl)
theorem dX0_redo_16 : decode cX0_redo 16 = .ok (.getfield 151, 3) := dk_180 0 151 (dk_at dksX0_redo_0 16 rfl rfl)
theorem dX0_redo_19 : decode cX0_redo 19 = .ok (.aaload, 1) := dk_50 (dk_at dksX0_redo_0 19 rfl rfl)
theorem dX0_redo_20 : decode cX0_redo 20 = .ok (.getfield 161, 3) := dk_180 0 161 (dk_at dksX0_redo_0 20 rfl rfl)
theorem dX0_redo_23 : decode cX0_redo 23 = .ok (.aload_n 0, 1) := dk_42 (dk_at dksX0_redo_0 23 rfl rfl)
theorem dX0_redo_24 : decode cX0_redo 24 = .ok (.getfield 24, 3) := dk_180 0 24 (dk_at dksX0_redo_1 0 rfl rfl)
theorem dX0_redo_27 : decode cX0_redo 27 = .ok (.aload_n 0, 1) := dk_42 (dk_at dksX0_redo_1 3 rfl rfl)
theorem dX0_redo_28 : decode cX0_redo 28 = .ok (.getfield 151, 3) := dk_180 0 151 (dk_at dksX0_redo_1 4 rfl rfl)
theorem dX0_redo_31 : decode cX0_redo 31 = .ok (.aaload, 1) := dk_50 (dk_at dksX0_redo_1 7 rfl rfl)
theorem dX0_redo_32 : decode cX0_redo 32 = .ok (.getfield 164, 3) := dk_180 0 164 (dk_at dksX0_redo_1 8 rfl rfl)
theorem dX0_redo_35 : decode cX0_redo 35 = .ok (.aload_n 0, 1) := dk_42 (dk_at dksX0_redo_1 11 rfl rfl)
theorem dX0_redo_36 : decode cX0_redo 36 = .ok (.getfield 24, 3) := dk_180 0 24 (dk_at dksX0_redo_1 12 rfl rfl)
theorem dX0_redo_39 : decode cX0_redo 39 = .ok (.aload_n 0, 1) := dk_42 (dk_at dksX0_redo_1 15 rfl rfl)
theorem dX0_redo_40 : decode cX0_redo 40 = .ok (.getfield 151, 3) := dk_180 0 151 (dk_at dksX0_redo_1 16 rfl rfl)
theorem dX0_redo_43 : decode cX0_redo 43 = .ok (.aaload, 1) := dk_50 (dk_at dksX0_redo_1 19 rfl rfl)
theorem dX0_redo_44 : decode cX0_redo 44 = .ok (.getfield 169, 3) := dk_180 0 169 (dk_at dksX0_redo_1 20 rfl rfl)
theorem dX0_redo_47 : decode cX0_redo 47 = .ok (.invokevirtual 157, 3) := dk_182 0 157 (dk_at dksX0_redo_2 0 rfl rfl)
theorem dX0_redo_50 : decode cX0_redo 50 = .ok (.aload_n 0, 1) := dk_42 (dk_at dksX0_redo_2 3 rfl rfl)
theorem dX0_redo_51 : decode cX0_redo 51 = .ok (.dup, 1) := dk_89 (dk_at dksX0_redo_2 4 rfl rfl)
theorem dX0_redo_52 : decode cX0_redo 52 = .ok (.getfield 151, 3) := dk_180 0 151 (dk_at dksX0_redo_2 5 rfl rfl)
theorem dX0_redo_55 : decode cX0_redo 55 = .ok (.iconst 1, 1) := dk_4 (dk_at dksX0_redo_2 8 rfl rfl)
theorem dX0_redo_56 : decode cX0_redo 56 = .ok (.iadd, 1) := dk_96 (dk_at dksX0_redo_2 9 rfl rfl)
theorem dX0_redo_57 : decode cX0_redo 57 = .ok (.putfield 151, 3) := dk_181 0 151 (dk_at dksX0_redo_2 10 rfl rfl)
theorem dX0_redo_60 : decode cX0_redo 60 = .ok (.aload_n 0, 1) := dk_42 (dk_at dksX0_redo_2 13 rfl rfl)
theorem dX0_redo_61 : decode cX0_redo 61 = .ok (.dup, 1) := dk_89 (dk_at dksX0_redo_2 14 rfl rfl)
theorem dX0_redo_62 : decode cX0_redo 62 = .ok (.getfield 148, 3) := dk_180 0 148 (dk_at dksX0_redo_2 15 rfl rfl)
theorem dX0_redo_65 : decode cX0_redo 65 = .ok (.iconst 1, 1) := dk_4 (dk_at dksX0_redo_2 18 rfl rfl)
theorem dX0_redo_66 : decode cX0_redo 66 = .ok (.isub, 1) := dk_100 (dk_at dksX0_redo_2 19 rfl rfl)
theorem dX0_redo_67 : decode cX0_redo 67 = .ok (.putfield 148, 3) := dk_181 0 148 (dk_at dksX0_redo_2 20 rfl rfl)
theorem dX0_redo_70 : decode cX0_redo 70 = .ok (.aload_n 0, 1) := dk_42 (dk_at dksX0_redo_2 23 rfl rfl)
theorem dX0_redo_71 : decode cX0_redo 71 = .ok (.getfield 148, 3) := dk_180 0 148 (dk_at dksX0_redo_3 0 rfl rfl)
theorem dX0_redo_74 : decode cX0_redo 74 = .ok (.ireturn, 1) := dk_172 (dk_at dksX0_redo_3 3 rfl rfl)
abbrev cX0_mend : ByteArray := prog_1_method_20_code
def yX0_mend : MethodName := ⟨RX0, "mend", "(III)I"⟩
def dkwX0_mend_1 : List UInt8 := [182, 0, 182, 29, 182, 0, 185, 167, 0, 4, 2, 172]
abbrev dktX0_mend_1 : List UInt8 := dkwX0_mend_1 ++ []
def dkwX0_mend_0 : List UInt8 := [42, 27, 28, 182, 0, 175, 153, 0, 27, 28, 29, 184, 0, 179, 153, 0, 19, 42, 28, 27, 42, 27, 28]
abbrev dktX0_mend_0 : List UInt8 := dkwX0_mend_0 ++ dktX0_mend_1
theorem dksX0_mend_0 : cX0_mend.data.toList.drop 0 = dktX0_mend_0 := by decide +kernel
theorem dksX0_mend_1 : cX0_mend.data.toList.drop 23 = dktX0_mend_1 := dk_seg dksX0_mend_0 23 rfl rfl
theorem dX0_mend_0 : decode cX0_mend 0 = .ok (.aload_n 0, 1) := dk_42 (dk_at dksX0_mend_0 0 rfl rfl)
theorem dX0_mend_1 : decode cX0_mend 1 = .ok (.iload_n 1, 1) := dk_27 (dk_at dksX0_mend_0 1 rfl rfl)
theorem dX0_mend_2 : decode cX0_mend 2 = .ok (.iload_n 2, 1) := dk_28 (dk_at dksX0_mend_0 2 rfl rfl)
theorem dX0_mend_3 : decode cX0_mend 3 = .ok (.invokevirtual 175, 3) := dk_182 0 175 (dk_at dksX0_mend_0 3 rfl rfl)
theorem dX0_mend_6 : decode cX0_mend 6 = .ok (.ifCond .eq 27, 3) := dk_153 0 27 (dk_at dksX0_mend_0 6 rfl rfl)
theorem dX0_mend_9 : decode cX0_mend 9 = .ok (.iload_n 2, 1) := dk_28 (dk_at dksX0_mend_0 9 rfl rfl)
theorem dX0_mend_10 : decode cX0_mend 10 = .ok (.iload_n 3, 1) := dk_29 (dk_at dksX0_mend_0 10 rfl rfl)
theorem dX0_mend_11 : decode cX0_mend 11 = .ok (.invokestatic 179, 3) := dk_184 0 179 (dk_at dksX0_mend_0 11 rfl rfl)
theorem dX0_mend_14 : decode cX0_mend 14 = .ok (.ifCond .eq 19, 3) := dk_153 0 19 (dk_at dksX0_mend_0 14 rfl rfl)
theorem dX0_mend_17 : decode cX0_mend 17 = .ok (.aload_n 0, 1) := dk_42 (dk_at dksX0_mend_0 17 rfl rfl)
theorem dX0_mend_18 : decode cX0_mend 18 = .ok (.iload_n 2, 1) := dk_28 (dk_at dksX0_mend_0 18 rfl rfl)
theorem dX0_mend_19 : decode cX0_mend 19 = .ok (.iload_n 1, 1) := dk_27 (dk_at dksX0_mend_0 19 rfl rfl)
theorem dX0_mend_20 : decode cX0_mend 20 = .ok (.aload_n 0, 1) := dk_42 (dk_at dksX0_mend_0 20 rfl rfl)
theorem dX0_mend_21 : decode cX0_mend 21 = .ok (.iload_n 1, 1) := dk_27 (dk_at dksX0_mend_0 21 rfl rfl)
theorem dX0_mend_22 : decode cX0_mend 22 = .ok (.iload_n 2, 1) := dk_28 (dk_at dksX0_mend_0 22 rfl rfl)
theorem dX0_mend_23 : decode cX0_mend 23 = .ok (.invokevirtual 182, 3) := dk_182 0 182 (dk_at dksX0_mend_1 0 rfl rfl)
theorem dX0_mend_26 : decode cX0_mend 26 = .ok (.iload_n 3, 1) := dk_29 (dk_at dksX0_mend_1 3 rfl rfl)
theorem dX0_mend_27 : decode cX0_mend 27 = .ok (.invokevirtual 185, 3) := dk_182 0 185 (dk_at dksX0_mend_1 4 rfl rfl)
theorem dX0_mend_30 : decode cX0_mend 30 = .ok (.goto 4, 3) := dk_167 0 4 (dk_at dksX0_mend_1 7 rfl rfl)
theorem dX0_mend_33 : decode cX0_mend 33 = .ok (.iconst (-1), 1) := dk_2 (dk_at dksX0_mend_1 10 rfl rfl)
theorem dX0_mend_34 : decode cX0_mend 34 = .ok (.ireturn, 1) := dk_172 (dk_at dksX0_mend_1 11 rfl rfl)
abbrev cX0_isOf : ByteArray := prog_1_method_17_code
def yX0_isOf : MethodName := ⟨RX0, "isOf", "(II)Z"⟩
def dkwX0_isOf_1 : List UInt8 := [153, 0, 11, 27, 154, 0, 7, 4, 167, 0, 4, 3, 172]
abbrev dktX0_isOf_1 : List UInt8 := dkwX0_isOf_1 ++ []
def dkwX0_isOf_0 : List UInt8 := [28, 3, 6, 184, 0, 89, 153, 0, 11, 42, 27, 182, 0, 172, 167, 0, 22, 28, 7, 16, 7, 184, 0, 89]
abbrev dktX0_isOf_0 : List UInt8 := dkwX0_isOf_0 ++ dktX0_isOf_1
theorem dksX0_isOf_0 : cX0_isOf.data.toList.drop 0 = dktX0_isOf_0 := by decide +kernel
theorem dksX0_isOf_1 : cX0_isOf.data.toList.drop 24 = dktX0_isOf_1 := dk_seg dksX0_isOf_0 24 rfl rfl
theorem dX0_isOf_0 : decode cX0_isOf 0 = .ok (.iload_n 2, 1) := dk_28 (dk_at dksX0_isOf_0 0 rfl rfl)
theorem dX0_isOf_1 : decode cX0_isOf 1 = .ok (.iconst 0, 1) := dk_3 (dk_at dksX0_isOf_0 1 rfl rfl)
theorem dX0_isOf_2 : decode cX0_isOf 2 = .ok (.iconst 3, 1) := dk_6 (dk_at dksX0_isOf_0 2 rfl rfl)
theorem dX0_isOf_3 : decode cX0_isOf 3 = .ok (.invokestatic 89, 3) := dk_184 0 89 (dk_at dksX0_isOf_0 3 rfl rfl)
theorem dX0_isOf_6 : decode cX0_isOf 6 = .ok (.ifCond .eq 11, 3) := dk_153 0 11 (dk_at dksX0_isOf_0 6 rfl rfl)
theorem dX0_isOf_9 : decode cX0_isOf 9 = .ok (.aload_n 0, 1) := dk_42 (dk_at dksX0_isOf_0 9 rfl rfl)
theorem dX0_isOf_10 : decode cX0_isOf 10 = .ok (.iload_n 1, 1) := dk_27 (dk_at dksX0_isOf_0 10 rfl rfl)
theorem dX0_isOf_11 : decode cX0_isOf 11 = .ok (.invokevirtual 172, 3) := dk_182 0 172 (dk_at dksX0_isOf_0 11 rfl rfl)
theorem dX0_isOf_14 : decode cX0_isOf 14 = .ok (.goto 22, 3) := dk_167 0 22 (dk_at dksX0_isOf_0 14 rfl rfl)
theorem dX0_isOf_17 : decode cX0_isOf 17 = .ok (.iload_n 2, 1) := dk_28 (dk_at dksX0_isOf_0 17 rfl rfl)
theorem dX0_isOf_18 : decode cX0_isOf 18 = .ok (.iconst 4, 1) := dk_7 (dk_at dksX0_isOf_0 18 rfl rfl)
theorem dX0_isOf_19 : decode cX0_isOf 19 = .ok (.bipush 7, 2) := dk_16 7 (dk_at dksX0_isOf_0 19 rfl rfl)
theorem dX0_isOf_21 : decode cX0_isOf 21 = .ok (.invokestatic 89, 3) := dk_184 0 89 (dk_at dksX0_isOf_0 21 rfl rfl)
theorem dX0_isOf_24 : decode cX0_isOf 24 = .ok (.ifCond .eq 11, 3) := dk_153 0 11 (dk_at dksX0_isOf_1 0 rfl rfl)
theorem dX0_isOf_27 : decode cX0_isOf 27 = .ok (.iload_n 1, 1) := dk_27 (dk_at dksX0_isOf_1 3 rfl rfl)
theorem dX0_isOf_28 : decode cX0_isOf 28 = .ok (.ifCond .ne 7, 3) := dk_154 0 7 (dk_at dksX0_isOf_1 4 rfl rfl)
theorem dX0_isOf_31 : decode cX0_isOf 31 = .ok (.iconst 1, 1) := dk_4 (dk_at dksX0_isOf_1 7 rfl rfl)
theorem dX0_isOf_32 : decode cX0_isOf 32 = .ok (.goto 4, 3) := dk_167 0 4 (dk_at dksX0_isOf_1 8 rfl rfl)
theorem dX0_isOf_35 : decode cX0_isOf 35 = .ok (.iconst 0, 1) := dk_3 (dk_at dksX0_isOf_1 11 rfl rfl)
theorem dX0_isOf_36 : decode cX0_isOf 36 = .ok (.ireturn, 1) := dk_172 (dk_at dksX0_isOf_1 12 rfl rfl)
abbrev cX0_isPost : ByteArray := prog_1_method_5_code
def yX0_isPost : MethodName := ⟨RX0, "isPost", "(I)Z"⟩
def dkwX0_isPost_0 : List UInt8 := [27, 3, 42, 180, 0, 93, 4, 100, 184, 0, 89, 172]
abbrev dktX0_isPost_0 : List UInt8 := dkwX0_isPost_0 ++ []
theorem dksX0_isPost_0 : cX0_isPost.data.toList.drop 0 = dktX0_isPost_0 := by decide +kernel
theorem dX0_isPost_0 : decode cX0_isPost 0 = .ok (.iload_n 1, 1) := dk_27 (dk_at dksX0_isPost_0 0 rfl rfl)
theorem dX0_isPost_1 : decode cX0_isPost 1 = .ok (.iconst 0, 1) := dk_3 (dk_at dksX0_isPost_0 1 rfl rfl)
theorem dX0_isPost_2 : decode cX0_isPost 2 = .ok (.aload_n 0, 1) := dk_42 (dk_at dksX0_isPost_0 2 rfl rfl)
theorem dX0_isPost_3 : decode cX0_isPost 3 = .ok (.getfield 93, 3) := dk_180 0 93 (dk_at dksX0_isPost_0 3 rfl rfl)
theorem dX0_isPost_6 : decode cX0_isPost 6 = .ok (.iconst 1, 1) := dk_4 (dk_at dksX0_isPost_0 6 rfl rfl)
theorem dX0_isPost_7 : decode cX0_isPost 7 = .ok (.isub, 1) := dk_100 (dk_at dksX0_isPost_0 7 rfl rfl)
theorem dX0_isPost_8 : decode cX0_isPost 8 = .ok (.invokestatic 89, 3) := dk_184 0 89 (dk_at dksX0_isPost_0 8 rfl rfl)
theorem dX0_isPost_11 : decode cX0_isPost 11 = .ok (.ireturn, 1) := dk_172 (dk_at dksX0_isPost_0 11 rfl rfl)
abbrev cX0_mayBe : ByteArray := prog_1_method_19_code
def yX0_mayBe : MethodName := ⟨RX0, "mayBe", "(II)Z"⟩
def dkwX0_mayBe_3 : List UInt8 := [172, 27, 3, 16, 9, 184, 0, 89, 172, 27, 184, 0, 113, 172]
abbrev dktX0_mayBe_3 : List UInt8 := dkwX0_mayBe_3 ++ []
def dkwX0_mayBe_2 : List UInt8 := [27, 3, 16, 9, 184, 0, 89, 172, 27, 4, 17, 3, 231, 184, 0, 89, 172, 27, 4, 16, 9, 184, 0, 89]
abbrev dktX0_mayBe_2 : List UInt8 := dkwX0_mayBe_2 ++ dktX0_mayBe_3
def dkwX0_mayBe_1 : List UInt8 := [170, 0, 0, 0, 0, 0, 72, 0, 0, 0, 2, 0, 0, 0, 7, 0, 0, 0, 39, 0, 0, 0, 47, 0, 0, 0, 72, 0, 0, 0, 72, 0, 0, 0, 56, 0, 0, 0, 64]
abbrev dktX0_mayBe_1 : List UInt8 := dkwX0_mayBe_1 ++ dktX0_mayBe_2
def dkwX0_mayBe_0 : List UInt8 := [26]
abbrev dktX0_mayBe_0 : List UInt8 := dkwX0_mayBe_0 ++ dktX0_mayBe_1
theorem dksX0_mayBe_0 : cX0_mayBe.data.toList.drop 0 = dktX0_mayBe_0 := by decide +kernel
theorem dksX0_mayBe_1 : cX0_mayBe.data.toList.drop 1 = dktX0_mayBe_1 := dk_seg dksX0_mayBe_0 1 rfl rfl
theorem dksX0_mayBe_2 : cX0_mayBe.data.toList.drop 40 = dktX0_mayBe_2 := dk_seg dksX0_mayBe_1 39 rfl rfl
theorem dksX0_mayBe_3 : cX0_mayBe.data.toList.drop 64 = dktX0_mayBe_3 := dk_seg dksX0_mayBe_2 24 rfl rfl
theorem dX0_mayBe_0 : decode cX0_mayBe 0 = .ok (.iload_n 0, 1) := dk_26 (dk_at dksX0_mayBe_0 0 rfl rfl)
theorem dX0_mayBe_1 : decode cX0_mayBe 1 = .ok (.tableswitch 72 2 7 #[39, 47, 72, 72, 56, 64], 39) := by decide +kernel
theorem dX0_mayBe_40 : decode cX0_mayBe 40 = .ok (.iload_n 1, 1) := dk_27 (dk_at dksX0_mayBe_2 0 rfl rfl)
theorem dX0_mayBe_41 : decode cX0_mayBe 41 = .ok (.iconst 0, 1) := dk_3 (dk_at dksX0_mayBe_2 1 rfl rfl)
theorem dX0_mayBe_42 : decode cX0_mayBe 42 = .ok (.bipush 9, 2) := dk_16 9 (dk_at dksX0_mayBe_2 2 rfl rfl)
theorem dX0_mayBe_44 : decode cX0_mayBe 44 = .ok (.invokestatic 89, 3) := dk_184 0 89 (dk_at dksX0_mayBe_2 4 rfl rfl)
theorem dX0_mayBe_47 : decode cX0_mayBe 47 = .ok (.ireturn, 1) := dk_172 (dk_at dksX0_mayBe_2 7 rfl rfl)
theorem dX0_mayBe_48 : decode cX0_mayBe 48 = .ok (.iload_n 1, 1) := dk_27 (dk_at dksX0_mayBe_2 8 rfl rfl)
theorem dX0_mayBe_49 : decode cX0_mayBe 49 = .ok (.iconst 1, 1) := dk_4 (dk_at dksX0_mayBe_2 9 rfl rfl)
theorem dX0_mayBe_50 : decode cX0_mayBe 50 = .ok (.sipush 999, 3) := dk_17 3 231 (dk_at dksX0_mayBe_2 10 rfl rfl)
theorem dX0_mayBe_53 : decode cX0_mayBe 53 = .ok (.invokestatic 89, 3) := dk_184 0 89 (dk_at dksX0_mayBe_2 13 rfl rfl)
theorem dX0_mayBe_56 : decode cX0_mayBe 56 = .ok (.ireturn, 1) := dk_172 (dk_at dksX0_mayBe_2 16 rfl rfl)
theorem dX0_mayBe_57 : decode cX0_mayBe 57 = .ok (.iload_n 1, 1) := dk_27 (dk_at dksX0_mayBe_2 17 rfl rfl)
theorem dX0_mayBe_58 : decode cX0_mayBe 58 = .ok (.iconst 1, 1) := dk_4 (dk_at dksX0_mayBe_2 18 rfl rfl)
theorem dX0_mayBe_59 : decode cX0_mayBe 59 = .ok (.bipush 9, 2) := dk_16 9 (dk_at dksX0_mayBe_2 19 rfl rfl)
theorem dX0_mayBe_61 : decode cX0_mayBe 61 = .ok (.invokestatic 89, 3) := dk_184 0 89 (dk_at dksX0_mayBe_2 21 rfl rfl)
theorem dX0_mayBe_64 : decode cX0_mayBe 64 = .ok (.ireturn, 1) := dk_172 (dk_at dksX0_mayBe_3 0 rfl rfl)
theorem dX0_mayBe_65 : decode cX0_mayBe 65 = .ok (.iload_n 1, 1) := dk_27 (dk_at dksX0_mayBe_3 1 rfl rfl)
theorem dX0_mayBe_66 : decode cX0_mayBe 66 = .ok (.iconst 0, 1) := dk_3 (dk_at dksX0_mayBe_3 2 rfl rfl)
theorem dX0_mayBe_67 : decode cX0_mayBe 67 = .ok (.bipush 9, 2) := dk_16 9 (dk_at dksX0_mayBe_3 3 rfl rfl)
theorem dX0_mayBe_69 : decode cX0_mayBe 69 = .ok (.invokestatic 89, 3) := dk_184 0 89 (dk_at dksX0_mayBe_3 5 rfl rfl)
theorem dX0_mayBe_72 : decode cX0_mayBe 72 = .ok (.ireturn, 1) := dk_172 (dk_at dksX0_mayBe_3 8 rfl rfl)
theorem dX0_mayBe_73 : decode cX0_mayBe 73 = .ok (.iload_n 1, 1) := dk_27 (dk_at dksX0_mayBe_3 9 rfl rfl)
theorem dX0_mayBe_74 : decode cX0_mayBe 74 = .ok (.invokestatic 113, 3) := dk_184 0 113 (dk_at dksX0_mayBe_3 10 rfl rfl)
theorem dX0_mayBe_77 : decode cX0_mayBe 77 = .ok (.ireturn, 1) := dk_172 (dk_at dksX0_mayBe_3 13 rfl rfl)
abbrev cX0_valueOf : ByteArray := prog_1_method_18_code
def yX0_valueOf : MethodName := ⟨RX0, "valueOf", "(II)I"⟩
def dkwX0_valueOf_4 : List UInt8 := [180, 0, 103, 172, 42, 180, 0, 15, 172, 42, 180, 0, 19, 172]
abbrev dktX0_valueOf_4 : List UInt8 := dkwX0_valueOf_4 ++ []
def dkwX0_valueOf_3 : List UInt8 := [27, 50, 180, 0, 130, 172, 42, 180, 0, 11, 27, 50, 180, 0, 145, 172, 42, 180, 0, 100, 172, 42]
abbrev dktX0_valueOf_3 : List UInt8 := dkwX0_valueOf_3 ++ dktX0_valueOf_4
def dkwX0_valueOf_2 : List UInt8 := [42, 180, 0, 11, 27, 50, 180, 0, 139, 172, 42, 180, 0, 11, 27, 50, 180, 0, 142, 172, 42, 180, 0, 11]
abbrev dktX0_valueOf_2 : List UInt8 := dkwX0_valueOf_2 ++ dktX0_valueOf_3
def dkwX0_valueOf_1 : List UInt8 := [170, 0, 0, 0, 0, 0, 98, 0, 0, 0, 0, 0, 0, 0, 6, 0, 0, 0, 43, 0, 0, 0, 53, 0, 0, 0, 63, 0, 0, 0, 73, 0, 0, 0, 83, 0, 0, 0, 88, 0, 0, 0, 93]
abbrev dktX0_valueOf_1 : List UInt8 := dkwX0_valueOf_1 ++ dktX0_valueOf_2
def dkwX0_valueOf_0 : List UInt8 := [28]
abbrev dktX0_valueOf_0 : List UInt8 := dkwX0_valueOf_0 ++ dktX0_valueOf_1
theorem dksX0_valueOf_0 : cX0_valueOf.data.toList.drop 0 = dktX0_valueOf_0 := by decide +kernel
theorem dksX0_valueOf_1 : cX0_valueOf.data.toList.drop 1 = dktX0_valueOf_1 := dk_seg dksX0_valueOf_0 1 rfl rfl
theorem dksX0_valueOf_2 : cX0_valueOf.data.toList.drop 44 = dktX0_valueOf_2 := dk_seg dksX0_valueOf_1 43 rfl rfl
theorem dksX0_valueOf_3 : cX0_valueOf.data.toList.drop 68 = dktX0_valueOf_3 := dk_seg dksX0_valueOf_2 24 rfl rfl
theorem dksX0_valueOf_4 : cX0_valueOf.data.toList.drop 90 = dktX0_valueOf_4 := dk_seg dksX0_valueOf_3 22 rfl rfl
theorem dX0_valueOf_0 : decode cX0_valueOf 0 = .ok (.iload_n 2, 1) := dk_28 (dk_at dksX0_valueOf_0 0 rfl rfl)
theorem dX0_valueOf_1 : decode cX0_valueOf 1 = .ok (.tableswitch 98 0 6 #[43, 53, 63, 73, 83, 88, 93], 43) := by decide +kernel
theorem dX0_valueOf_44 : decode cX0_valueOf 44 = .ok (.aload_n 0, 1) := dk_42 (dk_at dksX0_valueOf_2 0 rfl rfl)
theorem dX0_valueOf_45 : decode cX0_valueOf 45 = .ok (.getfield 11, 3) := dk_180 0 11 (dk_at dksX0_valueOf_2 1 rfl rfl)
theorem dX0_valueOf_48 : decode cX0_valueOf 48 = .ok (.iload_n 1, 1) := dk_27 (dk_at dksX0_valueOf_2 4 rfl rfl)
theorem dX0_valueOf_49 : decode cX0_valueOf 49 = .ok (.aaload, 1) := dk_50 (dk_at dksX0_valueOf_2 5 rfl rfl)
theorem dX0_valueOf_50 : decode cX0_valueOf 50 = .ok (.getfield 139, 3) := dk_180 0 139 (dk_at dksX0_valueOf_2 6 rfl rfl)
theorem dX0_valueOf_53 : decode cX0_valueOf 53 = .ok (.ireturn, 1) := dk_172 (dk_at dksX0_valueOf_2 9 rfl rfl)
theorem dX0_valueOf_54 : decode cX0_valueOf 54 = .ok (.aload_n 0, 1) := dk_42 (dk_at dksX0_valueOf_2 10 rfl rfl)
theorem dX0_valueOf_55 : decode cX0_valueOf 55 = .ok (.getfield 11, 3) := dk_180 0 11 (dk_at dksX0_valueOf_2 11 rfl rfl)
theorem dX0_valueOf_58 : decode cX0_valueOf 58 = .ok (.iload_n 1, 1) := dk_27 (dk_at dksX0_valueOf_2 14 rfl rfl)
theorem dX0_valueOf_59 : decode cX0_valueOf 59 = .ok (.aaload, 1) := dk_50 (dk_at dksX0_valueOf_2 15 rfl rfl)
theorem dX0_valueOf_60 : decode cX0_valueOf 60 = .ok (.getfield 142, 3) := dk_180 0 142 (dk_at dksX0_valueOf_2 16 rfl rfl)
theorem dX0_valueOf_63 : decode cX0_valueOf 63 = .ok (.ireturn, 1) := dk_172 (dk_at dksX0_valueOf_2 19 rfl rfl)
theorem dX0_valueOf_64 : decode cX0_valueOf 64 = .ok (.aload_n 0, 1) := dk_42 (dk_at dksX0_valueOf_2 20 rfl rfl)
theorem dX0_valueOf_65 : decode cX0_valueOf 65 = .ok (.getfield 11, 3) := dk_180 0 11 (dk_at dksX0_valueOf_2 21 rfl rfl)
theorem dX0_valueOf_68 : decode cX0_valueOf 68 = .ok (.iload_n 1, 1) := dk_27 (dk_at dksX0_valueOf_3 0 rfl rfl)
theorem dX0_valueOf_69 : decode cX0_valueOf 69 = .ok (.aaload, 1) := dk_50 (dk_at dksX0_valueOf_3 1 rfl rfl)
theorem dX0_valueOf_70 : decode cX0_valueOf 70 = .ok (.getfield 130, 3) := dk_180 0 130 (dk_at dksX0_valueOf_3 2 rfl rfl)
theorem dX0_valueOf_73 : decode cX0_valueOf 73 = .ok (.ireturn, 1) := dk_172 (dk_at dksX0_valueOf_3 5 rfl rfl)
theorem dX0_valueOf_74 : decode cX0_valueOf 74 = .ok (.aload_n 0, 1) := dk_42 (dk_at dksX0_valueOf_3 6 rfl rfl)
theorem dX0_valueOf_75 : decode cX0_valueOf 75 = .ok (.getfield 11, 3) := dk_180 0 11 (dk_at dksX0_valueOf_3 7 rfl rfl)
theorem dX0_valueOf_78 : decode cX0_valueOf 78 = .ok (.iload_n 1, 1) := dk_27 (dk_at dksX0_valueOf_3 10 rfl rfl)
theorem dX0_valueOf_79 : decode cX0_valueOf 79 = .ok (.aaload, 1) := dk_50 (dk_at dksX0_valueOf_3 11 rfl rfl)
theorem dX0_valueOf_80 : decode cX0_valueOf 80 = .ok (.getfield 145, 3) := dk_180 0 145 (dk_at dksX0_valueOf_3 12 rfl rfl)
theorem dX0_valueOf_83 : decode cX0_valueOf 83 = .ok (.ireturn, 1) := dk_172 (dk_at dksX0_valueOf_3 15 rfl rfl)
theorem dX0_valueOf_84 : decode cX0_valueOf 84 = .ok (.aload_n 0, 1) := dk_42 (dk_at dksX0_valueOf_3 16 rfl rfl)
theorem dX0_valueOf_85 : decode cX0_valueOf 85 = .ok (.getfield 100, 3) := dk_180 0 100 (dk_at dksX0_valueOf_3 17 rfl rfl)
theorem dX0_valueOf_88 : decode cX0_valueOf 88 = .ok (.ireturn, 1) := dk_172 (dk_at dksX0_valueOf_3 20 rfl rfl)
theorem dX0_valueOf_89 : decode cX0_valueOf 89 = .ok (.aload_n 0, 1) := dk_42 (dk_at dksX0_valueOf_3 21 rfl rfl)
theorem dX0_valueOf_90 : decode cX0_valueOf 90 = .ok (.getfield 103, 3) := dk_180 0 103 (dk_at dksX0_valueOf_4 0 rfl rfl)
theorem dX0_valueOf_93 : decode cX0_valueOf 93 = .ok (.ireturn, 1) := dk_172 (dk_at dksX0_valueOf_4 3 rfl rfl)
theorem dX0_valueOf_94 : decode cX0_valueOf 94 = .ok (.aload_n 0, 1) := dk_42 (dk_at dksX0_valueOf_4 4 rfl rfl)
theorem dX0_valueOf_95 : decode cX0_valueOf 95 = .ok (.getfield 15, 3) := dk_180 0 15 (dk_at dksX0_valueOf_4 5 rfl rfl)
theorem dX0_valueOf_98 : decode cX0_valueOf 98 = .ok (.ireturn, 1) := dk_172 (dk_at dksX0_valueOf_4 8 rfl rfl)
theorem dX0_valueOf_99 : decode cX0_valueOf 99 = .ok (.aload_n 0, 1) := dk_42 (dk_at dksX0_valueOf_4 9 rfl rfl)
theorem dX0_valueOf_100 : decode cX0_valueOf 100 = .ok (.getfield 19, 3) := dk_180 0 19 (dk_at dksX0_valueOf_4 10 rfl rfl)
theorem dX0_valueOf_103 : decode cX0_valueOf 103 = .ok (.ireturn, 1) := dk_172 (dk_at dksX0_valueOf_4 13 rfl rfl)
abbrev cX0_become : ByteArray := prog_1_method_14_code
def yX0_become : MethodName := ⟨RX0, "become", "(IIII)I"⟩
def dkwX0_become_4 : List UInt8 := [181, 0, 151, 42, 27, 28, 21, 4, 182, 0, 157, 29, 172]
abbrev dktX0_become_4 : List UInt8 := dkwX0_become_4 ++ []
def dkwX0_become_3 : List UInt8 := [180, 0, 151, 187, 0, 22, 89, 27, 28, 29, 21, 4, 183, 0, 154, 83, 42, 89, 180, 0, 151, 4, 96]
abbrev dktX0_become_3 : List UInt8 := dkwX0_become_3 ++ dktX0_become_4
def dkwX0_become_2 : List UInt8 := [83, 132, 5, 1, 167, 255, 230, 42, 89, 180, 0, 151, 4, 100, 181, 0, 151, 42, 180, 0, 24, 42]
abbrev dktX0_become_2 : List UInt8 := dkwX0_become_2 ++ dktX0_become_3
def dkwX0_become_1 : List UInt8 := [54, 5, 21, 5, 16, 40, 162, 0, 25, 42, 180, 0, 24, 21, 5, 4, 100, 42, 180, 0, 24, 21, 5, 50]
abbrev dktX0_become_1 : List UInt8 := dkwX0_become_1 ++ dktX0_become_2
def dkwX0_become_0 : List UInt8 := [29, 21, 4, 160, 0, 5, 29, 172, 42, 3, 181, 0, 148, 42, 180, 0, 151, 16, 40, 160, 0, 45, 4]
abbrev dktX0_become_0 : List UInt8 := dkwX0_become_0 ++ dktX0_become_1
theorem dksX0_become_0 : cX0_become.data.toList.drop 0 = dktX0_become_0 := by decide +kernel
theorem dksX0_become_1 : cX0_become.data.toList.drop 23 = dktX0_become_1 := dk_seg dksX0_become_0 23 rfl rfl
theorem dksX0_become_2 : cX0_become.data.toList.drop 47 = dktX0_become_2 := dk_seg dksX0_become_1 24 rfl rfl
theorem dksX0_become_3 : cX0_become.data.toList.drop 69 = dktX0_become_3 := dk_seg dksX0_become_2 22 rfl rfl
theorem dksX0_become_4 : cX0_become.data.toList.drop 92 = dktX0_become_4 := dk_seg dksX0_become_3 23 rfl rfl
theorem dX0_become_0 : decode cX0_become 0 = .ok (.iload_n 3, 1) := dk_29 (dk_at dksX0_become_0 0 rfl rfl)
theorem dX0_become_1 : decode cX0_become 1 = .ok (.iload 4, 2) := dk_21 4 (dk_at dksX0_become_0 1 rfl rfl)
theorem dX0_become_3 : decode cX0_become 3 = .ok (.if_icmp .ne 5, 3) := dk_160 0 5 (dk_at dksX0_become_0 3 rfl rfl)
theorem dX0_become_6 : decode cX0_become 6 = .ok (.iload_n 3, 1) := dk_29 (dk_at dksX0_become_0 6 rfl rfl)
theorem dX0_become_7 : decode cX0_become 7 = .ok (.ireturn, 1) := dk_172 (dk_at dksX0_become_0 7 rfl rfl)
theorem dX0_become_8 : decode cX0_become 8 = .ok (.aload_n 0, 1) := dk_42 (dk_at dksX0_become_0 8 rfl rfl)
theorem dX0_become_9 : decode cX0_become 9 = .ok (.iconst 0, 1) := dk_3 (dk_at dksX0_become_0 9 rfl rfl)
theorem dX0_become_10 : decode cX0_become 10 = .ok (.putfield 148, 3) := dk_181 0 148 (dk_at dksX0_become_0 10 rfl rfl)
theorem dX0_become_13 : decode cX0_become 13 = .ok (.aload_n 0, 1) := dk_42 (dk_at dksX0_become_0 13 rfl rfl)
theorem dX0_become_14 : decode cX0_become 14 = .ok (.getfield 151, 3) := dk_180 0 151 (dk_at dksX0_become_0 14 rfl rfl)
theorem dX0_become_17 : decode cX0_become 17 = .ok (.bipush 40, 2) := dk_16 40 (dk_at dksX0_become_0 17 rfl rfl)
theorem dX0_become_19 : decode cX0_become 19 = .ok (.if_icmp .ne 45, 3) := dk_160 0 45 (dk_at dksX0_become_0 19 rfl rfl)
theorem dX0_become_22 : decode cX0_become 22 = .ok (.iconst 1, 1) := dk_4 (dk_at dksX0_become_0 22 rfl rfl)
theorem dX0_become_23 : decode cX0_become 23 = .ok (.istore 5, 2) := dk_54 5 (dk_at dksX0_become_1 0 rfl rfl)
theorem dX0_become_25 : decode cX0_become 25 = .ok (.iload 5, 2) := dk_21 5 (dk_at dksX0_become_1 2 rfl rfl)
theorem dX0_become_27 : decode cX0_become 27 = .ok (.bipush 40, 2) := dk_16 40 (dk_at dksX0_become_1 4 rfl rfl)
theorem dX0_become_29 : decode cX0_become 29 = .ok (.if_icmp .ge 25, 3) := dk_162 0 25 (dk_at dksX0_become_1 6 rfl rfl)
theorem dX0_become_32 : decode cX0_become 32 = .ok (.aload_n 0, 1) := dk_42 (dk_at dksX0_become_1 9 rfl rfl)
theorem dX0_become_33 : decode cX0_become 33 = .ok (.getfield 24, 3) := dk_180 0 24 (dk_at dksX0_become_1 10 rfl rfl)
theorem dX0_become_36 : decode cX0_become 36 = .ok (.iload 5, 2) := dk_21 5 (dk_at dksX0_become_1 13 rfl rfl)
theorem dX0_become_38 : decode cX0_become 38 = .ok (.iconst 1, 1) := dk_4 (dk_at dksX0_become_1 15 rfl rfl)
theorem dX0_become_39 : decode cX0_become 39 = .ok (.isub, 1) := dk_100 (dk_at dksX0_become_1 16 rfl rfl)
theorem dX0_become_40 : decode cX0_become 40 = .ok (.aload_n 0, 1) := dk_42 (dk_at dksX0_become_1 17 rfl rfl)
theorem dX0_become_41 : decode cX0_become 41 = .ok (.getfield 24, 3) := dk_180 0 24 (dk_at dksX0_become_1 18 rfl rfl)
theorem dX0_become_44 : decode cX0_become 44 = .ok (.iload 5, 2) := dk_21 5 (dk_at dksX0_become_1 21 rfl rfl)
theorem dX0_become_46 : decode cX0_become 46 = .ok (.aaload, 1) := dk_50 (dk_at dksX0_become_1 23 rfl rfl)
theorem dX0_become_47 : decode cX0_become 47 = .ok (.aastore, 1) := dk_83 (dk_at dksX0_become_2 0 rfl rfl)
theorem dX0_become_48 : decode cX0_become 48 = .ok (.iinc 5 1, 3) := dk_132 5 1 (dk_at dksX0_become_2 1 rfl rfl)
theorem dX0_become_51 : decode cX0_become 51 = .ok (.goto (-26), 3) := dk_167 255 230 (dk_at dksX0_become_2 4 rfl rfl)
theorem dX0_become_54 : decode cX0_become 54 = .ok (.aload_n 0, 1) := dk_42 (dk_at dksX0_become_2 7 rfl rfl)
theorem dX0_become_55 : decode cX0_become 55 = .ok (.dup, 1) := dk_89 (dk_at dksX0_become_2 8 rfl rfl)
theorem dX0_become_56 : decode cX0_become 56 = .ok (.getfield 151, 3) := dk_180 0 151 (dk_at dksX0_become_2 9 rfl rfl)
theorem dX0_become_59 : decode cX0_become 59 = .ok (.iconst 1, 1) := dk_4 (dk_at dksX0_become_2 12 rfl rfl)
theorem dX0_become_60 : decode cX0_become 60 = .ok (.isub, 1) := dk_100 (dk_at dksX0_become_2 13 rfl rfl)
theorem dX0_become_61 : decode cX0_become 61 = .ok (.putfield 151, 3) := dk_181 0 151 (dk_at dksX0_become_2 14 rfl rfl)
theorem dX0_become_64 : decode cX0_become 64 = .ok (.aload_n 0, 1) := dk_42 (dk_at dksX0_become_2 17 rfl rfl)
theorem dX0_become_65 : decode cX0_become 65 = .ok (.getfield 24, 3) := dk_180 0 24 (dk_at dksX0_become_2 18 rfl rfl)
theorem dX0_become_68 : decode cX0_become 68 = .ok (.aload_n 0, 1) := dk_42 (dk_at dksX0_become_2 21 rfl rfl)
theorem dX0_become_69 : decode cX0_become 69 = .ok (.getfield 151, 3) := dk_180 0 151 (dk_at dksX0_become_3 0 rfl rfl)
theorem dX0_become_72 : decode cX0_become 72 = .ok (.new 22, 3) := dk_187 0 22 (dk_at dksX0_become_3 3 rfl rfl)
theorem dX0_become_75 : decode cX0_become 75 = .ok (.dup, 1) := dk_89 (dk_at dksX0_become_3 6 rfl rfl)
theorem dX0_become_76 : decode cX0_become 76 = .ok (.iload_n 1, 1) := dk_27 (dk_at dksX0_become_3 7 rfl rfl)
theorem dX0_become_77 : decode cX0_become 77 = .ok (.iload_n 2, 1) := dk_28 (dk_at dksX0_become_3 8 rfl rfl)
theorem dX0_become_78 : decode cX0_become 78 = .ok (.iload_n 3, 1) := dk_29 (dk_at dksX0_become_3 9 rfl rfl)
theorem dX0_become_79 : decode cX0_become 79 = .ok (.iload 4, 2) := dk_21 4 (dk_at dksX0_become_3 10 rfl rfl)
theorem dX0_become_81 : decode cX0_become 81 = .ok (.invokespecial 154, 3) := dk_183 0 154 (dk_at dksX0_become_3 12 rfl rfl)
theorem dX0_become_84 : decode cX0_become 84 = .ok (.aastore, 1) := dk_83 (dk_at dksX0_become_3 15 rfl rfl)
theorem dX0_become_85 : decode cX0_become 85 = .ok (.aload_n 0, 1) := dk_42 (dk_at dksX0_become_3 16 rfl rfl)
theorem dX0_become_86 : decode cX0_become 86 = .ok (.dup, 1) := dk_89 (dk_at dksX0_become_3 17 rfl rfl)
theorem dX0_become_87 : decode cX0_become 87 = .ok (.getfield 151, 3) := dk_180 0 151 (dk_at dksX0_become_3 18 rfl rfl)
theorem dX0_become_90 : decode cX0_become 90 = .ok (.iconst 1, 1) := dk_4 (dk_at dksX0_become_3 21 rfl rfl)
theorem dX0_become_91 : decode cX0_become 91 = .ok (.iadd, 1) := dk_96 (dk_at dksX0_become_3 22 rfl rfl)
theorem dX0_become_92 : decode cX0_become 92 = .ok (.putfield 151, 3) := dk_181 0 151 (dk_at dksX0_become_4 0 rfl rfl)
theorem dX0_become_95 : decode cX0_become 95 = .ok (.aload_n 0, 1) := dk_42 (dk_at dksX0_become_4 3 rfl rfl)
theorem dX0_become_96 : decode cX0_become 96 = .ok (.iload_n 1, 1) := dk_27 (dk_at dksX0_become_4 4 rfl rfl)
theorem dX0_become_97 : decode cX0_become 97 = .ok (.iload_n 2, 1) := dk_28 (dk_at dksX0_become_4 5 rfl rfl)
theorem dX0_become_98 : decode cX0_become 98 = .ok (.iload 4, 2) := dk_21 4 (dk_at dksX0_become_4 6 rfl rfl)
theorem dX0_become_100 : decode cX0_become 100 = .ok (.invokevirtual 157, 3) := dk_182 0 157 (dk_at dksX0_become_4 8 rfl rfl)
theorem dX0_become_103 : decode cX0_become 103 = .ok (.iload_n 3, 1) := dk_29 (dk_at dksX0_become_4 11 rfl rfl)
theorem dX0_become_104 : decode cX0_become 104 = .ok (.ireturn, 1) := dk_172 (dk_at dksX0_become_4 12 rfl rfl)
abbrev cX0_of : ByteArray := prog_1_method_21_code
def yX0_of : MethodName := ⟨RX0, "of", "(II)I"⟩
def dkwX0_of_2 : List UInt8 := [172]
abbrev dktX0_of_2 : List UInt8 := dkwX0_of_2 ++ []
def dkwX0_of_1 : List UInt8 := [167, 0, 4, 2, 172, 42, 27, 28, 182, 0, 175, 153, 0, 12, 42, 27, 28, 182, 0, 182, 167, 0, 4, 2]
abbrev dktX0_of_1 : List UInt8 := dkwX0_of_1 ++ dktX0_of_2
def dkwX0_of_0 : List UInt8 := [28, 16, 8, 160, 0, 25, 42, 27, 182, 0, 172, 153, 0, 15, 42, 180, 0, 11, 27, 50, 180, 0, 189]
abbrev dktX0_of_0 : List UInt8 := dkwX0_of_0 ++ dktX0_of_1
theorem dksX0_of_0 : cX0_of.data.toList.drop 0 = dktX0_of_0 := by decide +kernel
theorem dksX0_of_1 : cX0_of.data.toList.drop 23 = dktX0_of_1 := dk_seg dksX0_of_0 23 rfl rfl
theorem dksX0_of_2 : cX0_of.data.toList.drop 47 = dktX0_of_2 := dk_seg dksX0_of_1 24 rfl rfl
theorem dX0_of_0 : decode cX0_of 0 = .ok (.iload_n 2, 1) := dk_28 (dk_at dksX0_of_0 0 rfl rfl)
theorem dX0_of_1 : decode cX0_of 1 = .ok (.bipush 8, 2) := dk_16 8 (dk_at dksX0_of_0 1 rfl rfl)
theorem dX0_of_3 : decode cX0_of 3 = .ok (.if_icmp .ne 25, 3) := dk_160 0 25 (dk_at dksX0_of_0 3 rfl rfl)
theorem dX0_of_6 : decode cX0_of 6 = .ok (.aload_n 0, 1) := dk_42 (dk_at dksX0_of_0 6 rfl rfl)
theorem dX0_of_7 : decode cX0_of 7 = .ok (.iload_n 1, 1) := dk_27 (dk_at dksX0_of_0 7 rfl rfl)
theorem dX0_of_8 : decode cX0_of 8 = .ok (.invokevirtual 172, 3) := dk_182 0 172 (dk_at dksX0_of_0 8 rfl rfl)
theorem dX0_of_11 : decode cX0_of 11 = .ok (.ifCond .eq 15, 3) := dk_153 0 15 (dk_at dksX0_of_0 11 rfl rfl)
theorem dX0_of_14 : decode cX0_of 14 = .ok (.aload_n 0, 1) := dk_42 (dk_at dksX0_of_0 14 rfl rfl)
theorem dX0_of_15 : decode cX0_of 15 = .ok (.getfield 11, 3) := dk_180 0 11 (dk_at dksX0_of_0 15 rfl rfl)
theorem dX0_of_18 : decode cX0_of 18 = .ok (.iload_n 1, 1) := dk_27 (dk_at dksX0_of_0 18 rfl rfl)
theorem dX0_of_19 : decode cX0_of 19 = .ok (.aaload, 1) := dk_50 (dk_at dksX0_of_0 19 rfl rfl)
theorem dX0_of_20 : decode cX0_of 20 = .ok (.getfield 189, 3) := dk_180 0 189 (dk_at dksX0_of_0 20 rfl rfl)
theorem dX0_of_23 : decode cX0_of 23 = .ok (.goto 4, 3) := dk_167 0 4 (dk_at dksX0_of_1 0 rfl rfl)
theorem dX0_of_26 : decode cX0_of 26 = .ok (.iconst (-1), 1) := dk_2 (dk_at dksX0_of_1 3 rfl rfl)
theorem dX0_of_27 : decode cX0_of 27 = .ok (.ireturn, 1) := dk_172 (dk_at dksX0_of_1 4 rfl rfl)
theorem dX0_of_28 : decode cX0_of 28 = .ok (.aload_n 0, 1) := dk_42 (dk_at dksX0_of_1 5 rfl rfl)
theorem dX0_of_29 : decode cX0_of 29 = .ok (.iload_n 1, 1) := dk_27 (dk_at dksX0_of_1 6 rfl rfl)
theorem dX0_of_30 : decode cX0_of 30 = .ok (.iload_n 2, 1) := dk_28 (dk_at dksX0_of_1 7 rfl rfl)
theorem dX0_of_31 : decode cX0_of 31 = .ok (.invokevirtual 175, 3) := dk_182 0 175 (dk_at dksX0_of_1 8 rfl rfl)
theorem dX0_of_34 : decode cX0_of 34 = .ok (.ifCond .eq 12, 3) := dk_153 0 12 (dk_at dksX0_of_1 11 rfl rfl)
theorem dX0_of_37 : decode cX0_of 37 = .ok (.aload_n 0, 1) := dk_42 (dk_at dksX0_of_1 14 rfl rfl)
theorem dX0_of_38 : decode cX0_of 38 = .ok (.iload_n 1, 1) := dk_27 (dk_at dksX0_of_1 15 rfl rfl)
theorem dX0_of_39 : decode cX0_of 39 = .ok (.iload_n 2, 1) := dk_28 (dk_at dksX0_of_1 16 rfl rfl)
theorem dX0_of_40 : decode cX0_of 40 = .ok (.invokevirtual 182, 3) := dk_182 0 182 (dk_at dksX0_of_1 17 rfl rfl)
theorem dX0_of_43 : decode cX0_of 43 = .ok (.goto 4, 3) := dk_167 0 4 (dk_at dksX0_of_1 20 rfl rfl)
theorem dX0_of_46 : decode cX0_of 46 = .ok (.iconst (-1), 1) := dk_2 (dk_at dksX0_of_1 23 rfl rfl)
theorem dX0_of_47 : decode cX0_of 47 = .ok (.ireturn, 1) := dk_172 (dk_at dksX0_of_2 0 rfl rfl)
abbrev cX0_feed : ByteArray := prog_1_method_22_code
def yX0_feed : MethodName := ⟨RX0, "feed", "(I)I"⟩
def dkwX0_feed_2 : List UInt8 := [180, 0, 192, 172]
abbrev dktX0_feed_2 : List UInt8 := dkwX0_feed_2 ++ []
def dkwX0_feed_1 : List UInt8 := [172, 42, 180, 0, 28, 42, 180, 0, 192, 27, 145, 84, 42, 89, 180, 0, 192, 4, 96, 181, 0, 192, 42]
abbrev dktX0_feed_1 : List UInt8 := dkwX0_feed_1 ++ dktX0_feed_2
def dkwX0_feed_0 : List UInt8 := [27, 3, 17, 0, 255, 184, 0, 89, 154, 0, 5, 2, 172, 42, 180, 0, 192, 16, 120, 160, 0, 6, 16, 253]
abbrev dktX0_feed_0 : List UInt8 := dkwX0_feed_0 ++ dktX0_feed_1
theorem dksX0_feed_0 : cX0_feed.data.toList.drop 0 = dktX0_feed_0 := by decide +kernel
theorem dksX0_feed_1 : cX0_feed.data.toList.drop 24 = dktX0_feed_1 := dk_seg dksX0_feed_0 24 rfl rfl
theorem dksX0_feed_2 : cX0_feed.data.toList.drop 47 = dktX0_feed_2 := dk_seg dksX0_feed_1 23 rfl rfl
theorem dX0_feed_0 : decode cX0_feed 0 = .ok (.iload_n 1, 1) := dk_27 (dk_at dksX0_feed_0 0 rfl rfl)
theorem dX0_feed_1 : decode cX0_feed 1 = .ok (.iconst 0, 1) := dk_3 (dk_at dksX0_feed_0 1 rfl rfl)
theorem dX0_feed_2 : decode cX0_feed 2 = .ok (.sipush 255, 3) := dk_17 0 255 (dk_at dksX0_feed_0 2 rfl rfl)
theorem dX0_feed_5 : decode cX0_feed 5 = .ok (.invokestatic 89, 3) := dk_184 0 89 (dk_at dksX0_feed_0 5 rfl rfl)
theorem dX0_feed_8 : decode cX0_feed 8 = .ok (.ifCond .ne 5, 3) := dk_154 0 5 (dk_at dksX0_feed_0 8 rfl rfl)
theorem dX0_feed_11 : decode cX0_feed 11 = .ok (.iconst (-1), 1) := dk_2 (dk_at dksX0_feed_0 11 rfl rfl)
theorem dX0_feed_12 : decode cX0_feed 12 = .ok (.ireturn, 1) := dk_172 (dk_at dksX0_feed_0 12 rfl rfl)
theorem dX0_feed_13 : decode cX0_feed 13 = .ok (.aload_n 0, 1) := dk_42 (dk_at dksX0_feed_0 13 rfl rfl)
theorem dX0_feed_14 : decode cX0_feed 14 = .ok (.getfield 192, 3) := dk_180 0 192 (dk_at dksX0_feed_0 14 rfl rfl)
theorem dX0_feed_17 : decode cX0_feed 17 = .ok (.bipush 120, 2) := dk_16 120 (dk_at dksX0_feed_0 17 rfl rfl)
theorem dX0_feed_19 : decode cX0_feed 19 = .ok (.if_icmp .ne 6, 3) := dk_160 0 6 (dk_at dksX0_feed_0 19 rfl rfl)
theorem dX0_feed_22 : decode cX0_feed 22 = .ok (.bipush (-3), 2) := dk_16 253 (dk_at dksX0_feed_0 22 rfl rfl)
theorem dX0_feed_24 : decode cX0_feed 24 = .ok (.ireturn, 1) := dk_172 (dk_at dksX0_feed_1 0 rfl rfl)
theorem dX0_feed_25 : decode cX0_feed 25 = .ok (.aload_n 0, 1) := dk_42 (dk_at dksX0_feed_1 1 rfl rfl)
theorem dX0_feed_26 : decode cX0_feed 26 = .ok (.getfield 28, 3) := dk_180 0 28 (dk_at dksX0_feed_1 2 rfl rfl)
theorem dX0_feed_29 : decode cX0_feed 29 = .ok (.aload_n 0, 1) := dk_42 (dk_at dksX0_feed_1 5 rfl rfl)
theorem dX0_feed_30 : decode cX0_feed 30 = .ok (.getfield 192, 3) := dk_180 0 192 (dk_at dksX0_feed_1 6 rfl rfl)
theorem dX0_feed_33 : decode cX0_feed 33 = .ok (.iload_n 1, 1) := dk_27 (dk_at dksX0_feed_1 9 rfl rfl)
theorem dX0_feed_34 : decode cX0_feed 34 = .ok (.i2b, 1) := dk_145 (dk_at dksX0_feed_1 10 rfl rfl)
theorem dX0_feed_35 : decode cX0_feed 35 = .ok (.bastore, 1) := dk_84 (dk_at dksX0_feed_1 11 rfl rfl)
theorem dX0_feed_36 : decode cX0_feed 36 = .ok (.aload_n 0, 1) := dk_42 (dk_at dksX0_feed_1 12 rfl rfl)
theorem dX0_feed_37 : decode cX0_feed 37 = .ok (.dup, 1) := dk_89 (dk_at dksX0_feed_1 13 rfl rfl)
theorem dX0_feed_38 : decode cX0_feed 38 = .ok (.getfield 192, 3) := dk_180 0 192 (dk_at dksX0_feed_1 14 rfl rfl)
theorem dX0_feed_41 : decode cX0_feed 41 = .ok (.iconst 1, 1) := dk_4 (dk_at dksX0_feed_1 17 rfl rfl)
theorem dX0_feed_42 : decode cX0_feed 42 = .ok (.iadd, 1) := dk_96 (dk_at dksX0_feed_1 18 rfl rfl)
theorem dX0_feed_43 : decode cX0_feed 43 = .ok (.putfield 192, 3) := dk_181 0 192 (dk_at dksX0_feed_1 19 rfl rfl)
theorem dX0_feed_46 : decode cX0_feed 46 = .ok (.aload_n 0, 1) := dk_42 (dk_at dksX0_feed_1 22 rfl rfl)
theorem dX0_feed_47 : decode cX0_feed 47 = .ok (.getfield 192, 3) := dk_180 0 192 (dk_at dksX0_feed_2 0 rfl rfl)
theorem dX0_feed_50 : decode cX0_feed 50 = .ok (.ireturn, 1) := dk_172 (dk_at dksX0_feed_2 3 rfl rfl)
abbrev cX0_law : ByteArray := prog_1_method_23_code
def yX0_law : MethodName := ⟨RX0, "law", "()I"⟩
def dkwX0_law_1 : List UInt8 := [155, 0, 11, 16, 156, 43, 180, 0, 204, 100, 172, 42, 44, 181, 0, 207, 4, 172]
abbrev dktX0_law_1 : List UInt8 := dkwX0_law_1 ++ []
def dkwX0_law_0 : List UInt8 := [187, 0, 195, 89, 42, 183, 0, 197, 76, 43, 182, 0, 200, 77, 42, 3, 181, 0, 192, 43, 180, 0, 204]
abbrev dktX0_law_0 : List UInt8 := dkwX0_law_0 ++ dktX0_law_1
theorem dksX0_law_0 : cX0_law.data.toList.drop 0 = dktX0_law_0 := by decide +kernel
theorem dksX0_law_1 : cX0_law.data.toList.drop 23 = dktX0_law_1 := dk_seg dksX0_law_0 23 rfl rfl
theorem dX0_law_0 : decode cX0_law 0 = .ok (.new 195, 3) := dk_187 0 195 (dk_at dksX0_law_0 0 rfl rfl)
theorem dX0_law_3 : decode cX0_law 3 = .ok (.dup, 1) := dk_89 (dk_at dksX0_law_0 3 rfl rfl)
theorem dX0_law_4 : decode cX0_law 4 = .ok (.aload_n 0, 1) := dk_42 (dk_at dksX0_law_0 4 rfl rfl)
theorem dX0_law_5 : decode cX0_law 5 = .ok (.invokespecial 197, 3) := dk_183 0 197 (dk_at dksX0_law_0 5 rfl rfl)
theorem dX0_law_8 : decode cX0_law 8 = .ok (.astore_n 1, 1) := dk_76 (dk_at dksX0_law_0 8 rfl rfl)
theorem dX0_law_9 : decode cX0_law 9 = .ok (.aload_n 1, 1) := dk_43 (dk_at dksX0_law_0 9 rfl rfl)
theorem dX0_law_10 : decode cX0_law 10 = .ok (.invokevirtual 200, 3) := dk_182 0 200 (dk_at dksX0_law_0 10 rfl rfl)
theorem dX0_law_13 : decode cX0_law 13 = .ok (.astore_n 2, 1) := dk_77 (dk_at dksX0_law_0 13 rfl rfl)
theorem dX0_law_14 : decode cX0_law 14 = .ok (.aload_n 0, 1) := dk_42 (dk_at dksX0_law_0 14 rfl rfl)
theorem dX0_law_15 : decode cX0_law 15 = .ok (.iconst 0, 1) := dk_3 (dk_at dksX0_law_0 15 rfl rfl)
theorem dX0_law_16 : decode cX0_law 16 = .ok (.putfield 192, 3) := dk_181 0 192 (dk_at dksX0_law_0 16 rfl rfl)
theorem dX0_law_19 : decode cX0_law 19 = .ok (.aload_n 1, 1) := dk_43 (dk_at dksX0_law_0 19 rfl rfl)
theorem dX0_law_20 : decode cX0_law 20 = .ok (.getfield 204, 3) := dk_180 0 204 (dk_at dksX0_law_0 20 rfl rfl)
theorem dX0_law_23 : decode cX0_law 23 = .ok (.ifCond .lt 11, 3) := dk_155 0 11 (dk_at dksX0_law_1 0 rfl rfl)
theorem dX0_law_26 : decode cX0_law 26 = .ok (.bipush (-100), 2) := dk_16 156 (dk_at dksX0_law_1 3 rfl rfl)
theorem dX0_law_28 : decode cX0_law 28 = .ok (.aload_n 1, 1) := dk_43 (dk_at dksX0_law_1 5 rfl rfl)
theorem dX0_law_29 : decode cX0_law 29 = .ok (.getfield 204, 3) := dk_180 0 204 (dk_at dksX0_law_1 6 rfl rfl)
theorem dX0_law_32 : decode cX0_law 32 = .ok (.isub, 1) := dk_100 (dk_at dksX0_law_1 9 rfl rfl)
theorem dX0_law_33 : decode cX0_law 33 = .ok (.ireturn, 1) := dk_172 (dk_at dksX0_law_1 10 rfl rfl)
theorem dX0_law_34 : decode cX0_law 34 = .ok (.aload_n 0, 1) := dk_42 (dk_at dksX0_law_1 11 rfl rfl)
theorem dX0_law_35 : decode cX0_law 35 = .ok (.aload_n 2, 1) := dk_44 (dk_at dksX0_law_1 12 rfl rfl)
theorem dX0_law_36 : decode cX0_law 36 = .ok (.putfield 207, 3) := dk_181 0 207 (dk_at dksX0_law_1 13 rfl rfl)
theorem dX0_law_39 : decode cX0_law 39 = .ok (.iconst 1, 1) := dk_4 (dk_at dksX0_law_1 16 rfl rfl)
theorem dX0_law_40 : decode cX0_law 40 = .ok (.ireturn, 1) := dk_172 (dk_at dksX0_law_1 17 rfl rfl)
abbrev cX0_round : ByteArray := prog_1_method_30_code
def yX0_round : MethodName := ⟨RX0, "round", "(II)I"⟩
def dkwX0_round_1 : List UInt8 := [29, 156, 0, 5, 29, 172, 28, 154, 0, 10, 42, 180, 0, 228, 167, 0, 7, 42, 182, 1, 0, 172]
abbrev dktX0_round_1 : List UInt8 := dkwX0_round_1 ++ []
def dkwX0_round_0 : List UInt8 := [27, 184, 0, 121, 153, 0, 12, 28, 3, 4, 184, 0, 89, 154, 0, 5, 2, 172, 42, 27, 182, 0, 249, 62]
abbrev dktX0_round_0 : List UInt8 := dkwX0_round_0 ++ dktX0_round_1
theorem dksX0_round_0 : cX0_round.data.toList.drop 0 = dktX0_round_0 := by decide +kernel
theorem dksX0_round_1 : cX0_round.data.toList.drop 24 = dktX0_round_1 := dk_seg dksX0_round_0 24 rfl rfl
theorem dX0_round_0 : decode cX0_round 0 = .ok (.iload_n 1, 1) := dk_27 (dk_at dksX0_round_0 0 rfl rfl)
theorem dX0_round_1 : decode cX0_round 1 = .ok (.invokestatic 121, 3) := dk_184 0 121 (dk_at dksX0_round_0 1 rfl rfl)
theorem dX0_round_4 : decode cX0_round 4 = .ok (.ifCond .eq 12, 3) := dk_153 0 12 (dk_at dksX0_round_0 4 rfl rfl)
theorem dX0_round_7 : decode cX0_round 7 = .ok (.iload_n 2, 1) := dk_28 (dk_at dksX0_round_0 7 rfl rfl)
theorem dX0_round_8 : decode cX0_round 8 = .ok (.iconst 0, 1) := dk_3 (dk_at dksX0_round_0 8 rfl rfl)
theorem dX0_round_9 : decode cX0_round 9 = .ok (.iconst 1, 1) := dk_4 (dk_at dksX0_round_0 9 rfl rfl)
theorem dX0_round_10 : decode cX0_round 10 = .ok (.invokestatic 89, 3) := dk_184 0 89 (dk_at dksX0_round_0 10 rfl rfl)
theorem dX0_round_13 : decode cX0_round 13 = .ok (.ifCond .ne 5, 3) := dk_154 0 5 (dk_at dksX0_round_0 13 rfl rfl)
theorem dX0_round_16 : decode cX0_round 16 = .ok (.iconst (-1), 1) := dk_2 (dk_at dksX0_round_0 16 rfl rfl)
theorem dX0_round_17 : decode cX0_round 17 = .ok (.ireturn, 1) := dk_172 (dk_at dksX0_round_0 17 rfl rfl)
theorem dX0_round_18 : decode cX0_round 18 = .ok (.aload_n 0, 1) := dk_42 (dk_at dksX0_round_0 18 rfl rfl)
theorem dX0_round_19 : decode cX0_round 19 = .ok (.iload_n 1, 1) := dk_27 (dk_at dksX0_round_0 19 rfl rfl)
theorem dX0_round_20 : decode cX0_round 20 = .ok (.invokevirtual 249, 3) := dk_182 0 249 (dk_at dksX0_round_0 20 rfl rfl)
theorem dX0_round_23 : decode cX0_round 23 = .ok (.istore_n 3, 1) := dk_62 (dk_at dksX0_round_0 23 rfl rfl)
theorem dX0_round_24 : decode cX0_round 24 = .ok (.iload_n 3, 1) := dk_29 (dk_at dksX0_round_1 0 rfl rfl)
theorem dX0_round_25 : decode cX0_round 25 = .ok (.ifCond .ge 5, 3) := dk_156 0 5 (dk_at dksX0_round_1 1 rfl rfl)
theorem dX0_round_28 : decode cX0_round 28 = .ok (.iload_n 3, 1) := dk_29 (dk_at dksX0_round_1 4 rfl rfl)
theorem dX0_round_29 : decode cX0_round 29 = .ok (.ireturn, 1) := dk_172 (dk_at dksX0_round_1 5 rfl rfl)
theorem dX0_round_30 : decode cX0_round 30 = .ok (.iload_n 2, 1) := dk_28 (dk_at dksX0_round_1 6 rfl rfl)
theorem dX0_round_31 : decode cX0_round 31 = .ok (.ifCond .ne 10, 3) := dk_154 0 10 (dk_at dksX0_round_1 7 rfl rfl)
theorem dX0_round_34 : decode cX0_round 34 = .ok (.aload_n 0, 1) := dk_42 (dk_at dksX0_round_1 10 rfl rfl)
theorem dX0_round_35 : decode cX0_round 35 = .ok (.getfield 228, 3) := dk_180 0 228 (dk_at dksX0_round_1 11 rfl rfl)
theorem dX0_round_38 : decode cX0_round 38 = .ok (.goto 7, 3) := dk_167 0 7 (dk_at dksX0_round_1 14 rfl rfl)
theorem dX0_round_41 : decode cX0_round 41 = .ok (.aload_n 0, 1) := dk_42 (dk_at dksX0_round_1 17 rfl rfl)
theorem dX0_round_42 : decode cX0_round 42 = .ok (.invokevirtual 256, 3) := dk_182 1 0 (dk_at dksX0_round_1 18 rfl rfl)
theorem dX0_round_45 : decode cX0_round 45 = .ok (.ireturn, 1) := dk_172 (dk_at dksX0_round_1 21 rfl rfl)
abbrev cX0_layRound : ByteArray := prog_1_method_25_code
def yX0_layRound : MethodName := ⟨RX0, "layRound", "(I)I"⟩
def dkwX0_layRound_3 : List UInt8 := [132, 3, 1, 167, 255, 202, 167, 0, 11, 77, 16, 244, 172, 77, 16, 245, 172, 3, 172]
abbrev dktX0_layRound_3 : List UInt8 := dkwX0_layRound_3 ++ []
def dkwX0_layRound_2 : List UInt8 := [154, 0, 5, 3, 172, 42, 180, 0, 39, 29, 21, 4, 79, 42, 89, 180, 0, 228, 4, 96, 181, 0, 228]
abbrev dktX0_layRound_2 : List UInt8 := dkwX0_layRound_2 ++ dktX0_layRound_3
def dkwX0_layRound_1 : List UInt8 := [162, 0, 52, 29, 16, 20, 162, 0, 46, 44, 29, 182, 0, 126, 136, 54, 4, 42, 21, 4, 182, 0, 172]
abbrev dktX0_layRound_1 : List UInt8 := dkwX0_layRound_1 ++ dktX0_layRound_2
def dkwX0_layRound_0 : List UInt8 := [42, 3, 181, 0, 228, 42, 180, 0, 85, 27, 50, 192, 0, 124, 77, 3, 62, 29, 44, 182, 0, 231]
abbrev dktX0_layRound_0 : List UInt8 := dkwX0_layRound_0 ++ dktX0_layRound_1
theorem dksX0_layRound_0 : cX0_layRound.data.toList.drop 0 = dktX0_layRound_0 := by decide +kernel
theorem dksX0_layRound_1 : cX0_layRound.data.toList.drop 22 = dktX0_layRound_1 := dk_seg dksX0_layRound_0 22 rfl rfl
theorem dksX0_layRound_2 : cX0_layRound.data.toList.drop 45 = dktX0_layRound_2 := dk_seg dksX0_layRound_1 23 rfl rfl
theorem dksX0_layRound_3 : cX0_layRound.data.toList.drop 68 = dktX0_layRound_3 := dk_seg dksX0_layRound_2 23 rfl rfl
theorem dX0_layRound_0 : decode cX0_layRound 0 = .ok (.aload_n 0, 1) := dk_42 (dk_at dksX0_layRound_0 0 rfl rfl)
theorem dX0_layRound_1 : decode cX0_layRound 1 = .ok (.iconst 0, 1) := dk_3 (dk_at dksX0_layRound_0 1 rfl rfl)
theorem dX0_layRound_2 : decode cX0_layRound 2 = .ok (.putfield 228, 3) := dk_181 0 228 (dk_at dksX0_layRound_0 2 rfl rfl)
theorem dX0_layRound_5 : decode cX0_layRound 5 = .ok (.aload_n 0, 1) := dk_42 (dk_at dksX0_layRound_0 5 rfl rfl)
theorem dX0_layRound_6 : decode cX0_layRound 6 = .ok (.getfield 85, 3) := dk_180 0 85 (dk_at dksX0_layRound_0 6 rfl rfl)
theorem dX0_layRound_9 : decode cX0_layRound 9 = .ok (.iload_n 1, 1) := dk_27 (dk_at dksX0_layRound_0 9 rfl rfl)
theorem dX0_layRound_10 : decode cX0_layRound 10 = .ok (.aaload, 1) := dk_50 (dk_at dksX0_layRound_0 10 rfl rfl)
theorem dX0_layRound_11 : decode cX0_layRound 11 = .ok (.checkcast 124, 3) := dk_192 0 124 (dk_at dksX0_layRound_0 11 rfl rfl)
theorem dX0_layRound_14 : decode cX0_layRound 14 = .ok (.astore_n 2, 1) := dk_77 (dk_at dksX0_layRound_0 14 rfl rfl)
theorem dX0_layRound_15 : decode cX0_layRound 15 = .ok (.iconst 0, 1) := dk_3 (dk_at dksX0_layRound_0 15 rfl rfl)
theorem dX0_layRound_16 : decode cX0_layRound 16 = .ok (.istore_n 3, 1) := dk_62 (dk_at dksX0_layRound_0 16 rfl rfl)
theorem dX0_layRound_17 : decode cX0_layRound 17 = .ok (.iload_n 3, 1) := dk_29 (dk_at dksX0_layRound_0 17 rfl rfl)
theorem dX0_layRound_18 : decode cX0_layRound 18 = .ok (.aload_n 2, 1) := dk_44 (dk_at dksX0_layRound_0 18 rfl rfl)
theorem dX0_layRound_19 : decode cX0_layRound 19 = .ok (.invokevirtual 231, 3) := dk_182 0 231 (dk_at dksX0_layRound_0 19 rfl rfl)
theorem dX0_layRound_22 : decode cX0_layRound 22 = .ok (.if_icmp .ge 52, 3) := dk_162 0 52 (dk_at dksX0_layRound_1 0 rfl rfl)
theorem dX0_layRound_25 : decode cX0_layRound 25 = .ok (.iload_n 3, 1) := dk_29 (dk_at dksX0_layRound_1 3 rfl rfl)
theorem dX0_layRound_26 : decode cX0_layRound 26 = .ok (.bipush 20, 2) := dk_16 20 (dk_at dksX0_layRound_1 4 rfl rfl)
theorem dX0_layRound_28 : decode cX0_layRound 28 = .ok (.if_icmp .ge 46, 3) := dk_162 0 46 (dk_at dksX0_layRound_1 6 rfl rfl)
theorem dX0_layRound_31 : decode cX0_layRound 31 = .ok (.aload_n 2, 1) := dk_44 (dk_at dksX0_layRound_1 9 rfl rfl)
theorem dX0_layRound_32 : decode cX0_layRound 32 = .ok (.iload_n 3, 1) := dk_29 (dk_at dksX0_layRound_1 10 rfl rfl)
theorem dX0_layRound_33 : decode cX0_layRound 33 = .ok (.invokevirtual 126, 3) := dk_182 0 126 (dk_at dksX0_layRound_1 11 rfl rfl)
theorem dX0_layRound_36 : decode cX0_layRound 36 = .ok (.l2i, 1) := dk_136 (dk_at dksX0_layRound_1 14 rfl rfl)
theorem dX0_layRound_37 : decode cX0_layRound 37 = .ok (.istore 4, 2) := dk_54 4 (dk_at dksX0_layRound_1 15 rfl rfl)
theorem dX0_layRound_39 : decode cX0_layRound 39 = .ok (.aload_n 0, 1) := dk_42 (dk_at dksX0_layRound_1 17 rfl rfl)
theorem dX0_layRound_40 : decode cX0_layRound 40 = .ok (.iload 4, 2) := dk_21 4 (dk_at dksX0_layRound_1 18 rfl rfl)
theorem dX0_layRound_42 : decode cX0_layRound 42 = .ok (.invokevirtual 172, 3) := dk_182 0 172 (dk_at dksX0_layRound_1 20 rfl rfl)
theorem dX0_layRound_45 : decode cX0_layRound 45 = .ok (.ifCond .ne 5, 3) := dk_154 0 5 (dk_at dksX0_layRound_2 0 rfl rfl)
theorem dX0_layRound_48 : decode cX0_layRound 48 = .ok (.iconst 0, 1) := dk_3 (dk_at dksX0_layRound_2 3 rfl rfl)
theorem dX0_layRound_49 : decode cX0_layRound 49 = .ok (.ireturn, 1) := dk_172 (dk_at dksX0_layRound_2 4 rfl rfl)
theorem dX0_layRound_50 : decode cX0_layRound 50 = .ok (.aload_n 0, 1) := dk_42 (dk_at dksX0_layRound_2 5 rfl rfl)
theorem dX0_layRound_51 : decode cX0_layRound 51 = .ok (.getfield 39, 3) := dk_180 0 39 (dk_at dksX0_layRound_2 6 rfl rfl)
theorem dX0_layRound_54 : decode cX0_layRound 54 = .ok (.iload_n 3, 1) := dk_29 (dk_at dksX0_layRound_2 9 rfl rfl)
theorem dX0_layRound_55 : decode cX0_layRound 55 = .ok (.iload 4, 2) := dk_21 4 (dk_at dksX0_layRound_2 10 rfl rfl)
theorem dX0_layRound_57 : decode cX0_layRound 57 = .ok (.iastore, 1) := dk_79 (dk_at dksX0_layRound_2 12 rfl rfl)
theorem dX0_layRound_58 : decode cX0_layRound 58 = .ok (.aload_n 0, 1) := dk_42 (dk_at dksX0_layRound_2 13 rfl rfl)
theorem dX0_layRound_59 : decode cX0_layRound 59 = .ok (.dup, 1) := dk_89 (dk_at dksX0_layRound_2 14 rfl rfl)
theorem dX0_layRound_60 : decode cX0_layRound 60 = .ok (.getfield 228, 3) := dk_180 0 228 (dk_at dksX0_layRound_2 15 rfl rfl)
theorem dX0_layRound_63 : decode cX0_layRound 63 = .ok (.iconst 1, 1) := dk_4 (dk_at dksX0_layRound_2 18 rfl rfl)
theorem dX0_layRound_64 : decode cX0_layRound 64 = .ok (.iadd, 1) := dk_96 (dk_at dksX0_layRound_2 19 rfl rfl)
theorem dX0_layRound_65 : decode cX0_layRound 65 = .ok (.putfield 228, 3) := dk_181 0 228 (dk_at dksX0_layRound_2 20 rfl rfl)
theorem dX0_layRound_68 : decode cX0_layRound 68 = .ok (.iinc 3 1, 3) := dk_132 3 1 (dk_at dksX0_layRound_3 0 rfl rfl)
theorem dX0_layRound_71 : decode cX0_layRound 71 = .ok (.goto (-54), 3) := dk_167 255 202 (dk_at dksX0_layRound_3 3 rfl rfl)
theorem dX0_layRound_74 : decode cX0_layRound 74 = .ok (.goto 11, 3) := dk_167 0 11 (dk_at dksX0_layRound_3 6 rfl rfl)
theorem dX0_layRound_77 : decode cX0_layRound 77 = .ok (.astore_n 2, 1) := dk_77 (dk_at dksX0_layRound_3 9 rfl rfl)
theorem dX0_layRound_78 : decode cX0_layRound 78 = .ok (.bipush (-12), 2) := dk_16 244 (dk_at dksX0_layRound_3 10 rfl rfl)
theorem dX0_layRound_80 : decode cX0_layRound 80 = .ok (.ireturn, 1) := dk_172 (dk_at dksX0_layRound_3 12 rfl rfl)
theorem dX0_layRound_81 : decode cX0_layRound 81 = .ok (.astore_n 2, 1) := dk_77 (dk_at dksX0_layRound_3 13 rfl rfl)
theorem dX0_layRound_82 : decode cX0_layRound 82 = .ok (.bipush (-11), 2) := dk_16 245 (dk_at dksX0_layRound_3 14 rfl rfl)
theorem dX0_layRound_84 : decode cX0_layRound 84 = .ok (.ireturn, 1) := dk_172 (dk_at dksX0_layRound_3 16 rfl rfl)
theorem dX0_layRound_85 : decode cX0_layRound 85 = .ok (.iconst 0, 1) := dk_3 (dk_at dksX0_layRound_3 17 rfl rfl)
theorem dX0_layRound_86 : decode cX0_layRound 86 = .ok (.ireturn, 1) := dk_172 (dk_at dksX0_layRound_3 18 rfl rfl)
abbrev cX0_roundLong : ByteArray := prog_1_method_28_code
def yX0_roundLong : MethodName := ⟨RX0, "roundLong", "()I"⟩
def dkwX0_roundLong_1 : List UInt8 := [42, 28, 4, 96, 3, 182, 0, 238, 182, 0, 246, 96, 96, 60, 132, 2, 1, 167, 255, 219, 27, 172]
abbrev dktX0_roundLong_1 : List UInt8 := dkwX0_roundLong_1 ++ []
def dkwX0_roundLong_0 : List UInt8 := [3, 60, 3, 61, 28, 42, 180, 0, 228, 162, 0, 35, 27, 42, 180, 0, 19, 42, 42, 28, 3, 182, 0, 238]
abbrev dktX0_roundLong_0 : List UInt8 := dkwX0_roundLong_0 ++ dktX0_roundLong_1
theorem dksX0_roundLong_0 : cX0_roundLong.data.toList.drop 0 = dktX0_roundLong_0 := by decide +kernel
theorem dksX0_roundLong_1 : cX0_roundLong.data.toList.drop 24 = dktX0_roundLong_1 := dk_seg dksX0_roundLong_0 24 rfl rfl
theorem dX0_roundLong_0 : decode cX0_roundLong 0 = .ok (.iconst 0, 1) := dk_3 (dk_at dksX0_roundLong_0 0 rfl rfl)
theorem dX0_roundLong_1 : decode cX0_roundLong 1 = .ok (.istore_n 1, 1) := dk_60 (dk_at dksX0_roundLong_0 1 rfl rfl)
theorem dX0_roundLong_2 : decode cX0_roundLong 2 = .ok (.iconst 0, 1) := dk_3 (dk_at dksX0_roundLong_0 2 rfl rfl)
theorem dX0_roundLong_3 : decode cX0_roundLong 3 = .ok (.istore_n 2, 1) := dk_61 (dk_at dksX0_roundLong_0 3 rfl rfl)
theorem dX0_roundLong_4 : decode cX0_roundLong 4 = .ok (.iload_n 2, 1) := dk_28 (dk_at dksX0_roundLong_0 4 rfl rfl)
theorem dX0_roundLong_5 : decode cX0_roundLong 5 = .ok (.aload_n 0, 1) := dk_42 (dk_at dksX0_roundLong_0 5 rfl rfl)
theorem dX0_roundLong_6 : decode cX0_roundLong 6 = .ok (.getfield 228, 3) := dk_180 0 228 (dk_at dksX0_roundLong_0 6 rfl rfl)
theorem dX0_roundLong_9 : decode cX0_roundLong 9 = .ok (.if_icmp .ge 35, 3) := dk_162 0 35 (dk_at dksX0_roundLong_0 9 rfl rfl)
theorem dX0_roundLong_12 : decode cX0_roundLong 12 = .ok (.iload_n 1, 1) := dk_27 (dk_at dksX0_roundLong_0 12 rfl rfl)
theorem dX0_roundLong_13 : decode cX0_roundLong 13 = .ok (.aload_n 0, 1) := dk_42 (dk_at dksX0_roundLong_0 13 rfl rfl)
theorem dX0_roundLong_14 : decode cX0_roundLong 14 = .ok (.getfield 19, 3) := dk_180 0 19 (dk_at dksX0_roundLong_0 14 rfl rfl)
theorem dX0_roundLong_17 : decode cX0_roundLong 17 = .ok (.aload_n 0, 1) := dk_42 (dk_at dksX0_roundLong_0 17 rfl rfl)
theorem dX0_roundLong_18 : decode cX0_roundLong 18 = .ok (.aload_n 0, 1) := dk_42 (dk_at dksX0_roundLong_0 18 rfl rfl)
theorem dX0_roundLong_19 : decode cX0_roundLong 19 = .ok (.iload_n 2, 1) := dk_28 (dk_at dksX0_roundLong_0 19 rfl rfl)
theorem dX0_roundLong_20 : decode cX0_roundLong 20 = .ok (.iconst 0, 1) := dk_3 (dk_at dksX0_roundLong_0 20 rfl rfl)
theorem dX0_roundLong_21 : decode cX0_roundLong 21 = .ok (.invokevirtual 238, 3) := dk_182 0 238 (dk_at dksX0_roundLong_0 21 rfl rfl)
theorem dX0_roundLong_24 : decode cX0_roundLong 24 = .ok (.aload_n 0, 1) := dk_42 (dk_at dksX0_roundLong_1 0 rfl rfl)
theorem dX0_roundLong_25 : decode cX0_roundLong 25 = .ok (.iload_n 2, 1) := dk_28 (dk_at dksX0_roundLong_1 1 rfl rfl)
theorem dX0_roundLong_26 : decode cX0_roundLong 26 = .ok (.iconst 1, 1) := dk_4 (dk_at dksX0_roundLong_1 2 rfl rfl)
theorem dX0_roundLong_27 : decode cX0_roundLong 27 = .ok (.iadd, 1) := dk_96 (dk_at dksX0_roundLong_1 3 rfl rfl)
theorem dX0_roundLong_28 : decode cX0_roundLong 28 = .ok (.iconst 0, 1) := dk_3 (dk_at dksX0_roundLong_1 4 rfl rfl)
theorem dX0_roundLong_29 : decode cX0_roundLong 29 = .ok (.invokevirtual 238, 3) := dk_182 0 238 (dk_at dksX0_roundLong_1 5 rfl rfl)
theorem dX0_roundLong_32 : decode cX0_roundLong 32 = .ok (.invokevirtual 246, 3) := dk_182 0 246 (dk_at dksX0_roundLong_1 8 rfl rfl)
theorem dX0_roundLong_35 : decode cX0_roundLong 35 = .ok (.iadd, 1) := dk_96 (dk_at dksX0_roundLong_1 11 rfl rfl)
theorem dX0_roundLong_36 : decode cX0_roundLong 36 = .ok (.iadd, 1) := dk_96 (dk_at dksX0_roundLong_1 12 rfl rfl)
theorem dX0_roundLong_37 : decode cX0_roundLong 37 = .ok (.istore_n 1, 1) := dk_60 (dk_at dksX0_roundLong_1 13 rfl rfl)
theorem dX0_roundLong_38 : decode cX0_roundLong 38 = .ok (.iinc 2 1, 3) := dk_132 2 1 (dk_at dksX0_roundLong_1 14 rfl rfl)
theorem dX0_roundLong_41 : decode cX0_roundLong 41 = .ok (.goto (-37), 3) := dk_167 255 219 (dk_at dksX0_roundLong_1 17 rfl rfl)
theorem dX0_roundLong_44 : decode cX0_roundLong 44 = .ok (.iload_n 1, 1) := dk_27 (dk_at dksX0_roundLong_1 20 rfl rfl)
theorem dX0_roundLong_45 : decode cX0_roundLong 45 = .ok (.ireturn, 1) := dk_172 (dk_at dksX0_roundLong_1 21 rfl rfl)
abbrev cX0_goesTo : ByteArray := prog_1_method_26_code
def yX0_goesTo : MethodName := ⟨RX0, "goesTo", "(IZ)I"⟩
def dkwX0_goesTo_1 : List UInt8 := [27, 42, 180, 0, 228, 112, 46, 172]
abbrev dktX0_goesTo_1 : List UInt8 := dkwX0_goesTo_1 ++ []
def dkwX0_goesTo_0 : List UInt8 := [42, 180, 0, 39, 28, 153, 0, 19, 42, 180, 0, 228, 4, 100, 27, 42, 180, 0, 228, 112, 100, 167, 0, 9]
abbrev dktX0_goesTo_0 : List UInt8 := dkwX0_goesTo_0 ++ dktX0_goesTo_1
theorem dksX0_goesTo_0 : cX0_goesTo.data.toList.drop 0 = dktX0_goesTo_0 := by decide +kernel
theorem dksX0_goesTo_1 : cX0_goesTo.data.toList.drop 24 = dktX0_goesTo_1 := dk_seg dksX0_goesTo_0 24 rfl rfl
theorem dX0_goesTo_0 : decode cX0_goesTo 0 = .ok (.aload_n 0, 1) := dk_42 (dk_at dksX0_goesTo_0 0 rfl rfl)
theorem dX0_goesTo_1 : decode cX0_goesTo 1 = .ok (.getfield 39, 3) := dk_180 0 39 (dk_at dksX0_goesTo_0 1 rfl rfl)
theorem dX0_goesTo_4 : decode cX0_goesTo 4 = .ok (.iload_n 2, 1) := dk_28 (dk_at dksX0_goesTo_0 4 rfl rfl)
theorem dX0_goesTo_5 : decode cX0_goesTo 5 = .ok (.ifCond .eq 19, 3) := dk_153 0 19 (dk_at dksX0_goesTo_0 5 rfl rfl)
theorem dX0_goesTo_8 : decode cX0_goesTo 8 = .ok (.aload_n 0, 1) := dk_42 (dk_at dksX0_goesTo_0 8 rfl rfl)
theorem dX0_goesTo_9 : decode cX0_goesTo 9 = .ok (.getfield 228, 3) := dk_180 0 228 (dk_at dksX0_goesTo_0 9 rfl rfl)
theorem dX0_goesTo_12 : decode cX0_goesTo 12 = .ok (.iconst 1, 1) := dk_4 (dk_at dksX0_goesTo_0 12 rfl rfl)
theorem dX0_goesTo_13 : decode cX0_goesTo 13 = .ok (.isub, 1) := dk_100 (dk_at dksX0_goesTo_0 13 rfl rfl)
theorem dX0_goesTo_14 : decode cX0_goesTo 14 = .ok (.iload_n 1, 1) := dk_27 (dk_at dksX0_goesTo_0 14 rfl rfl)
theorem dX0_goesTo_15 : decode cX0_goesTo 15 = .ok (.aload_n 0, 1) := dk_42 (dk_at dksX0_goesTo_0 15 rfl rfl)
theorem dX0_goesTo_16 : decode cX0_goesTo 16 = .ok (.getfield 228, 3) := dk_180 0 228 (dk_at dksX0_goesTo_0 16 rfl rfl)
theorem dX0_goesTo_19 : decode cX0_goesTo 19 = .ok (.irem, 1) := dk_112 (dk_at dksX0_goesTo_0 19 rfl rfl)
theorem dX0_goesTo_20 : decode cX0_goesTo 20 = .ok (.isub, 1) := dk_100 (dk_at dksX0_goesTo_0 20 rfl rfl)
theorem dX0_goesTo_21 : decode cX0_goesTo 21 = .ok (.goto 9, 3) := dk_167 0 9 (dk_at dksX0_goesTo_0 21 rfl rfl)
theorem dX0_goesTo_24 : decode cX0_goesTo 24 = .ok (.iload_n 1, 1) := dk_27 (dk_at dksX0_goesTo_1 0 rfl rfl)
theorem dX0_goesTo_25 : decode cX0_goesTo 25 = .ok (.aload_n 0, 1) := dk_42 (dk_at dksX0_goesTo_1 1 rfl rfl)
theorem dX0_goesTo_26 : decode cX0_goesTo 26 = .ok (.getfield 228, 3) := dk_180 0 228 (dk_at dksX0_goesTo_1 2 rfl rfl)
theorem dX0_goesTo_29 : decode cX0_goesTo 29 = .ok (.irem, 1) := dk_112 (dk_at dksX0_goesTo_1 5 rfl rfl)
theorem dX0_goesTo_30 : decode cX0_goesTo 30 = .ok (.iaload, 1) := dk_46 (dk_at dksX0_goesTo_1 6 rfl rfl)
theorem dX0_goesTo_31 : decode cX0_goesTo 31 = .ok (.ireturn, 1) := dk_172 (dk_at dksX0_goesTo_1 7 rfl rfl)
abbrev cX0_between : ByteArray := prog_1_method_8_code
def yX0_between : MethodName := ⟨RX0, "between", "(II)I"⟩
def dkwX0_between_0 : List UInt8 := [42, 180, 0, 15, 42, 180, 0, 11, 27, 50, 42, 180, 0, 11, 28, 50, 182, 0, 96, 104, 172]
abbrev dktX0_between_0 : List UInt8 := dkwX0_between_0 ++ []
theorem dksX0_between_0 : cX0_between.data.toList.drop 0 = dktX0_between_0 := by decide +kernel
theorem dX0_between_0 : decode cX0_between 0 = .ok (.aload_n 0, 1) := dk_42 (dk_at dksX0_between_0 0 rfl rfl)
theorem dX0_between_1 : decode cX0_between 1 = .ok (.getfield 15, 3) := dk_180 0 15 (dk_at dksX0_between_0 1 rfl rfl)
theorem dX0_between_4 : decode cX0_between 4 = .ok (.aload_n 0, 1) := dk_42 (dk_at dksX0_between_0 4 rfl rfl)
theorem dX0_between_5 : decode cX0_between 5 = .ok (.getfield 11, 3) := dk_180 0 11 (dk_at dksX0_between_0 5 rfl rfl)
theorem dX0_between_8 : decode cX0_between 8 = .ok (.iload_n 1, 1) := dk_27 (dk_at dksX0_between_0 8 rfl rfl)
theorem dX0_between_9 : decode cX0_between 9 = .ok (.aaload, 1) := dk_50 (dk_at dksX0_between_0 9 rfl rfl)
theorem dX0_between_10 : decode cX0_between 10 = .ok (.aload_n 0, 1) := dk_42 (dk_at dksX0_between_0 10 rfl rfl)
theorem dX0_between_11 : decode cX0_between 11 = .ok (.getfield 11, 3) := dk_180 0 11 (dk_at dksX0_between_0 11 rfl rfl)
theorem dX0_between_14 : decode cX0_between 14 = .ok (.iload_n 2, 1) := dk_28 (dk_at dksX0_between_0 14 rfl rfl)
theorem dX0_between_15 : decode cX0_between 15 = .ok (.aaload, 1) := dk_50 (dk_at dksX0_between_0 15 rfl rfl)
theorem dX0_between_16 : decode cX0_between 16 = .ok (.invokevirtual 96, 3) := dk_182 0 96 (dk_at dksX0_between_0 16 rfl rfl)
theorem dX0_between_19 : decode cX0_between 19 = .ok (.imul, 1) := dk_104 (dk_at dksX0_between_0 19 rfl rfl)
theorem dX0_between_20 : decode cX0_between 20 = .ok (.ireturn, 1) := dk_172 (dk_at dksX0_between_0 20 rfl rfl)
abbrev cX0_first : ByteArray := prog_1_method_32_code
def yX0_first : MethodName := ⟨RX0, "first", "(II)I"⟩
def dkwX0_first_1 : List UInt8 := [156, 0, 7, 29, 167, 0, 8, 42, 28, 182, 1, 6, 172]
abbrev dktX0_first_1 : List UInt8 := dkwX0_first_1 ++ []
def dkwX0_first_0 : List UInt8 := [27, 184, 0, 121, 153, 0, 11, 42, 28, 182, 0, 172, 154, 0, 5, 2, 172, 42, 27, 182, 1, 3, 62, 29]
abbrev dktX0_first_0 : List UInt8 := dkwX0_first_0 ++ dktX0_first_1
theorem dksX0_first_0 : cX0_first.data.toList.drop 0 = dktX0_first_0 := by decide +kernel
theorem dksX0_first_1 : cX0_first.data.toList.drop 24 = dktX0_first_1 := dk_seg dksX0_first_0 24 rfl rfl
theorem dX0_first_0 : decode cX0_first 0 = .ok (.iload_n 1, 1) := dk_27 (dk_at dksX0_first_0 0 rfl rfl)
theorem dX0_first_1 : decode cX0_first 1 = .ok (.invokestatic 121, 3) := dk_184 0 121 (dk_at dksX0_first_0 1 rfl rfl)
theorem dX0_first_4 : decode cX0_first 4 = .ok (.ifCond .eq 11, 3) := dk_153 0 11 (dk_at dksX0_first_0 4 rfl rfl)
theorem dX0_first_7 : decode cX0_first 7 = .ok (.aload_n 0, 1) := dk_42 (dk_at dksX0_first_0 7 rfl rfl)
theorem dX0_first_8 : decode cX0_first 8 = .ok (.iload_n 2, 1) := dk_28 (dk_at dksX0_first_0 8 rfl rfl)
theorem dX0_first_9 : decode cX0_first 9 = .ok (.invokevirtual 172, 3) := dk_182 0 172 (dk_at dksX0_first_0 9 rfl rfl)
theorem dX0_first_12 : decode cX0_first 12 = .ok (.ifCond .ne 5, 3) := dk_154 0 5 (dk_at dksX0_first_0 12 rfl rfl)
theorem dX0_first_15 : decode cX0_first 15 = .ok (.iconst (-1), 1) := dk_2 (dk_at dksX0_first_0 15 rfl rfl)
theorem dX0_first_16 : decode cX0_first 16 = .ok (.ireturn, 1) := dk_172 (dk_at dksX0_first_0 16 rfl rfl)
theorem dX0_first_17 : decode cX0_first 17 = .ok (.aload_n 0, 1) := dk_42 (dk_at dksX0_first_0 17 rfl rfl)
theorem dX0_first_18 : decode cX0_first 18 = .ok (.iload_n 1, 1) := dk_27 (dk_at dksX0_first_0 18 rfl rfl)
theorem dX0_first_19 : decode cX0_first 19 = .ok (.invokevirtual 259, 3) := dk_182 1 3 (dk_at dksX0_first_0 19 rfl rfl)
theorem dX0_first_22 : decode cX0_first 22 = .ok (.istore_n 3, 1) := dk_62 (dk_at dksX0_first_0 22 rfl rfl)
theorem dX0_first_23 : decode cX0_first 23 = .ok (.iload_n 3, 1) := dk_29 (dk_at dksX0_first_0 23 rfl rfl)
theorem dX0_first_24 : decode cX0_first 24 = .ok (.ifCond .ge 7, 3) := dk_156 0 7 (dk_at dksX0_first_1 0 rfl rfl)
theorem dX0_first_27 : decode cX0_first 27 = .ok (.iload_n 3, 1) := dk_29 (dk_at dksX0_first_1 3 rfl rfl)
theorem dX0_first_28 : decode cX0_first 28 = .ok (.goto 8, 3) := dk_167 0 8 (dk_at dksX0_first_1 4 rfl rfl)
theorem dX0_first_31 : decode cX0_first 31 = .ok (.aload_n 0, 1) := dk_42 (dk_at dksX0_first_1 7 rfl rfl)
theorem dX0_first_32 : decode cX0_first 32 = .ok (.iload_n 2, 1) := dk_28 (dk_at dksX0_first_1 8 rfl rfl)
theorem dX0_first_33 : decode cX0_first 33 = .ok (.invokevirtual 262, 3) := dk_182 1 6 (dk_at dksX0_first_1 9 rfl rfl)
theorem dX0_first_36 : decode cX0_first 36 = .ok (.ireturn, 1) := dk_172 (dk_at dksX0_first_1 12 rfl rfl)
abbrev cX0_layForth : ByteArray := prog_1_method_29_code
def yX0_layForth : MethodName := ⟨RX0, "layForth", "(I)I"⟩
def dkwX0_layForth_0 : List UInt8 := [42, 27, 182, 0, 249, 61, 28, 154, 0, 8, 42, 3, 182, 0, 252, 28, 172]
abbrev dktX0_layForth_0 : List UInt8 := dkwX0_layForth_0 ++ []
theorem dksX0_layForth_0 : cX0_layForth.data.toList.drop 0 = dktX0_layForth_0 := by decide +kernel
theorem dX0_layForth_0 : decode cX0_layForth 0 = .ok (.aload_n 0, 1) := dk_42 (dk_at dksX0_layForth_0 0 rfl rfl)
theorem dX0_layForth_1 : decode cX0_layForth 1 = .ok (.iload_n 1, 1) := dk_27 (dk_at dksX0_layForth_0 1 rfl rfl)
theorem dX0_layForth_2 : decode cX0_layForth 2 = .ok (.invokevirtual 249, 3) := dk_182 0 249 (dk_at dksX0_layForth_0 2 rfl rfl)
theorem dX0_layForth_5 : decode cX0_layForth 5 = .ok (.istore_n 2, 1) := dk_61 (dk_at dksX0_layForth_0 5 rfl rfl)
theorem dX0_layForth_6 : decode cX0_layForth 6 = .ok (.iload_n 2, 1) := dk_28 (dk_at dksX0_layForth_0 6 rfl rfl)
theorem dX0_layForth_7 : decode cX0_layForth 7 = .ok (.ifCond .ne 8, 3) := dk_154 0 8 (dk_at dksX0_layForth_0 7 rfl rfl)
theorem dX0_layForth_10 : decode cX0_layForth 10 = .ok (.aload_n 0, 1) := dk_42 (dk_at dksX0_layForth_0 10 rfl rfl)
theorem dX0_layForth_11 : decode cX0_layForth 11 = .ok (.iconst 0, 1) := dk_3 (dk_at dksX0_layForth_0 11 rfl rfl)
theorem dX0_layForth_12 : decode cX0_layForth 12 = .ok (.invokevirtual 252, 3) := dk_182 0 252 (dk_at dksX0_layForth_0 12 rfl rfl)
theorem dX0_layForth_15 : decode cX0_layForth 15 = .ok (.iload_n 2, 1) := dk_28 (dk_at dksX0_layForth_0 15 rfl rfl)
theorem dX0_layForth_16 : decode cX0_layForth 16 = .ok (.ireturn, 1) := dk_172 (dk_at dksX0_layForth_0 16 rfl rfl)
abbrev cX0_layDents : ByteArray := prog_1_method_27_code
def yX0_layDents : MethodName := ⟨RX0, "layDents", "(Z)V"⟩
def dkwX0_layDents_4 : List UInt8 := [182, 0, 238, 182, 0, 246, 96, 96, 61, 42, 89, 180, 0, 235, 4, 96, 181, 0, 235, 167, 255, 169, 177]
abbrev dktX0_layDents_4 : List UInt8 := dkwX0_layDents_4 ++ []
def dkwX0_layDents_3 : List UInt8 := [42, 180, 0, 19, 42, 42, 42, 180, 0, 235, 27, 182, 0, 238, 42, 42, 180, 0, 235, 4, 96, 27]
abbrev dktX0_layDents_3 : List UInt8 := dkwX0_layDents_3 ++ dktX0_layDents_4
def dkwX0_layDents_2 : List UInt8 := [180, 0, 235, 42, 42, 180, 0, 235, 27, 182, 0, 238, 79, 42, 180, 0, 46, 42, 180, 0, 235, 28, 79, 28]
abbrev dktX0_layDents_2 : List UInt8 := dkwX0_layDents_2 ++ dktX0_layDents_3
def dkwX0_layDents_1 : List UInt8 := [28, 17, 7, 207, 163, 0, 86, 42, 180, 0, 235, 17, 15, 160, 162, 0, 76, 42, 180, 0, 43, 42]
abbrev dktX0_layDents_1 : List UInt8 := dkwX0_layDents_1 ++ dktX0_layDents_2
def dkwX0_layDents_0 : List UInt8 := [42, 3, 181, 0, 235, 42, 180, 0, 228, 154, 0, 4, 177, 42, 42, 3, 27, 182, 0, 238, 182, 0, 242, 61]
abbrev dktX0_layDents_0 : List UInt8 := dkwX0_layDents_0 ++ dktX0_layDents_1
theorem dksX0_layDents_0 : cX0_layDents.data.toList.drop 0 = dktX0_layDents_0 := by decide +kernel
theorem dksX0_layDents_1 : cX0_layDents.data.toList.drop 24 = dktX0_layDents_1 := dk_seg dksX0_layDents_0 24 rfl rfl
theorem dksX0_layDents_2 : cX0_layDents.data.toList.drop 46 = dktX0_layDents_2 := dk_seg dksX0_layDents_1 22 rfl rfl
theorem dksX0_layDents_3 : cX0_layDents.data.toList.drop 70 = dktX0_layDents_3 := dk_seg dksX0_layDents_2 24 rfl rfl
theorem dksX0_layDents_4 : cX0_layDents.data.toList.drop 92 = dktX0_layDents_4 := dk_seg dksX0_layDents_3 22 rfl rfl
theorem dX0_layDents_0 : decode cX0_layDents 0 = .ok (.aload_n 0, 1) := dk_42 (dk_at dksX0_layDents_0 0 rfl rfl)
theorem dX0_layDents_1 : decode cX0_layDents 1 = .ok (.iconst 0, 1) := dk_3 (dk_at dksX0_layDents_0 1 rfl rfl)
theorem dX0_layDents_2 : decode cX0_layDents 2 = .ok (.putfield 235, 3) := dk_181 0 235 (dk_at dksX0_layDents_0 2 rfl rfl)
theorem dX0_layDents_5 : decode cX0_layDents 5 = .ok (.aload_n 0, 1) := dk_42 (dk_at dksX0_layDents_0 5 rfl rfl)
theorem dX0_layDents_6 : decode cX0_layDents 6 = .ok (.getfield 228, 3) := dk_180 0 228 (dk_at dksX0_layDents_0 6 rfl rfl)
theorem dX0_layDents_9 : decode cX0_layDents 9 = .ok (.ifCond .ne 4, 3) := dk_154 0 4 (dk_at dksX0_layDents_0 9 rfl rfl)
theorem dX0_layDents_12 : decode cX0_layDents 12 = .ok (.return_, 1) := dk_177 (dk_at dksX0_layDents_0 12 rfl rfl)
theorem dX0_layDents_13 : decode cX0_layDents 13 = .ok (.aload_n 0, 1) := dk_42 (dk_at dksX0_layDents_0 13 rfl rfl)
theorem dX0_layDents_14 : decode cX0_layDents 14 = .ok (.aload_n 0, 1) := dk_42 (dk_at dksX0_layDents_0 14 rfl rfl)
theorem dX0_layDents_15 : decode cX0_layDents 15 = .ok (.iconst 0, 1) := dk_3 (dk_at dksX0_layDents_0 15 rfl rfl)
theorem dX0_layDents_16 : decode cX0_layDents 16 = .ok (.iload_n 1, 1) := dk_27 (dk_at dksX0_layDents_0 16 rfl rfl)
theorem dX0_layDents_17 : decode cX0_layDents 17 = .ok (.invokevirtual 238, 3) := dk_182 0 238 (dk_at dksX0_layDents_0 17 rfl rfl)
theorem dX0_layDents_20 : decode cX0_layDents 20 = .ok (.invokevirtual 242, 3) := dk_182 0 242 (dk_at dksX0_layDents_0 20 rfl rfl)
theorem dX0_layDents_23 : decode cX0_layDents 23 = .ok (.istore_n 2, 1) := dk_61 (dk_at dksX0_layDents_0 23 rfl rfl)
theorem dX0_layDents_24 : decode cX0_layDents 24 = .ok (.iload_n 2, 1) := dk_28 (dk_at dksX0_layDents_1 0 rfl rfl)
theorem dX0_layDents_25 : decode cX0_layDents 25 = .ok (.sipush 1999, 3) := dk_17 7 207 (dk_at dksX0_layDents_1 1 rfl rfl)
theorem dX0_layDents_28 : decode cX0_layDents 28 = .ok (.if_icmp .gt 86, 3) := dk_163 0 86 (dk_at dksX0_layDents_1 4 rfl rfl)
theorem dX0_layDents_31 : decode cX0_layDents 31 = .ok (.aload_n 0, 1) := dk_42 (dk_at dksX0_layDents_1 7 rfl rfl)
theorem dX0_layDents_32 : decode cX0_layDents 32 = .ok (.getfield 235, 3) := dk_180 0 235 (dk_at dksX0_layDents_1 8 rfl rfl)
theorem dX0_layDents_35 : decode cX0_layDents 35 = .ok (.sipush 4000, 3) := dk_17 15 160 (dk_at dksX0_layDents_1 11 rfl rfl)
theorem dX0_layDents_38 : decode cX0_layDents 38 = .ok (.if_icmp .ge 76, 3) := dk_162 0 76 (dk_at dksX0_layDents_1 14 rfl rfl)
theorem dX0_layDents_41 : decode cX0_layDents 41 = .ok (.aload_n 0, 1) := dk_42 (dk_at dksX0_layDents_1 17 rfl rfl)
theorem dX0_layDents_42 : decode cX0_layDents 42 = .ok (.getfield 43, 3) := dk_180 0 43 (dk_at dksX0_layDents_1 18 rfl rfl)
theorem dX0_layDents_45 : decode cX0_layDents 45 = .ok (.aload_n 0, 1) := dk_42 (dk_at dksX0_layDents_1 21 rfl rfl)
theorem dX0_layDents_46 : decode cX0_layDents 46 = .ok (.getfield 235, 3) := dk_180 0 235 (dk_at dksX0_layDents_2 0 rfl rfl)
theorem dX0_layDents_49 : decode cX0_layDents 49 = .ok (.aload_n 0, 1) := dk_42 (dk_at dksX0_layDents_2 3 rfl rfl)
theorem dX0_layDents_50 : decode cX0_layDents 50 = .ok (.aload_n 0, 1) := dk_42 (dk_at dksX0_layDents_2 4 rfl rfl)
theorem dX0_layDents_51 : decode cX0_layDents 51 = .ok (.getfield 235, 3) := dk_180 0 235 (dk_at dksX0_layDents_2 5 rfl rfl)
theorem dX0_layDents_54 : decode cX0_layDents 54 = .ok (.iload_n 1, 1) := dk_27 (dk_at dksX0_layDents_2 8 rfl rfl)
theorem dX0_layDents_55 : decode cX0_layDents 55 = .ok (.invokevirtual 238, 3) := dk_182 0 238 (dk_at dksX0_layDents_2 9 rfl rfl)
theorem dX0_layDents_58 : decode cX0_layDents 58 = .ok (.iastore, 1) := dk_79 (dk_at dksX0_layDents_2 12 rfl rfl)
theorem dX0_layDents_59 : decode cX0_layDents 59 = .ok (.aload_n 0, 1) := dk_42 (dk_at dksX0_layDents_2 13 rfl rfl)
theorem dX0_layDents_60 : decode cX0_layDents 60 = .ok (.getfield 46, 3) := dk_180 0 46 (dk_at dksX0_layDents_2 14 rfl rfl)
theorem dX0_layDents_63 : decode cX0_layDents 63 = .ok (.aload_n 0, 1) := dk_42 (dk_at dksX0_layDents_2 17 rfl rfl)
theorem dX0_layDents_64 : decode cX0_layDents 64 = .ok (.getfield 235, 3) := dk_180 0 235 (dk_at dksX0_layDents_2 18 rfl rfl)
theorem dX0_layDents_67 : decode cX0_layDents 67 = .ok (.iload_n 2, 1) := dk_28 (dk_at dksX0_layDents_2 21 rfl rfl)
theorem dX0_layDents_68 : decode cX0_layDents 68 = .ok (.iastore, 1) := dk_79 (dk_at dksX0_layDents_2 22 rfl rfl)
theorem dX0_layDents_69 : decode cX0_layDents 69 = .ok (.iload_n 2, 1) := dk_28 (dk_at dksX0_layDents_2 23 rfl rfl)
theorem dX0_layDents_70 : decode cX0_layDents 70 = .ok (.aload_n 0, 1) := dk_42 (dk_at dksX0_layDents_3 0 rfl rfl)
theorem dX0_layDents_71 : decode cX0_layDents 71 = .ok (.getfield 19, 3) := dk_180 0 19 (dk_at dksX0_layDents_3 1 rfl rfl)
theorem dX0_layDents_74 : decode cX0_layDents 74 = .ok (.aload_n 0, 1) := dk_42 (dk_at dksX0_layDents_3 4 rfl rfl)
theorem dX0_layDents_75 : decode cX0_layDents 75 = .ok (.aload_n 0, 1) := dk_42 (dk_at dksX0_layDents_3 5 rfl rfl)
theorem dX0_layDents_76 : decode cX0_layDents 76 = .ok (.aload_n 0, 1) := dk_42 (dk_at dksX0_layDents_3 6 rfl rfl)
theorem dX0_layDents_77 : decode cX0_layDents 77 = .ok (.getfield 235, 3) := dk_180 0 235 (dk_at dksX0_layDents_3 7 rfl rfl)
theorem dX0_layDents_80 : decode cX0_layDents 80 = .ok (.iload_n 1, 1) := dk_27 (dk_at dksX0_layDents_3 10 rfl rfl)
theorem dX0_layDents_81 : decode cX0_layDents 81 = .ok (.invokevirtual 238, 3) := dk_182 0 238 (dk_at dksX0_layDents_3 11 rfl rfl)
theorem dX0_layDents_84 : decode cX0_layDents 84 = .ok (.aload_n 0, 1) := dk_42 (dk_at dksX0_layDents_3 14 rfl rfl)
theorem dX0_layDents_85 : decode cX0_layDents 85 = .ok (.aload_n 0, 1) := dk_42 (dk_at dksX0_layDents_3 15 rfl rfl)
theorem dX0_layDents_86 : decode cX0_layDents 86 = .ok (.getfield 235, 3) := dk_180 0 235 (dk_at dksX0_layDents_3 16 rfl rfl)
theorem dX0_layDents_89 : decode cX0_layDents 89 = .ok (.iconst 1, 1) := dk_4 (dk_at dksX0_layDents_3 19 rfl rfl)
theorem dX0_layDents_90 : decode cX0_layDents 90 = .ok (.iadd, 1) := dk_96 (dk_at dksX0_layDents_3 20 rfl rfl)
theorem dX0_layDents_91 : decode cX0_layDents 91 = .ok (.iload_n 1, 1) := dk_27 (dk_at dksX0_layDents_3 21 rfl rfl)
theorem dX0_layDents_92 : decode cX0_layDents 92 = .ok (.invokevirtual 238, 3) := dk_182 0 238 (dk_at dksX0_layDents_4 0 rfl rfl)
theorem dX0_layDents_95 : decode cX0_layDents 95 = .ok (.invokevirtual 246, 3) := dk_182 0 246 (dk_at dksX0_layDents_4 3 rfl rfl)
theorem dX0_layDents_98 : decode cX0_layDents 98 = .ok (.iadd, 1) := dk_96 (dk_at dksX0_layDents_4 6 rfl rfl)
theorem dX0_layDents_99 : decode cX0_layDents 99 = .ok (.iadd, 1) := dk_96 (dk_at dksX0_layDents_4 7 rfl rfl)
theorem dX0_layDents_100 : decode cX0_layDents 100 = .ok (.istore_n 2, 1) := dk_61 (dk_at dksX0_layDents_4 8 rfl rfl)
theorem dX0_layDents_101 : decode cX0_layDents 101 = .ok (.aload_n 0, 1) := dk_42 (dk_at dksX0_layDents_4 9 rfl rfl)
theorem dX0_layDents_102 : decode cX0_layDents 102 = .ok (.dup, 1) := dk_89 (dk_at dksX0_layDents_4 10 rfl rfl)
theorem dX0_layDents_103 : decode cX0_layDents 103 = .ok (.getfield 235, 3) := dk_180 0 235 (dk_at dksX0_layDents_4 11 rfl rfl)
theorem dX0_layDents_106 : decode cX0_layDents 106 = .ok (.iconst 1, 1) := dk_4 (dk_at dksX0_layDents_4 14 rfl rfl)
theorem dX0_layDents_107 : decode cX0_layDents 107 = .ok (.iadd, 1) := dk_96 (dk_at dksX0_layDents_4 15 rfl rfl)
theorem dX0_layDents_108 : decode cX0_layDents 108 = .ok (.putfield 235, 3) := dk_181 0 235 (dk_at dksX0_layDents_4 16 rfl rfl)
theorem dX0_layDents_111 : decode cX0_layDents 111 = .ok (.goto (-87), 3) := dk_167 255 169 (dk_at dksX0_layDents_4 19 rfl rfl)
theorem dX0_layDents_114 : decode cX0_layDents 114 = .ok (.return_, 1) := dk_177 (dk_at dksX0_layDents_4 22 rfl rfl)
abbrev cX0_fromGate : ByteArray := prog_1_method_9_code
def yX0_fromGate : MethodName := ⟨RX0, "fromGate", "(I)I"⟩
def dkwX0_fromGate_0 : List UInt8 := [42, 180, 0, 15, 42, 180, 0, 11, 27, 50, 42, 180, 0, 100, 42, 180, 0, 103, 182, 0, 106, 104, 172]
abbrev dktX0_fromGate_0 : List UInt8 := dkwX0_fromGate_0 ++ []
theorem dksX0_fromGate_0 : cX0_fromGate.data.toList.drop 0 = dktX0_fromGate_0 := by decide +kernel
theorem dX0_fromGate_0 : decode cX0_fromGate 0 = .ok (.aload_n 0, 1) := dk_42 (dk_at dksX0_fromGate_0 0 rfl rfl)
theorem dX0_fromGate_1 : decode cX0_fromGate 1 = .ok (.getfield 15, 3) := dk_180 0 15 (dk_at dksX0_fromGate_0 1 rfl rfl)
theorem dX0_fromGate_4 : decode cX0_fromGate 4 = .ok (.aload_n 0, 1) := dk_42 (dk_at dksX0_fromGate_0 4 rfl rfl)
theorem dX0_fromGate_5 : decode cX0_fromGate 5 = .ok (.getfield 11, 3) := dk_180 0 11 (dk_at dksX0_fromGate_0 5 rfl rfl)
theorem dX0_fromGate_8 : decode cX0_fromGate 8 = .ok (.iload_n 1, 1) := dk_27 (dk_at dksX0_fromGate_0 8 rfl rfl)
theorem dX0_fromGate_9 : decode cX0_fromGate 9 = .ok (.aaload, 1) := dk_50 (dk_at dksX0_fromGate_0 9 rfl rfl)
theorem dX0_fromGate_10 : decode cX0_fromGate 10 = .ok (.aload_n 0, 1) := dk_42 (dk_at dksX0_fromGate_0 10 rfl rfl)
theorem dX0_fromGate_11 : decode cX0_fromGate 11 = .ok (.getfield 100, 3) := dk_180 0 100 (dk_at dksX0_fromGate_0 11 rfl rfl)
theorem dX0_fromGate_14 : decode cX0_fromGate 14 = .ok (.aload_n 0, 1) := dk_42 (dk_at dksX0_fromGate_0 14 rfl rfl)
theorem dX0_fromGate_15 : decode cX0_fromGate 15 = .ok (.getfield 103, 3) := dk_180 0 103 (dk_at dksX0_fromGate_0 15 rfl rfl)
theorem dX0_fromGate_18 : decode cX0_fromGate 18 = .ok (.invokevirtual 106, 3) := dk_182 0 106 (dk_at dksX0_fromGate_0 18 rfl rfl)
theorem dX0_fromGate_21 : decode cX0_fromGate 21 = .ok (.imul, 1) := dk_104 (dk_at dksX0_fromGate_0 21 rfl rfl)
theorem dX0_fromGate_22 : decode cX0_fromGate 22 = .ok (.ireturn, 1) := dk_172 (dk_at dksX0_fromGate_0 22 rfl rfl)
abbrev cX0_firstOf : ByteArray := prog_1_method_31_code
def yX0_firstOf : MethodName := ⟨RX0, "firstOf", "(I)I"⟩
def dkwX0_firstOf_2 : List UInt8 := [172]
abbrev dktX0_firstOf_2 : List UInt8 := dkwX0_firstOf_2 ++ []
def dkwX0_firstOf_1 : List UInt8 := [180, 0, 43, 28, 46, 27, 160, 0, 10, 42, 180, 0, 46, 28, 46, 172, 132, 2, 1, 167, 255, 216, 16, 254]
abbrev dktX0_firstOf_1 : List UInt8 := dkwX0_firstOf_1 ++ dktX0_firstOf_2
def dkwX0_firstOf_0 : List UInt8 := [3, 61, 28, 42, 180, 0, 235, 162, 0, 38, 42, 180, 0, 46, 28, 46, 17, 3, 231, 163, 0, 26, 42]
abbrev dktX0_firstOf_0 : List UInt8 := dkwX0_firstOf_0 ++ dktX0_firstOf_1
theorem dksX0_firstOf_0 : cX0_firstOf.data.toList.drop 0 = dktX0_firstOf_0 := by decide +kernel
theorem dksX0_firstOf_1 : cX0_firstOf.data.toList.drop 23 = dktX0_firstOf_1 := dk_seg dksX0_firstOf_0 23 rfl rfl
theorem dksX0_firstOf_2 : cX0_firstOf.data.toList.drop 47 = dktX0_firstOf_2 := dk_seg dksX0_firstOf_1 24 rfl rfl
theorem dX0_firstOf_0 : decode cX0_firstOf 0 = .ok (.iconst 0, 1) := dk_3 (dk_at dksX0_firstOf_0 0 rfl rfl)
theorem dX0_firstOf_1 : decode cX0_firstOf 1 = .ok (.istore_n 2, 1) := dk_61 (dk_at dksX0_firstOf_0 1 rfl rfl)
theorem dX0_firstOf_2 : decode cX0_firstOf 2 = .ok (.iload_n 2, 1) := dk_28 (dk_at dksX0_firstOf_0 2 rfl rfl)
theorem dX0_firstOf_3 : decode cX0_firstOf 3 = .ok (.aload_n 0, 1) := dk_42 (dk_at dksX0_firstOf_0 3 rfl rfl)
theorem dX0_firstOf_4 : decode cX0_firstOf 4 = .ok (.getfield 235, 3) := dk_180 0 235 (dk_at dksX0_firstOf_0 4 rfl rfl)
theorem dX0_firstOf_7 : decode cX0_firstOf 7 = .ok (.if_icmp .ge 38, 3) := dk_162 0 38 (dk_at dksX0_firstOf_0 7 rfl rfl)
theorem dX0_firstOf_10 : decode cX0_firstOf 10 = .ok (.aload_n 0, 1) := dk_42 (dk_at dksX0_firstOf_0 10 rfl rfl)
theorem dX0_firstOf_11 : decode cX0_firstOf 11 = .ok (.getfield 46, 3) := dk_180 0 46 (dk_at dksX0_firstOf_0 11 rfl rfl)
theorem dX0_firstOf_14 : decode cX0_firstOf 14 = .ok (.iload_n 2, 1) := dk_28 (dk_at dksX0_firstOf_0 14 rfl rfl)
theorem dX0_firstOf_15 : decode cX0_firstOf 15 = .ok (.iaload, 1) := dk_46 (dk_at dksX0_firstOf_0 15 rfl rfl)
theorem dX0_firstOf_16 : decode cX0_firstOf 16 = .ok (.sipush 999, 3) := dk_17 3 231 (dk_at dksX0_firstOf_0 16 rfl rfl)
theorem dX0_firstOf_19 : decode cX0_firstOf 19 = .ok (.if_icmp .gt 26, 3) := dk_163 0 26 (dk_at dksX0_firstOf_0 19 rfl rfl)
theorem dX0_firstOf_22 : decode cX0_firstOf 22 = .ok (.aload_n 0, 1) := dk_42 (dk_at dksX0_firstOf_0 22 rfl rfl)
theorem dX0_firstOf_23 : decode cX0_firstOf 23 = .ok (.getfield 43, 3) := dk_180 0 43 (dk_at dksX0_firstOf_1 0 rfl rfl)
theorem dX0_firstOf_26 : decode cX0_firstOf 26 = .ok (.iload_n 2, 1) := dk_28 (dk_at dksX0_firstOf_1 3 rfl rfl)
theorem dX0_firstOf_27 : decode cX0_firstOf 27 = .ok (.iaload, 1) := dk_46 (dk_at dksX0_firstOf_1 4 rfl rfl)
theorem dX0_firstOf_28 : decode cX0_firstOf 28 = .ok (.iload_n 1, 1) := dk_27 (dk_at dksX0_firstOf_1 5 rfl rfl)
theorem dX0_firstOf_29 : decode cX0_firstOf 29 = .ok (.if_icmp .ne 10, 3) := dk_160 0 10 (dk_at dksX0_firstOf_1 6 rfl rfl)
theorem dX0_firstOf_32 : decode cX0_firstOf 32 = .ok (.aload_n 0, 1) := dk_42 (dk_at dksX0_firstOf_1 9 rfl rfl)
theorem dX0_firstOf_33 : decode cX0_firstOf 33 = .ok (.getfield 46, 3) := dk_180 0 46 (dk_at dksX0_firstOf_1 10 rfl rfl)
theorem dX0_firstOf_36 : decode cX0_firstOf 36 = .ok (.iload_n 2, 1) := dk_28 (dk_at dksX0_firstOf_1 13 rfl rfl)
theorem dX0_firstOf_37 : decode cX0_firstOf 37 = .ok (.iaload, 1) := dk_46 (dk_at dksX0_firstOf_1 14 rfl rfl)
theorem dX0_firstOf_38 : decode cX0_firstOf 38 = .ok (.ireturn, 1) := dk_172 (dk_at dksX0_firstOf_1 15 rfl rfl)
theorem dX0_firstOf_39 : decode cX0_firstOf 39 = .ok (.iinc 2 1, 3) := dk_132 2 1 (dk_at dksX0_firstOf_1 16 rfl rfl)
theorem dX0_firstOf_42 : decode cX0_firstOf 42 = .ok (.goto (-40), 3) := dk_167 255 216 (dk_at dksX0_firstOf_1 19 rfl rfl)
theorem dX0_firstOf_45 : decode cX0_firstOf 45 = .ok (.bipush (-2), 2) := dk_16 254 (dk_at dksX0_firstOf_1 22 rfl rfl)
theorem dX0_firstOf_47 : decode cX0_firstOf 47 = .ok (.ireturn, 1) := dk_172 (dk_at dksX0_firstOf_2 0 rfl rfl)
abbrev cX0_by : ByteArray := prog_1_method_33_code
def yX0_by : MethodName := ⟨RX0, "by", "(III)I"⟩
def dkwX0_by_4 : List UInt8 := [21, 5, 4, 100, 46, 172]
abbrev dktX0_by_4 : List UInt8 := dkwX0_by_4 ++ []
def dkwX0_by_3 : List UInt8 := [4, 160, 0, 8, 21, 5, 167, 0, 22, 21, 5, 154, 0, 8, 16, 254, 167, 0, 12, 42, 180, 0, 43]
abbrev dktX0_by_3 : List UInt8 := dkwX0_by_3 ++ dktX0_by_4
def dkwX0_by_2 : List UInt8 := [180, 0, 235, 162, 0, 20, 42, 180, 0, 46, 21, 5, 46, 28, 163, 0, 9, 132, 5, 1, 167, 255, 233, 29]
abbrev dktX0_by_2 : List UInt8 := dkwX0_by_2 ++ dktX0_by_3
def dkwX0_by_1 : List UInt8 := [172, 42, 27, 182, 1, 3, 54, 4, 21, 4, 156, 0, 6, 21, 4, 172, 3, 54, 5, 21, 5, 42]
abbrev dktX0_by_1 : List UInt8 := dkwX0_by_1 ++ dktX0_by_2
def dkwX0_by_0 : List UInt8 := [27, 184, 0, 121, 153, 0, 19, 28, 184, 1, 9, 153, 0, 12, 29, 3, 4, 184, 0, 89, 154, 0, 5, 2]
abbrev dktX0_by_0 : List UInt8 := dkwX0_by_0 ++ dktX0_by_1
theorem dksX0_by_0 : cX0_by.data.toList.drop 0 = dktX0_by_0 := by decide +kernel
theorem dksX0_by_1 : cX0_by.data.toList.drop 24 = dktX0_by_1 := dk_seg dksX0_by_0 24 rfl rfl
theorem dksX0_by_2 : cX0_by.data.toList.drop 46 = dktX0_by_2 := dk_seg dksX0_by_1 22 rfl rfl
theorem dksX0_by_3 : cX0_by.data.toList.drop 70 = dktX0_by_3 := dk_seg dksX0_by_2 24 rfl rfl
theorem dksX0_by_4 : cX0_by.data.toList.drop 93 = dktX0_by_4 := dk_seg dksX0_by_3 23 rfl rfl
theorem dX0_by_0 : decode cX0_by 0 = .ok (.iload_n 1, 1) := dk_27 (dk_at dksX0_by_0 0 rfl rfl)
theorem dX0_by_1 : decode cX0_by 1 = .ok (.invokestatic 121, 3) := dk_184 0 121 (dk_at dksX0_by_0 1 rfl rfl)
theorem dX0_by_4 : decode cX0_by 4 = .ok (.ifCond .eq 19, 3) := dk_153 0 19 (dk_at dksX0_by_0 4 rfl rfl)
theorem dX0_by_7 : decode cX0_by 7 = .ok (.iload_n 2, 1) := dk_28 (dk_at dksX0_by_0 7 rfl rfl)
theorem dX0_by_8 : decode cX0_by 8 = .ok (.invokestatic 265, 3) := dk_184 1 9 (dk_at dksX0_by_0 8 rfl rfl)
theorem dX0_by_11 : decode cX0_by 11 = .ok (.ifCond .eq 12, 3) := dk_153 0 12 (dk_at dksX0_by_0 11 rfl rfl)
theorem dX0_by_14 : decode cX0_by 14 = .ok (.iload_n 3, 1) := dk_29 (dk_at dksX0_by_0 14 rfl rfl)
theorem dX0_by_15 : decode cX0_by 15 = .ok (.iconst 0, 1) := dk_3 (dk_at dksX0_by_0 15 rfl rfl)
theorem dX0_by_16 : decode cX0_by 16 = .ok (.iconst 1, 1) := dk_4 (dk_at dksX0_by_0 16 rfl rfl)
theorem dX0_by_17 : decode cX0_by 17 = .ok (.invokestatic 89, 3) := dk_184 0 89 (dk_at dksX0_by_0 17 rfl rfl)
theorem dX0_by_20 : decode cX0_by 20 = .ok (.ifCond .ne 5, 3) := dk_154 0 5 (dk_at dksX0_by_0 20 rfl rfl)
theorem dX0_by_23 : decode cX0_by 23 = .ok (.iconst (-1), 1) := dk_2 (dk_at dksX0_by_0 23 rfl rfl)
theorem dX0_by_24 : decode cX0_by 24 = .ok (.ireturn, 1) := dk_172 (dk_at dksX0_by_1 0 rfl rfl)
theorem dX0_by_25 : decode cX0_by 25 = .ok (.aload_n 0, 1) := dk_42 (dk_at dksX0_by_1 1 rfl rfl)
theorem dX0_by_26 : decode cX0_by 26 = .ok (.iload_n 1, 1) := dk_27 (dk_at dksX0_by_1 2 rfl rfl)
theorem dX0_by_27 : decode cX0_by 27 = .ok (.invokevirtual 259, 3) := dk_182 1 3 (dk_at dksX0_by_1 3 rfl rfl)
theorem dX0_by_30 : decode cX0_by 30 = .ok (.istore 4, 2) := dk_54 4 (dk_at dksX0_by_1 6 rfl rfl)
theorem dX0_by_32 : decode cX0_by 32 = .ok (.iload 4, 2) := dk_21 4 (dk_at dksX0_by_1 8 rfl rfl)
theorem dX0_by_34 : decode cX0_by 34 = .ok (.ifCond .ge 6, 3) := dk_156 0 6 (dk_at dksX0_by_1 10 rfl rfl)
theorem dX0_by_37 : decode cX0_by 37 = .ok (.iload 4, 2) := dk_21 4 (dk_at dksX0_by_1 13 rfl rfl)
theorem dX0_by_39 : decode cX0_by 39 = .ok (.ireturn, 1) := dk_172 (dk_at dksX0_by_1 15 rfl rfl)
theorem dX0_by_40 : decode cX0_by 40 = .ok (.iconst 0, 1) := dk_3 (dk_at dksX0_by_1 16 rfl rfl)
theorem dX0_by_41 : decode cX0_by 41 = .ok (.istore 5, 2) := dk_54 5 (dk_at dksX0_by_1 17 rfl rfl)
theorem dX0_by_43 : decode cX0_by 43 = .ok (.iload 5, 2) := dk_21 5 (dk_at dksX0_by_1 19 rfl rfl)
theorem dX0_by_45 : decode cX0_by 45 = .ok (.aload_n 0, 1) := dk_42 (dk_at dksX0_by_1 21 rfl rfl)
theorem dX0_by_46 : decode cX0_by 46 = .ok (.getfield 235, 3) := dk_180 0 235 (dk_at dksX0_by_2 0 rfl rfl)
theorem dX0_by_49 : decode cX0_by 49 = .ok (.if_icmp .ge 20, 3) := dk_162 0 20 (dk_at dksX0_by_2 3 rfl rfl)
theorem dX0_by_52 : decode cX0_by 52 = .ok (.aload_n 0, 1) := dk_42 (dk_at dksX0_by_2 6 rfl rfl)
theorem dX0_by_53 : decode cX0_by 53 = .ok (.getfield 46, 3) := dk_180 0 46 (dk_at dksX0_by_2 7 rfl rfl)
theorem dX0_by_56 : decode cX0_by 56 = .ok (.iload 5, 2) := dk_21 5 (dk_at dksX0_by_2 10 rfl rfl)
theorem dX0_by_58 : decode cX0_by 58 = .ok (.iaload, 1) := dk_46 (dk_at dksX0_by_2 12 rfl rfl)
theorem dX0_by_59 : decode cX0_by 59 = .ok (.iload_n 2, 1) := dk_28 (dk_at dksX0_by_2 13 rfl rfl)
theorem dX0_by_60 : decode cX0_by 60 = .ok (.if_icmp .gt 9, 3) := dk_163 0 9 (dk_at dksX0_by_2 14 rfl rfl)
theorem dX0_by_63 : decode cX0_by 63 = .ok (.iinc 5 1, 3) := dk_132 5 1 (dk_at dksX0_by_2 17 rfl rfl)
theorem dX0_by_66 : decode cX0_by 66 = .ok (.goto (-23), 3) := dk_167 255 233 (dk_at dksX0_by_2 20 rfl rfl)
theorem dX0_by_69 : decode cX0_by 69 = .ok (.iload_n 3, 1) := dk_29 (dk_at dksX0_by_2 23 rfl rfl)
theorem dX0_by_70 : decode cX0_by 70 = .ok (.iconst 1, 1) := dk_4 (dk_at dksX0_by_3 0 rfl rfl)
theorem dX0_by_71 : decode cX0_by 71 = .ok (.if_icmp .ne 8, 3) := dk_160 0 8 (dk_at dksX0_by_3 1 rfl rfl)
theorem dX0_by_74 : decode cX0_by 74 = .ok (.iload 5, 2) := dk_21 5 (dk_at dksX0_by_3 4 rfl rfl)
theorem dX0_by_76 : decode cX0_by 76 = .ok (.goto 22, 3) := dk_167 0 22 (dk_at dksX0_by_3 6 rfl rfl)
theorem dX0_by_79 : decode cX0_by 79 = .ok (.iload 5, 2) := dk_21 5 (dk_at dksX0_by_3 9 rfl rfl)
theorem dX0_by_81 : decode cX0_by 81 = .ok (.ifCond .ne 8, 3) := dk_154 0 8 (dk_at dksX0_by_3 11 rfl rfl)
theorem dX0_by_84 : decode cX0_by 84 = .ok (.bipush (-2), 2) := dk_16 254 (dk_at dksX0_by_3 14 rfl rfl)
theorem dX0_by_86 : decode cX0_by 86 = .ok (.goto 12, 3) := dk_167 0 12 (dk_at dksX0_by_3 16 rfl rfl)
theorem dX0_by_89 : decode cX0_by 89 = .ok (.aload_n 0, 1) := dk_42 (dk_at dksX0_by_3 19 rfl rfl)
theorem dX0_by_90 : decode cX0_by 90 = .ok (.getfield 43, 3) := dk_180 0 43 (dk_at dksX0_by_3 20 rfl rfl)
theorem dX0_by_93 : decode cX0_by 93 = .ok (.iload 5, 2) := dk_21 5 (dk_at dksX0_by_4 0 rfl rfl)
theorem dX0_by_95 : decode cX0_by 95 = .ok (.iconst 1, 1) := dk_4 (dk_at dksX0_by_4 2 rfl rfl)
theorem dX0_by_96 : decode cX0_by 96 = .ok (.isub, 1) := dk_100 (dk_at dksX0_by_4 3 rfl rfl)
theorem dX0_by_97 : decode cX0_by 97 = .ok (.iaload, 1) := dk_46 (dk_at dksX0_by_4 4 rfl rfl)
theorem dX0_by_98 : decode cX0_by 98 = .ok (.ireturn, 1) := dk_172 (dk_at dksX0_by_4 5 rfl rfl)
abbrev cX0_isMinute : ByteArray := prog_1_method_6_code
def yX0_isMinute : MethodName := ⟨RX0, "isMinute", "(I)Z"⟩
def dkwX0_isMinute_0 : List UInt8 := [26, 3, 17, 3, 231, 184, 0, 89, 172]
abbrev dktX0_isMinute_0 : List UInt8 := dkwX0_isMinute_0 ++ []
theorem dksX0_isMinute_0 : cX0_isMinute.data.toList.drop 0 = dktX0_isMinute_0 := by decide +kernel
theorem dX0_isMinute_0 : decode cX0_isMinute 0 = .ok (.iload_n 0, 1) := dk_26 (dk_at dksX0_isMinute_0 0 rfl rfl)
theorem dX0_isMinute_1 : decode cX0_isMinute 1 = .ok (.iconst 0, 1) := dk_3 (dk_at dksX0_isMinute_0 1 rfl rfl)
theorem dX0_isMinute_2 : decode cX0_isMinute 2 = .ok (.sipush 999, 3) := dk_17 3 231 (dk_at dksX0_isMinute_0 2 rfl rfl)
theorem dX0_isMinute_5 : decode cX0_isMinute 5 = .ok (.invokestatic 89, 3) := dk_184 0 89 (dk_at dksX0_isMinute_0 5 rfl rfl)
theorem dX0_isMinute_8 : decode cX0_isMinute 8 = .ok (.ireturn, 1) := dk_172 (dk_at dksX0_isMinute_0 8 rfl rfl)
abbrev cX0_unseen : ByteArray := prog_1_method_36_code
def yX0_unseen : MethodName := ⟨RX0, "unseen", "(IIII)I"⟩
def dkwX0_unseen_3 : List UInt8 := [4, 167, 0, 4, 3, 172]
abbrev dktX0_unseen_3 : List UInt8 := dkwX0_unseen_3 ++ []
def dkwX0_unseen_2 : List UInt8 := [172, 21, 4, 154, 0, 12, 42, 28, 29, 182, 1, 17, 167, 0, 17, 42, 28, 29, 182, 1, 20, 153, 0, 7]
abbrev dktX0_unseen_2 : List UInt8 := dkwX0_unseen_2 ++ dktX0_unseen_3
def dkwX0_unseen_1 : List UInt8 := [3, 4, 184, 0, 89, 154, 0, 5, 2, 172, 42, 27, 182, 1, 3, 54, 5, 21, 5, 156, 0, 6, 21, 5]
abbrev dktX0_unseen_1 : List UInt8 := dkwX0_unseen_1 ++ dktX0_unseen_2
def dkwX0_unseen_0 : List UInt8 := [27, 184, 0, 121, 153, 0, 28, 42, 28, 182, 0, 172, 153, 0, 20, 29, 184, 1, 9, 153, 0, 13, 21, 4]
abbrev dktX0_unseen_0 : List UInt8 := dkwX0_unseen_0 ++ dktX0_unseen_1
theorem dksX0_unseen_0 : cX0_unseen.data.toList.drop 0 = dktX0_unseen_0 := by decide +kernel
theorem dksX0_unseen_1 : cX0_unseen.data.toList.drop 24 = dktX0_unseen_1 := dk_seg dksX0_unseen_0 24 rfl rfl
theorem dksX0_unseen_2 : cX0_unseen.data.toList.drop 48 = dktX0_unseen_2 := dk_seg dksX0_unseen_1 24 rfl rfl
theorem dksX0_unseen_3 : cX0_unseen.data.toList.drop 72 = dktX0_unseen_3 := dk_seg dksX0_unseen_2 24 rfl rfl
theorem dX0_unseen_0 : decode cX0_unseen 0 = .ok (.iload_n 1, 1) := dk_27 (dk_at dksX0_unseen_0 0 rfl rfl)
theorem dX0_unseen_1 : decode cX0_unseen 1 = .ok (.invokestatic 121, 3) := dk_184 0 121 (dk_at dksX0_unseen_0 1 rfl rfl)
theorem dX0_unseen_4 : decode cX0_unseen 4 = .ok (.ifCond .eq 28, 3) := dk_153 0 28 (dk_at dksX0_unseen_0 4 rfl rfl)
theorem dX0_unseen_7 : decode cX0_unseen 7 = .ok (.aload_n 0, 1) := dk_42 (dk_at dksX0_unseen_0 7 rfl rfl)
theorem dX0_unseen_8 : decode cX0_unseen 8 = .ok (.iload_n 2, 1) := dk_28 (dk_at dksX0_unseen_0 8 rfl rfl)
theorem dX0_unseen_9 : decode cX0_unseen 9 = .ok (.invokevirtual 172, 3) := dk_182 0 172 (dk_at dksX0_unseen_0 9 rfl rfl)
theorem dX0_unseen_12 : decode cX0_unseen 12 = .ok (.ifCond .eq 20, 3) := dk_153 0 20 (dk_at dksX0_unseen_0 12 rfl rfl)
theorem dX0_unseen_15 : decode cX0_unseen 15 = .ok (.iload_n 3, 1) := dk_29 (dk_at dksX0_unseen_0 15 rfl rfl)
theorem dX0_unseen_16 : decode cX0_unseen 16 = .ok (.invokestatic 265, 3) := dk_184 1 9 (dk_at dksX0_unseen_0 16 rfl rfl)
theorem dX0_unseen_19 : decode cX0_unseen 19 = .ok (.ifCond .eq 13, 3) := dk_153 0 13 (dk_at dksX0_unseen_0 19 rfl rfl)
theorem dX0_unseen_22 : decode cX0_unseen 22 = .ok (.iload 4, 2) := dk_21 4 (dk_at dksX0_unseen_0 22 rfl rfl)
theorem dX0_unseen_24 : decode cX0_unseen 24 = .ok (.iconst 0, 1) := dk_3 (dk_at dksX0_unseen_1 0 rfl rfl)
theorem dX0_unseen_25 : decode cX0_unseen 25 = .ok (.iconst 1, 1) := dk_4 (dk_at dksX0_unseen_1 1 rfl rfl)
theorem dX0_unseen_26 : decode cX0_unseen 26 = .ok (.invokestatic 89, 3) := dk_184 0 89 (dk_at dksX0_unseen_1 2 rfl rfl)
theorem dX0_unseen_29 : decode cX0_unseen 29 = .ok (.ifCond .ne 5, 3) := dk_154 0 5 (dk_at dksX0_unseen_1 5 rfl rfl)
theorem dX0_unseen_32 : decode cX0_unseen 32 = .ok (.iconst (-1), 1) := dk_2 (dk_at dksX0_unseen_1 8 rfl rfl)
theorem dX0_unseen_33 : decode cX0_unseen 33 = .ok (.ireturn, 1) := dk_172 (dk_at dksX0_unseen_1 9 rfl rfl)
theorem dX0_unseen_34 : decode cX0_unseen 34 = .ok (.aload_n 0, 1) := dk_42 (dk_at dksX0_unseen_1 10 rfl rfl)
theorem dX0_unseen_35 : decode cX0_unseen 35 = .ok (.iload_n 1, 1) := dk_27 (dk_at dksX0_unseen_1 11 rfl rfl)
theorem dX0_unseen_36 : decode cX0_unseen 36 = .ok (.invokevirtual 259, 3) := dk_182 1 3 (dk_at dksX0_unseen_1 12 rfl rfl)
theorem dX0_unseen_39 : decode cX0_unseen 39 = .ok (.istore 5, 2) := dk_54 5 (dk_at dksX0_unseen_1 15 rfl rfl)
theorem dX0_unseen_41 : decode cX0_unseen 41 = .ok (.iload 5, 2) := dk_21 5 (dk_at dksX0_unseen_1 17 rfl rfl)
theorem dX0_unseen_43 : decode cX0_unseen 43 = .ok (.ifCond .ge 6, 3) := dk_156 0 6 (dk_at dksX0_unseen_1 19 rfl rfl)
theorem dX0_unseen_46 : decode cX0_unseen 46 = .ok (.iload 5, 2) := dk_21 5 (dk_at dksX0_unseen_1 22 rfl rfl)
theorem dX0_unseen_48 : decode cX0_unseen 48 = .ok (.ireturn, 1) := dk_172 (dk_at dksX0_unseen_2 0 rfl rfl)
theorem dX0_unseen_49 : decode cX0_unseen 49 = .ok (.iload 4, 2) := dk_21 4 (dk_at dksX0_unseen_2 1 rfl rfl)
theorem dX0_unseen_51 : decode cX0_unseen 51 = .ok (.ifCond .ne 12, 3) := dk_154 0 12 (dk_at dksX0_unseen_2 3 rfl rfl)
theorem dX0_unseen_54 : decode cX0_unseen 54 = .ok (.aload_n 0, 1) := dk_42 (dk_at dksX0_unseen_2 6 rfl rfl)
theorem dX0_unseen_55 : decode cX0_unseen 55 = .ok (.iload_n 2, 1) := dk_28 (dk_at dksX0_unseen_2 7 rfl rfl)
theorem dX0_unseen_56 : decode cX0_unseen 56 = .ok (.iload_n 3, 1) := dk_29 (dk_at dksX0_unseen_2 8 rfl rfl)
theorem dX0_unseen_57 : decode cX0_unseen 57 = .ok (.invokevirtual 273, 3) := dk_182 1 17 (dk_at dksX0_unseen_2 9 rfl rfl)
theorem dX0_unseen_60 : decode cX0_unseen 60 = .ok (.goto 17, 3) := dk_167 0 17 (dk_at dksX0_unseen_2 12 rfl rfl)
theorem dX0_unseen_63 : decode cX0_unseen 63 = .ok (.aload_n 0, 1) := dk_42 (dk_at dksX0_unseen_2 15 rfl rfl)
theorem dX0_unseen_64 : decode cX0_unseen 64 = .ok (.iload_n 2, 1) := dk_28 (dk_at dksX0_unseen_2 16 rfl rfl)
theorem dX0_unseen_65 : decode cX0_unseen 65 = .ok (.iload_n 3, 1) := dk_29 (dk_at dksX0_unseen_2 17 rfl rfl)
theorem dX0_unseen_66 : decode cX0_unseen 66 = .ok (.invokevirtual 276, 3) := dk_182 1 20 (dk_at dksX0_unseen_2 18 rfl rfl)
theorem dX0_unseen_69 : decode cX0_unseen 69 = .ok (.ifCond .eq 7, 3) := dk_153 0 7 (dk_at dksX0_unseen_2 21 rfl rfl)
theorem dX0_unseen_72 : decode cX0_unseen 72 = .ok (.iconst 1, 1) := dk_4 (dk_at dksX0_unseen_3 0 rfl rfl)
theorem dX0_unseen_73 : decode cX0_unseen 73 = .ok (.goto 4, 3) := dk_167 0 4 (dk_at dksX0_unseen_3 1 rfl rfl)
theorem dX0_unseen_76 : decode cX0_unseen 76 = .ok (.iconst 0, 1) := dk_3 (dk_at dksX0_unseen_3 4 rfl rfl)
theorem dX0_unseen_77 : decode cX0_unseen 77 = .ok (.ireturn, 1) := dk_172 (dk_at dksX0_unseen_3 5 rfl rfl)
abbrev cX0_unseenIn : ByteArray := prog_1_method_34_code
def yX0_unseenIn : MethodName := ⟨RX0, "unseenIn", "(II)I"⟩
def dkwX0_unseenIn_2 : List UInt8 := [132, 4, 1, 167, 255, 214, 28, 29, 100, 172]
abbrev dktX0_unseenIn_2 : List UInt8 := dkwX0_unseenIn_2 ++ []
def dkwX0_unseenIn_1 : List UInt8 := [163, 0, 28, 42, 180, 0, 43, 21, 4, 46, 27, 160, 0, 11, 42, 180, 0, 46, 21, 4, 46, 62]
abbrev dktX0_unseenIn_1 : List UInt8 := dkwX0_unseenIn_1 ++ dktX0_unseenIn_2
def dkwX0_unseenIn_0 : List UInt8 := [2, 62, 3, 54, 4, 21, 4, 42, 180, 0, 235, 162, 0, 39, 42, 180, 0, 46, 21, 4, 46, 28]
abbrev dktX0_unseenIn_0 : List UInt8 := dkwX0_unseenIn_0 ++ dktX0_unseenIn_1
theorem dksX0_unseenIn_0 : cX0_unseenIn.data.toList.drop 0 = dktX0_unseenIn_0 := by decide +kernel
theorem dksX0_unseenIn_1 : cX0_unseenIn.data.toList.drop 22 = dktX0_unseenIn_1 := dk_seg dksX0_unseenIn_0 22 rfl rfl
theorem dksX0_unseenIn_2 : cX0_unseenIn.data.toList.drop 44 = dktX0_unseenIn_2 := dk_seg dksX0_unseenIn_1 22 rfl rfl
theorem dX0_unseenIn_0 : decode cX0_unseenIn 0 = .ok (.iconst (-1), 1) := dk_2 (dk_at dksX0_unseenIn_0 0 rfl rfl)
theorem dX0_unseenIn_1 : decode cX0_unseenIn 1 = .ok (.istore_n 3, 1) := dk_62 (dk_at dksX0_unseenIn_0 1 rfl rfl)
theorem dX0_unseenIn_2 : decode cX0_unseenIn 2 = .ok (.iconst 0, 1) := dk_3 (dk_at dksX0_unseenIn_0 2 rfl rfl)
theorem dX0_unseenIn_3 : decode cX0_unseenIn 3 = .ok (.istore 4, 2) := dk_54 4 (dk_at dksX0_unseenIn_0 3 rfl rfl)
theorem dX0_unseenIn_5 : decode cX0_unseenIn 5 = .ok (.iload 4, 2) := dk_21 4 (dk_at dksX0_unseenIn_0 5 rfl rfl)
theorem dX0_unseenIn_7 : decode cX0_unseenIn 7 = .ok (.aload_n 0, 1) := dk_42 (dk_at dksX0_unseenIn_0 7 rfl rfl)
theorem dX0_unseenIn_8 : decode cX0_unseenIn 8 = .ok (.getfield 235, 3) := dk_180 0 235 (dk_at dksX0_unseenIn_0 8 rfl rfl)
theorem dX0_unseenIn_11 : decode cX0_unseenIn 11 = .ok (.if_icmp .ge 39, 3) := dk_162 0 39 (dk_at dksX0_unseenIn_0 11 rfl rfl)
theorem dX0_unseenIn_14 : decode cX0_unseenIn 14 = .ok (.aload_n 0, 1) := dk_42 (dk_at dksX0_unseenIn_0 14 rfl rfl)
theorem dX0_unseenIn_15 : decode cX0_unseenIn 15 = .ok (.getfield 46, 3) := dk_180 0 46 (dk_at dksX0_unseenIn_0 15 rfl rfl)
theorem dX0_unseenIn_18 : decode cX0_unseenIn 18 = .ok (.iload 4, 2) := dk_21 4 (dk_at dksX0_unseenIn_0 18 rfl rfl)
theorem dX0_unseenIn_20 : decode cX0_unseenIn 20 = .ok (.iaload, 1) := dk_46 (dk_at dksX0_unseenIn_0 20 rfl rfl)
theorem dX0_unseenIn_21 : decode cX0_unseenIn 21 = .ok (.iload_n 2, 1) := dk_28 (dk_at dksX0_unseenIn_0 21 rfl rfl)
theorem dX0_unseenIn_22 : decode cX0_unseenIn 22 = .ok (.if_icmp .gt 28, 3) := dk_163 0 28 (dk_at dksX0_unseenIn_1 0 rfl rfl)
theorem dX0_unseenIn_25 : decode cX0_unseenIn 25 = .ok (.aload_n 0, 1) := dk_42 (dk_at dksX0_unseenIn_1 3 rfl rfl)
theorem dX0_unseenIn_26 : decode cX0_unseenIn 26 = .ok (.getfield 43, 3) := dk_180 0 43 (dk_at dksX0_unseenIn_1 4 rfl rfl)
theorem dX0_unseenIn_29 : decode cX0_unseenIn 29 = .ok (.iload 4, 2) := dk_21 4 (dk_at dksX0_unseenIn_1 7 rfl rfl)
theorem dX0_unseenIn_31 : decode cX0_unseenIn 31 = .ok (.iaload, 1) := dk_46 (dk_at dksX0_unseenIn_1 9 rfl rfl)
theorem dX0_unseenIn_32 : decode cX0_unseenIn 32 = .ok (.iload_n 1, 1) := dk_27 (dk_at dksX0_unseenIn_1 10 rfl rfl)
theorem dX0_unseenIn_33 : decode cX0_unseenIn 33 = .ok (.if_icmp .ne 11, 3) := dk_160 0 11 (dk_at dksX0_unseenIn_1 11 rfl rfl)
theorem dX0_unseenIn_36 : decode cX0_unseenIn 36 = .ok (.aload_n 0, 1) := dk_42 (dk_at dksX0_unseenIn_1 14 rfl rfl)
theorem dX0_unseenIn_37 : decode cX0_unseenIn 37 = .ok (.getfield 46, 3) := dk_180 0 46 (dk_at dksX0_unseenIn_1 15 rfl rfl)
theorem dX0_unseenIn_40 : decode cX0_unseenIn 40 = .ok (.iload 4, 2) := dk_21 4 (dk_at dksX0_unseenIn_1 18 rfl rfl)
theorem dX0_unseenIn_42 : decode cX0_unseenIn 42 = .ok (.iaload, 1) := dk_46 (dk_at dksX0_unseenIn_1 20 rfl rfl)
theorem dX0_unseenIn_43 : decode cX0_unseenIn 43 = .ok (.istore_n 3, 1) := dk_62 (dk_at dksX0_unseenIn_1 21 rfl rfl)
theorem dX0_unseenIn_44 : decode cX0_unseenIn 44 = .ok (.iinc 4 1, 3) := dk_132 4 1 (dk_at dksX0_unseenIn_2 0 rfl rfl)
theorem dX0_unseenIn_47 : decode cX0_unseenIn 47 = .ok (.goto (-42), 3) := dk_167 255 214 (dk_at dksX0_unseenIn_2 3 rfl rfl)
theorem dX0_unseenIn_50 : decode cX0_unseenIn 50 = .ok (.iload_n 2, 1) := dk_28 (dk_at dksX0_unseenIn_2 6 rfl rfl)
theorem dX0_unseenIn_51 : decode cX0_unseenIn 51 = .ok (.iload_n 3, 1) := dk_29 (dk_at dksX0_unseenIn_2 7 rfl rfl)
theorem dX0_unseenIn_52 : decode cX0_unseenIn 52 = .ok (.isub, 1) := dk_100 (dk_at dksX0_unseenIn_2 8 rfl rfl)
theorem dX0_unseenIn_53 : decode cX0_unseenIn 53 = .ok (.ireturn, 1) := dk_172 (dk_at dksX0_unseenIn_2 9 rfl rfl)
abbrev cX0_isSeen : ByteArray := prog_1_method_35_code
def yX0_isSeen : MethodName := ⟨RX0, "isSeen", "(II)Z"⟩
def dkwX0_isSeen_2 : List UInt8 := [180, 0, 46, 21, 4, 46, 29, 96, 162, 0, 5, 4, 172, 132, 4, 1, 167, 255, 207, 3, 172]
abbrev dktX0_isSeen_2 : List UInt8 := dkwX0_isSeen_2 ++ []
def dkwX0_isSeen_1 : List UInt8 := [180, 0, 46, 21, 4, 46, 28, 163, 0, 35, 42, 180, 0, 43, 21, 4, 46, 27, 160, 0, 18, 28, 42]
abbrev dktX0_isSeen_1 : List UInt8 := dkwX0_isSeen_1 ++ dktX0_isSeen_2
def dkwX0_isSeen_0 : List UInt8 := [4, 42, 180, 0, 19, 184, 1, 12, 62, 3, 54, 4, 21, 4, 42, 180, 0, 235, 162, 0, 46, 42]
abbrev dktX0_isSeen_0 : List UInt8 := dkwX0_isSeen_0 ++ dktX0_isSeen_1
theorem dksX0_isSeen_0 : cX0_isSeen.data.toList.drop 0 = dktX0_isSeen_0 := by decide +kernel
theorem dksX0_isSeen_1 : cX0_isSeen.data.toList.drop 22 = dktX0_isSeen_1 := dk_seg dksX0_isSeen_0 22 rfl rfl
theorem dksX0_isSeen_2 : cX0_isSeen.data.toList.drop 45 = dktX0_isSeen_2 := dk_seg dksX0_isSeen_1 23 rfl rfl
theorem dX0_isSeen_0 : decode cX0_isSeen 0 = .ok (.iconst 1, 1) := dk_4 (dk_at dksX0_isSeen_0 0 rfl rfl)
theorem dX0_isSeen_1 : decode cX0_isSeen 1 = .ok (.aload_n 0, 1) := dk_42 (dk_at dksX0_isSeen_0 1 rfl rfl)
theorem dX0_isSeen_2 : decode cX0_isSeen 2 = .ok (.getfield 19, 3) := dk_180 0 19 (dk_at dksX0_isSeen_0 2 rfl rfl)
theorem dX0_isSeen_5 : decode cX0_isSeen 5 = .ok (.invokestatic 268, 3) := dk_184 1 12 (dk_at dksX0_isSeen_0 5 rfl rfl)
theorem dX0_isSeen_8 : decode cX0_isSeen 8 = .ok (.istore_n 3, 1) := dk_62 (dk_at dksX0_isSeen_0 8 rfl rfl)
theorem dX0_isSeen_9 : decode cX0_isSeen 9 = .ok (.iconst 0, 1) := dk_3 (dk_at dksX0_isSeen_0 9 rfl rfl)
theorem dX0_isSeen_10 : decode cX0_isSeen 10 = .ok (.istore 4, 2) := dk_54 4 (dk_at dksX0_isSeen_0 10 rfl rfl)
theorem dX0_isSeen_12 : decode cX0_isSeen 12 = .ok (.iload 4, 2) := dk_21 4 (dk_at dksX0_isSeen_0 12 rfl rfl)
theorem dX0_isSeen_14 : decode cX0_isSeen 14 = .ok (.aload_n 0, 1) := dk_42 (dk_at dksX0_isSeen_0 14 rfl rfl)
theorem dX0_isSeen_15 : decode cX0_isSeen 15 = .ok (.getfield 235, 3) := dk_180 0 235 (dk_at dksX0_isSeen_0 15 rfl rfl)
theorem dX0_isSeen_18 : decode cX0_isSeen 18 = .ok (.if_icmp .ge 46, 3) := dk_162 0 46 (dk_at dksX0_isSeen_0 18 rfl rfl)
theorem dX0_isSeen_21 : decode cX0_isSeen 21 = .ok (.aload_n 0, 1) := dk_42 (dk_at dksX0_isSeen_0 21 rfl rfl)
theorem dX0_isSeen_22 : decode cX0_isSeen 22 = .ok (.getfield 46, 3) := dk_180 0 46 (dk_at dksX0_isSeen_1 0 rfl rfl)
theorem dX0_isSeen_25 : decode cX0_isSeen 25 = .ok (.iload 4, 2) := dk_21 4 (dk_at dksX0_isSeen_1 3 rfl rfl)
theorem dX0_isSeen_27 : decode cX0_isSeen 27 = .ok (.iaload, 1) := dk_46 (dk_at dksX0_isSeen_1 5 rfl rfl)
theorem dX0_isSeen_28 : decode cX0_isSeen 28 = .ok (.iload_n 2, 1) := dk_28 (dk_at dksX0_isSeen_1 6 rfl rfl)
theorem dX0_isSeen_29 : decode cX0_isSeen 29 = .ok (.if_icmp .gt 35, 3) := dk_163 0 35 (dk_at dksX0_isSeen_1 7 rfl rfl)
theorem dX0_isSeen_32 : decode cX0_isSeen 32 = .ok (.aload_n 0, 1) := dk_42 (dk_at dksX0_isSeen_1 10 rfl rfl)
theorem dX0_isSeen_33 : decode cX0_isSeen 33 = .ok (.getfield 43, 3) := dk_180 0 43 (dk_at dksX0_isSeen_1 11 rfl rfl)
theorem dX0_isSeen_36 : decode cX0_isSeen 36 = .ok (.iload 4, 2) := dk_21 4 (dk_at dksX0_isSeen_1 14 rfl rfl)
theorem dX0_isSeen_38 : decode cX0_isSeen 38 = .ok (.iaload, 1) := dk_46 (dk_at dksX0_isSeen_1 16 rfl rfl)
theorem dX0_isSeen_39 : decode cX0_isSeen 39 = .ok (.iload_n 1, 1) := dk_27 (dk_at dksX0_isSeen_1 17 rfl rfl)
theorem dX0_isSeen_40 : decode cX0_isSeen 40 = .ok (.if_icmp .ne 18, 3) := dk_160 0 18 (dk_at dksX0_isSeen_1 18 rfl rfl)
theorem dX0_isSeen_43 : decode cX0_isSeen 43 = .ok (.iload_n 2, 1) := dk_28 (dk_at dksX0_isSeen_1 21 rfl rfl)
theorem dX0_isSeen_44 : decode cX0_isSeen 44 = .ok (.aload_n 0, 1) := dk_42 (dk_at dksX0_isSeen_1 22 rfl rfl)
theorem dX0_isSeen_45 : decode cX0_isSeen 45 = .ok (.getfield 46, 3) := dk_180 0 46 (dk_at dksX0_isSeen_2 0 rfl rfl)
theorem dX0_isSeen_48 : decode cX0_isSeen 48 = .ok (.iload 4, 2) := dk_21 4 (dk_at dksX0_isSeen_2 3 rfl rfl)
theorem dX0_isSeen_50 : decode cX0_isSeen 50 = .ok (.iaload, 1) := dk_46 (dk_at dksX0_isSeen_2 5 rfl rfl)
theorem dX0_isSeen_51 : decode cX0_isSeen 51 = .ok (.iload_n 3, 1) := dk_29 (dk_at dksX0_isSeen_2 6 rfl rfl)
theorem dX0_isSeen_52 : decode cX0_isSeen 52 = .ok (.iadd, 1) := dk_96 (dk_at dksX0_isSeen_2 7 rfl rfl)
theorem dX0_isSeen_53 : decode cX0_isSeen 53 = .ok (.if_icmp .ge 5, 3) := dk_162 0 5 (dk_at dksX0_isSeen_2 8 rfl rfl)
theorem dX0_isSeen_56 : decode cX0_isSeen 56 = .ok (.iconst 1, 1) := dk_4 (dk_at dksX0_isSeen_2 11 rfl rfl)
theorem dX0_isSeen_57 : decode cX0_isSeen 57 = .ok (.ireturn, 1) := dk_172 (dk_at dksX0_isSeen_2 12 rfl rfl)
theorem dX0_isSeen_58 : decode cX0_isSeen 58 = .ok (.iinc 4 1, 3) := dk_132 4 1 (dk_at dksX0_isSeen_2 13 rfl rfl)
theorem dX0_isSeen_61 : decode cX0_isSeen 61 = .ok (.goto (-49), 3) := dk_167 255 207 (dk_at dksX0_isSeen_2 16 rfl rfl)
theorem dX0_isSeen_64 : decode cX0_isSeen 64 = .ok (.iconst 0, 1) := dk_3 (dk_at dksX0_isSeen_2 19 rfl rfl)
theorem dX0_isSeen_65 : decode cX0_isSeen 65 = .ok (.ireturn, 1) := dk_172 (dk_at dksX0_isSeen_2 20 rfl rfl)
abbrev cX0_lost : ByteArray := prog_1_method_39_code
def yX0_lost : MethodName := ⟨RX0, "lost", "(IIII)I"⟩
def dkwX0_lost_4 : List UInt8 := [29, 21, 4, 182, 1, 38, 96, 54, 6, 132, 7, 1, 167, 255, 230, 21, 6, 172]
abbrev dktX0_lost_4 : List UInt8 := dkwX0_lost_4 ++ []
def dkwX0_lost_3 : List UInt8 := [182, 1, 38, 172, 3, 54, 6, 3, 54, 7, 21, 7, 42, 180, 0, 93, 162, 0, 23, 21, 6, 42, 21, 7]
abbrev dktX0_lost_3 : List UInt8 := dkwX0_lost_3 ++ dktX0_lost_4
def dkwX0_lost_2 : List UInt8 := [182, 1, 3, 54, 5, 21, 5, 156, 0, 6, 21, 5, 172, 28, 155, 0, 12, 42, 28, 29, 21, 4]
abbrev dktX0_lost_2 : List UInt8 := dkwX0_lost_2 ++ dktX0_lost_3
def dkwX0_lost_1 : List UInt8 := [184, 1, 9, 153, 0, 17, 21, 4, 184, 1, 9, 153, 0, 9, 29, 21, 4, 164, 0, 5, 2, 172, 42, 27]
abbrev dktX0_lost_1 : List UInt8 := dkwX0_lost_1 ++ dktX0_lost_2
def dkwX0_lost_0 : List UInt8 := [27, 184, 0, 121, 153, 0, 38, 28, 2, 42, 180, 0, 93, 4, 100, 184, 0, 89, 153, 0, 24, 29]
abbrev dktX0_lost_0 : List UInt8 := dkwX0_lost_0 ++ dktX0_lost_1
theorem dksX0_lost_0 : cX0_lost.data.toList.drop 0 = dktX0_lost_0 := by decide +kernel
theorem dksX0_lost_1 : cX0_lost.data.toList.drop 22 = dktX0_lost_1 := dk_seg dksX0_lost_0 22 rfl rfl
theorem dksX0_lost_2 : cX0_lost.data.toList.drop 46 = dktX0_lost_2 := dk_seg dksX0_lost_1 24 rfl rfl
theorem dksX0_lost_3 : cX0_lost.data.toList.drop 68 = dktX0_lost_3 := dk_seg dksX0_lost_2 22 rfl rfl
theorem dksX0_lost_4 : cX0_lost.data.toList.drop 92 = dktX0_lost_4 := dk_seg dksX0_lost_3 24 rfl rfl
theorem dX0_lost_0 : decode cX0_lost 0 = .ok (.iload_n 1, 1) := dk_27 (dk_at dksX0_lost_0 0 rfl rfl)
theorem dX0_lost_1 : decode cX0_lost 1 = .ok (.invokestatic 121, 3) := dk_184 0 121 (dk_at dksX0_lost_0 1 rfl rfl)
theorem dX0_lost_4 : decode cX0_lost 4 = .ok (.ifCond .eq 38, 3) := dk_153 0 38 (dk_at dksX0_lost_0 4 rfl rfl)
theorem dX0_lost_7 : decode cX0_lost 7 = .ok (.iload_n 2, 1) := dk_28 (dk_at dksX0_lost_0 7 rfl rfl)
theorem dX0_lost_8 : decode cX0_lost 8 = .ok (.iconst (-1), 1) := dk_2 (dk_at dksX0_lost_0 8 rfl rfl)
theorem dX0_lost_9 : decode cX0_lost 9 = .ok (.aload_n 0, 1) := dk_42 (dk_at dksX0_lost_0 9 rfl rfl)
theorem dX0_lost_10 : decode cX0_lost 10 = .ok (.getfield 93, 3) := dk_180 0 93 (dk_at dksX0_lost_0 10 rfl rfl)
theorem dX0_lost_13 : decode cX0_lost 13 = .ok (.iconst 1, 1) := dk_4 (dk_at dksX0_lost_0 13 rfl rfl)
theorem dX0_lost_14 : decode cX0_lost 14 = .ok (.isub, 1) := dk_100 (dk_at dksX0_lost_0 14 rfl rfl)
theorem dX0_lost_15 : decode cX0_lost 15 = .ok (.invokestatic 89, 3) := dk_184 0 89 (dk_at dksX0_lost_0 15 rfl rfl)
theorem dX0_lost_18 : decode cX0_lost 18 = .ok (.ifCond .eq 24, 3) := dk_153 0 24 (dk_at dksX0_lost_0 18 rfl rfl)
theorem dX0_lost_21 : decode cX0_lost 21 = .ok (.iload_n 3, 1) := dk_29 (dk_at dksX0_lost_0 21 rfl rfl)
theorem dX0_lost_22 : decode cX0_lost 22 = .ok (.invokestatic 265, 3) := dk_184 1 9 (dk_at dksX0_lost_1 0 rfl rfl)
theorem dX0_lost_25 : decode cX0_lost 25 = .ok (.ifCond .eq 17, 3) := dk_153 0 17 (dk_at dksX0_lost_1 3 rfl rfl)
theorem dX0_lost_28 : decode cX0_lost 28 = .ok (.iload 4, 2) := dk_21 4 (dk_at dksX0_lost_1 6 rfl rfl)
theorem dX0_lost_30 : decode cX0_lost 30 = .ok (.invokestatic 265, 3) := dk_184 1 9 (dk_at dksX0_lost_1 8 rfl rfl)
theorem dX0_lost_33 : decode cX0_lost 33 = .ok (.ifCond .eq 9, 3) := dk_153 0 9 (dk_at dksX0_lost_1 11 rfl rfl)
theorem dX0_lost_36 : decode cX0_lost 36 = .ok (.iload_n 3, 1) := dk_29 (dk_at dksX0_lost_1 14 rfl rfl)
theorem dX0_lost_37 : decode cX0_lost 37 = .ok (.iload 4, 2) := dk_21 4 (dk_at dksX0_lost_1 15 rfl rfl)
theorem dX0_lost_39 : decode cX0_lost 39 = .ok (.if_icmp .le 5, 3) := dk_164 0 5 (dk_at dksX0_lost_1 17 rfl rfl)
theorem dX0_lost_42 : decode cX0_lost 42 = .ok (.iconst (-1), 1) := dk_2 (dk_at dksX0_lost_1 20 rfl rfl)
theorem dX0_lost_43 : decode cX0_lost 43 = .ok (.ireturn, 1) := dk_172 (dk_at dksX0_lost_1 21 rfl rfl)
theorem dX0_lost_44 : decode cX0_lost 44 = .ok (.aload_n 0, 1) := dk_42 (dk_at dksX0_lost_1 22 rfl rfl)
theorem dX0_lost_45 : decode cX0_lost 45 = .ok (.iload_n 1, 1) := dk_27 (dk_at dksX0_lost_1 23 rfl rfl)
theorem dX0_lost_46 : decode cX0_lost 46 = .ok (.invokevirtual 259, 3) := dk_182 1 3 (dk_at dksX0_lost_2 0 rfl rfl)
theorem dX0_lost_49 : decode cX0_lost 49 = .ok (.istore 5, 2) := dk_54 5 (dk_at dksX0_lost_2 3 rfl rfl)
theorem dX0_lost_51 : decode cX0_lost 51 = .ok (.iload 5, 2) := dk_21 5 (dk_at dksX0_lost_2 5 rfl rfl)
theorem dX0_lost_53 : decode cX0_lost 53 = .ok (.ifCond .ge 6, 3) := dk_156 0 6 (dk_at dksX0_lost_2 7 rfl rfl)
theorem dX0_lost_56 : decode cX0_lost 56 = .ok (.iload 5, 2) := dk_21 5 (dk_at dksX0_lost_2 10 rfl rfl)
theorem dX0_lost_58 : decode cX0_lost 58 = .ok (.ireturn, 1) := dk_172 (dk_at dksX0_lost_2 12 rfl rfl)
theorem dX0_lost_59 : decode cX0_lost 59 = .ok (.iload_n 2, 1) := dk_28 (dk_at dksX0_lost_2 13 rfl rfl)
theorem dX0_lost_60 : decode cX0_lost 60 = .ok (.ifCond .lt 12, 3) := dk_155 0 12 (dk_at dksX0_lost_2 14 rfl rfl)
theorem dX0_lost_63 : decode cX0_lost 63 = .ok (.aload_n 0, 1) := dk_42 (dk_at dksX0_lost_2 17 rfl rfl)
theorem dX0_lost_64 : decode cX0_lost 64 = .ok (.iload_n 2, 1) := dk_28 (dk_at dksX0_lost_2 18 rfl rfl)
theorem dX0_lost_65 : decode cX0_lost 65 = .ok (.iload_n 3, 1) := dk_29 (dk_at dksX0_lost_2 19 rfl rfl)
theorem dX0_lost_66 : decode cX0_lost 66 = .ok (.iload 4, 2) := dk_21 4 (dk_at dksX0_lost_2 20 rfl rfl)
theorem dX0_lost_68 : decode cX0_lost 68 = .ok (.invokevirtual 294, 3) := dk_182 1 38 (dk_at dksX0_lost_3 0 rfl rfl)
theorem dX0_lost_71 : decode cX0_lost 71 = .ok (.ireturn, 1) := dk_172 (dk_at dksX0_lost_3 3 rfl rfl)
theorem dX0_lost_72 : decode cX0_lost 72 = .ok (.iconst 0, 1) := dk_3 (dk_at dksX0_lost_3 4 rfl rfl)
theorem dX0_lost_73 : decode cX0_lost 73 = .ok (.istore 6, 2) := dk_54 6 (dk_at dksX0_lost_3 5 rfl rfl)
theorem dX0_lost_75 : decode cX0_lost 75 = .ok (.iconst 0, 1) := dk_3 (dk_at dksX0_lost_3 7 rfl rfl)
theorem dX0_lost_76 : decode cX0_lost 76 = .ok (.istore 7, 2) := dk_54 7 (dk_at dksX0_lost_3 8 rfl rfl)
theorem dX0_lost_78 : decode cX0_lost 78 = .ok (.iload 7, 2) := dk_21 7 (dk_at dksX0_lost_3 10 rfl rfl)
theorem dX0_lost_80 : decode cX0_lost 80 = .ok (.aload_n 0, 1) := dk_42 (dk_at dksX0_lost_3 12 rfl rfl)
theorem dX0_lost_81 : decode cX0_lost 81 = .ok (.getfield 93, 3) := dk_180 0 93 (dk_at dksX0_lost_3 13 rfl rfl)
theorem dX0_lost_84 : decode cX0_lost 84 = .ok (.if_icmp .ge 23, 3) := dk_162 0 23 (dk_at dksX0_lost_3 16 rfl rfl)
theorem dX0_lost_87 : decode cX0_lost 87 = .ok (.iload 6, 2) := dk_21 6 (dk_at dksX0_lost_3 19 rfl rfl)
theorem dX0_lost_89 : decode cX0_lost 89 = .ok (.aload_n 0, 1) := dk_42 (dk_at dksX0_lost_3 21 rfl rfl)
theorem dX0_lost_90 : decode cX0_lost 90 = .ok (.iload 7, 2) := dk_21 7 (dk_at dksX0_lost_3 22 rfl rfl)
theorem dX0_lost_92 : decode cX0_lost 92 = .ok (.iload_n 3, 1) := dk_29 (dk_at dksX0_lost_4 0 rfl rfl)
theorem dX0_lost_93 : decode cX0_lost 93 = .ok (.iload 4, 2) := dk_21 4 (dk_at dksX0_lost_4 1 rfl rfl)
theorem dX0_lost_95 : decode cX0_lost 95 = .ok (.invokevirtual 294, 3) := dk_182 1 38 (dk_at dksX0_lost_4 3 rfl rfl)
theorem dX0_lost_98 : decode cX0_lost 98 = .ok (.iadd, 1) := dk_96 (dk_at dksX0_lost_4 6 rfl rfl)
theorem dX0_lost_99 : decode cX0_lost 99 = .ok (.istore 6, 2) := dk_54 6 (dk_at dksX0_lost_4 7 rfl rfl)
theorem dX0_lost_101 : decode cX0_lost 101 = .ok (.iinc 7 1, 3) := dk_132 7 1 (dk_at dksX0_lost_4 9 rfl rfl)
theorem dX0_lost_104 : decode cX0_lost 104 = .ok (.goto (-26), 3) := dk_167 255 230 (dk_at dksX0_lost_4 12 rfl rfl)
theorem dX0_lost_107 : decode cX0_lost 107 = .ok (.iload 6, 2) := dk_21 6 (dk_at dksX0_lost_4 15 rfl rfl)
theorem dX0_lost_109 : decode cX0_lost 109 = .ok (.ireturn, 1) := dk_172 (dk_at dksX0_lost_4 17 rfl rfl)
abbrev cX0_lostAt : ByteArray := prog_1_method_38_code
def yX0_lostAt : MethodName := ⟨RX0, "lostAt", "(III)I"⟩
def dkwX0_lostAt_5 : List UInt8 := [182, 1, 34, 96, 54, 8, 132, 9, 1, 167, 255, 156, 21, 8, 172]
abbrev dktX0_lostAt_5 : List UInt8 := dkwX0_lostAt_5 ++ []
def dkwX0_lostAt_4 : List UInt8 := [153, 0, 13, 21, 9, 21, 5, 21, 4, 96, 161, 0, 20, 21, 8, 42, 27, 21, 9, 21, 9, 21, 5, 100]
abbrev dktX0_lostAt_4 : List UInt8 := dkwX0_lostAt_4 ++ dktX0_lostAt_5
def dkwX0_lostAt_3 : List UInt8 := [21, 7, 46, 54, 5, 4, 54, 6, 132, 7, 1, 167, 255, 206, 21, 9, 28, 161, 0, 35, 21, 6]
abbrev dktX0_lostAt_3 : List UInt8 := dkwX0_lostAt_3 ++ dktX0_lostAt_4
def dkwX0_lostAt_2 : List UInt8 := [21, 9, 163, 0, 35, 42, 180, 0, 43, 21, 7, 46, 27, 159, 0, 6, 167, 0, 15, 42, 180, 0, 46]
abbrev dktX0_lostAt_2 : List UInt8 := dkwX0_lostAt_2 ++ dktX0_lostAt_3
def dkwX0_lostAt_1 : List UInt8 := [54, 9, 21, 9, 29, 163, 0, 100, 21, 7, 42, 180, 0, 235, 162, 0, 47, 42, 180, 0, 46, 21, 7, 46]
abbrev dktX0_lostAt_1 : List UInt8 := dkwX0_lostAt_1 ++ dktX0_lostAt_2
def dkwX0_lostAt_0 : List UInt8 := [4, 42, 180, 0, 19, 184, 1, 12, 54, 4, 2, 54, 5, 3, 54, 6, 3, 54, 7, 3, 54, 8, 3]
abbrev dktX0_lostAt_0 : List UInt8 := dkwX0_lostAt_0 ++ dktX0_lostAt_1
theorem dksX0_lostAt_0 : cX0_lostAt.data.toList.drop 0 = dktX0_lostAt_0 := by decide +kernel
theorem dksX0_lostAt_1 : cX0_lostAt.data.toList.drop 23 = dktX0_lostAt_1 := dk_seg dksX0_lostAt_0 23 rfl rfl
theorem dksX0_lostAt_2 : cX0_lostAt.data.toList.drop 47 = dktX0_lostAt_2 := dk_seg dksX0_lostAt_1 24 rfl rfl
theorem dksX0_lostAt_3 : cX0_lostAt.data.toList.drop 70 = dktX0_lostAt_3 := dk_seg dksX0_lostAt_2 23 rfl rfl
theorem dksX0_lostAt_4 : cX0_lostAt.data.toList.drop 92 = dktX0_lostAt_4 := dk_seg dksX0_lostAt_3 22 rfl rfl
theorem dksX0_lostAt_5 : cX0_lostAt.data.toList.drop 116 = dktX0_lostAt_5 := dk_seg dksX0_lostAt_4 24 rfl rfl
theorem dX0_lostAt_0 : decode cX0_lostAt 0 = .ok (.iconst 1, 1) := dk_4 (dk_at dksX0_lostAt_0 0 rfl rfl)
theorem dX0_lostAt_1 : decode cX0_lostAt 1 = .ok (.aload_n 0, 1) := dk_42 (dk_at dksX0_lostAt_0 1 rfl rfl)
theorem dX0_lostAt_2 : decode cX0_lostAt 2 = .ok (.getfield 19, 3) := dk_180 0 19 (dk_at dksX0_lostAt_0 2 rfl rfl)
theorem dX0_lostAt_5 : decode cX0_lostAt 5 = .ok (.invokestatic 268, 3) := dk_184 1 12 (dk_at dksX0_lostAt_0 5 rfl rfl)
theorem dX0_lostAt_8 : decode cX0_lostAt 8 = .ok (.istore 4, 2) := dk_54 4 (dk_at dksX0_lostAt_0 8 rfl rfl)
theorem dX0_lostAt_10 : decode cX0_lostAt 10 = .ok (.iconst (-1), 1) := dk_2 (dk_at dksX0_lostAt_0 10 rfl rfl)
theorem dX0_lostAt_11 : decode cX0_lostAt 11 = .ok (.istore 5, 2) := dk_54 5 (dk_at dksX0_lostAt_0 11 rfl rfl)
theorem dX0_lostAt_13 : decode cX0_lostAt 13 = .ok (.iconst 0, 1) := dk_3 (dk_at dksX0_lostAt_0 13 rfl rfl)
theorem dX0_lostAt_14 : decode cX0_lostAt 14 = .ok (.istore 6, 2) := dk_54 6 (dk_at dksX0_lostAt_0 14 rfl rfl)
theorem dX0_lostAt_16 : decode cX0_lostAt 16 = .ok (.iconst 0, 1) := dk_3 (dk_at dksX0_lostAt_0 16 rfl rfl)
theorem dX0_lostAt_17 : decode cX0_lostAt 17 = .ok (.istore 7, 2) := dk_54 7 (dk_at dksX0_lostAt_0 17 rfl rfl)
theorem dX0_lostAt_19 : decode cX0_lostAt 19 = .ok (.iconst 0, 1) := dk_3 (dk_at dksX0_lostAt_0 19 rfl rfl)
theorem dX0_lostAt_20 : decode cX0_lostAt 20 = .ok (.istore 8, 2) := dk_54 8 (dk_at dksX0_lostAt_0 20 rfl rfl)
theorem dX0_lostAt_22 : decode cX0_lostAt 22 = .ok (.iconst 0, 1) := dk_3 (dk_at dksX0_lostAt_0 22 rfl rfl)
theorem dX0_lostAt_23 : decode cX0_lostAt 23 = .ok (.istore 9, 2) := dk_54 9 (dk_at dksX0_lostAt_1 0 rfl rfl)
theorem dX0_lostAt_25 : decode cX0_lostAt 25 = .ok (.iload 9, 2) := dk_21 9 (dk_at dksX0_lostAt_1 2 rfl rfl)
theorem dX0_lostAt_27 : decode cX0_lostAt 27 = .ok (.iload_n 3, 1) := dk_29 (dk_at dksX0_lostAt_1 4 rfl rfl)
theorem dX0_lostAt_28 : decode cX0_lostAt 28 = .ok (.if_icmp .gt 100, 3) := dk_163 0 100 (dk_at dksX0_lostAt_1 5 rfl rfl)
theorem dX0_lostAt_31 : decode cX0_lostAt 31 = .ok (.iload 7, 2) := dk_21 7 (dk_at dksX0_lostAt_1 8 rfl rfl)
theorem dX0_lostAt_33 : decode cX0_lostAt 33 = .ok (.aload_n 0, 1) := dk_42 (dk_at dksX0_lostAt_1 10 rfl rfl)
theorem dX0_lostAt_34 : decode cX0_lostAt 34 = .ok (.getfield 235, 3) := dk_180 0 235 (dk_at dksX0_lostAt_1 11 rfl rfl)
theorem dX0_lostAt_37 : decode cX0_lostAt 37 = .ok (.if_icmp .ge 47, 3) := dk_162 0 47 (dk_at dksX0_lostAt_1 14 rfl rfl)
theorem dX0_lostAt_40 : decode cX0_lostAt 40 = .ok (.aload_n 0, 1) := dk_42 (dk_at dksX0_lostAt_1 17 rfl rfl)
theorem dX0_lostAt_41 : decode cX0_lostAt 41 = .ok (.getfield 46, 3) := dk_180 0 46 (dk_at dksX0_lostAt_1 18 rfl rfl)
theorem dX0_lostAt_44 : decode cX0_lostAt 44 = .ok (.iload 7, 2) := dk_21 7 (dk_at dksX0_lostAt_1 21 rfl rfl)
theorem dX0_lostAt_46 : decode cX0_lostAt 46 = .ok (.iaload, 1) := dk_46 (dk_at dksX0_lostAt_1 23 rfl rfl)
theorem dX0_lostAt_47 : decode cX0_lostAt 47 = .ok (.iload 9, 2) := dk_21 9 (dk_at dksX0_lostAt_2 0 rfl rfl)
theorem dX0_lostAt_49 : decode cX0_lostAt 49 = .ok (.if_icmp .gt 35, 3) := dk_163 0 35 (dk_at dksX0_lostAt_2 2 rfl rfl)
theorem dX0_lostAt_52 : decode cX0_lostAt 52 = .ok (.aload_n 0, 1) := dk_42 (dk_at dksX0_lostAt_2 5 rfl rfl)
theorem dX0_lostAt_53 : decode cX0_lostAt 53 = .ok (.getfield 43, 3) := dk_180 0 43 (dk_at dksX0_lostAt_2 6 rfl rfl)
theorem dX0_lostAt_56 : decode cX0_lostAt 56 = .ok (.iload 7, 2) := dk_21 7 (dk_at dksX0_lostAt_2 9 rfl rfl)
theorem dX0_lostAt_58 : decode cX0_lostAt 58 = .ok (.iaload, 1) := dk_46 (dk_at dksX0_lostAt_2 11 rfl rfl)
theorem dX0_lostAt_59 : decode cX0_lostAt 59 = .ok (.iload_n 1, 1) := dk_27 (dk_at dksX0_lostAt_2 12 rfl rfl)
theorem dX0_lostAt_60 : decode cX0_lostAt 60 = .ok (.if_icmp .eq 6, 3) := dk_159 0 6 (dk_at dksX0_lostAt_2 13 rfl rfl)
theorem dX0_lostAt_63 : decode cX0_lostAt 63 = .ok (.goto 15, 3) := dk_167 0 15 (dk_at dksX0_lostAt_2 16 rfl rfl)
theorem dX0_lostAt_66 : decode cX0_lostAt 66 = .ok (.aload_n 0, 1) := dk_42 (dk_at dksX0_lostAt_2 19 rfl rfl)
theorem dX0_lostAt_67 : decode cX0_lostAt 67 = .ok (.getfield 46, 3) := dk_180 0 46 (dk_at dksX0_lostAt_2 20 rfl rfl)
theorem dX0_lostAt_70 : decode cX0_lostAt 70 = .ok (.iload 7, 2) := dk_21 7 (dk_at dksX0_lostAt_3 0 rfl rfl)
theorem dX0_lostAt_72 : decode cX0_lostAt 72 = .ok (.iaload, 1) := dk_46 (dk_at dksX0_lostAt_3 2 rfl rfl)
theorem dX0_lostAt_73 : decode cX0_lostAt 73 = .ok (.istore 5, 2) := dk_54 5 (dk_at dksX0_lostAt_3 3 rfl rfl)
theorem dX0_lostAt_75 : decode cX0_lostAt 75 = .ok (.iconst 1, 1) := dk_4 (dk_at dksX0_lostAt_3 5 rfl rfl)
theorem dX0_lostAt_76 : decode cX0_lostAt 76 = .ok (.istore 6, 2) := dk_54 6 (dk_at dksX0_lostAt_3 6 rfl rfl)
theorem dX0_lostAt_78 : decode cX0_lostAt 78 = .ok (.iinc 7 1, 3) := dk_132 7 1 (dk_at dksX0_lostAt_3 8 rfl rfl)
theorem dX0_lostAt_81 : decode cX0_lostAt 81 = .ok (.goto (-50), 3) := dk_167 255 206 (dk_at dksX0_lostAt_3 11 rfl rfl)
theorem dX0_lostAt_84 : decode cX0_lostAt 84 = .ok (.iload 9, 2) := dk_21 9 (dk_at dksX0_lostAt_3 14 rfl rfl)
theorem dX0_lostAt_86 : decode cX0_lostAt 86 = .ok (.iload_n 2, 1) := dk_28 (dk_at dksX0_lostAt_3 16 rfl rfl)
theorem dX0_lostAt_87 : decode cX0_lostAt 87 = .ok (.if_icmp .lt 35, 3) := dk_161 0 35 (dk_at dksX0_lostAt_3 17 rfl rfl)
theorem dX0_lostAt_90 : decode cX0_lostAt 90 = .ok (.iload 6, 2) := dk_21 6 (dk_at dksX0_lostAt_3 20 rfl rfl)
theorem dX0_lostAt_92 : decode cX0_lostAt 92 = .ok (.ifCond .eq 13, 3) := dk_153 0 13 (dk_at dksX0_lostAt_4 0 rfl rfl)
theorem dX0_lostAt_95 : decode cX0_lostAt 95 = .ok (.iload 9, 2) := dk_21 9 (dk_at dksX0_lostAt_4 3 rfl rfl)
theorem dX0_lostAt_97 : decode cX0_lostAt 97 = .ok (.iload 5, 2) := dk_21 5 (dk_at dksX0_lostAt_4 5 rfl rfl)
theorem dX0_lostAt_99 : decode cX0_lostAt 99 = .ok (.iload 4, 2) := dk_21 4 (dk_at dksX0_lostAt_4 7 rfl rfl)
theorem dX0_lostAt_101 : decode cX0_lostAt 101 = .ok (.iadd, 1) := dk_96 (dk_at dksX0_lostAt_4 9 rfl rfl)
theorem dX0_lostAt_102 : decode cX0_lostAt 102 = .ok (.if_icmp .lt 20, 3) := dk_161 0 20 (dk_at dksX0_lostAt_4 10 rfl rfl)
theorem dX0_lostAt_105 : decode cX0_lostAt 105 = .ok (.iload 8, 2) := dk_21 8 (dk_at dksX0_lostAt_4 13 rfl rfl)
theorem dX0_lostAt_107 : decode cX0_lostAt 107 = .ok (.aload_n 0, 1) := dk_42 (dk_at dksX0_lostAt_4 15 rfl rfl)
theorem dX0_lostAt_108 : decode cX0_lostAt 108 = .ok (.iload_n 1, 1) := dk_27 (dk_at dksX0_lostAt_4 16 rfl rfl)
theorem dX0_lostAt_109 : decode cX0_lostAt 109 = .ok (.iload 9, 2) := dk_21 9 (dk_at dksX0_lostAt_4 17 rfl rfl)
theorem dX0_lostAt_111 : decode cX0_lostAt 111 = .ok (.iload 9, 2) := dk_21 9 (dk_at dksX0_lostAt_4 19 rfl rfl)
theorem dX0_lostAt_113 : decode cX0_lostAt 113 = .ok (.iload 5, 2) := dk_21 5 (dk_at dksX0_lostAt_4 21 rfl rfl)
theorem dX0_lostAt_115 : decode cX0_lostAt 115 = .ok (.isub, 1) := dk_100 (dk_at dksX0_lostAt_4 23 rfl rfl)
theorem dX0_lostAt_116 : decode cX0_lostAt 116 = .ok (.invokevirtual 290, 3) := dk_182 1 34 (dk_at dksX0_lostAt_5 0 rfl rfl)
theorem dX0_lostAt_119 : decode cX0_lostAt 119 = .ok (.iadd, 1) := dk_96 (dk_at dksX0_lostAt_5 3 rfl rfl)
theorem dX0_lostAt_120 : decode cX0_lostAt 120 = .ok (.istore 8, 2) := dk_54 8 (dk_at dksX0_lostAt_5 4 rfl rfl)
theorem dX0_lostAt_122 : decode cX0_lostAt 122 = .ok (.iinc 9 1, 3) := dk_132 9 1 (dk_at dksX0_lostAt_5 6 rfl rfl)
theorem dX0_lostAt_125 : decode cX0_lostAt 125 = .ok (.goto (-100), 3) := dk_167 255 156 (dk_at dksX0_lostAt_5 9 rfl rfl)
theorem dX0_lostAt_128 : decode cX0_lostAt 128 = .ok (.iload 8, 2) := dk_21 8 (dk_at dksX0_lostAt_5 12 rfl rfl)
theorem dX0_lostAt_130 : decode cX0_lostAt 130 = .ok (.ireturn, 1) := dk_172 (dk_at dksX0_lostAt_5 14 rfl rfl)
abbrev cX0_lostIn : ByteArray := prog_1_method_37_code
def yX0_lostIn : MethodName := ⟨RX0, "lostIn", "(III)I"⟩
def dkwX0_lostIn_5 : List UInt8 := [21, 5, 184, 1, 31, 184, 1, 12, 172]
abbrev dktX0_lostIn_5 : List UInt8 := dkwX0_lostIn_5 ++ []
def dkwX0_lostIn_4 : List UInt8 := [79, 42, 180, 0, 35, 180, 1, 26, 16, 110, 42, 180, 0, 228, 79, 42, 182, 1, 29, 54, 5, 3, 16, 99]
abbrev dktX0_lostIn_4 : List UInt8 := dkwX0_lostIn_4 ++ dktX0_lostIn_5
def dkwX0_lostIn_3 : List UInt8 := [180, 0, 35, 180, 1, 26, 16, 100, 25, 4, 180, 0, 145, 79, 42, 180, 0, 35, 180, 1, 26, 16, 112, 27]
abbrev dktX0_lostIn_3 : List UInt8 := dkwX0_lostIn_3 ++ dktX0_lostIn_4
def dkwX0_lostIn_2 : List UInt8 := [79, 42, 180, 0, 35, 180, 1, 26, 16, 117, 29, 79, 42, 180, 0, 35, 180, 1, 26, 16, 109, 28, 79, 42]
abbrev dktX0_lostIn_2 : List UInt8 := dkwX0_lostIn_2 ++ dktX0_lostIn_3
def dkwX0_lostIn_1 : List UInt8 := [198, 0, 93, 42, 180, 0, 35, 182, 1, 23, 42, 180, 0, 35, 180, 1, 26, 16, 118, 25, 4, 180, 0, 130]
abbrev dktX0_lostIn_1 : List UInt8 := dkwX0_lostIn_1 ++ dktX0_lostIn_2
def dkwX0_lostIn_0 : List UInt8 := [42, 180, 0, 11, 27, 50, 58, 4, 25, 4, 180, 0, 130, 29, 104, 16, 10, 108, 54, 5, 42, 180, 0, 207]
abbrev dktX0_lostIn_0 : List UInt8 := dkwX0_lostIn_0 ++ dktX0_lostIn_1
theorem dksX0_lostIn_0 : cX0_lostIn.data.toList.drop 0 = dktX0_lostIn_0 := by decide +kernel
theorem dksX0_lostIn_1 : cX0_lostIn.data.toList.drop 24 = dktX0_lostIn_1 := dk_seg dksX0_lostIn_0 24 rfl rfl
theorem dksX0_lostIn_2 : cX0_lostIn.data.toList.drop 48 = dktX0_lostIn_2 := dk_seg dksX0_lostIn_1 24 rfl rfl
theorem dksX0_lostIn_3 : cX0_lostIn.data.toList.drop 72 = dktX0_lostIn_3 := dk_seg dksX0_lostIn_2 24 rfl rfl
theorem dksX0_lostIn_4 : cX0_lostIn.data.toList.drop 96 = dktX0_lostIn_4 := dk_seg dksX0_lostIn_3 24 rfl rfl
theorem dksX0_lostIn_5 : cX0_lostIn.data.toList.drop 120 = dktX0_lostIn_5 := dk_seg dksX0_lostIn_4 24 rfl rfl
theorem dX0_lostIn_0 : decode cX0_lostIn 0 = .ok (.aload_n 0, 1) := dk_42 (dk_at dksX0_lostIn_0 0 rfl rfl)
theorem dX0_lostIn_1 : decode cX0_lostIn 1 = .ok (.getfield 11, 3) := dk_180 0 11 (dk_at dksX0_lostIn_0 1 rfl rfl)
theorem dX0_lostIn_4 : decode cX0_lostIn 4 = .ok (.iload_n 1, 1) := dk_27 (dk_at dksX0_lostIn_0 4 rfl rfl)
theorem dX0_lostIn_5 : decode cX0_lostIn 5 = .ok (.aaload, 1) := dk_50 (dk_at dksX0_lostIn_0 5 rfl rfl)
theorem dX0_lostIn_6 : decode cX0_lostIn 6 = .ok (.astore 4, 2) := dk_58 4 (dk_at dksX0_lostIn_0 6 rfl rfl)
theorem dX0_lostIn_8 : decode cX0_lostIn 8 = .ok (.aload 4, 2) := dk_25 4 (dk_at dksX0_lostIn_0 8 rfl rfl)
theorem dX0_lostIn_10 : decode cX0_lostIn 10 = .ok (.getfield 130, 3) := dk_180 0 130 (dk_at dksX0_lostIn_0 10 rfl rfl)
theorem dX0_lostIn_13 : decode cX0_lostIn 13 = .ok (.iload_n 3, 1) := dk_29 (dk_at dksX0_lostIn_0 13 rfl rfl)
theorem dX0_lostIn_14 : decode cX0_lostIn 14 = .ok (.imul, 1) := dk_104 (dk_at dksX0_lostIn_0 14 rfl rfl)
theorem dX0_lostIn_15 : decode cX0_lostIn 15 = .ok (.bipush 10, 2) := dk_16 10 (dk_at dksX0_lostIn_0 15 rfl rfl)
theorem dX0_lostIn_17 : decode cX0_lostIn 17 = .ok (.idiv, 1) := dk_108 (dk_at dksX0_lostIn_0 17 rfl rfl)
theorem dX0_lostIn_18 : decode cX0_lostIn 18 = .ok (.istore 5, 2) := dk_54 5 (dk_at dksX0_lostIn_0 18 rfl rfl)
theorem dX0_lostIn_20 : decode cX0_lostIn 20 = .ok (.aload_n 0, 1) := dk_42 (dk_at dksX0_lostIn_0 20 rfl rfl)
theorem dX0_lostIn_21 : decode cX0_lostIn 21 = .ok (.getfield 207, 3) := dk_180 0 207 (dk_at dksX0_lostIn_0 21 rfl rfl)
theorem dX0_lostIn_24 : decode cX0_lostIn 24 = .ok (.ifnull 93, 3) := dk_198 0 93 (dk_at dksX0_lostIn_1 0 rfl rfl)
theorem dX0_lostIn_27 : decode cX0_lostIn 27 = .ok (.aload_n 0, 1) := dk_42 (dk_at dksX0_lostIn_1 3 rfl rfl)
theorem dX0_lostIn_28 : decode cX0_lostIn 28 = .ok (.getfield 35, 3) := dk_180 0 35 (dk_at dksX0_lostIn_1 4 rfl rfl)
theorem dX0_lostIn_31 : decode cX0_lostIn 31 = .ok (.invokevirtual 279, 3) := dk_182 1 23 (dk_at dksX0_lostIn_1 7 rfl rfl)
theorem dX0_lostIn_34 : decode cX0_lostIn 34 = .ok (.aload_n 0, 1) := dk_42 (dk_at dksX0_lostIn_1 10 rfl rfl)
theorem dX0_lostIn_35 : decode cX0_lostIn 35 = .ok (.getfield 35, 3) := dk_180 0 35 (dk_at dksX0_lostIn_1 11 rfl rfl)
theorem dX0_lostIn_38 : decode cX0_lostIn 38 = .ok (.getfield 282, 3) := dk_180 1 26 (dk_at dksX0_lostIn_1 14 rfl rfl)
theorem dX0_lostIn_41 : decode cX0_lostIn 41 = .ok (.bipush 118, 2) := dk_16 118 (dk_at dksX0_lostIn_1 17 rfl rfl)
theorem dX0_lostIn_43 : decode cX0_lostIn 43 = .ok (.aload 4, 2) := dk_25 4 (dk_at dksX0_lostIn_1 19 rfl rfl)
theorem dX0_lostIn_45 : decode cX0_lostIn 45 = .ok (.getfield 130, 3) := dk_180 0 130 (dk_at dksX0_lostIn_1 21 rfl rfl)
theorem dX0_lostIn_48 : decode cX0_lostIn 48 = .ok (.iastore, 1) := dk_79 (dk_at dksX0_lostIn_2 0 rfl rfl)
theorem dX0_lostIn_49 : decode cX0_lostIn 49 = .ok (.aload_n 0, 1) := dk_42 (dk_at dksX0_lostIn_2 1 rfl rfl)
theorem dX0_lostIn_50 : decode cX0_lostIn 50 = .ok (.getfield 35, 3) := dk_180 0 35 (dk_at dksX0_lostIn_2 2 rfl rfl)
theorem dX0_lostIn_53 : decode cX0_lostIn 53 = .ok (.getfield 282, 3) := dk_180 1 26 (dk_at dksX0_lostIn_2 5 rfl rfl)
theorem dX0_lostIn_56 : decode cX0_lostIn 56 = .ok (.bipush 117, 2) := dk_16 117 (dk_at dksX0_lostIn_2 8 rfl rfl)
theorem dX0_lostIn_58 : decode cX0_lostIn 58 = .ok (.iload_n 3, 1) := dk_29 (dk_at dksX0_lostIn_2 10 rfl rfl)
theorem dX0_lostIn_59 : decode cX0_lostIn 59 = .ok (.iastore, 1) := dk_79 (dk_at dksX0_lostIn_2 11 rfl rfl)
theorem dX0_lostIn_60 : decode cX0_lostIn 60 = .ok (.aload_n 0, 1) := dk_42 (dk_at dksX0_lostIn_2 12 rfl rfl)
theorem dX0_lostIn_61 : decode cX0_lostIn 61 = .ok (.getfield 35, 3) := dk_180 0 35 (dk_at dksX0_lostIn_2 13 rfl rfl)
theorem dX0_lostIn_64 : decode cX0_lostIn 64 = .ok (.getfield 282, 3) := dk_180 1 26 (dk_at dksX0_lostIn_2 16 rfl rfl)
theorem dX0_lostIn_67 : decode cX0_lostIn 67 = .ok (.bipush 109, 2) := dk_16 109 (dk_at dksX0_lostIn_2 19 rfl rfl)
theorem dX0_lostIn_69 : decode cX0_lostIn 69 = .ok (.iload_n 2, 1) := dk_28 (dk_at dksX0_lostIn_2 21 rfl rfl)
theorem dX0_lostIn_70 : decode cX0_lostIn 70 = .ok (.iastore, 1) := dk_79 (dk_at dksX0_lostIn_2 22 rfl rfl)
theorem dX0_lostIn_71 : decode cX0_lostIn 71 = .ok (.aload_n 0, 1) := dk_42 (dk_at dksX0_lostIn_2 23 rfl rfl)
theorem dX0_lostIn_72 : decode cX0_lostIn 72 = .ok (.getfield 35, 3) := dk_180 0 35 (dk_at dksX0_lostIn_3 0 rfl rfl)
theorem dX0_lostIn_75 : decode cX0_lostIn 75 = .ok (.getfield 282, 3) := dk_180 1 26 (dk_at dksX0_lostIn_3 3 rfl rfl)
theorem dX0_lostIn_78 : decode cX0_lostIn 78 = .ok (.bipush 100, 2) := dk_16 100 (dk_at dksX0_lostIn_3 6 rfl rfl)
theorem dX0_lostIn_80 : decode cX0_lostIn 80 = .ok (.aload 4, 2) := dk_25 4 (dk_at dksX0_lostIn_3 8 rfl rfl)
theorem dX0_lostIn_82 : decode cX0_lostIn 82 = .ok (.getfield 145, 3) := dk_180 0 145 (dk_at dksX0_lostIn_3 10 rfl rfl)
theorem dX0_lostIn_85 : decode cX0_lostIn 85 = .ok (.iastore, 1) := dk_79 (dk_at dksX0_lostIn_3 13 rfl rfl)
theorem dX0_lostIn_86 : decode cX0_lostIn 86 = .ok (.aload_n 0, 1) := dk_42 (dk_at dksX0_lostIn_3 14 rfl rfl)
theorem dX0_lostIn_87 : decode cX0_lostIn 87 = .ok (.getfield 35, 3) := dk_180 0 35 (dk_at dksX0_lostIn_3 15 rfl rfl)
theorem dX0_lostIn_90 : decode cX0_lostIn 90 = .ok (.getfield 282, 3) := dk_180 1 26 (dk_at dksX0_lostIn_3 18 rfl rfl)
theorem dX0_lostIn_93 : decode cX0_lostIn 93 = .ok (.bipush 112, 2) := dk_16 112 (dk_at dksX0_lostIn_3 21 rfl rfl)
theorem dX0_lostIn_95 : decode cX0_lostIn 95 = .ok (.iload_n 1, 1) := dk_27 (dk_at dksX0_lostIn_3 23 rfl rfl)
theorem dX0_lostIn_96 : decode cX0_lostIn 96 = .ok (.iastore, 1) := dk_79 (dk_at dksX0_lostIn_4 0 rfl rfl)
theorem dX0_lostIn_97 : decode cX0_lostIn 97 = .ok (.aload_n 0, 1) := dk_42 (dk_at dksX0_lostIn_4 1 rfl rfl)
theorem dX0_lostIn_98 : decode cX0_lostIn 98 = .ok (.getfield 35, 3) := dk_180 0 35 (dk_at dksX0_lostIn_4 2 rfl rfl)
theorem dX0_lostIn_101 : decode cX0_lostIn 101 = .ok (.getfield 282, 3) := dk_180 1 26 (dk_at dksX0_lostIn_4 5 rfl rfl)
theorem dX0_lostIn_104 : decode cX0_lostIn 104 = .ok (.bipush 110, 2) := dk_16 110 (dk_at dksX0_lostIn_4 8 rfl rfl)
theorem dX0_lostIn_106 : decode cX0_lostIn 106 = .ok (.aload_n 0, 1) := dk_42 (dk_at dksX0_lostIn_4 10 rfl rfl)
theorem dX0_lostIn_107 : decode cX0_lostIn 107 = .ok (.getfield 228, 3) := dk_180 0 228 (dk_at dksX0_lostIn_4 11 rfl rfl)
theorem dX0_lostIn_110 : decode cX0_lostIn 110 = .ok (.iastore, 1) := dk_79 (dk_at dksX0_lostIn_4 14 rfl rfl)
theorem dX0_lostIn_111 : decode cX0_lostIn 111 = .ok (.aload_n 0, 1) := dk_42 (dk_at dksX0_lostIn_4 15 rfl rfl)
theorem dX0_lostIn_112 : decode cX0_lostIn 112 = .ok (.invokevirtual 285, 3) := dk_182 1 29 (dk_at dksX0_lostIn_4 16 rfl rfl)
theorem dX0_lostIn_115 : decode cX0_lostIn 115 = .ok (.istore 5, 2) := dk_54 5 (dk_at dksX0_lostIn_4 19 rfl rfl)
theorem dX0_lostIn_117 : decode cX0_lostIn 117 = .ok (.iconst 0, 1) := dk_3 (dk_at dksX0_lostIn_4 21 rfl rfl)
theorem dX0_lostIn_118 : decode cX0_lostIn 118 = .ok (.bipush 99, 2) := dk_16 99 (dk_at dksX0_lostIn_4 22 rfl rfl)
theorem dX0_lostIn_120 : decode cX0_lostIn 120 = .ok (.iload 5, 2) := dk_21 5 (dk_at dksX0_lostIn_5 0 rfl rfl)
theorem dX0_lostIn_122 : decode cX0_lostIn 122 = .ok (.invokestatic 287, 3) := dk_184 1 31 (dk_at dksX0_lostIn_5 2 rfl rfl)
theorem dX0_lostIn_125 : decode cX0_lostIn 125 = .ok (.invokestatic 268, 3) := dk_184 1 12 (dk_at dksX0_lostIn_5 5 rfl rfl)
theorem dX0_lostIn_128 : decode cX0_lostIn 128 = .ok (.ireturn, 1) := dk_172 (dk_at dksX0_lostIn_5 8 rfl rfl)
abbrev cX0_gives : ByteArray := prog_1_method_24_code
def yX0_gives : MethodName := ⟨RX0, "gives", "()I"⟩
def dkwX0_gives_2 : List UInt8 := [167, 255, 214, 3, 172]
abbrev dktX0_gives_2 : List UInt8 := dkwX0_gives_2 ++ []
def dkwX0_gives_1 : List UInt8 := [182, 0, 217, 153, 0, 15, 43, 180, 0, 222, 42, 180, 0, 35, 182, 0, 217, 172, 43, 180, 0, 225, 76]
abbrev dktX0_gives_1 : List UInt8 := dkwX0_gives_1 ++ dktX0_gives_2
def dkwX0_gives_0 : List UInt8 := [42, 180, 0, 207, 76, 43, 198, 0, 44, 43, 180, 0, 211, 198, 0, 17, 43, 180, 0, 211, 42, 180, 0, 35]
abbrev dktX0_gives_0 : List UInt8 := dkwX0_gives_0 ++ dktX0_gives_1
theorem dksX0_gives_0 : cX0_gives.data.toList.drop 0 = dktX0_gives_0 := by decide +kernel
theorem dksX0_gives_1 : cX0_gives.data.toList.drop 24 = dktX0_gives_1 := dk_seg dksX0_gives_0 24 rfl rfl
theorem dksX0_gives_2 : cX0_gives.data.toList.drop 47 = dktX0_gives_2 := dk_seg dksX0_gives_1 23 rfl rfl
theorem dX0_gives_0 : decode cX0_gives 0 = .ok (.aload_n 0, 1) := dk_42 (dk_at dksX0_gives_0 0 rfl rfl)
theorem dX0_gives_1 : decode cX0_gives 1 = .ok (.getfield 207, 3) := dk_180 0 207 (dk_at dksX0_gives_0 1 rfl rfl)
theorem dX0_gives_4 : decode cX0_gives 4 = .ok (.astore_n 1, 1) := dk_76 (dk_at dksX0_gives_0 4 rfl rfl)
theorem dX0_gives_5 : decode cX0_gives 5 = .ok (.aload_n 1, 1) := dk_43 (dk_at dksX0_gives_0 5 rfl rfl)
theorem dX0_gives_6 : decode cX0_gives 6 = .ok (.ifnull 44, 3) := dk_198 0 44 (dk_at dksX0_gives_0 6 rfl rfl)
theorem dX0_gives_9 : decode cX0_gives 9 = .ok (.aload_n 1, 1) := dk_43 (dk_at dksX0_gives_0 9 rfl rfl)
theorem dX0_gives_10 : decode cX0_gives 10 = .ok (.getfield 211, 3) := dk_180 0 211 (dk_at dksX0_gives_0 10 rfl rfl)
theorem dX0_gives_13 : decode cX0_gives 13 = .ok (.ifnull 17, 3) := dk_198 0 17 (dk_at dksX0_gives_0 13 rfl rfl)
theorem dX0_gives_16 : decode cX0_gives 16 = .ok (.aload_n 1, 1) := dk_43 (dk_at dksX0_gives_0 16 rfl rfl)
theorem dX0_gives_17 : decode cX0_gives 17 = .ok (.getfield 211, 3) := dk_180 0 211 (dk_at dksX0_gives_0 17 rfl rfl)
theorem dX0_gives_20 : decode cX0_gives 20 = .ok (.aload_n 0, 1) := dk_42 (dk_at dksX0_gives_0 20 rfl rfl)
theorem dX0_gives_21 : decode cX0_gives 21 = .ok (.getfield 35, 3) := dk_180 0 35 (dk_at dksX0_gives_0 21 rfl rfl)
theorem dX0_gives_24 : decode cX0_gives 24 = .ok (.invokevirtual 217, 3) := dk_182 0 217 (dk_at dksX0_gives_1 0 rfl rfl)
theorem dX0_gives_27 : decode cX0_gives 27 = .ok (.ifCond .eq 15, 3) := dk_153 0 15 (dk_at dksX0_gives_1 3 rfl rfl)
theorem dX0_gives_30 : decode cX0_gives 30 = .ok (.aload_n 1, 1) := dk_43 (dk_at dksX0_gives_1 6 rfl rfl)
theorem dX0_gives_31 : decode cX0_gives 31 = .ok (.getfield 222, 3) := dk_180 0 222 (dk_at dksX0_gives_1 7 rfl rfl)
theorem dX0_gives_34 : decode cX0_gives 34 = .ok (.aload_n 0, 1) := dk_42 (dk_at dksX0_gives_1 10 rfl rfl)
theorem dX0_gives_35 : decode cX0_gives 35 = .ok (.getfield 35, 3) := dk_180 0 35 (dk_at dksX0_gives_1 11 rfl rfl)
theorem dX0_gives_38 : decode cX0_gives 38 = .ok (.invokevirtual 217, 3) := dk_182 0 217 (dk_at dksX0_gives_1 14 rfl rfl)
theorem dX0_gives_41 : decode cX0_gives 41 = .ok (.ireturn, 1) := dk_172 (dk_at dksX0_gives_1 17 rfl rfl)
theorem dX0_gives_42 : decode cX0_gives 42 = .ok (.aload_n 1, 1) := dk_43 (dk_at dksX0_gives_1 18 rfl rfl)
theorem dX0_gives_43 : decode cX0_gives 43 = .ok (.getfield 225, 3) := dk_180 0 225 (dk_at dksX0_gives_1 19 rfl rfl)
theorem dX0_gives_46 : decode cX0_gives 46 = .ok (.astore_n 1, 1) := dk_76 (dk_at dksX0_gives_1 22 rfl rfl)
theorem dX0_gives_47 : decode cX0_gives 47 = .ok (.goto (-42), 3) := dk_167 255 214 (dk_at dksX0_gives_2 0 rfl rfl)
theorem dX0_gives_50 : decode cX0_gives 50 = .ok (.iconst 0, 1) := dk_3 (dk_at dksX0_gives_2 3 rfl rfl)
theorem dX0_gives_51 : decode cX0_gives 51 = .ok (.ireturn, 1) := dk_172 (dk_at dksX0_gives_2 4 rfl rfl)
abbrev cX0_red : ByteArray := prog_1_method_40_code
def yX0_red : MethodName := ⟨RX0, "red", "(II)I"⟩
def dkwX0_red_3 : List UInt8 := [180, 0, 43, 21, 5, 46, 120, 2, 130, 126, 54, 4, 132, 5, 1, 167, 255, 214, 21, 4, 172]
abbrev dktX0_red_3 : List UInt8 := dkwX0_red_3 ++ []
def dkwX0_red_2 : List UInt8 := [180, 0, 235, 162, 0, 39, 42, 180, 0, 46, 21, 5, 46, 16, 60, 108, 28, 160, 0, 19, 21, 4, 4, 42]
abbrev dktX0_red_2 : List UInt8 := dkwX0_red_2 ++ dktX0_red_3
def dkwX0_red_1 : List UInt8 := [62, 29, 156, 0, 5, 29, 172, 4, 42, 180, 0, 93, 120, 4, 100, 54, 4, 3, 54, 5, 21, 5, 42]
abbrev dktX0_red_1 : List UInt8 := dkwX0_red_1 ++ dktX0_red_2
def dkwX0_red_0 : List UInt8 := [27, 184, 0, 121, 153, 0, 13, 28, 3, 16, 15, 184, 0, 89, 154, 0, 5, 2, 172, 42, 27, 182, 1, 3]
abbrev dktX0_red_0 : List UInt8 := dkwX0_red_0 ++ dktX0_red_1
theorem dksX0_red_0 : cX0_red.data.toList.drop 0 = dktX0_red_0 := by decide +kernel
theorem dksX0_red_1 : cX0_red.data.toList.drop 24 = dktX0_red_1 := dk_seg dksX0_red_0 24 rfl rfl
theorem dksX0_red_2 : cX0_red.data.toList.drop 47 = dktX0_red_2 := dk_seg dksX0_red_1 23 rfl rfl
theorem dksX0_red_3 : cX0_red.data.toList.drop 71 = dktX0_red_3 := dk_seg dksX0_red_2 24 rfl rfl
theorem dX0_red_0 : decode cX0_red 0 = .ok (.iload_n 1, 1) := dk_27 (dk_at dksX0_red_0 0 rfl rfl)
theorem dX0_red_1 : decode cX0_red 1 = .ok (.invokestatic 121, 3) := dk_184 0 121 (dk_at dksX0_red_0 1 rfl rfl)
theorem dX0_red_4 : decode cX0_red 4 = .ok (.ifCond .eq 13, 3) := dk_153 0 13 (dk_at dksX0_red_0 4 rfl rfl)
theorem dX0_red_7 : decode cX0_red 7 = .ok (.iload_n 2, 1) := dk_28 (dk_at dksX0_red_0 7 rfl rfl)
theorem dX0_red_8 : decode cX0_red 8 = .ok (.iconst 0, 1) := dk_3 (dk_at dksX0_red_0 8 rfl rfl)
theorem dX0_red_9 : decode cX0_red 9 = .ok (.bipush 15, 2) := dk_16 15 (dk_at dksX0_red_0 9 rfl rfl)
theorem dX0_red_11 : decode cX0_red 11 = .ok (.invokestatic 89, 3) := dk_184 0 89 (dk_at dksX0_red_0 11 rfl rfl)
theorem dX0_red_14 : decode cX0_red 14 = .ok (.ifCond .ne 5, 3) := dk_154 0 5 (dk_at dksX0_red_0 14 rfl rfl)
theorem dX0_red_17 : decode cX0_red 17 = .ok (.iconst (-1), 1) := dk_2 (dk_at dksX0_red_0 17 rfl rfl)
theorem dX0_red_18 : decode cX0_red 18 = .ok (.ireturn, 1) := dk_172 (dk_at dksX0_red_0 18 rfl rfl)
theorem dX0_red_19 : decode cX0_red 19 = .ok (.aload_n 0, 1) := dk_42 (dk_at dksX0_red_0 19 rfl rfl)
theorem dX0_red_20 : decode cX0_red 20 = .ok (.iload_n 1, 1) := dk_27 (dk_at dksX0_red_0 20 rfl rfl)
theorem dX0_red_21 : decode cX0_red 21 = .ok (.invokevirtual 259, 3) := dk_182 1 3 (dk_at dksX0_red_0 21 rfl rfl)
theorem dX0_red_24 : decode cX0_red 24 = .ok (.istore_n 3, 1) := dk_62 (dk_at dksX0_red_1 0 rfl rfl)
theorem dX0_red_25 : decode cX0_red 25 = .ok (.iload_n 3, 1) := dk_29 (dk_at dksX0_red_1 1 rfl rfl)
theorem dX0_red_26 : decode cX0_red 26 = .ok (.ifCond .ge 5, 3) := dk_156 0 5 (dk_at dksX0_red_1 2 rfl rfl)
theorem dX0_red_29 : decode cX0_red 29 = .ok (.iload_n 3, 1) := dk_29 (dk_at dksX0_red_1 5 rfl rfl)
theorem dX0_red_30 : decode cX0_red 30 = .ok (.ireturn, 1) := dk_172 (dk_at dksX0_red_1 6 rfl rfl)
theorem dX0_red_31 : decode cX0_red 31 = .ok (.iconst 1, 1) := dk_4 (dk_at dksX0_red_1 7 rfl rfl)
theorem dX0_red_32 : decode cX0_red 32 = .ok (.aload_n 0, 1) := dk_42 (dk_at dksX0_red_1 8 rfl rfl)
theorem dX0_red_33 : decode cX0_red 33 = .ok (.getfield 93, 3) := dk_180 0 93 (dk_at dksX0_red_1 9 rfl rfl)
theorem dX0_red_36 : decode cX0_red 36 = .ok (.ishl, 1) := dk_120 (dk_at dksX0_red_1 12 rfl rfl)
theorem dX0_red_37 : decode cX0_red 37 = .ok (.iconst 1, 1) := dk_4 (dk_at dksX0_red_1 13 rfl rfl)
theorem dX0_red_38 : decode cX0_red 38 = .ok (.isub, 1) := dk_100 (dk_at dksX0_red_1 14 rfl rfl)
theorem dX0_red_39 : decode cX0_red 39 = .ok (.istore 4, 2) := dk_54 4 (dk_at dksX0_red_1 15 rfl rfl)
theorem dX0_red_41 : decode cX0_red 41 = .ok (.iconst 0, 1) := dk_3 (dk_at dksX0_red_1 17 rfl rfl)
theorem dX0_red_42 : decode cX0_red 42 = .ok (.istore 5, 2) := dk_54 5 (dk_at dksX0_red_1 18 rfl rfl)
theorem dX0_red_44 : decode cX0_red 44 = .ok (.iload 5, 2) := dk_21 5 (dk_at dksX0_red_1 20 rfl rfl)
theorem dX0_red_46 : decode cX0_red 46 = .ok (.aload_n 0, 1) := dk_42 (dk_at dksX0_red_1 22 rfl rfl)
theorem dX0_red_47 : decode cX0_red 47 = .ok (.getfield 235, 3) := dk_180 0 235 (dk_at dksX0_red_2 0 rfl rfl)
theorem dX0_red_50 : decode cX0_red 50 = .ok (.if_icmp .ge 39, 3) := dk_162 0 39 (dk_at dksX0_red_2 3 rfl rfl)
theorem dX0_red_53 : decode cX0_red 53 = .ok (.aload_n 0, 1) := dk_42 (dk_at dksX0_red_2 6 rfl rfl)
theorem dX0_red_54 : decode cX0_red 54 = .ok (.getfield 46, 3) := dk_180 0 46 (dk_at dksX0_red_2 7 rfl rfl)
theorem dX0_red_57 : decode cX0_red 57 = .ok (.iload 5, 2) := dk_21 5 (dk_at dksX0_red_2 10 rfl rfl)
theorem dX0_red_59 : decode cX0_red 59 = .ok (.iaload, 1) := dk_46 (dk_at dksX0_red_2 12 rfl rfl)
theorem dX0_red_60 : decode cX0_red 60 = .ok (.bipush 60, 2) := dk_16 60 (dk_at dksX0_red_2 13 rfl rfl)
theorem dX0_red_62 : decode cX0_red 62 = .ok (.idiv, 1) := dk_108 (dk_at dksX0_red_2 15 rfl rfl)
theorem dX0_red_63 : decode cX0_red 63 = .ok (.iload_n 2, 1) := dk_28 (dk_at dksX0_red_2 16 rfl rfl)
theorem dX0_red_64 : decode cX0_red 64 = .ok (.if_icmp .ne 19, 3) := dk_160 0 19 (dk_at dksX0_red_2 17 rfl rfl)
theorem dX0_red_67 : decode cX0_red 67 = .ok (.iload 4, 2) := dk_21 4 (dk_at dksX0_red_2 20 rfl rfl)
theorem dX0_red_69 : decode cX0_red 69 = .ok (.iconst 1, 1) := dk_4 (dk_at dksX0_red_2 22 rfl rfl)
theorem dX0_red_70 : decode cX0_red 70 = .ok (.aload_n 0, 1) := dk_42 (dk_at dksX0_red_2 23 rfl rfl)
theorem dX0_red_71 : decode cX0_red 71 = .ok (.getfield 43, 3) := dk_180 0 43 (dk_at dksX0_red_3 0 rfl rfl)
theorem dX0_red_74 : decode cX0_red 74 = .ok (.iload 5, 2) := dk_21 5 (dk_at dksX0_red_3 3 rfl rfl)
theorem dX0_red_76 : decode cX0_red 76 = .ok (.iaload, 1) := dk_46 (dk_at dksX0_red_3 5 rfl rfl)
theorem dX0_red_77 : decode cX0_red 77 = .ok (.ishl, 1) := dk_120 (dk_at dksX0_red_3 6 rfl rfl)
theorem dX0_red_78 : decode cX0_red 78 = .ok (.iconst (-1), 1) := dk_2 (dk_at dksX0_red_3 7 rfl rfl)
theorem dX0_red_79 : decode cX0_red 79 = .ok (.ixor, 1) := dk_130 (dk_at dksX0_red_3 8 rfl rfl)
theorem dX0_red_80 : decode cX0_red 80 = .ok (.iand, 1) := dk_126 (dk_at dksX0_red_3 9 rfl rfl)
theorem dX0_red_81 : decode cX0_red 81 = .ok (.istore 4, 2) := dk_54 4 (dk_at dksX0_red_3 10 rfl rfl)
theorem dX0_red_83 : decode cX0_red 83 = .ok (.iinc 5 1, 3) := dk_132 5 1 (dk_at dksX0_red_3 12 rfl rfl)
theorem dX0_red_86 : decode cX0_red 86 = .ok (.goto (-42), 3) := dk_167 255 214 (dk_at dksX0_red_3 15 rfl rfl)
theorem dX0_red_89 : decode cX0_red 89 = .ok (.iload 4, 2) := dk_21 4 (dk_at dksX0_red_3 18 rfl rfl)
theorem dX0_red_91 : decode cX0_red 91 = .ok (.ireturn, 1) := dk_172 (dk_at dksX0_red_3 20 rfl rfl)
abbrev cX0_gap : ByteArray := prog_1_method_43_code
def yX0_gap : MethodName := ⟨RX0, "gap", "(II)I"⟩
def dkwX0_gap_1 : List UInt8 := [156, 0, 7, 29, 167, 0, 8, 42, 28, 182, 1, 44, 172]
abbrev dktX0_gap_1 : List UInt8 := dkwX0_gap_1 ++ []
def dkwX0_gap_0 : List UInt8 := [27, 184, 0, 121, 153, 0, 11, 42, 28, 182, 0, 172, 154, 0, 5, 2, 172, 42, 27, 182, 0, 249, 62, 29]
abbrev dktX0_gap_0 : List UInt8 := dkwX0_gap_0 ++ dktX0_gap_1
theorem dksX0_gap_0 : cX0_gap.data.toList.drop 0 = dktX0_gap_0 := by decide +kernel
theorem dksX0_gap_1 : cX0_gap.data.toList.drop 24 = dktX0_gap_1 := dk_seg dksX0_gap_0 24 rfl rfl
theorem dX0_gap_0 : decode cX0_gap 0 = .ok (.iload_n 1, 1) := dk_27 (dk_at dksX0_gap_0 0 rfl rfl)
theorem dX0_gap_1 : decode cX0_gap 1 = .ok (.invokestatic 121, 3) := dk_184 0 121 (dk_at dksX0_gap_0 1 rfl rfl)
theorem dX0_gap_4 : decode cX0_gap 4 = .ok (.ifCond .eq 11, 3) := dk_153 0 11 (dk_at dksX0_gap_0 4 rfl rfl)
theorem dX0_gap_7 : decode cX0_gap 7 = .ok (.aload_n 0, 1) := dk_42 (dk_at dksX0_gap_0 7 rfl rfl)
theorem dX0_gap_8 : decode cX0_gap 8 = .ok (.iload_n 2, 1) := dk_28 (dk_at dksX0_gap_0 8 rfl rfl)
theorem dX0_gap_9 : decode cX0_gap 9 = .ok (.invokevirtual 172, 3) := dk_182 0 172 (dk_at dksX0_gap_0 9 rfl rfl)
theorem dX0_gap_12 : decode cX0_gap 12 = .ok (.ifCond .ne 5, 3) := dk_154 0 5 (dk_at dksX0_gap_0 12 rfl rfl)
theorem dX0_gap_15 : decode cX0_gap 15 = .ok (.iconst (-1), 1) := dk_2 (dk_at dksX0_gap_0 15 rfl rfl)
theorem dX0_gap_16 : decode cX0_gap 16 = .ok (.ireturn, 1) := dk_172 (dk_at dksX0_gap_0 16 rfl rfl)
theorem dX0_gap_17 : decode cX0_gap 17 = .ok (.aload_n 0, 1) := dk_42 (dk_at dksX0_gap_0 17 rfl rfl)
theorem dX0_gap_18 : decode cX0_gap 18 = .ok (.iload_n 1, 1) := dk_27 (dk_at dksX0_gap_0 18 rfl rfl)
theorem dX0_gap_19 : decode cX0_gap 19 = .ok (.invokevirtual 249, 3) := dk_182 0 249 (dk_at dksX0_gap_0 19 rfl rfl)
theorem dX0_gap_22 : decode cX0_gap 22 = .ok (.istore_n 3, 1) := dk_62 (dk_at dksX0_gap_0 22 rfl rfl)
theorem dX0_gap_23 : decode cX0_gap 23 = .ok (.iload_n 3, 1) := dk_29 (dk_at dksX0_gap_0 23 rfl rfl)
theorem dX0_gap_24 : decode cX0_gap 24 = .ok (.ifCond .ge 7, 3) := dk_156 0 7 (dk_at dksX0_gap_1 0 rfl rfl)
theorem dX0_gap_27 : decode cX0_gap 27 = .ok (.iload_n 3, 1) := dk_29 (dk_at dksX0_gap_1 3 rfl rfl)
theorem dX0_gap_28 : decode cX0_gap 28 = .ok (.goto 8, 3) := dk_167 0 8 (dk_at dksX0_gap_1 4 rfl rfl)
theorem dX0_gap_31 : decode cX0_gap 31 = .ok (.aload_n 0, 1) := dk_42 (dk_at dksX0_gap_1 7 rfl rfl)
theorem dX0_gap_32 : decode cX0_gap 32 = .ok (.iload_n 2, 1) := dk_28 (dk_at dksX0_gap_1 8 rfl rfl)
theorem dX0_gap_33 : decode cX0_gap 33 = .ok (.invokevirtual 300, 3) := dk_182 1 44 (dk_at dksX0_gap_1 9 rfl rfl)
theorem dX0_gap_36 : decode cX0_gap 36 = .ok (.ireturn, 1) := dk_172 (dk_at dksX0_gap_1 12 rfl rfl)
abbrev cX0_gapIn : ByteArray := prog_1_method_42_code
def yX0_gapIn : MethodName := ⟨RX0, "gapIn", "(I)I"⟩
def dkwX0_gapIn_0 : List UInt8 := [42, 180, 0, 228, 154, 0, 8, 16, 254, 167, 0, 8, 42, 27, 182, 1, 41, 172]
abbrev dktX0_gapIn_0 : List UInt8 := dkwX0_gapIn_0 ++ []
theorem dksX0_gapIn_0 : cX0_gapIn.data.toList.drop 0 = dktX0_gapIn_0 := by decide +kernel
theorem dX0_gapIn_0 : decode cX0_gapIn 0 = .ok (.aload_n 0, 1) := dk_42 (dk_at dksX0_gapIn_0 0 rfl rfl)
theorem dX0_gapIn_1 : decode cX0_gapIn 1 = .ok (.getfield 228, 3) := dk_180 0 228 (dk_at dksX0_gapIn_0 1 rfl rfl)
theorem dX0_gapIn_4 : decode cX0_gapIn 4 = .ok (.ifCond .ne 8, 3) := dk_154 0 8 (dk_at dksX0_gapIn_0 4 rfl rfl)
theorem dX0_gapIn_7 : decode cX0_gapIn 7 = .ok (.bipush (-2), 2) := dk_16 254 (dk_at dksX0_gapIn_0 7 rfl rfl)
theorem dX0_gapIn_9 : decode cX0_gapIn 9 = .ok (.goto 8, 3) := dk_167 0 8 (dk_at dksX0_gapIn_0 9 rfl rfl)
theorem dX0_gapIn_12 : decode cX0_gapIn 12 = .ok (.aload_n 0, 1) := dk_42 (dk_at dksX0_gapIn_0 12 rfl rfl)
theorem dX0_gapIn_13 : decode cX0_gapIn 13 = .ok (.iload_n 1, 1) := dk_27 (dk_at dksX0_gapIn_0 13 rfl rfl)
theorem dX0_gapIn_14 : decode cX0_gapIn 14 = .ok (.invokevirtual 297, 3) := dk_182 1 41 (dk_at dksX0_gapIn_0 14 rfl rfl)
theorem dX0_gapIn_17 : decode cX0_gapIn 17 = .ok (.ireturn, 1) := dk_172 (dk_at dksX0_gapIn_0 17 rfl rfl)
abbrev cX0_gapOf : ByteArray := prog_1_method_41_code
def yX0_gapOf : MethodName := ⟨RX0, "gapOf", "(I)I"⟩
def dkwX0_gapOf_3 : List UInt8 := [96, 3, 182, 0, 238, 182, 0, 246, 96, 96, 61, 132, 5, 1, 167, 255, 191, 21, 4, 172]
abbrev dktX0_gapOf_3 : List UInt8 := dkwX0_gapOf_3 ++ []
def dkwX0_gapOf_2 : List UInt8 := [184, 1, 12, 54, 4, 28, 62, 28, 42, 180, 0, 19, 42, 42, 21, 5, 3, 182, 0, 238, 42, 21, 5, 4]
abbrev dktX0_gapOf_2 : List UInt8 := dkwX0_gapOf_2 ++ dktX0_gapOf_3
def dkwX0_gapOf_1 : List UInt8 := [180, 0, 228, 104, 162, 0, 60, 42, 21, 5, 3, 182, 0, 238, 27, 160, 0, 15, 21, 4, 28, 29, 100]
abbrev dktX0_gapOf_1 : List UInt8 := dkwX0_gapOf_1 ++ dktX0_gapOf_2
def dkwX0_gapOf_0 : List UInt8 := [42, 42, 180, 0, 39, 3, 46, 182, 0, 242, 61, 3, 62, 16, 254, 54, 4, 3, 54, 5, 21, 5, 5, 42]
abbrev dktX0_gapOf_0 : List UInt8 := dkwX0_gapOf_0 ++ dktX0_gapOf_1
theorem dksX0_gapOf_0 : cX0_gapOf.data.toList.drop 0 = dktX0_gapOf_0 := by decide +kernel
theorem dksX0_gapOf_1 : cX0_gapOf.data.toList.drop 24 = dktX0_gapOf_1 := dk_seg dksX0_gapOf_0 24 rfl rfl
theorem dksX0_gapOf_2 : cX0_gapOf.data.toList.drop 47 = dktX0_gapOf_2 := dk_seg dksX0_gapOf_1 23 rfl rfl
theorem dksX0_gapOf_3 : cX0_gapOf.data.toList.drop 71 = dktX0_gapOf_3 := dk_seg dksX0_gapOf_2 24 rfl rfl
theorem dX0_gapOf_0 : decode cX0_gapOf 0 = .ok (.aload_n 0, 1) := dk_42 (dk_at dksX0_gapOf_0 0 rfl rfl)
theorem dX0_gapOf_1 : decode cX0_gapOf 1 = .ok (.aload_n 0, 1) := dk_42 (dk_at dksX0_gapOf_0 1 rfl rfl)
theorem dX0_gapOf_2 : decode cX0_gapOf 2 = .ok (.getfield 39, 3) := dk_180 0 39 (dk_at dksX0_gapOf_0 2 rfl rfl)
theorem dX0_gapOf_5 : decode cX0_gapOf 5 = .ok (.iconst 0, 1) := dk_3 (dk_at dksX0_gapOf_0 5 rfl rfl)
theorem dX0_gapOf_6 : decode cX0_gapOf 6 = .ok (.iaload, 1) := dk_46 (dk_at dksX0_gapOf_0 6 rfl rfl)
theorem dX0_gapOf_7 : decode cX0_gapOf 7 = .ok (.invokevirtual 242, 3) := dk_182 0 242 (dk_at dksX0_gapOf_0 7 rfl rfl)
theorem dX0_gapOf_10 : decode cX0_gapOf 10 = .ok (.istore_n 2, 1) := dk_61 (dk_at dksX0_gapOf_0 10 rfl rfl)
theorem dX0_gapOf_11 : decode cX0_gapOf 11 = .ok (.iconst 0, 1) := dk_3 (dk_at dksX0_gapOf_0 11 rfl rfl)
theorem dX0_gapOf_12 : decode cX0_gapOf 12 = .ok (.istore_n 3, 1) := dk_62 (dk_at dksX0_gapOf_0 12 rfl rfl)
theorem dX0_gapOf_13 : decode cX0_gapOf 13 = .ok (.bipush (-2), 2) := dk_16 254 (dk_at dksX0_gapOf_0 13 rfl rfl)
theorem dX0_gapOf_15 : decode cX0_gapOf 15 = .ok (.istore 4, 2) := dk_54 4 (dk_at dksX0_gapOf_0 15 rfl rfl)
theorem dX0_gapOf_17 : decode cX0_gapOf 17 = .ok (.iconst 0, 1) := dk_3 (dk_at dksX0_gapOf_0 17 rfl rfl)
theorem dX0_gapOf_18 : decode cX0_gapOf 18 = .ok (.istore 5, 2) := dk_54 5 (dk_at dksX0_gapOf_0 18 rfl rfl)
theorem dX0_gapOf_20 : decode cX0_gapOf 20 = .ok (.iload 5, 2) := dk_21 5 (dk_at dksX0_gapOf_0 20 rfl rfl)
theorem dX0_gapOf_22 : decode cX0_gapOf 22 = .ok (.iconst 2, 1) := dk_5 (dk_at dksX0_gapOf_0 22 rfl rfl)
theorem dX0_gapOf_23 : decode cX0_gapOf 23 = .ok (.aload_n 0, 1) := dk_42 (dk_at dksX0_gapOf_0 23 rfl rfl)
theorem dX0_gapOf_24 : decode cX0_gapOf 24 = .ok (.getfield 228, 3) := dk_180 0 228 (dk_at dksX0_gapOf_1 0 rfl rfl)
theorem dX0_gapOf_27 : decode cX0_gapOf 27 = .ok (.imul, 1) := dk_104 (dk_at dksX0_gapOf_1 3 rfl rfl)
theorem dX0_gapOf_28 : decode cX0_gapOf 28 = .ok (.if_icmp .ge 60, 3) := dk_162 0 60 (dk_at dksX0_gapOf_1 4 rfl rfl)
theorem dX0_gapOf_31 : decode cX0_gapOf 31 = .ok (.aload_n 0, 1) := dk_42 (dk_at dksX0_gapOf_1 7 rfl rfl)
theorem dX0_gapOf_32 : decode cX0_gapOf 32 = .ok (.iload 5, 2) := dk_21 5 (dk_at dksX0_gapOf_1 8 rfl rfl)
theorem dX0_gapOf_34 : decode cX0_gapOf 34 = .ok (.iconst 0, 1) := dk_3 (dk_at dksX0_gapOf_1 10 rfl rfl)
theorem dX0_gapOf_35 : decode cX0_gapOf 35 = .ok (.invokevirtual 238, 3) := dk_182 0 238 (dk_at dksX0_gapOf_1 11 rfl rfl)
theorem dX0_gapOf_38 : decode cX0_gapOf 38 = .ok (.iload_n 1, 1) := dk_27 (dk_at dksX0_gapOf_1 14 rfl rfl)
theorem dX0_gapOf_39 : decode cX0_gapOf 39 = .ok (.if_icmp .ne 15, 3) := dk_160 0 15 (dk_at dksX0_gapOf_1 15 rfl rfl)
theorem dX0_gapOf_42 : decode cX0_gapOf 42 = .ok (.iload 4, 2) := dk_21 4 (dk_at dksX0_gapOf_1 18 rfl rfl)
theorem dX0_gapOf_44 : decode cX0_gapOf 44 = .ok (.iload_n 2, 1) := dk_28 (dk_at dksX0_gapOf_1 20 rfl rfl)
theorem dX0_gapOf_45 : decode cX0_gapOf 45 = .ok (.iload_n 3, 1) := dk_29 (dk_at dksX0_gapOf_1 21 rfl rfl)
theorem dX0_gapOf_46 : decode cX0_gapOf 46 = .ok (.isub, 1) := dk_100 (dk_at dksX0_gapOf_1 22 rfl rfl)
theorem dX0_gapOf_47 : decode cX0_gapOf 47 = .ok (.invokestatic 268, 3) := dk_184 1 12 (dk_at dksX0_gapOf_2 0 rfl rfl)
theorem dX0_gapOf_50 : decode cX0_gapOf 50 = .ok (.istore 4, 2) := dk_54 4 (dk_at dksX0_gapOf_2 3 rfl rfl)
theorem dX0_gapOf_52 : decode cX0_gapOf 52 = .ok (.iload_n 2, 1) := dk_28 (dk_at dksX0_gapOf_2 5 rfl rfl)
theorem dX0_gapOf_53 : decode cX0_gapOf 53 = .ok (.istore_n 3, 1) := dk_62 (dk_at dksX0_gapOf_2 6 rfl rfl)
theorem dX0_gapOf_54 : decode cX0_gapOf 54 = .ok (.iload_n 2, 1) := dk_28 (dk_at dksX0_gapOf_2 7 rfl rfl)
theorem dX0_gapOf_55 : decode cX0_gapOf 55 = .ok (.aload_n 0, 1) := dk_42 (dk_at dksX0_gapOf_2 8 rfl rfl)
theorem dX0_gapOf_56 : decode cX0_gapOf 56 = .ok (.getfield 19, 3) := dk_180 0 19 (dk_at dksX0_gapOf_2 9 rfl rfl)
theorem dX0_gapOf_59 : decode cX0_gapOf 59 = .ok (.aload_n 0, 1) := dk_42 (dk_at dksX0_gapOf_2 12 rfl rfl)
theorem dX0_gapOf_60 : decode cX0_gapOf 60 = .ok (.aload_n 0, 1) := dk_42 (dk_at dksX0_gapOf_2 13 rfl rfl)
theorem dX0_gapOf_61 : decode cX0_gapOf 61 = .ok (.iload 5, 2) := dk_21 5 (dk_at dksX0_gapOf_2 14 rfl rfl)
theorem dX0_gapOf_63 : decode cX0_gapOf 63 = .ok (.iconst 0, 1) := dk_3 (dk_at dksX0_gapOf_2 16 rfl rfl)
theorem dX0_gapOf_64 : decode cX0_gapOf 64 = .ok (.invokevirtual 238, 3) := dk_182 0 238 (dk_at dksX0_gapOf_2 17 rfl rfl)
theorem dX0_gapOf_67 : decode cX0_gapOf 67 = .ok (.aload_n 0, 1) := dk_42 (dk_at dksX0_gapOf_2 20 rfl rfl)
theorem dX0_gapOf_68 : decode cX0_gapOf 68 = .ok (.iload 5, 2) := dk_21 5 (dk_at dksX0_gapOf_2 21 rfl rfl)
theorem dX0_gapOf_70 : decode cX0_gapOf 70 = .ok (.iconst 1, 1) := dk_4 (dk_at dksX0_gapOf_2 23 rfl rfl)
theorem dX0_gapOf_71 : decode cX0_gapOf 71 = .ok (.iadd, 1) := dk_96 (dk_at dksX0_gapOf_3 0 rfl rfl)
theorem dX0_gapOf_72 : decode cX0_gapOf 72 = .ok (.iconst 0, 1) := dk_3 (dk_at dksX0_gapOf_3 1 rfl rfl)
theorem dX0_gapOf_73 : decode cX0_gapOf 73 = .ok (.invokevirtual 238, 3) := dk_182 0 238 (dk_at dksX0_gapOf_3 2 rfl rfl)
theorem dX0_gapOf_76 : decode cX0_gapOf 76 = .ok (.invokevirtual 246, 3) := dk_182 0 246 (dk_at dksX0_gapOf_3 5 rfl rfl)
theorem dX0_gapOf_79 : decode cX0_gapOf 79 = .ok (.iadd, 1) := dk_96 (dk_at dksX0_gapOf_3 8 rfl rfl)
theorem dX0_gapOf_80 : decode cX0_gapOf 80 = .ok (.iadd, 1) := dk_96 (dk_at dksX0_gapOf_3 9 rfl rfl)
theorem dX0_gapOf_81 : decode cX0_gapOf 81 = .ok (.istore_n 2, 1) := dk_61 (dk_at dksX0_gapOf_3 10 rfl rfl)
theorem dX0_gapOf_82 : decode cX0_gapOf 82 = .ok (.iinc 5 1, 3) := dk_132 5 1 (dk_at dksX0_gapOf_3 11 rfl rfl)
theorem dX0_gapOf_85 : decode cX0_gapOf 85 = .ok (.goto (-65), 3) := dk_167 255 191 (dk_at dksX0_gapOf_3 14 rfl rfl)
theorem dX0_gapOf_88 : decode cX0_gapOf 88 = .ok (.iload 4, 2) := dk_21 4 (dk_at dksX0_gapOf_3 17 rfl rfl)
theorem dX0_gapOf_90 : decode cX0_gapOf 90 = .ok (.ireturn, 1) := dk_172 (dk_at dksX0_gapOf_3 19 rfl rfl)
abbrev cX0_late : ByteArray := prog_1_method_44_code
def yX0_late : MethodName := ⟨RX0, "late", "(I)I"⟩
def dkwX0_late_3 : List UInt8 := [132, 4, 1, 167, 255, 209, 29, 172]
abbrev dktX0_late_3 : List UInt8 := dkwX0_late_3 ++ []
def dkwX0_late_2 : List UInt8 := [182, 1, 44, 42, 180, 0, 11, 21, 4, 50, 180, 0, 145, 164, 0, 10, 29, 4, 21, 4, 120, 128, 62]
abbrev dktX0_late_2 : List UInt8 := dkwX0_late_2 ++ dktX0_late_3
def dkwX0_late_1 : List UInt8 := [54, 4, 21, 4, 42, 180, 0, 93, 162, 0, 44, 42, 21, 4, 182, 1, 44, 155, 0, 22, 42, 21, 4]
abbrev dktX0_late_1 : List UInt8 := dkwX0_late_1 ++ dktX0_late_2
def dkwX0_late_0 : List UInt8 := [27, 184, 0, 121, 154, 0, 5, 2, 172, 42, 27, 182, 0, 249, 61, 28, 156, 0, 5, 28, 172, 3, 62, 3]
abbrev dktX0_late_0 : List UInt8 := dkwX0_late_0 ++ dktX0_late_1
theorem dksX0_late_0 : cX0_late.data.toList.drop 0 = dktX0_late_0 := by decide +kernel
theorem dksX0_late_1 : cX0_late.data.toList.drop 24 = dktX0_late_1 := dk_seg dksX0_late_0 24 rfl rfl
theorem dksX0_late_2 : cX0_late.data.toList.drop 47 = dktX0_late_2 := dk_seg dksX0_late_1 23 rfl rfl
theorem dksX0_late_3 : cX0_late.data.toList.drop 70 = dktX0_late_3 := dk_seg dksX0_late_2 23 rfl rfl
theorem dX0_late_0 : decode cX0_late 0 = .ok (.iload_n 1, 1) := dk_27 (dk_at dksX0_late_0 0 rfl rfl)
theorem dX0_late_1 : decode cX0_late 1 = .ok (.invokestatic 121, 3) := dk_184 0 121 (dk_at dksX0_late_0 1 rfl rfl)
theorem dX0_late_4 : decode cX0_late 4 = .ok (.ifCond .ne 5, 3) := dk_154 0 5 (dk_at dksX0_late_0 4 rfl rfl)
theorem dX0_late_7 : decode cX0_late 7 = .ok (.iconst (-1), 1) := dk_2 (dk_at dksX0_late_0 7 rfl rfl)
theorem dX0_late_8 : decode cX0_late 8 = .ok (.ireturn, 1) := dk_172 (dk_at dksX0_late_0 8 rfl rfl)
theorem dX0_late_9 : decode cX0_late 9 = .ok (.aload_n 0, 1) := dk_42 (dk_at dksX0_late_0 9 rfl rfl)
theorem dX0_late_10 : decode cX0_late 10 = .ok (.iload_n 1, 1) := dk_27 (dk_at dksX0_late_0 10 rfl rfl)
theorem dX0_late_11 : decode cX0_late 11 = .ok (.invokevirtual 249, 3) := dk_182 0 249 (dk_at dksX0_late_0 11 rfl rfl)
theorem dX0_late_14 : decode cX0_late 14 = .ok (.istore_n 2, 1) := dk_61 (dk_at dksX0_late_0 14 rfl rfl)
theorem dX0_late_15 : decode cX0_late 15 = .ok (.iload_n 2, 1) := dk_28 (dk_at dksX0_late_0 15 rfl rfl)
theorem dX0_late_16 : decode cX0_late 16 = .ok (.ifCond .ge 5, 3) := dk_156 0 5 (dk_at dksX0_late_0 16 rfl rfl)
theorem dX0_late_19 : decode cX0_late 19 = .ok (.iload_n 2, 1) := dk_28 (dk_at dksX0_late_0 19 rfl rfl)
theorem dX0_late_20 : decode cX0_late 20 = .ok (.ireturn, 1) := dk_172 (dk_at dksX0_late_0 20 rfl rfl)
theorem dX0_late_21 : decode cX0_late 21 = .ok (.iconst 0, 1) := dk_3 (dk_at dksX0_late_0 21 rfl rfl)
theorem dX0_late_22 : decode cX0_late 22 = .ok (.istore_n 3, 1) := dk_62 (dk_at dksX0_late_0 22 rfl rfl)
theorem dX0_late_23 : decode cX0_late 23 = .ok (.iconst 0, 1) := dk_3 (dk_at dksX0_late_0 23 rfl rfl)
theorem dX0_late_24 : decode cX0_late 24 = .ok (.istore 4, 2) := dk_54 4 (dk_at dksX0_late_1 0 rfl rfl)
theorem dX0_late_26 : decode cX0_late 26 = .ok (.iload 4, 2) := dk_21 4 (dk_at dksX0_late_1 2 rfl rfl)
theorem dX0_late_28 : decode cX0_late 28 = .ok (.aload_n 0, 1) := dk_42 (dk_at dksX0_late_1 4 rfl rfl)
theorem dX0_late_29 : decode cX0_late 29 = .ok (.getfield 93, 3) := dk_180 0 93 (dk_at dksX0_late_1 5 rfl rfl)
theorem dX0_late_32 : decode cX0_late 32 = .ok (.if_icmp .ge 44, 3) := dk_162 0 44 (dk_at dksX0_late_1 8 rfl rfl)
theorem dX0_late_35 : decode cX0_late 35 = .ok (.aload_n 0, 1) := dk_42 (dk_at dksX0_late_1 11 rfl rfl)
theorem dX0_late_36 : decode cX0_late 36 = .ok (.iload 4, 2) := dk_21 4 (dk_at dksX0_late_1 12 rfl rfl)
theorem dX0_late_38 : decode cX0_late 38 = .ok (.invokevirtual 300, 3) := dk_182 1 44 (dk_at dksX0_late_1 14 rfl rfl)
theorem dX0_late_41 : decode cX0_late 41 = .ok (.ifCond .lt 22, 3) := dk_155 0 22 (dk_at dksX0_late_1 17 rfl rfl)
theorem dX0_late_44 : decode cX0_late 44 = .ok (.aload_n 0, 1) := dk_42 (dk_at dksX0_late_1 20 rfl rfl)
theorem dX0_late_45 : decode cX0_late 45 = .ok (.iload 4, 2) := dk_21 4 (dk_at dksX0_late_1 21 rfl rfl)
theorem dX0_late_47 : decode cX0_late 47 = .ok (.invokevirtual 300, 3) := dk_182 1 44 (dk_at dksX0_late_2 0 rfl rfl)
theorem dX0_late_50 : decode cX0_late 50 = .ok (.aload_n 0, 1) := dk_42 (dk_at dksX0_late_2 3 rfl rfl)
theorem dX0_late_51 : decode cX0_late 51 = .ok (.getfield 11, 3) := dk_180 0 11 (dk_at dksX0_late_2 4 rfl rfl)
theorem dX0_late_54 : decode cX0_late 54 = .ok (.iload 4, 2) := dk_21 4 (dk_at dksX0_late_2 7 rfl rfl)
theorem dX0_late_56 : decode cX0_late 56 = .ok (.aaload, 1) := dk_50 (dk_at dksX0_late_2 9 rfl rfl)
theorem dX0_late_57 : decode cX0_late 57 = .ok (.getfield 145, 3) := dk_180 0 145 (dk_at dksX0_late_2 10 rfl rfl)
theorem dX0_late_60 : decode cX0_late 60 = .ok (.if_icmp .le 10, 3) := dk_164 0 10 (dk_at dksX0_late_2 13 rfl rfl)
theorem dX0_late_63 : decode cX0_late 63 = .ok (.iload_n 3, 1) := dk_29 (dk_at dksX0_late_2 16 rfl rfl)
theorem dX0_late_64 : decode cX0_late 64 = .ok (.iconst 1, 1) := dk_4 (dk_at dksX0_late_2 17 rfl rfl)
theorem dX0_late_65 : decode cX0_late 65 = .ok (.iload 4, 2) := dk_21 4 (dk_at dksX0_late_2 18 rfl rfl)
theorem dX0_late_67 : decode cX0_late 67 = .ok (.ishl, 1) := dk_120 (dk_at dksX0_late_2 20 rfl rfl)
theorem dX0_late_68 : decode cX0_late 68 = .ok (.ior, 1) := dk_128 (dk_at dksX0_late_2 21 rfl rfl)
theorem dX0_late_69 : decode cX0_late 69 = .ok (.istore_n 3, 1) := dk_62 (dk_at dksX0_late_2 22 rfl rfl)
theorem dX0_late_70 : decode cX0_late 70 = .ok (.iinc 4 1, 3) := dk_132 4 1 (dk_at dksX0_late_3 0 rfl rfl)
theorem dX0_late_73 : decode cX0_late 73 = .ok (.goto (-47), 3) := dk_167 255 209 (dk_at dksX0_late_3 3 rfl rfl)
theorem dX0_late_76 : decode cX0_late 76 = .ok (.iload_n 3, 1) := dk_29 (dk_at dksX0_late_3 6 rfl rfl)
theorem dX0_late_77 : decode cX0_late 77 = .ok (.ireturn, 1) := dk_172 (dk_at dksX0_late_3 7 rfl rfl)
abbrev cX0_shortest : ByteArray := prog_1_method_48_code
def yX0_shortest : MethodName := ⟨RX0, "shortest", "(II)I"⟩
def dkwX0_shortest_2 : List UInt8 := [162, 0, 12, 42, 180, 0, 52, 28, 46, 167, 0, 5, 16, 254, 172]
abbrev dktX0_shortest_2 : List UInt8 := dkwX0_shortest_2 ++ []
def dkwX0_shortest_1 : List UInt8 := [16, 251, 172, 42, 27, 182, 1, 64, 62, 28, 156, 0, 7, 29, 167, 0, 22, 28, 27, 184, 1, 59]
abbrev dktX0_shortest_1 : List UInt8 := dkwX0_shortest_1 ++ dktX0_shortest_2
def dkwX0_shortest_0 : List UInt8 := [42, 27, 182, 1, 56, 153, 0, 8, 28, 2, 162, 0, 5, 2, 172, 27, 184, 1, 59, 16, 7, 164, 0, 6]
abbrev dktX0_shortest_0 : List UInt8 := dkwX0_shortest_0 ++ dktX0_shortest_1
theorem dksX0_shortest_0 : cX0_shortest.data.toList.drop 0 = dktX0_shortest_0 := by decide +kernel
theorem dksX0_shortest_1 : cX0_shortest.data.toList.drop 24 = dktX0_shortest_1 := dk_seg dksX0_shortest_0 24 rfl rfl
theorem dksX0_shortest_2 : cX0_shortest.data.toList.drop 46 = dktX0_shortest_2 := dk_seg dksX0_shortest_1 22 rfl rfl
theorem dX0_shortest_0 : decode cX0_shortest 0 = .ok (.aload_n 0, 1) := dk_42 (dk_at dksX0_shortest_0 0 rfl rfl)
theorem dX0_shortest_1 : decode cX0_shortest 1 = .ok (.iload_n 1, 1) := dk_27 (dk_at dksX0_shortest_0 1 rfl rfl)
theorem dX0_shortest_2 : decode cX0_shortest 2 = .ok (.invokevirtual 312, 3) := dk_182 1 56 (dk_at dksX0_shortest_0 2 rfl rfl)
theorem dX0_shortest_5 : decode cX0_shortest 5 = .ok (.ifCond .eq 8, 3) := dk_153 0 8 (dk_at dksX0_shortest_0 5 rfl rfl)
theorem dX0_shortest_8 : decode cX0_shortest 8 = .ok (.iload_n 2, 1) := dk_28 (dk_at dksX0_shortest_0 8 rfl rfl)
theorem dX0_shortest_9 : decode cX0_shortest 9 = .ok (.iconst (-1), 1) := dk_2 (dk_at dksX0_shortest_0 9 rfl rfl)
theorem dX0_shortest_10 : decode cX0_shortest 10 = .ok (.if_icmp .ge 5, 3) := dk_162 0 5 (dk_at dksX0_shortest_0 10 rfl rfl)
theorem dX0_shortest_13 : decode cX0_shortest 13 = .ok (.iconst (-1), 1) := dk_2 (dk_at dksX0_shortest_0 13 rfl rfl)
theorem dX0_shortest_14 : decode cX0_shortest 14 = .ok (.ireturn, 1) := dk_172 (dk_at dksX0_shortest_0 14 rfl rfl)
theorem dX0_shortest_15 : decode cX0_shortest 15 = .ok (.iload_n 1, 1) := dk_27 (dk_at dksX0_shortest_0 15 rfl rfl)
theorem dX0_shortest_16 : decode cX0_shortest 16 = .ok (.invokestatic 315, 3) := dk_184 1 59 (dk_at dksX0_shortest_0 16 rfl rfl)
theorem dX0_shortest_19 : decode cX0_shortest 19 = .ok (.bipush 7, 2) := dk_16 7 (dk_at dksX0_shortest_0 19 rfl rfl)
theorem dX0_shortest_21 : decode cX0_shortest 21 = .ok (.if_icmp .le 6, 3) := dk_164 0 6 (dk_at dksX0_shortest_0 21 rfl rfl)
theorem dX0_shortest_24 : decode cX0_shortest 24 = .ok (.bipush (-5), 2) := dk_16 251 (dk_at dksX0_shortest_1 0 rfl rfl)
theorem dX0_shortest_26 : decode cX0_shortest 26 = .ok (.ireturn, 1) := dk_172 (dk_at dksX0_shortest_1 2 rfl rfl)
theorem dX0_shortest_27 : decode cX0_shortest 27 = .ok (.aload_n 0, 1) := dk_42 (dk_at dksX0_shortest_1 3 rfl rfl)
theorem dX0_shortest_28 : decode cX0_shortest 28 = .ok (.iload_n 1, 1) := dk_27 (dk_at dksX0_shortest_1 4 rfl rfl)
theorem dX0_shortest_29 : decode cX0_shortest 29 = .ok (.invokevirtual 320, 3) := dk_182 1 64 (dk_at dksX0_shortest_1 5 rfl rfl)
theorem dX0_shortest_32 : decode cX0_shortest 32 = .ok (.istore_n 3, 1) := dk_62 (dk_at dksX0_shortest_1 8 rfl rfl)
theorem dX0_shortest_33 : decode cX0_shortest 33 = .ok (.iload_n 2, 1) := dk_28 (dk_at dksX0_shortest_1 9 rfl rfl)
theorem dX0_shortest_34 : decode cX0_shortest 34 = .ok (.ifCond .ge 7, 3) := dk_156 0 7 (dk_at dksX0_shortest_1 10 rfl rfl)
theorem dX0_shortest_37 : decode cX0_shortest 37 = .ok (.iload_n 3, 1) := dk_29 (dk_at dksX0_shortest_1 13 rfl rfl)
theorem dX0_shortest_38 : decode cX0_shortest 38 = .ok (.goto 22, 3) := dk_167 0 22 (dk_at dksX0_shortest_1 14 rfl rfl)
theorem dX0_shortest_41 : decode cX0_shortest 41 = .ok (.iload_n 2, 1) := dk_28 (dk_at dksX0_shortest_1 17 rfl rfl)
theorem dX0_shortest_42 : decode cX0_shortest 42 = .ok (.iload_n 1, 1) := dk_27 (dk_at dksX0_shortest_1 18 rfl rfl)
theorem dX0_shortest_43 : decode cX0_shortest 43 = .ok (.invokestatic 315, 3) := dk_184 1 59 (dk_at dksX0_shortest_1 19 rfl rfl)
theorem dX0_shortest_46 : decode cX0_shortest 46 = .ok (.if_icmp .ge 12, 3) := dk_162 0 12 (dk_at dksX0_shortest_2 0 rfl rfl)
theorem dX0_shortest_49 : decode cX0_shortest 49 = .ok (.aload_n 0, 1) := dk_42 (dk_at dksX0_shortest_2 3 rfl rfl)
theorem dX0_shortest_50 : decode cX0_shortest 50 = .ok (.getfield 52, 3) := dk_180 0 52 (dk_at dksX0_shortest_2 4 rfl rfl)
theorem dX0_shortest_53 : decode cX0_shortest 53 = .ok (.iload_n 2, 1) := dk_28 (dk_at dksX0_shortest_2 7 rfl rfl)
theorem dX0_shortest_54 : decode cX0_shortest 54 = .ok (.iaload, 1) := dk_46 (dk_at dksX0_shortest_2 8 rfl rfl)
theorem dX0_shortest_55 : decode cX0_shortest 55 = .ok (.goto 5, 3) := dk_167 0 5 (dk_at dksX0_shortest_2 9 rfl rfl)
theorem dX0_shortest_58 : decode cX0_shortest 58 = .ok (.bipush (-2), 2) := dk_16 254 (dk_at dksX0_shortest_2 12 rfl rfl)
theorem dX0_shortest_60 : decode cX0_shortest 60 = .ok (.ireturn, 1) := dk_172 (dk_at dksX0_shortest_2 14 rfl rfl)
abbrev cX0_arePosts : ByteArray := prog_1_method_47_code
def yX0_arePosts : MethodName := ⟨RX0, "arePosts", "(I)Z"⟩
def dkwX0_arePosts_0 : List UInt8 := [27, 3, 4, 42, 180, 0, 93, 120, 4, 100, 184, 0, 89, 172]
abbrev dktX0_arePosts_0 : List UInt8 := dkwX0_arePosts_0 ++ []
theorem dksX0_arePosts_0 : cX0_arePosts.data.toList.drop 0 = dktX0_arePosts_0 := by decide +kernel
theorem dX0_arePosts_0 : decode cX0_arePosts 0 = .ok (.iload_n 1, 1) := dk_27 (dk_at dksX0_arePosts_0 0 rfl rfl)
theorem dX0_arePosts_1 : decode cX0_arePosts 1 = .ok (.iconst 0, 1) := dk_3 (dk_at dksX0_arePosts_0 1 rfl rfl)
theorem dX0_arePosts_2 : decode cX0_arePosts 2 = .ok (.iconst 1, 1) := dk_4 (dk_at dksX0_arePosts_0 2 rfl rfl)
theorem dX0_arePosts_3 : decode cX0_arePosts 3 = .ok (.aload_n 0, 1) := dk_42 (dk_at dksX0_arePosts_0 3 rfl rfl)
theorem dX0_arePosts_4 : decode cX0_arePosts 4 = .ok (.getfield 93, 3) := dk_180 0 93 (dk_at dksX0_arePosts_0 4 rfl rfl)
theorem dX0_arePosts_7 : decode cX0_arePosts 7 = .ok (.ishl, 1) := dk_120 (dk_at dksX0_arePosts_0 7 rfl rfl)
theorem dX0_arePosts_8 : decode cX0_arePosts 8 = .ok (.iconst 1, 1) := dk_4 (dk_at dksX0_arePosts_0 8 rfl rfl)
theorem dX0_arePosts_9 : decode cX0_arePosts 9 = .ok (.isub, 1) := dk_100 (dk_at dksX0_arePosts_0 9 rfl rfl)
theorem dX0_arePosts_10 : decode cX0_arePosts 10 = .ok (.invokestatic 89, 3) := dk_184 0 89 (dk_at dksX0_arePosts_0 10 rfl rfl)
theorem dX0_arePosts_13 : decode cX0_arePosts 13 = .ok (.ireturn, 1) := dk_172 (dk_at dksX0_arePosts_0 13 rfl rfl)
abbrev cX0_shortestOf : ByteArray := prog_1_method_46_code
def yX0_shortestOf : MethodName := ⟨RX0, "shortestOf", "(I)I"⟩
def dkwX0_shortestOf_0 : List UInt8 := [42, 2, 181, 1, 47, 42, 27, 3, 3, 2, 182, 1, 53, 42, 180, 1, 47, 172]
abbrev dktX0_shortestOf_0 : List UInt8 := dkwX0_shortestOf_0 ++ []
theorem dksX0_shortestOf_0 : cX0_shortestOf.data.toList.drop 0 = dktX0_shortestOf_0 := by decide +kernel
theorem dX0_shortestOf_0 : decode cX0_shortestOf 0 = .ok (.aload_n 0, 1) := dk_42 (dk_at dksX0_shortestOf_0 0 rfl rfl)
theorem dX0_shortestOf_1 : decode cX0_shortestOf 1 = .ok (.iconst (-1), 1) := dk_2 (dk_at dksX0_shortestOf_0 1 rfl rfl)
theorem dX0_shortestOf_2 : decode cX0_shortestOf 2 = .ok (.putfield 303, 3) := dk_181 1 47 (dk_at dksX0_shortestOf_0 2 rfl rfl)
theorem dX0_shortestOf_5 : decode cX0_shortestOf 5 = .ok (.aload_n 0, 1) := dk_42 (dk_at dksX0_shortestOf_0 5 rfl rfl)
theorem dX0_shortestOf_6 : decode cX0_shortestOf 6 = .ok (.iload_n 1, 1) := dk_27 (dk_at dksX0_shortestOf_0 6 rfl rfl)
theorem dX0_shortestOf_7 : decode cX0_shortestOf 7 = .ok (.iconst 0, 1) := dk_3 (dk_at dksX0_shortestOf_0 7 rfl rfl)
theorem dX0_shortestOf_8 : decode cX0_shortestOf 8 = .ok (.iconst 0, 1) := dk_3 (dk_at dksX0_shortestOf_0 8 rfl rfl)
theorem dX0_shortestOf_9 : decode cX0_shortestOf 9 = .ok (.iconst (-1), 1) := dk_2 (dk_at dksX0_shortestOf_0 9 rfl rfl)
theorem dX0_shortestOf_10 : decode cX0_shortestOf 10 = .ok (.invokevirtual 309, 3) := dk_182 1 53 (dk_at dksX0_shortestOf_0 10 rfl rfl)
theorem dX0_shortestOf_13 : decode cX0_shortestOf 13 = .ok (.aload_n 0, 1) := dk_42 (dk_at dksX0_shortestOf_0 13 rfl rfl)
theorem dX0_shortestOf_14 : decode cX0_shortestOf 14 = .ok (.getfield 303, 3) := dk_180 1 47 (dk_at dksX0_shortestOf_0 14 rfl rfl)
theorem dX0_shortestOf_17 : decode cX0_shortestOf 17 = .ok (.ireturn, 1) := dk_172 (dk_at dksX0_shortestOf_0 17 rfl rfl)
abbrev cX0_goShortest : ByteArray := prog_1_method_45_code
def yX0_goShortest : MethodName := ⟨RX0, "goShortest", "(IIII)V"⟩
def dkwX0_goShortest_7 : List UInt8 := [182, 0, 246, 96, 21, 5, 182, 1, 53, 132, 5, 1, 167, 255, 178, 177]
abbrev dktX0_goShortest_7 : List UInt8 := dkwX0_goShortest_7 ++ []
def dkwX0_goShortest_6 : List UInt8 := [180, 0, 19, 96, 21, 4, 156, 0, 12, 42, 21, 5, 182, 0, 242, 167, 0, 11, 42, 21, 4, 21, 5]
abbrev dktX0_goShortest_6 : List UInt8 := dkwX0_goShortest_6 ++ dktX0_goShortest_7
def dkwX0_goShortest_5 : List UInt8 := [42, 180, 0, 49, 28, 21, 5, 79, 42, 27, 4, 21, 5, 120, 2, 130, 126, 28, 4, 96, 29, 42]
abbrev dktX0_goShortest_5 : List UInt8 := dkwX0_goShortest_5 ++ dktX0_goShortest_6
def dkwX0_goShortest_4 : List UInt8 := [3, 54, 5, 21, 5, 42, 180, 0, 93, 162, 0, 75, 27, 21, 5, 184, 1, 50, 154, 0, 6, 167, 0, 57]
abbrev dktX0_goShortest_4 : List UInt8 := dkwX0_goShortest_4 ++ dktX0_goShortest_5
def dkwX0_goShortest_3 : List UInt8 := [162, 0, 23, 42, 180, 0, 52, 21, 6, 42, 180, 0, 49, 21, 6, 46, 79, 132, 6, 1, 167, 255, 233, 177]
abbrev dktX0_goShortest_3 : List UInt8 := dkwX0_goShortest_3 ++ dktX0_goShortest_4
def dkwX0_goShortest_2 : List UInt8 := [21, 5, 42, 180, 1, 47, 161, 0, 4, 177, 42, 21, 5, 181, 1, 47, 3, 54, 6, 21, 6, 28]
abbrev dktX0_goShortest_2 : List UInt8 := dkwX0_goShortest_2 ++ dktX0_goShortest_3
def dkwX0_goShortest_1 : List UInt8 := [156, 0, 7, 3, 167, 0, 9, 42, 21, 4, 182, 0, 242, 96, 54, 5, 42, 180, 1, 47, 155, 0, 13]
abbrev dktX0_goShortest_1 : List UInt8 := dkwX0_goShortest_1 ++ dktX0_goShortest_2
def dkwX0_goShortest_0 : List UInt8 := [42, 180, 1, 47, 155, 0, 12, 29, 42, 180, 1, 47, 161, 0, 4, 177, 27, 154, 0, 75, 29, 21, 4]
abbrev dktX0_goShortest_0 : List UInt8 := dkwX0_goShortest_0 ++ dktX0_goShortest_1
theorem dksX0_goShortest_0 : cX0_goShortest.data.toList.drop 0 = dktX0_goShortest_0 := by decide +kernel
theorem dksX0_goShortest_1 : cX0_goShortest.data.toList.drop 23 = dktX0_goShortest_1 := dk_seg dksX0_goShortest_0 23 rfl rfl
theorem dksX0_goShortest_2 : cX0_goShortest.data.toList.drop 46 = dktX0_goShortest_2 := dk_seg dksX0_goShortest_1 23 rfl rfl
theorem dksX0_goShortest_3 : cX0_goShortest.data.toList.drop 68 = dktX0_goShortest_3 := dk_seg dksX0_goShortest_2 22 rfl rfl
theorem dksX0_goShortest_4 : cX0_goShortest.data.toList.drop 92 = dktX0_goShortest_4 := dk_seg dksX0_goShortest_3 24 rfl rfl
theorem dksX0_goShortest_5 : cX0_goShortest.data.toList.drop 116 = dktX0_goShortest_5 := dk_seg dksX0_goShortest_4 24 rfl rfl
theorem dksX0_goShortest_6 : cX0_goShortest.data.toList.drop 138 = dktX0_goShortest_6 := dk_seg dksX0_goShortest_5 22 rfl rfl
theorem dksX0_goShortest_7 : cX0_goShortest.data.toList.drop 161 = dktX0_goShortest_7 := dk_seg dksX0_goShortest_6 23 rfl rfl
theorem dX0_goShortest_0 : decode cX0_goShortest 0 = .ok (.aload_n 0, 1) := dk_42 (dk_at dksX0_goShortest_0 0 rfl rfl)
theorem dX0_goShortest_1 : decode cX0_goShortest 1 = .ok (.getfield 303, 3) := dk_180 1 47 (dk_at dksX0_goShortest_0 1 rfl rfl)
theorem dX0_goShortest_4 : decode cX0_goShortest 4 = .ok (.ifCond .lt 12, 3) := dk_155 0 12 (dk_at dksX0_goShortest_0 4 rfl rfl)
theorem dX0_goShortest_7 : decode cX0_goShortest 7 = .ok (.iload_n 3, 1) := dk_29 (dk_at dksX0_goShortest_0 7 rfl rfl)
theorem dX0_goShortest_8 : decode cX0_goShortest 8 = .ok (.aload_n 0, 1) := dk_42 (dk_at dksX0_goShortest_0 8 rfl rfl)
theorem dX0_goShortest_9 : decode cX0_goShortest 9 = .ok (.getfield 303, 3) := dk_180 1 47 (dk_at dksX0_goShortest_0 9 rfl rfl)
theorem dX0_goShortest_12 : decode cX0_goShortest 12 = .ok (.if_icmp .lt 4, 3) := dk_161 0 4 (dk_at dksX0_goShortest_0 12 rfl rfl)
theorem dX0_goShortest_15 : decode cX0_goShortest 15 = .ok (.return_, 1) := dk_177 (dk_at dksX0_goShortest_0 15 rfl rfl)
theorem dX0_goShortest_16 : decode cX0_goShortest 16 = .ok (.iload_n 1, 1) := dk_27 (dk_at dksX0_goShortest_0 16 rfl rfl)
theorem dX0_goShortest_17 : decode cX0_goShortest 17 = .ok (.ifCond .ne 75, 3) := dk_154 0 75 (dk_at dksX0_goShortest_0 17 rfl rfl)
theorem dX0_goShortest_20 : decode cX0_goShortest 20 = .ok (.iload_n 3, 1) := dk_29 (dk_at dksX0_goShortest_0 20 rfl rfl)
theorem dX0_goShortest_21 : decode cX0_goShortest 21 = .ok (.iload 4, 2) := dk_21 4 (dk_at dksX0_goShortest_0 21 rfl rfl)
theorem dX0_goShortest_23 : decode cX0_goShortest 23 = .ok (.ifCond .ge 7, 3) := dk_156 0 7 (dk_at dksX0_goShortest_1 0 rfl rfl)
theorem dX0_goShortest_26 : decode cX0_goShortest 26 = .ok (.iconst 0, 1) := dk_3 (dk_at dksX0_goShortest_1 3 rfl rfl)
theorem dX0_goShortest_27 : decode cX0_goShortest 27 = .ok (.goto 9, 3) := dk_167 0 9 (dk_at dksX0_goShortest_1 4 rfl rfl)
theorem dX0_goShortest_30 : decode cX0_goShortest 30 = .ok (.aload_n 0, 1) := dk_42 (dk_at dksX0_goShortest_1 7 rfl rfl)
theorem dX0_goShortest_31 : decode cX0_goShortest 31 = .ok (.iload 4, 2) := dk_21 4 (dk_at dksX0_goShortest_1 8 rfl rfl)
theorem dX0_goShortest_33 : decode cX0_goShortest 33 = .ok (.invokevirtual 242, 3) := dk_182 0 242 (dk_at dksX0_goShortest_1 10 rfl rfl)
theorem dX0_goShortest_36 : decode cX0_goShortest 36 = .ok (.iadd, 1) := dk_96 (dk_at dksX0_goShortest_1 13 rfl rfl)
theorem dX0_goShortest_37 : decode cX0_goShortest 37 = .ok (.istore 5, 2) := dk_54 5 (dk_at dksX0_goShortest_1 14 rfl rfl)
theorem dX0_goShortest_39 : decode cX0_goShortest 39 = .ok (.aload_n 0, 1) := dk_42 (dk_at dksX0_goShortest_1 16 rfl rfl)
theorem dX0_goShortest_40 : decode cX0_goShortest 40 = .ok (.getfield 303, 3) := dk_180 1 47 (dk_at dksX0_goShortest_1 17 rfl rfl)
theorem dX0_goShortest_43 : decode cX0_goShortest 43 = .ok (.ifCond .lt 13, 3) := dk_155 0 13 (dk_at dksX0_goShortest_1 20 rfl rfl)
theorem dX0_goShortest_46 : decode cX0_goShortest 46 = .ok (.iload 5, 2) := dk_21 5 (dk_at dksX0_goShortest_2 0 rfl rfl)
theorem dX0_goShortest_48 : decode cX0_goShortest 48 = .ok (.aload_n 0, 1) := dk_42 (dk_at dksX0_goShortest_2 2 rfl rfl)
theorem dX0_goShortest_49 : decode cX0_goShortest 49 = .ok (.getfield 303, 3) := dk_180 1 47 (dk_at dksX0_goShortest_2 3 rfl rfl)
theorem dX0_goShortest_52 : decode cX0_goShortest 52 = .ok (.if_icmp .lt 4, 3) := dk_161 0 4 (dk_at dksX0_goShortest_2 6 rfl rfl)
theorem dX0_goShortest_55 : decode cX0_goShortest 55 = .ok (.return_, 1) := dk_177 (dk_at dksX0_goShortest_2 9 rfl rfl)
theorem dX0_goShortest_56 : decode cX0_goShortest 56 = .ok (.aload_n 0, 1) := dk_42 (dk_at dksX0_goShortest_2 10 rfl rfl)
theorem dX0_goShortest_57 : decode cX0_goShortest 57 = .ok (.iload 5, 2) := dk_21 5 (dk_at dksX0_goShortest_2 11 rfl rfl)
theorem dX0_goShortest_59 : decode cX0_goShortest 59 = .ok (.putfield 303, 3) := dk_181 1 47 (dk_at dksX0_goShortest_2 13 rfl rfl)
theorem dX0_goShortest_62 : decode cX0_goShortest 62 = .ok (.iconst 0, 1) := dk_3 (dk_at dksX0_goShortest_2 16 rfl rfl)
theorem dX0_goShortest_63 : decode cX0_goShortest 63 = .ok (.istore 6, 2) := dk_54 6 (dk_at dksX0_goShortest_2 17 rfl rfl)
theorem dX0_goShortest_65 : decode cX0_goShortest 65 = .ok (.iload 6, 2) := dk_21 6 (dk_at dksX0_goShortest_2 19 rfl rfl)
theorem dX0_goShortest_67 : decode cX0_goShortest 67 = .ok (.iload_n 2, 1) := dk_28 (dk_at dksX0_goShortest_2 21 rfl rfl)
theorem dX0_goShortest_68 : decode cX0_goShortest 68 = .ok (.if_icmp .ge 23, 3) := dk_162 0 23 (dk_at dksX0_goShortest_3 0 rfl rfl)
theorem dX0_goShortest_71 : decode cX0_goShortest 71 = .ok (.aload_n 0, 1) := dk_42 (dk_at dksX0_goShortest_3 3 rfl rfl)
theorem dX0_goShortest_72 : decode cX0_goShortest 72 = .ok (.getfield 52, 3) := dk_180 0 52 (dk_at dksX0_goShortest_3 4 rfl rfl)
theorem dX0_goShortest_75 : decode cX0_goShortest 75 = .ok (.iload 6, 2) := dk_21 6 (dk_at dksX0_goShortest_3 7 rfl rfl)
theorem dX0_goShortest_77 : decode cX0_goShortest 77 = .ok (.aload_n 0, 1) := dk_42 (dk_at dksX0_goShortest_3 9 rfl rfl)
theorem dX0_goShortest_78 : decode cX0_goShortest 78 = .ok (.getfield 49, 3) := dk_180 0 49 (dk_at dksX0_goShortest_3 10 rfl rfl)
theorem dX0_goShortest_81 : decode cX0_goShortest 81 = .ok (.iload 6, 2) := dk_21 6 (dk_at dksX0_goShortest_3 13 rfl rfl)
theorem dX0_goShortest_83 : decode cX0_goShortest 83 = .ok (.iaload, 1) := dk_46 (dk_at dksX0_goShortest_3 15 rfl rfl)
theorem dX0_goShortest_84 : decode cX0_goShortest 84 = .ok (.iastore, 1) := dk_79 (dk_at dksX0_goShortest_3 16 rfl rfl)
theorem dX0_goShortest_85 : decode cX0_goShortest 85 = .ok (.iinc 6 1, 3) := dk_132 6 1 (dk_at dksX0_goShortest_3 17 rfl rfl)
theorem dX0_goShortest_88 : decode cX0_goShortest 88 = .ok (.goto (-23), 3) := dk_167 255 233 (dk_at dksX0_goShortest_3 20 rfl rfl)
theorem dX0_goShortest_91 : decode cX0_goShortest 91 = .ok (.return_, 1) := dk_177 (dk_at dksX0_goShortest_3 23 rfl rfl)
theorem dX0_goShortest_92 : decode cX0_goShortest 92 = .ok (.iconst 0, 1) := dk_3 (dk_at dksX0_goShortest_4 0 rfl rfl)
theorem dX0_goShortest_93 : decode cX0_goShortest 93 = .ok (.istore 5, 2) := dk_54 5 (dk_at dksX0_goShortest_4 1 rfl rfl)
theorem dX0_goShortest_95 : decode cX0_goShortest 95 = .ok (.iload 5, 2) := dk_21 5 (dk_at dksX0_goShortest_4 3 rfl rfl)
theorem dX0_goShortest_97 : decode cX0_goShortest 97 = .ok (.aload_n 0, 1) := dk_42 (dk_at dksX0_goShortest_4 5 rfl rfl)
theorem dX0_goShortest_98 : decode cX0_goShortest 98 = .ok (.getfield 93, 3) := dk_180 0 93 (dk_at dksX0_goShortest_4 6 rfl rfl)
theorem dX0_goShortest_101 : decode cX0_goShortest 101 = .ok (.if_icmp .ge 75, 3) := dk_162 0 75 (dk_at dksX0_goShortest_4 9 rfl rfl)
theorem dX0_goShortest_104 : decode cX0_goShortest 104 = .ok (.iload_n 1, 1) := dk_27 (dk_at dksX0_goShortest_4 12 rfl rfl)
theorem dX0_goShortest_105 : decode cX0_goShortest 105 = .ok (.iload 5, 2) := dk_21 5 (dk_at dksX0_goShortest_4 13 rfl rfl)
theorem dX0_goShortest_107 : decode cX0_goShortest 107 = .ok (.invokestatic 306, 3) := dk_184 1 50 (dk_at dksX0_goShortest_4 15 rfl rfl)
theorem dX0_goShortest_110 : decode cX0_goShortest 110 = .ok (.ifCond .ne 6, 3) := dk_154 0 6 (dk_at dksX0_goShortest_4 18 rfl rfl)
theorem dX0_goShortest_113 : decode cX0_goShortest 113 = .ok (.goto 57, 3) := dk_167 0 57 (dk_at dksX0_goShortest_4 21 rfl rfl)
theorem dX0_goShortest_116 : decode cX0_goShortest 116 = .ok (.aload_n 0, 1) := dk_42 (dk_at dksX0_goShortest_5 0 rfl rfl)
theorem dX0_goShortest_117 : decode cX0_goShortest 117 = .ok (.getfield 49, 3) := dk_180 0 49 (dk_at dksX0_goShortest_5 1 rfl rfl)
theorem dX0_goShortest_120 : decode cX0_goShortest 120 = .ok (.iload_n 2, 1) := dk_28 (dk_at dksX0_goShortest_5 4 rfl rfl)
theorem dX0_goShortest_121 : decode cX0_goShortest 121 = .ok (.iload 5, 2) := dk_21 5 (dk_at dksX0_goShortest_5 5 rfl rfl)
theorem dX0_goShortest_123 : decode cX0_goShortest 123 = .ok (.iastore, 1) := dk_79 (dk_at dksX0_goShortest_5 7 rfl rfl)
theorem dX0_goShortest_124 : decode cX0_goShortest 124 = .ok (.aload_n 0, 1) := dk_42 (dk_at dksX0_goShortest_5 8 rfl rfl)
theorem dX0_goShortest_125 : decode cX0_goShortest 125 = .ok (.iload_n 1, 1) := dk_27 (dk_at dksX0_goShortest_5 9 rfl rfl)
theorem dX0_goShortest_126 : decode cX0_goShortest 126 = .ok (.iconst 1, 1) := dk_4 (dk_at dksX0_goShortest_5 10 rfl rfl)
theorem dX0_goShortest_127 : decode cX0_goShortest 127 = .ok (.iload 5, 2) := dk_21 5 (dk_at dksX0_goShortest_5 11 rfl rfl)
theorem dX0_goShortest_129 : decode cX0_goShortest 129 = .ok (.ishl, 1) := dk_120 (dk_at dksX0_goShortest_5 13 rfl rfl)
theorem dX0_goShortest_130 : decode cX0_goShortest 130 = .ok (.iconst (-1), 1) := dk_2 (dk_at dksX0_goShortest_5 14 rfl rfl)
theorem dX0_goShortest_131 : decode cX0_goShortest 131 = .ok (.ixor, 1) := dk_130 (dk_at dksX0_goShortest_5 15 rfl rfl)
theorem dX0_goShortest_132 : decode cX0_goShortest 132 = .ok (.iand, 1) := dk_126 (dk_at dksX0_goShortest_5 16 rfl rfl)
theorem dX0_goShortest_133 : decode cX0_goShortest 133 = .ok (.iload_n 2, 1) := dk_28 (dk_at dksX0_goShortest_5 17 rfl rfl)
theorem dX0_goShortest_134 : decode cX0_goShortest 134 = .ok (.iconst 1, 1) := dk_4 (dk_at dksX0_goShortest_5 18 rfl rfl)
theorem dX0_goShortest_135 : decode cX0_goShortest 135 = .ok (.iadd, 1) := dk_96 (dk_at dksX0_goShortest_5 19 rfl rfl)
theorem dX0_goShortest_136 : decode cX0_goShortest 136 = .ok (.iload_n 3, 1) := dk_29 (dk_at dksX0_goShortest_5 20 rfl rfl)
theorem dX0_goShortest_137 : decode cX0_goShortest 137 = .ok (.aload_n 0, 1) := dk_42 (dk_at dksX0_goShortest_5 21 rfl rfl)
theorem dX0_goShortest_138 : decode cX0_goShortest 138 = .ok (.getfield 19, 3) := dk_180 0 19 (dk_at dksX0_goShortest_6 0 rfl rfl)
theorem dX0_goShortest_141 : decode cX0_goShortest 141 = .ok (.iadd, 1) := dk_96 (dk_at dksX0_goShortest_6 3 rfl rfl)
theorem dX0_goShortest_142 : decode cX0_goShortest 142 = .ok (.iload 4, 2) := dk_21 4 (dk_at dksX0_goShortest_6 4 rfl rfl)
theorem dX0_goShortest_144 : decode cX0_goShortest 144 = .ok (.ifCond .ge 12, 3) := dk_156 0 12 (dk_at dksX0_goShortest_6 6 rfl rfl)
theorem dX0_goShortest_147 : decode cX0_goShortest 147 = .ok (.aload_n 0, 1) := dk_42 (dk_at dksX0_goShortest_6 9 rfl rfl)
theorem dX0_goShortest_148 : decode cX0_goShortest 148 = .ok (.iload 5, 2) := dk_21 5 (dk_at dksX0_goShortest_6 10 rfl rfl)
theorem dX0_goShortest_150 : decode cX0_goShortest 150 = .ok (.invokevirtual 242, 3) := dk_182 0 242 (dk_at dksX0_goShortest_6 12 rfl rfl)
theorem dX0_goShortest_153 : decode cX0_goShortest 153 = .ok (.goto 11, 3) := dk_167 0 11 (dk_at dksX0_goShortest_6 15 rfl rfl)
theorem dX0_goShortest_156 : decode cX0_goShortest 156 = .ok (.aload_n 0, 1) := dk_42 (dk_at dksX0_goShortest_6 18 rfl rfl)
theorem dX0_goShortest_157 : decode cX0_goShortest 157 = .ok (.iload 4, 2) := dk_21 4 (dk_at dksX0_goShortest_6 19 rfl rfl)
theorem dX0_goShortest_159 : decode cX0_goShortest 159 = .ok (.iload 5, 2) := dk_21 5 (dk_at dksX0_goShortest_6 21 rfl rfl)
theorem dX0_goShortest_161 : decode cX0_goShortest 161 = .ok (.invokevirtual 246, 3) := dk_182 0 246 (dk_at dksX0_goShortest_7 0 rfl rfl)
theorem dX0_goShortest_164 : decode cX0_goShortest 164 = .ok (.iadd, 1) := dk_96 (dk_at dksX0_goShortest_7 3 rfl rfl)
theorem dX0_goShortest_165 : decode cX0_goShortest 165 = .ok (.iload 5, 2) := dk_21 5 (dk_at dksX0_goShortest_7 4 rfl rfl)
theorem dX0_goShortest_167 : decode cX0_goShortest 167 = .ok (.invokevirtual 309, 3) := dk_182 1 53 (dk_at dksX0_goShortest_7 6 rfl rfl)
theorem dX0_goShortest_170 : decode cX0_goShortest 170 = .ok (.iinc 5 1, 3) := dk_132 5 1 (dk_at dksX0_goShortest_7 9 rfl rfl)
theorem dX0_goShortest_173 : decode cX0_goShortest 173 = .ok (.goto (-78), 3) := dk_167 255 178 (dk_at dksX0_goShortest_7 12 rfl rfl)
theorem dX0_goShortest_176 : decode cX0_goShortest 176 = .ok (.return_, 1) := dk_177 (dk_at dksX0_goShortest_7 15 rfl rfl)
abbrev cX0_has : ByteArray := prog_1_method_3_code
def yX0_has : MethodName := ⟨RX0, "has", "(II)Z"⟩
def dkwX0_has_0 : List UInt8 := [26, 27, 122, 4, 126, 4, 160, 0, 7, 4, 167, 0, 4, 3, 172]
abbrev dktX0_has_0 : List UInt8 := dkwX0_has_0 ++ []
theorem dksX0_has_0 : cX0_has.data.toList.drop 0 = dktX0_has_0 := by decide +kernel
theorem dX0_has_0 : decode cX0_has 0 = .ok (.iload_n 0, 1) := dk_26 (dk_at dksX0_has_0 0 rfl rfl)
theorem dX0_has_1 : decode cX0_has 1 = .ok (.iload_n 1, 1) := dk_27 (dk_at dksX0_has_0 1 rfl rfl)
theorem dX0_has_2 : decode cX0_has 2 = .ok (.ishr, 1) := dk_122 (dk_at dksX0_has_0 2 rfl rfl)
theorem dX0_has_3 : decode cX0_has 3 = .ok (.iconst 1, 1) := dk_4 (dk_at dksX0_has_0 3 rfl rfl)
theorem dX0_has_4 : decode cX0_has 4 = .ok (.iand, 1) := dk_126 (dk_at dksX0_has_0 4 rfl rfl)
theorem dX0_has_5 : decode cX0_has 5 = .ok (.iconst 1, 1) := dk_4 (dk_at dksX0_has_0 5 rfl rfl)
theorem dX0_has_6 : decode cX0_has 6 = .ok (.if_icmp .ne 7, 3) := dk_160 0 7 (dk_at dksX0_has_0 6 rfl rfl)
theorem dX0_has_9 : decode cX0_has 9 = .ok (.iconst 1, 1) := dk_4 (dk_at dksX0_has_0 9 rfl rfl)
theorem dX0_has_10 : decode cX0_has 10 = .ok (.goto 4, 3) := dk_167 0 4 (dk_at dksX0_has_0 10 rfl rfl)
theorem dX0_has_13 : decode cX0_has 13 = .ok (.iconst 0, 1) := dk_3 (dk_at dksX0_has_0 13 rfl rfl)
theorem dX0_has_14 : decode cX0_has 14 = .ok (.ireturn, 1) := dk_172 (dk_at dksX0_has_0 14 rfl rfl)
abbrev cX0_leftOut : ByteArray := prog_1_method_49_code
def yX0_leftOut : MethodName := ⟨RX0, "leftOut", "(II)I"⟩
def dkwX0_leftOut_4 : List UInt8 := [54, 4, 132, 5, 1, 167, 255, 197, 28, 154, 0, 7, 29, 167, 0, 5, 21, 4, 172]
abbrev dktX0_leftOut_4 : List UInt8 := dkwX0_leftOut_4 ++ []
def dkwX0_leftOut_3 : List UInt8 := [182, 1, 64, 54, 6, 29, 155, 0, 13, 21, 6, 21, 4, 161, 0, 6, 167, 0, 10, 21, 5, 62, 21, 6]
abbrev dktX0_leftOut_3 : List UInt8 := dkwX0_leftOut_3 ++ dktX0_leftOut_4
def dkwX0_leftOut_2 : List UInt8 := [162, 0, 56, 27, 21, 5, 184, 1, 50, 154, 0, 6, 167, 0, 38, 42, 27, 4, 21, 5, 120, 2, 130, 126]
abbrev dktX0_leftOut_2 : List UInt8 := dkwX0_leftOut_2 ++ dktX0_leftOut_3
def dkwX0_leftOut_1 : List UInt8 := [16, 7, 164, 0, 6, 16, 251, 172, 16, 254, 62, 16, 254, 54, 4, 3, 54, 5, 21, 5, 42, 180, 0, 93]
abbrev dktX0_leftOut_1 : List UInt8 := dkwX0_leftOut_1 ++ dktX0_leftOut_2
def dkwX0_leftOut_0 : List UInt8 := [42, 27, 182, 1, 56, 153, 0, 12, 28, 3, 4, 184, 0, 89, 154, 0, 5, 2, 172, 27, 184, 1, 59]
abbrev dktX0_leftOut_0 : List UInt8 := dkwX0_leftOut_0 ++ dktX0_leftOut_1
theorem dksX0_leftOut_0 : cX0_leftOut.data.toList.drop 0 = dktX0_leftOut_0 := by decide +kernel
theorem dksX0_leftOut_1 : cX0_leftOut.data.toList.drop 23 = dktX0_leftOut_1 := dk_seg dksX0_leftOut_0 23 rfl rfl
theorem dksX0_leftOut_2 : cX0_leftOut.data.toList.drop 47 = dktX0_leftOut_2 := dk_seg dksX0_leftOut_1 24 rfl rfl
theorem dksX0_leftOut_3 : cX0_leftOut.data.toList.drop 71 = dktX0_leftOut_3 := dk_seg dksX0_leftOut_2 24 rfl rfl
theorem dksX0_leftOut_4 : cX0_leftOut.data.toList.drop 95 = dktX0_leftOut_4 := dk_seg dksX0_leftOut_3 24 rfl rfl
theorem dX0_leftOut_0 : decode cX0_leftOut 0 = .ok (.aload_n 0, 1) := dk_42 (dk_at dksX0_leftOut_0 0 rfl rfl)
theorem dX0_leftOut_1 : decode cX0_leftOut 1 = .ok (.iload_n 1, 1) := dk_27 (dk_at dksX0_leftOut_0 1 rfl rfl)
theorem dX0_leftOut_2 : decode cX0_leftOut 2 = .ok (.invokevirtual 312, 3) := dk_182 1 56 (dk_at dksX0_leftOut_0 2 rfl rfl)
theorem dX0_leftOut_5 : decode cX0_leftOut 5 = .ok (.ifCond .eq 12, 3) := dk_153 0 12 (dk_at dksX0_leftOut_0 5 rfl rfl)
theorem dX0_leftOut_8 : decode cX0_leftOut 8 = .ok (.iload_n 2, 1) := dk_28 (dk_at dksX0_leftOut_0 8 rfl rfl)
theorem dX0_leftOut_9 : decode cX0_leftOut 9 = .ok (.iconst 0, 1) := dk_3 (dk_at dksX0_leftOut_0 9 rfl rfl)
theorem dX0_leftOut_10 : decode cX0_leftOut 10 = .ok (.iconst 1, 1) := dk_4 (dk_at dksX0_leftOut_0 10 rfl rfl)
theorem dX0_leftOut_11 : decode cX0_leftOut 11 = .ok (.invokestatic 89, 3) := dk_184 0 89 (dk_at dksX0_leftOut_0 11 rfl rfl)
theorem dX0_leftOut_14 : decode cX0_leftOut 14 = .ok (.ifCond .ne 5, 3) := dk_154 0 5 (dk_at dksX0_leftOut_0 14 rfl rfl)
theorem dX0_leftOut_17 : decode cX0_leftOut 17 = .ok (.iconst (-1), 1) := dk_2 (dk_at dksX0_leftOut_0 17 rfl rfl)
theorem dX0_leftOut_18 : decode cX0_leftOut 18 = .ok (.ireturn, 1) := dk_172 (dk_at dksX0_leftOut_0 18 rfl rfl)
theorem dX0_leftOut_19 : decode cX0_leftOut 19 = .ok (.iload_n 1, 1) := dk_27 (dk_at dksX0_leftOut_0 19 rfl rfl)
theorem dX0_leftOut_20 : decode cX0_leftOut 20 = .ok (.invokestatic 315, 3) := dk_184 1 59 (dk_at dksX0_leftOut_0 20 rfl rfl)
theorem dX0_leftOut_23 : decode cX0_leftOut 23 = .ok (.bipush 7, 2) := dk_16 7 (dk_at dksX0_leftOut_1 0 rfl rfl)
theorem dX0_leftOut_25 : decode cX0_leftOut 25 = .ok (.if_icmp .le 6, 3) := dk_164 0 6 (dk_at dksX0_leftOut_1 2 rfl rfl)
theorem dX0_leftOut_28 : decode cX0_leftOut 28 = .ok (.bipush (-5), 2) := dk_16 251 (dk_at dksX0_leftOut_1 5 rfl rfl)
theorem dX0_leftOut_30 : decode cX0_leftOut 30 = .ok (.ireturn, 1) := dk_172 (dk_at dksX0_leftOut_1 7 rfl rfl)
theorem dX0_leftOut_31 : decode cX0_leftOut 31 = .ok (.bipush (-2), 2) := dk_16 254 (dk_at dksX0_leftOut_1 8 rfl rfl)
theorem dX0_leftOut_33 : decode cX0_leftOut 33 = .ok (.istore_n 3, 1) := dk_62 (dk_at dksX0_leftOut_1 10 rfl rfl)
theorem dX0_leftOut_34 : decode cX0_leftOut 34 = .ok (.bipush (-2), 2) := dk_16 254 (dk_at dksX0_leftOut_1 11 rfl rfl)
theorem dX0_leftOut_36 : decode cX0_leftOut 36 = .ok (.istore 4, 2) := dk_54 4 (dk_at dksX0_leftOut_1 13 rfl rfl)
theorem dX0_leftOut_38 : decode cX0_leftOut 38 = .ok (.iconst 0, 1) := dk_3 (dk_at dksX0_leftOut_1 15 rfl rfl)
theorem dX0_leftOut_39 : decode cX0_leftOut 39 = .ok (.istore 5, 2) := dk_54 5 (dk_at dksX0_leftOut_1 16 rfl rfl)
theorem dX0_leftOut_41 : decode cX0_leftOut 41 = .ok (.iload 5, 2) := dk_21 5 (dk_at dksX0_leftOut_1 18 rfl rfl)
theorem dX0_leftOut_43 : decode cX0_leftOut 43 = .ok (.aload_n 0, 1) := dk_42 (dk_at dksX0_leftOut_1 20 rfl rfl)
theorem dX0_leftOut_44 : decode cX0_leftOut 44 = .ok (.getfield 93, 3) := dk_180 0 93 (dk_at dksX0_leftOut_1 21 rfl rfl)
theorem dX0_leftOut_47 : decode cX0_leftOut 47 = .ok (.if_icmp .ge 56, 3) := dk_162 0 56 (dk_at dksX0_leftOut_2 0 rfl rfl)
theorem dX0_leftOut_50 : decode cX0_leftOut 50 = .ok (.iload_n 1, 1) := dk_27 (dk_at dksX0_leftOut_2 3 rfl rfl)
theorem dX0_leftOut_51 : decode cX0_leftOut 51 = .ok (.iload 5, 2) := dk_21 5 (dk_at dksX0_leftOut_2 4 rfl rfl)
theorem dX0_leftOut_53 : decode cX0_leftOut 53 = .ok (.invokestatic 306, 3) := dk_184 1 50 (dk_at dksX0_leftOut_2 6 rfl rfl)
theorem dX0_leftOut_56 : decode cX0_leftOut 56 = .ok (.ifCond .ne 6, 3) := dk_154 0 6 (dk_at dksX0_leftOut_2 9 rfl rfl)
theorem dX0_leftOut_59 : decode cX0_leftOut 59 = .ok (.goto 38, 3) := dk_167 0 38 (dk_at dksX0_leftOut_2 12 rfl rfl)
theorem dX0_leftOut_62 : decode cX0_leftOut 62 = .ok (.aload_n 0, 1) := dk_42 (dk_at dksX0_leftOut_2 15 rfl rfl)
theorem dX0_leftOut_63 : decode cX0_leftOut 63 = .ok (.iload_n 1, 1) := dk_27 (dk_at dksX0_leftOut_2 16 rfl rfl)
theorem dX0_leftOut_64 : decode cX0_leftOut 64 = .ok (.iconst 1, 1) := dk_4 (dk_at dksX0_leftOut_2 17 rfl rfl)
theorem dX0_leftOut_65 : decode cX0_leftOut 65 = .ok (.iload 5, 2) := dk_21 5 (dk_at dksX0_leftOut_2 18 rfl rfl)
theorem dX0_leftOut_67 : decode cX0_leftOut 67 = .ok (.ishl, 1) := dk_120 (dk_at dksX0_leftOut_2 20 rfl rfl)
theorem dX0_leftOut_68 : decode cX0_leftOut 68 = .ok (.iconst (-1), 1) := dk_2 (dk_at dksX0_leftOut_2 21 rfl rfl)
theorem dX0_leftOut_69 : decode cX0_leftOut 69 = .ok (.ixor, 1) := dk_130 (dk_at dksX0_leftOut_2 22 rfl rfl)
theorem dX0_leftOut_70 : decode cX0_leftOut 70 = .ok (.iand, 1) := dk_126 (dk_at dksX0_leftOut_2 23 rfl rfl)
theorem dX0_leftOut_71 : decode cX0_leftOut 71 = .ok (.invokevirtual 320, 3) := dk_182 1 64 (dk_at dksX0_leftOut_3 0 rfl rfl)
theorem dX0_leftOut_74 : decode cX0_leftOut 74 = .ok (.istore 6, 2) := dk_54 6 (dk_at dksX0_leftOut_3 3 rfl rfl)
theorem dX0_leftOut_76 : decode cX0_leftOut 76 = .ok (.iload_n 3, 1) := dk_29 (dk_at dksX0_leftOut_3 5 rfl rfl)
theorem dX0_leftOut_77 : decode cX0_leftOut 77 = .ok (.ifCond .lt 13, 3) := dk_155 0 13 (dk_at dksX0_leftOut_3 6 rfl rfl)
theorem dX0_leftOut_80 : decode cX0_leftOut 80 = .ok (.iload 6, 2) := dk_21 6 (dk_at dksX0_leftOut_3 9 rfl rfl)
theorem dX0_leftOut_82 : decode cX0_leftOut 82 = .ok (.iload 4, 2) := dk_21 4 (dk_at dksX0_leftOut_3 11 rfl rfl)
theorem dX0_leftOut_84 : decode cX0_leftOut 84 = .ok (.if_icmp .lt 6, 3) := dk_161 0 6 (dk_at dksX0_leftOut_3 13 rfl rfl)
theorem dX0_leftOut_87 : decode cX0_leftOut 87 = .ok (.goto 10, 3) := dk_167 0 10 (dk_at dksX0_leftOut_3 16 rfl rfl)
theorem dX0_leftOut_90 : decode cX0_leftOut 90 = .ok (.iload 5, 2) := dk_21 5 (dk_at dksX0_leftOut_3 19 rfl rfl)
theorem dX0_leftOut_92 : decode cX0_leftOut 92 = .ok (.istore_n 3, 1) := dk_62 (dk_at dksX0_leftOut_3 21 rfl rfl)
theorem dX0_leftOut_93 : decode cX0_leftOut 93 = .ok (.iload 6, 2) := dk_21 6 (dk_at dksX0_leftOut_3 22 rfl rfl)
theorem dX0_leftOut_95 : decode cX0_leftOut 95 = .ok (.istore 4, 2) := dk_54 4 (dk_at dksX0_leftOut_4 0 rfl rfl)
theorem dX0_leftOut_97 : decode cX0_leftOut 97 = .ok (.iinc 5 1, 3) := dk_132 5 1 (dk_at dksX0_leftOut_4 2 rfl rfl)
theorem dX0_leftOut_100 : decode cX0_leftOut 100 = .ok (.goto (-59), 3) := dk_167 255 197 (dk_at dksX0_leftOut_4 5 rfl rfl)
theorem dX0_leftOut_103 : decode cX0_leftOut 103 = .ok (.iload_n 2, 1) := dk_28 (dk_at dksX0_leftOut_4 8 rfl rfl)
theorem dX0_leftOut_104 : decode cX0_leftOut 104 = .ok (.ifCond .ne 7, 3) := dk_154 0 7 (dk_at dksX0_leftOut_4 9 rfl rfl)
theorem dX0_leftOut_107 : decode cX0_leftOut 107 = .ok (.iload_n 3, 1) := dk_29 (dk_at dksX0_leftOut_4 12 rfl rfl)
theorem dX0_leftOut_108 : decode cX0_leftOut 108 = .ok (.goto 5, 3) := dk_167 0 5 (dk_at dksX0_leftOut_4 13 rfl rfl)
theorem dX0_leftOut_111 : decode cX0_leftOut 111 = .ok (.iload 4, 2) := dk_21 4 (dk_at dksX0_leftOut_4 16 rfl rfl)
theorem dX0_leftOut_113 : decode cX0_leftOut 113 = .ok (.ireturn, 1) := dk_172 (dk_at dksX0_leftOut_4 18 rfl rfl)
abbrev cX0_thief : ByteArray := prog_1_method_51_code
def yX0_thief : MethodName := ⟨RX0, "thief", "(IIII)I"⟩
def dkwX0_thief_2 : List UInt8 := [167, 0, 14, 42, 28, 29, 17, 3, 231, 21, 4, 182, 1, 70, 172]
abbrev dktX0_thief_2 : List UInt8 := dkwX0_thief_2 ++ []
def dkwX0_thief_1 : List UInt8 := [184, 1, 67, 154, 0, 5, 2, 172, 42, 27, 182, 1, 3, 54, 5, 21, 5, 156, 0, 8, 21, 5]
abbrev dktX0_thief_1 : List UInt8 := dkwX0_thief_1 ++ dktX0_thief_2
def dkwX0_thief_0 : List UInt8 := [27, 184, 0, 121, 153, 0, 26, 42, 28, 182, 0, 172, 153, 0, 18, 29, 184, 1, 9, 153, 0, 11, 21, 4]
abbrev dktX0_thief_0 : List UInt8 := dkwX0_thief_0 ++ dktX0_thief_1
theorem dksX0_thief_0 : cX0_thief.data.toList.drop 0 = dktX0_thief_0 := by decide +kernel
theorem dksX0_thief_1 : cX0_thief.data.toList.drop 24 = dktX0_thief_1 := dk_seg dksX0_thief_0 24 rfl rfl
theorem dksX0_thief_2 : cX0_thief.data.toList.drop 46 = dktX0_thief_2 := dk_seg dksX0_thief_1 22 rfl rfl
theorem dX0_thief_0 : decode cX0_thief 0 = .ok (.iload_n 1, 1) := dk_27 (dk_at dksX0_thief_0 0 rfl rfl)
theorem dX0_thief_1 : decode cX0_thief 1 = .ok (.invokestatic 121, 3) := dk_184 0 121 (dk_at dksX0_thief_0 1 rfl rfl)
theorem dX0_thief_4 : decode cX0_thief 4 = .ok (.ifCond .eq 26, 3) := dk_153 0 26 (dk_at dksX0_thief_0 4 rfl rfl)
theorem dX0_thief_7 : decode cX0_thief 7 = .ok (.aload_n 0, 1) := dk_42 (dk_at dksX0_thief_0 7 rfl rfl)
theorem dX0_thief_8 : decode cX0_thief 8 = .ok (.iload_n 2, 1) := dk_28 (dk_at dksX0_thief_0 8 rfl rfl)
theorem dX0_thief_9 : decode cX0_thief 9 = .ok (.invokevirtual 172, 3) := dk_182 0 172 (dk_at dksX0_thief_0 9 rfl rfl)
theorem dX0_thief_12 : decode cX0_thief 12 = .ok (.ifCond .eq 18, 3) := dk_153 0 18 (dk_at dksX0_thief_0 12 rfl rfl)
theorem dX0_thief_15 : decode cX0_thief 15 = .ok (.iload_n 3, 1) := dk_29 (dk_at dksX0_thief_0 15 rfl rfl)
theorem dX0_thief_16 : decode cX0_thief 16 = .ok (.invokestatic 265, 3) := dk_184 1 9 (dk_at dksX0_thief_0 16 rfl rfl)
theorem dX0_thief_19 : decode cX0_thief 19 = .ok (.ifCond .eq 11, 3) := dk_153 0 11 (dk_at dksX0_thief_0 19 rfl rfl)
theorem dX0_thief_22 : decode cX0_thief 22 = .ok (.iload 4, 2) := dk_21 4 (dk_at dksX0_thief_0 22 rfl rfl)
theorem dX0_thief_24 : decode cX0_thief 24 = .ok (.invokestatic 323, 3) := dk_184 1 67 (dk_at dksX0_thief_1 0 rfl rfl)
theorem dX0_thief_27 : decode cX0_thief 27 = .ok (.ifCond .ne 5, 3) := dk_154 0 5 (dk_at dksX0_thief_1 3 rfl rfl)
theorem dX0_thief_30 : decode cX0_thief 30 = .ok (.iconst (-1), 1) := dk_2 (dk_at dksX0_thief_1 6 rfl rfl)
theorem dX0_thief_31 : decode cX0_thief 31 = .ok (.ireturn, 1) := dk_172 (dk_at dksX0_thief_1 7 rfl rfl)
theorem dX0_thief_32 : decode cX0_thief 32 = .ok (.aload_n 0, 1) := dk_42 (dk_at dksX0_thief_1 8 rfl rfl)
theorem dX0_thief_33 : decode cX0_thief 33 = .ok (.iload_n 1, 1) := dk_27 (dk_at dksX0_thief_1 9 rfl rfl)
theorem dX0_thief_34 : decode cX0_thief 34 = .ok (.invokevirtual 259, 3) := dk_182 1 3 (dk_at dksX0_thief_1 10 rfl rfl)
theorem dX0_thief_37 : decode cX0_thief 37 = .ok (.istore 5, 2) := dk_54 5 (dk_at dksX0_thief_1 13 rfl rfl)
theorem dX0_thief_39 : decode cX0_thief 39 = .ok (.iload 5, 2) := dk_21 5 (dk_at dksX0_thief_1 15 rfl rfl)
theorem dX0_thief_41 : decode cX0_thief 41 = .ok (.ifCond .ge 8, 3) := dk_156 0 8 (dk_at dksX0_thief_1 17 rfl rfl)
theorem dX0_thief_44 : decode cX0_thief 44 = .ok (.iload 5, 2) := dk_21 5 (dk_at dksX0_thief_1 20 rfl rfl)
theorem dX0_thief_46 : decode cX0_thief 46 = .ok (.goto 14, 3) := dk_167 0 14 (dk_at dksX0_thief_2 0 rfl rfl)
theorem dX0_thief_49 : decode cX0_thief 49 = .ok (.aload_n 0, 1) := dk_42 (dk_at dksX0_thief_2 3 rfl rfl)
theorem dX0_thief_50 : decode cX0_thief 50 = .ok (.iload_n 2, 1) := dk_28 (dk_at dksX0_thief_2 4 rfl rfl)
theorem dX0_thief_51 : decode cX0_thief 51 = .ok (.iload_n 3, 1) := dk_29 (dk_at dksX0_thief_2 5 rfl rfl)
theorem dX0_thief_52 : decode cX0_thief 52 = .ok (.sipush 999, 3) := dk_17 3 231 (dk_at dksX0_thief_2 6 rfl rfl)
theorem dX0_thief_55 : decode cX0_thief 55 = .ok (.iload 4, 2) := dk_21 4 (dk_at dksX0_thief_2 9 rfl rfl)
theorem dX0_thief_57 : decode cX0_thief 57 = .ok (.invokevirtual 326, 3) := dk_182 1 70 (dk_at dksX0_thief_2 11 rfl rfl)
theorem dX0_thief_60 : decode cX0_thief 60 = .ok (.ireturn, 1) := dk_172 (dk_at dksX0_thief_2 14 rfl rfl)
abbrev cX0_areNeeded : ByteArray := prog_1_method_7_code
def yX0_areNeeded : MethodName := ⟨RX0, "areNeeded", "(I)Z"⟩
def dkwX0_areNeeded_0 : List UInt8 := [26, 4, 16, 99, 184, 0, 89, 172]
abbrev dktX0_areNeeded_0 : List UInt8 := dkwX0_areNeeded_0 ++ []
theorem dksX0_areNeeded_0 : cX0_areNeeded.data.toList.drop 0 = dktX0_areNeeded_0 := by decide +kernel
theorem dX0_areNeeded_0 : decode cX0_areNeeded 0 = .ok (.iload_n 0, 1) := dk_26 (dk_at dksX0_areNeeded_0 0 rfl rfl)
theorem dX0_areNeeded_1 : decode cX0_areNeeded 1 = .ok (.iconst 1, 1) := dk_4 (dk_at dksX0_areNeeded_0 1 rfl rfl)
theorem dX0_areNeeded_2 : decode cX0_areNeeded 2 = .ok (.bipush 99, 2) := dk_16 99 (dk_at dksX0_areNeeded_0 2 rfl rfl)
theorem dX0_areNeeded_4 : decode cX0_areNeeded 4 = .ok (.invokestatic 89, 3) := dk_184 0 89 (dk_at dksX0_areNeeded_0 4 rfl rfl)
theorem dX0_areNeeded_7 : decode cX0_areNeeded 7 = .ok (.ireturn, 1) := dk_172 (dk_at dksX0_areNeeded_0 7 rfl rfl)
abbrev cX0_timeFrom : ByteArray := prog_1_method_50_code
def yX0_timeFrom : MethodName := ⟨RX0, "timeFrom", "(IIII)I"⟩
def dkwX0_timeFrom_4 : List UInt8 := [167, 255, 179, 21, 6, 29, 163, 0, 8, 21, 6, 167, 0, 5, 16, 254, 172]
abbrev dktX0_timeFrom_4 : List UInt8 := dkwX0_timeFrom_4 ++ []
def dkwX0_timeFrom_3 : List UInt8 := [21, 4, 96, 161, 0, 6, 21, 6, 172, 42, 180, 0, 46, 21, 7, 46, 21, 5, 96, 54, 6, 132, 7, 1]
abbrev dktX0_timeFrom_3 : List UInt8 := dkwX0_timeFrom_3 ++ dktX0_timeFrom_4
def dkwX0_timeFrom_2 : List UInt8 := [21, 7, 46, 21, 5, 96, 21, 6, 163, 0, 6, 167, 0, 33, 42, 180, 0, 46, 21, 7, 46, 21, 6]
abbrev dktX0_timeFrom_2 : List UInt8 := dkwX0_timeFrom_2 ++ dktX0_timeFrom_3
def dkwX0_timeFrom_1 : List UInt8 := [162, 0, 74, 21, 6, 29, 163, 0, 68, 42, 180, 0, 43, 21, 7, 46, 27, 160, 0, 51, 42, 180, 0, 46]
abbrev dktX0_timeFrom_1 : List UInt8 := dkwX0_timeFrom_1 ++ dktX0_timeFrom_2
def dkwX0_timeFrom_0 : List UInt8 := [4, 42, 180, 0, 19, 184, 1, 12, 54, 5, 28, 54, 6, 3, 54, 7, 21, 7, 42, 180, 0, 235]
abbrev dktX0_timeFrom_0 : List UInt8 := dkwX0_timeFrom_0 ++ dktX0_timeFrom_1
theorem dksX0_timeFrom_0 : cX0_timeFrom.data.toList.drop 0 = dktX0_timeFrom_0 := by decide +kernel
theorem dksX0_timeFrom_1 : cX0_timeFrom.data.toList.drop 22 = dktX0_timeFrom_1 := dk_seg dksX0_timeFrom_0 22 rfl rfl
theorem dksX0_timeFrom_2 : cX0_timeFrom.data.toList.drop 46 = dktX0_timeFrom_2 := dk_seg dksX0_timeFrom_1 24 rfl rfl
theorem dksX0_timeFrom_3 : cX0_timeFrom.data.toList.drop 69 = dktX0_timeFrom_3 := dk_seg dksX0_timeFrom_2 23 rfl rfl
theorem dksX0_timeFrom_4 : cX0_timeFrom.data.toList.drop 93 = dktX0_timeFrom_4 := dk_seg dksX0_timeFrom_3 24 rfl rfl
theorem dX0_timeFrom_0 : decode cX0_timeFrom 0 = .ok (.iconst 1, 1) := dk_4 (dk_at dksX0_timeFrom_0 0 rfl rfl)
theorem dX0_timeFrom_1 : decode cX0_timeFrom 1 = .ok (.aload_n 0, 1) := dk_42 (dk_at dksX0_timeFrom_0 1 rfl rfl)
theorem dX0_timeFrom_2 : decode cX0_timeFrom 2 = .ok (.getfield 19, 3) := dk_180 0 19 (dk_at dksX0_timeFrom_0 2 rfl rfl)
theorem dX0_timeFrom_5 : decode cX0_timeFrom 5 = .ok (.invokestatic 268, 3) := dk_184 1 12 (dk_at dksX0_timeFrom_0 5 rfl rfl)
theorem dX0_timeFrom_8 : decode cX0_timeFrom 8 = .ok (.istore 5, 2) := dk_54 5 (dk_at dksX0_timeFrom_0 8 rfl rfl)
theorem dX0_timeFrom_10 : decode cX0_timeFrom 10 = .ok (.iload_n 2, 1) := dk_28 (dk_at dksX0_timeFrom_0 10 rfl rfl)
theorem dX0_timeFrom_11 : decode cX0_timeFrom 11 = .ok (.istore 6, 2) := dk_54 6 (dk_at dksX0_timeFrom_0 11 rfl rfl)
theorem dX0_timeFrom_13 : decode cX0_timeFrom 13 = .ok (.iconst 0, 1) := dk_3 (dk_at dksX0_timeFrom_0 13 rfl rfl)
theorem dX0_timeFrom_14 : decode cX0_timeFrom 14 = .ok (.istore 7, 2) := dk_54 7 (dk_at dksX0_timeFrom_0 14 rfl rfl)
theorem dX0_timeFrom_16 : decode cX0_timeFrom 16 = .ok (.iload 7, 2) := dk_21 7 (dk_at dksX0_timeFrom_0 16 rfl rfl)
theorem dX0_timeFrom_18 : decode cX0_timeFrom 18 = .ok (.aload_n 0, 1) := dk_42 (dk_at dksX0_timeFrom_0 18 rfl rfl)
theorem dX0_timeFrom_19 : decode cX0_timeFrom 19 = .ok (.getfield 235, 3) := dk_180 0 235 (dk_at dksX0_timeFrom_0 19 rfl rfl)
theorem dX0_timeFrom_22 : decode cX0_timeFrom 22 = .ok (.if_icmp .ge 74, 3) := dk_162 0 74 (dk_at dksX0_timeFrom_1 0 rfl rfl)
theorem dX0_timeFrom_25 : decode cX0_timeFrom 25 = .ok (.iload 6, 2) := dk_21 6 (dk_at dksX0_timeFrom_1 3 rfl rfl)
theorem dX0_timeFrom_27 : decode cX0_timeFrom 27 = .ok (.iload_n 3, 1) := dk_29 (dk_at dksX0_timeFrom_1 5 rfl rfl)
theorem dX0_timeFrom_28 : decode cX0_timeFrom 28 = .ok (.if_icmp .gt 68, 3) := dk_163 0 68 (dk_at dksX0_timeFrom_1 6 rfl rfl)
theorem dX0_timeFrom_31 : decode cX0_timeFrom 31 = .ok (.aload_n 0, 1) := dk_42 (dk_at dksX0_timeFrom_1 9 rfl rfl)
theorem dX0_timeFrom_32 : decode cX0_timeFrom 32 = .ok (.getfield 43, 3) := dk_180 0 43 (dk_at dksX0_timeFrom_1 10 rfl rfl)
theorem dX0_timeFrom_35 : decode cX0_timeFrom 35 = .ok (.iload 7, 2) := dk_21 7 (dk_at dksX0_timeFrom_1 13 rfl rfl)
theorem dX0_timeFrom_37 : decode cX0_timeFrom 37 = .ok (.iaload, 1) := dk_46 (dk_at dksX0_timeFrom_1 15 rfl rfl)
theorem dX0_timeFrom_38 : decode cX0_timeFrom 38 = .ok (.iload_n 1, 1) := dk_27 (dk_at dksX0_timeFrom_1 16 rfl rfl)
theorem dX0_timeFrom_39 : decode cX0_timeFrom 39 = .ok (.if_icmp .ne 51, 3) := dk_160 0 51 (dk_at dksX0_timeFrom_1 17 rfl rfl)
theorem dX0_timeFrom_42 : decode cX0_timeFrom 42 = .ok (.aload_n 0, 1) := dk_42 (dk_at dksX0_timeFrom_1 20 rfl rfl)
theorem dX0_timeFrom_43 : decode cX0_timeFrom 43 = .ok (.getfield 46, 3) := dk_180 0 46 (dk_at dksX0_timeFrom_1 21 rfl rfl)
theorem dX0_timeFrom_46 : decode cX0_timeFrom 46 = .ok (.iload 7, 2) := dk_21 7 (dk_at dksX0_timeFrom_2 0 rfl rfl)
theorem dX0_timeFrom_48 : decode cX0_timeFrom 48 = .ok (.iaload, 1) := dk_46 (dk_at dksX0_timeFrom_2 2 rfl rfl)
theorem dX0_timeFrom_49 : decode cX0_timeFrom 49 = .ok (.iload 5, 2) := dk_21 5 (dk_at dksX0_timeFrom_2 3 rfl rfl)
theorem dX0_timeFrom_51 : decode cX0_timeFrom 51 = .ok (.iadd, 1) := dk_96 (dk_at dksX0_timeFrom_2 5 rfl rfl)
theorem dX0_timeFrom_52 : decode cX0_timeFrom 52 = .ok (.iload 6, 2) := dk_21 6 (dk_at dksX0_timeFrom_2 6 rfl rfl)
theorem dX0_timeFrom_54 : decode cX0_timeFrom 54 = .ok (.if_icmp .gt 6, 3) := dk_163 0 6 (dk_at dksX0_timeFrom_2 8 rfl rfl)
theorem dX0_timeFrom_57 : decode cX0_timeFrom 57 = .ok (.goto 33, 3) := dk_167 0 33 (dk_at dksX0_timeFrom_2 11 rfl rfl)
theorem dX0_timeFrom_60 : decode cX0_timeFrom 60 = .ok (.aload_n 0, 1) := dk_42 (dk_at dksX0_timeFrom_2 14 rfl rfl)
theorem dX0_timeFrom_61 : decode cX0_timeFrom 61 = .ok (.getfield 46, 3) := dk_180 0 46 (dk_at dksX0_timeFrom_2 15 rfl rfl)
theorem dX0_timeFrom_64 : decode cX0_timeFrom 64 = .ok (.iload 7, 2) := dk_21 7 (dk_at dksX0_timeFrom_2 18 rfl rfl)
theorem dX0_timeFrom_66 : decode cX0_timeFrom 66 = .ok (.iaload, 1) := dk_46 (dk_at dksX0_timeFrom_2 20 rfl rfl)
theorem dX0_timeFrom_67 : decode cX0_timeFrom 67 = .ok (.iload 6, 2) := dk_21 6 (dk_at dksX0_timeFrom_2 21 rfl rfl)
theorem dX0_timeFrom_69 : decode cX0_timeFrom 69 = .ok (.iload 4, 2) := dk_21 4 (dk_at dksX0_timeFrom_3 0 rfl rfl)
theorem dX0_timeFrom_71 : decode cX0_timeFrom 71 = .ok (.iadd, 1) := dk_96 (dk_at dksX0_timeFrom_3 2 rfl rfl)
theorem dX0_timeFrom_72 : decode cX0_timeFrom 72 = .ok (.if_icmp .lt 6, 3) := dk_161 0 6 (dk_at dksX0_timeFrom_3 3 rfl rfl)
theorem dX0_timeFrom_75 : decode cX0_timeFrom 75 = .ok (.iload 6, 2) := dk_21 6 (dk_at dksX0_timeFrom_3 6 rfl rfl)
theorem dX0_timeFrom_77 : decode cX0_timeFrom 77 = .ok (.ireturn, 1) := dk_172 (dk_at dksX0_timeFrom_3 8 rfl rfl)
theorem dX0_timeFrom_78 : decode cX0_timeFrom 78 = .ok (.aload_n 0, 1) := dk_42 (dk_at dksX0_timeFrom_3 9 rfl rfl)
theorem dX0_timeFrom_79 : decode cX0_timeFrom 79 = .ok (.getfield 46, 3) := dk_180 0 46 (dk_at dksX0_timeFrom_3 10 rfl rfl)
theorem dX0_timeFrom_82 : decode cX0_timeFrom 82 = .ok (.iload 7, 2) := dk_21 7 (dk_at dksX0_timeFrom_3 13 rfl rfl)
theorem dX0_timeFrom_84 : decode cX0_timeFrom 84 = .ok (.iaload, 1) := dk_46 (dk_at dksX0_timeFrom_3 15 rfl rfl)
theorem dX0_timeFrom_85 : decode cX0_timeFrom 85 = .ok (.iload 5, 2) := dk_21 5 (dk_at dksX0_timeFrom_3 16 rfl rfl)
theorem dX0_timeFrom_87 : decode cX0_timeFrom 87 = .ok (.iadd, 1) := dk_96 (dk_at dksX0_timeFrom_3 18 rfl rfl)
theorem dX0_timeFrom_88 : decode cX0_timeFrom 88 = .ok (.istore 6, 2) := dk_54 6 (dk_at dksX0_timeFrom_3 19 rfl rfl)
theorem dX0_timeFrom_90 : decode cX0_timeFrom 90 = .ok (.iinc 7 1, 3) := dk_132 7 1 (dk_at dksX0_timeFrom_3 21 rfl rfl)
theorem dX0_timeFrom_93 : decode cX0_timeFrom 93 = .ok (.goto (-77), 3) := dk_167 255 179 (dk_at dksX0_timeFrom_4 0 rfl rfl)
theorem dX0_timeFrom_96 : decode cX0_timeFrom 96 = .ok (.iload 6, 2) := dk_21 6 (dk_at dksX0_timeFrom_4 3 rfl rfl)
theorem dX0_timeFrom_98 : decode cX0_timeFrom 98 = .ok (.iload_n 3, 1) := dk_29 (dk_at dksX0_timeFrom_4 5 rfl rfl)
theorem dX0_timeFrom_99 : decode cX0_timeFrom 99 = .ok (.if_icmp .gt 8, 3) := dk_163 0 8 (dk_at dksX0_timeFrom_4 6 rfl rfl)
theorem dX0_timeFrom_102 : decode cX0_timeFrom 102 = .ok (.iload 6, 2) := dk_21 6 (dk_at dksX0_timeFrom_4 9 rfl rfl)
theorem dX0_timeFrom_104 : decode cX0_timeFrom 104 = .ok (.goto 5, 3) := dk_167 0 5 (dk_at dksX0_timeFrom_4 11 rfl rfl)
theorem dX0_timeFrom_107 : decode cX0_timeFrom 107 = .ok (.bipush (-2), 2) := dk_16 254 (dk_at dksX0_timeFrom_4 14 rfl rfl)
theorem dX0_timeFrom_109 : decode cX0_timeFrom 109 = .ok (.ireturn, 1) := dk_172 (dk_at dksX0_timeFrom_4 16 rfl rfl)
abbrev cX0_safe : ByteArray := prog_1_method_52_code
def yX0_safe : MethodName := ⟨RX0, "safe", "(II)I"⟩
def dkwX0_safe_3 : List UInt8 := [167, 255, 219, 21, 4, 172]
abbrev dktX0_safe_3 : List UInt8 := dkwX0_safe_3 ++ []
def dkwX0_safe_2 : List UInt8 := [17, 3, 231, 28, 182, 1, 70, 16, 254, 160, 0, 12, 21, 4, 4, 21, 5, 120, 128, 54, 4, 132, 5, 1]
abbrev dktX0_safe_2 : List UInt8 := dkwX0_safe_2 ++ dktX0_safe_3
def dkwX0_safe_1 : List UInt8 := [156, 0, 5, 29, 172, 3, 54, 4, 3, 54, 5, 21, 5, 42, 180, 0, 93, 162, 0, 34, 42, 21, 5, 3]
abbrev dktX0_safe_1 : List UInt8 := dkwX0_safe_1 ++ dktX0_safe_2
def dkwX0_safe_0 : List UInt8 := [27, 184, 0, 121, 153, 0, 10, 28, 184, 1, 67, 154, 0, 5, 2, 172, 42, 27, 182, 1, 3, 62, 29]
abbrev dktX0_safe_0 : List UInt8 := dkwX0_safe_0 ++ dktX0_safe_1
theorem dksX0_safe_0 : cX0_safe.data.toList.drop 0 = dktX0_safe_0 := by decide +kernel
theorem dksX0_safe_1 : cX0_safe.data.toList.drop 23 = dktX0_safe_1 := dk_seg dksX0_safe_0 23 rfl rfl
theorem dksX0_safe_2 : cX0_safe.data.toList.drop 47 = dktX0_safe_2 := dk_seg dksX0_safe_1 24 rfl rfl
theorem dksX0_safe_3 : cX0_safe.data.toList.drop 71 = dktX0_safe_3 := dk_seg dksX0_safe_2 24 rfl rfl
theorem dX0_safe_0 : decode cX0_safe 0 = .ok (.iload_n 1, 1) := dk_27 (dk_at dksX0_safe_0 0 rfl rfl)
theorem dX0_safe_1 : decode cX0_safe 1 = .ok (.invokestatic 121, 3) := dk_184 0 121 (dk_at dksX0_safe_0 1 rfl rfl)
theorem dX0_safe_4 : decode cX0_safe 4 = .ok (.ifCond .eq 10, 3) := dk_153 0 10 (dk_at dksX0_safe_0 4 rfl rfl)
theorem dX0_safe_7 : decode cX0_safe 7 = .ok (.iload_n 2, 1) := dk_28 (dk_at dksX0_safe_0 7 rfl rfl)
theorem dX0_safe_8 : decode cX0_safe 8 = .ok (.invokestatic 323, 3) := dk_184 1 67 (dk_at dksX0_safe_0 8 rfl rfl)
theorem dX0_safe_11 : decode cX0_safe 11 = .ok (.ifCond .ne 5, 3) := dk_154 0 5 (dk_at dksX0_safe_0 11 rfl rfl)
theorem dX0_safe_14 : decode cX0_safe 14 = .ok (.iconst (-1), 1) := dk_2 (dk_at dksX0_safe_0 14 rfl rfl)
theorem dX0_safe_15 : decode cX0_safe 15 = .ok (.ireturn, 1) := dk_172 (dk_at dksX0_safe_0 15 rfl rfl)
theorem dX0_safe_16 : decode cX0_safe 16 = .ok (.aload_n 0, 1) := dk_42 (dk_at dksX0_safe_0 16 rfl rfl)
theorem dX0_safe_17 : decode cX0_safe 17 = .ok (.iload_n 1, 1) := dk_27 (dk_at dksX0_safe_0 17 rfl rfl)
theorem dX0_safe_18 : decode cX0_safe 18 = .ok (.invokevirtual 259, 3) := dk_182 1 3 (dk_at dksX0_safe_0 18 rfl rfl)
theorem dX0_safe_21 : decode cX0_safe 21 = .ok (.istore_n 3, 1) := dk_62 (dk_at dksX0_safe_0 21 rfl rfl)
theorem dX0_safe_22 : decode cX0_safe 22 = .ok (.iload_n 3, 1) := dk_29 (dk_at dksX0_safe_0 22 rfl rfl)
theorem dX0_safe_23 : decode cX0_safe 23 = .ok (.ifCond .ge 5, 3) := dk_156 0 5 (dk_at dksX0_safe_1 0 rfl rfl)
theorem dX0_safe_26 : decode cX0_safe 26 = .ok (.iload_n 3, 1) := dk_29 (dk_at dksX0_safe_1 3 rfl rfl)
theorem dX0_safe_27 : decode cX0_safe 27 = .ok (.ireturn, 1) := dk_172 (dk_at dksX0_safe_1 4 rfl rfl)
theorem dX0_safe_28 : decode cX0_safe 28 = .ok (.iconst 0, 1) := dk_3 (dk_at dksX0_safe_1 5 rfl rfl)
theorem dX0_safe_29 : decode cX0_safe 29 = .ok (.istore 4, 2) := dk_54 4 (dk_at dksX0_safe_1 6 rfl rfl)
theorem dX0_safe_31 : decode cX0_safe 31 = .ok (.iconst 0, 1) := dk_3 (dk_at dksX0_safe_1 8 rfl rfl)
theorem dX0_safe_32 : decode cX0_safe 32 = .ok (.istore 5, 2) := dk_54 5 (dk_at dksX0_safe_1 9 rfl rfl)
theorem dX0_safe_34 : decode cX0_safe 34 = .ok (.iload 5, 2) := dk_21 5 (dk_at dksX0_safe_1 11 rfl rfl)
theorem dX0_safe_36 : decode cX0_safe 36 = .ok (.aload_n 0, 1) := dk_42 (dk_at dksX0_safe_1 13 rfl rfl)
theorem dX0_safe_37 : decode cX0_safe 37 = .ok (.getfield 93, 3) := dk_180 0 93 (dk_at dksX0_safe_1 14 rfl rfl)
theorem dX0_safe_40 : decode cX0_safe 40 = .ok (.if_icmp .ge 34, 3) := dk_162 0 34 (dk_at dksX0_safe_1 17 rfl rfl)
theorem dX0_safe_43 : decode cX0_safe 43 = .ok (.aload_n 0, 1) := dk_42 (dk_at dksX0_safe_1 20 rfl rfl)
theorem dX0_safe_44 : decode cX0_safe 44 = .ok (.iload 5, 2) := dk_21 5 (dk_at dksX0_safe_1 21 rfl rfl)
theorem dX0_safe_46 : decode cX0_safe 46 = .ok (.iconst 0, 1) := dk_3 (dk_at dksX0_safe_1 23 rfl rfl)
theorem dX0_safe_47 : decode cX0_safe 47 = .ok (.sipush 999, 3) := dk_17 3 231 (dk_at dksX0_safe_2 0 rfl rfl)
theorem dX0_safe_50 : decode cX0_safe 50 = .ok (.iload_n 2, 1) := dk_28 (dk_at dksX0_safe_2 3 rfl rfl)
theorem dX0_safe_51 : decode cX0_safe 51 = .ok (.invokevirtual 326, 3) := dk_182 1 70 (dk_at dksX0_safe_2 4 rfl rfl)
theorem dX0_safe_54 : decode cX0_safe 54 = .ok (.bipush (-2), 2) := dk_16 254 (dk_at dksX0_safe_2 7 rfl rfl)
theorem dX0_safe_56 : decode cX0_safe 56 = .ok (.if_icmp .ne 12, 3) := dk_160 0 12 (dk_at dksX0_safe_2 9 rfl rfl)
theorem dX0_safe_59 : decode cX0_safe 59 = .ok (.iload 4, 2) := dk_21 4 (dk_at dksX0_safe_2 12 rfl rfl)
theorem dX0_safe_61 : decode cX0_safe 61 = .ok (.iconst 1, 1) := dk_4 (dk_at dksX0_safe_2 14 rfl rfl)
theorem dX0_safe_62 : decode cX0_safe 62 = .ok (.iload 5, 2) := dk_21 5 (dk_at dksX0_safe_2 15 rfl rfl)
theorem dX0_safe_64 : decode cX0_safe 64 = .ok (.ishl, 1) := dk_120 (dk_at dksX0_safe_2 17 rfl rfl)
theorem dX0_safe_65 : decode cX0_safe 65 = .ok (.ior, 1) := dk_128 (dk_at dksX0_safe_2 18 rfl rfl)
theorem dX0_safe_66 : decode cX0_safe 66 = .ok (.istore 4, 2) := dk_54 4 (dk_at dksX0_safe_2 19 rfl rfl)
theorem dX0_safe_68 : decode cX0_safe 68 = .ok (.iinc 5 1, 3) := dk_132 5 1 (dk_at dksX0_safe_2 21 rfl rfl)
theorem dX0_safe_71 : decode cX0_safe 71 = .ok (.goto (-37), 3) := dk_167 255 219 (dk_at dksX0_safe_3 0 rfl rfl)
theorem dX0_safe_74 : decode cX0_safe 74 = .ok (.iload 4, 2) := dk_21 4 (dk_at dksX0_safe_3 3 rfl rfl)
theorem dX0_safe_76 : decode cX0_safe 76 = .ok (.ireturn, 1) := dk_172 (dk_at dksX0_safe_3 5 rfl rfl)
abbrev cX0_two : ByteArray := prog_1_method_56_code
def yX0_two : MethodName := ⟨RX0, "two", "(III)I"⟩
def dkwX0_two_2 : List UInt8 := [156, 0, 6, 21, 4, 172, 28, 156, 0, 10, 42, 182, 1, 83, 167, 0, 9, 42, 28, 29, 182, 1, 80, 172]
abbrev dktX0_two_2 : List UInt8 := dkwX0_two_2 ++ []
def dkwX0_two_1 : List UInt8 := [155, 0, 15, 29, 3, 16, 99, 184, 0, 89, 154, 0, 5, 2, 172, 42, 27, 182, 1, 3, 54, 4, 21, 4]
abbrev dktX0_two_1 : List UInt8 := dkwX0_two_1 ++ dktX0_two_2
def dkwX0_two_0 : List UInt8 := [27, 184, 0, 121, 153, 0, 31, 28, 2, 42, 180, 0, 93, 4, 100, 184, 0, 89, 153, 0, 17, 28]
abbrev dktX0_two_0 : List UInt8 := dkwX0_two_0 ++ dktX0_two_1
theorem dksX0_two_0 : cX0_two.data.toList.drop 0 = dktX0_two_0 := by decide +kernel
theorem dksX0_two_1 : cX0_two.data.toList.drop 22 = dktX0_two_1 := dk_seg dksX0_two_0 22 rfl rfl
theorem dksX0_two_2 : cX0_two.data.toList.drop 46 = dktX0_two_2 := dk_seg dksX0_two_1 24 rfl rfl
theorem dX0_two_0 : decode cX0_two 0 = .ok (.iload_n 1, 1) := dk_27 (dk_at dksX0_two_0 0 rfl rfl)
theorem dX0_two_1 : decode cX0_two 1 = .ok (.invokestatic 121, 3) := dk_184 0 121 (dk_at dksX0_two_0 1 rfl rfl)
theorem dX0_two_4 : decode cX0_two 4 = .ok (.ifCond .eq 31, 3) := dk_153 0 31 (dk_at dksX0_two_0 4 rfl rfl)
theorem dX0_two_7 : decode cX0_two 7 = .ok (.iload_n 2, 1) := dk_28 (dk_at dksX0_two_0 7 rfl rfl)
theorem dX0_two_8 : decode cX0_two 8 = .ok (.iconst (-1), 1) := dk_2 (dk_at dksX0_two_0 8 rfl rfl)
theorem dX0_two_9 : decode cX0_two 9 = .ok (.aload_n 0, 1) := dk_42 (dk_at dksX0_two_0 9 rfl rfl)
theorem dX0_two_10 : decode cX0_two 10 = .ok (.getfield 93, 3) := dk_180 0 93 (dk_at dksX0_two_0 10 rfl rfl)
theorem dX0_two_13 : decode cX0_two 13 = .ok (.iconst 1, 1) := dk_4 (dk_at dksX0_two_0 13 rfl rfl)
theorem dX0_two_14 : decode cX0_two 14 = .ok (.isub, 1) := dk_100 (dk_at dksX0_two_0 14 rfl rfl)
theorem dX0_two_15 : decode cX0_two 15 = .ok (.invokestatic 89, 3) := dk_184 0 89 (dk_at dksX0_two_0 15 rfl rfl)
theorem dX0_two_18 : decode cX0_two 18 = .ok (.ifCond .eq 17, 3) := dk_153 0 17 (dk_at dksX0_two_0 18 rfl rfl)
theorem dX0_two_21 : decode cX0_two 21 = .ok (.iload_n 2, 1) := dk_28 (dk_at dksX0_two_0 21 rfl rfl)
theorem dX0_two_22 : decode cX0_two 22 = .ok (.ifCond .lt 15, 3) := dk_155 0 15 (dk_at dksX0_two_1 0 rfl rfl)
theorem dX0_two_25 : decode cX0_two 25 = .ok (.iload_n 3, 1) := dk_29 (dk_at dksX0_two_1 3 rfl rfl)
theorem dX0_two_26 : decode cX0_two 26 = .ok (.iconst 0, 1) := dk_3 (dk_at dksX0_two_1 4 rfl rfl)
theorem dX0_two_27 : decode cX0_two 27 = .ok (.bipush 99, 2) := dk_16 99 (dk_at dksX0_two_1 5 rfl rfl)
theorem dX0_two_29 : decode cX0_two 29 = .ok (.invokestatic 89, 3) := dk_184 0 89 (dk_at dksX0_two_1 7 rfl rfl)
theorem dX0_two_32 : decode cX0_two 32 = .ok (.ifCond .ne 5, 3) := dk_154 0 5 (dk_at dksX0_two_1 10 rfl rfl)
theorem dX0_two_35 : decode cX0_two 35 = .ok (.iconst (-1), 1) := dk_2 (dk_at dksX0_two_1 13 rfl rfl)
theorem dX0_two_36 : decode cX0_two 36 = .ok (.ireturn, 1) := dk_172 (dk_at dksX0_two_1 14 rfl rfl)
theorem dX0_two_37 : decode cX0_two 37 = .ok (.aload_n 0, 1) := dk_42 (dk_at dksX0_two_1 15 rfl rfl)
theorem dX0_two_38 : decode cX0_two 38 = .ok (.iload_n 1, 1) := dk_27 (dk_at dksX0_two_1 16 rfl rfl)
theorem dX0_two_39 : decode cX0_two 39 = .ok (.invokevirtual 259, 3) := dk_182 1 3 (dk_at dksX0_two_1 17 rfl rfl)
theorem dX0_two_42 : decode cX0_two 42 = .ok (.istore 4, 2) := dk_54 4 (dk_at dksX0_two_1 20 rfl rfl)
theorem dX0_two_44 : decode cX0_two 44 = .ok (.iload 4, 2) := dk_21 4 (dk_at dksX0_two_1 22 rfl rfl)
theorem dX0_two_46 : decode cX0_two 46 = .ok (.ifCond .ge 6, 3) := dk_156 0 6 (dk_at dksX0_two_2 0 rfl rfl)
theorem dX0_two_49 : decode cX0_two 49 = .ok (.iload 4, 2) := dk_21 4 (dk_at dksX0_two_2 3 rfl rfl)
theorem dX0_two_51 : decode cX0_two 51 = .ok (.ireturn, 1) := dk_172 (dk_at dksX0_two_2 5 rfl rfl)
theorem dX0_two_52 : decode cX0_two 52 = .ok (.iload_n 2, 1) := dk_28 (dk_at dksX0_two_2 6 rfl rfl)
theorem dX0_two_53 : decode cX0_two 53 = .ok (.ifCond .ge 10, 3) := dk_156 0 10 (dk_at dksX0_two_2 7 rfl rfl)
theorem dX0_two_56 : decode cX0_two 56 = .ok (.aload_n 0, 1) := dk_42 (dk_at dksX0_two_2 10 rfl rfl)
theorem dX0_two_57 : decode cX0_two 57 = .ok (.invokevirtual 339, 3) := dk_182 1 83 (dk_at dksX0_two_2 11 rfl rfl)
theorem dX0_two_60 : decode cX0_two 60 = .ok (.goto 9, 3) := dk_167 0 9 (dk_at dksX0_two_2 14 rfl rfl)
theorem dX0_two_63 : decode cX0_two 63 = .ok (.aload_n 0, 1) := dk_42 (dk_at dksX0_two_2 17 rfl rfl)
theorem dX0_two_64 : decode cX0_two 64 = .ok (.iload_n 2, 1) := dk_28 (dk_at dksX0_two_2 18 rfl rfl)
theorem dX0_two_65 : decode cX0_two 65 = .ok (.iload_n 3, 1) := dk_29 (dk_at dksX0_two_2 19 rfl rfl)
theorem dX0_two_66 : decode cX0_two 66 = .ok (.invokevirtual 336, 3) := dk_182 1 80 (dk_at dksX0_two_2 20 rfl rfl)
theorem dX0_two_69 : decode cX0_two 69 = .ok (.ireturn, 1) := dk_172 (dk_at dksX0_two_2 23 rfl rfl)
abbrev cX0_bestLater : ByteArray := prog_1_method_55_code
def yX0_bestLater : MethodName := ⟨RX0, "bestLater", "()I"⟩
def dkwX0_bestLater_3 : List UInt8 := [167, 255, 194, 27, 172]
abbrev dktX0_bestLater_3 : List UInt8 := dkwX0_bestLater_3 ++ []
def dkwX0_bestLater_2 : List UInt8 := [167, 255, 230, 27, 155, 0, 12, 21, 4, 28, 161, 0, 6, 167, 0, 8, 29, 60, 21, 4, 61, 132, 3, 1]
abbrev dktX0_bestLater_2 : List UInt8 := dkwX0_bestLater_2 ++ dktX0_bestLater_3
def dkwX0_bestLater_1 : List UInt8 := [180, 0, 93, 162, 0, 23, 21, 4, 42, 21, 5, 29, 182, 1, 80, 184, 1, 12, 54, 4, 132, 5, 1]
abbrev dktX0_bestLater_1 : List UInt8 := dkwX0_bestLater_1 ++ dktX0_bestLater_2
def dkwX0_bestLater_0 : List UInt8 := [16, 254, 60, 3, 61, 3, 62, 29, 16, 99, 163, 0, 62, 3, 54, 4, 3, 54, 5, 21, 5, 42]
abbrev dktX0_bestLater_0 : List UInt8 := dkwX0_bestLater_0 ++ dktX0_bestLater_1
theorem dksX0_bestLater_0 : cX0_bestLater.data.toList.drop 0 = dktX0_bestLater_0 := by decide +kernel
theorem dksX0_bestLater_1 : cX0_bestLater.data.toList.drop 22 = dktX0_bestLater_1 := dk_seg dksX0_bestLater_0 22 rfl rfl
theorem dksX0_bestLater_2 : cX0_bestLater.data.toList.drop 45 = dktX0_bestLater_2 := dk_seg dksX0_bestLater_1 23 rfl rfl
theorem dksX0_bestLater_3 : cX0_bestLater.data.toList.drop 69 = dktX0_bestLater_3 := dk_seg dksX0_bestLater_2 24 rfl rfl
theorem dX0_bestLater_0 : decode cX0_bestLater 0 = .ok (.bipush (-2), 2) := dk_16 254 (dk_at dksX0_bestLater_0 0 rfl rfl)
theorem dX0_bestLater_2 : decode cX0_bestLater 2 = .ok (.istore_n 1, 1) := dk_60 (dk_at dksX0_bestLater_0 2 rfl rfl)
theorem dX0_bestLater_3 : decode cX0_bestLater 3 = .ok (.iconst 0, 1) := dk_3 (dk_at dksX0_bestLater_0 3 rfl rfl)
theorem dX0_bestLater_4 : decode cX0_bestLater 4 = .ok (.istore_n 2, 1) := dk_61 (dk_at dksX0_bestLater_0 4 rfl rfl)
theorem dX0_bestLater_5 : decode cX0_bestLater 5 = .ok (.iconst 0, 1) := dk_3 (dk_at dksX0_bestLater_0 5 rfl rfl)
theorem dX0_bestLater_6 : decode cX0_bestLater 6 = .ok (.istore_n 3, 1) := dk_62 (dk_at dksX0_bestLater_0 6 rfl rfl)
theorem dX0_bestLater_7 : decode cX0_bestLater 7 = .ok (.iload_n 3, 1) := dk_29 (dk_at dksX0_bestLater_0 7 rfl rfl)
theorem dX0_bestLater_8 : decode cX0_bestLater 8 = .ok (.bipush 99, 2) := dk_16 99 (dk_at dksX0_bestLater_0 8 rfl rfl)
theorem dX0_bestLater_10 : decode cX0_bestLater 10 = .ok (.if_icmp .gt 62, 3) := dk_163 0 62 (dk_at dksX0_bestLater_0 10 rfl rfl)
theorem dX0_bestLater_13 : decode cX0_bestLater 13 = .ok (.iconst 0, 1) := dk_3 (dk_at dksX0_bestLater_0 13 rfl rfl)
theorem dX0_bestLater_14 : decode cX0_bestLater 14 = .ok (.istore 4, 2) := dk_54 4 (dk_at dksX0_bestLater_0 14 rfl rfl)
theorem dX0_bestLater_16 : decode cX0_bestLater 16 = .ok (.iconst 0, 1) := dk_3 (dk_at dksX0_bestLater_0 16 rfl rfl)
theorem dX0_bestLater_17 : decode cX0_bestLater 17 = .ok (.istore 5, 2) := dk_54 5 (dk_at dksX0_bestLater_0 17 rfl rfl)
theorem dX0_bestLater_19 : decode cX0_bestLater 19 = .ok (.iload 5, 2) := dk_21 5 (dk_at dksX0_bestLater_0 19 rfl rfl)
theorem dX0_bestLater_21 : decode cX0_bestLater 21 = .ok (.aload_n 0, 1) := dk_42 (dk_at dksX0_bestLater_0 21 rfl rfl)
theorem dX0_bestLater_22 : decode cX0_bestLater 22 = .ok (.getfield 93, 3) := dk_180 0 93 (dk_at dksX0_bestLater_1 0 rfl rfl)
theorem dX0_bestLater_25 : decode cX0_bestLater 25 = .ok (.if_icmp .ge 23, 3) := dk_162 0 23 (dk_at dksX0_bestLater_1 3 rfl rfl)
theorem dX0_bestLater_28 : decode cX0_bestLater 28 = .ok (.iload 4, 2) := dk_21 4 (dk_at dksX0_bestLater_1 6 rfl rfl)
theorem dX0_bestLater_30 : decode cX0_bestLater 30 = .ok (.aload_n 0, 1) := dk_42 (dk_at dksX0_bestLater_1 8 rfl rfl)
theorem dX0_bestLater_31 : decode cX0_bestLater 31 = .ok (.iload 5, 2) := dk_21 5 (dk_at dksX0_bestLater_1 9 rfl rfl)
theorem dX0_bestLater_33 : decode cX0_bestLater 33 = .ok (.iload_n 3, 1) := dk_29 (dk_at dksX0_bestLater_1 11 rfl rfl)
theorem dX0_bestLater_34 : decode cX0_bestLater 34 = .ok (.invokevirtual 336, 3) := dk_182 1 80 (dk_at dksX0_bestLater_1 12 rfl rfl)
theorem dX0_bestLater_37 : decode cX0_bestLater 37 = .ok (.invokestatic 268, 3) := dk_184 1 12 (dk_at dksX0_bestLater_1 15 rfl rfl)
theorem dX0_bestLater_40 : decode cX0_bestLater 40 = .ok (.istore 4, 2) := dk_54 4 (dk_at dksX0_bestLater_1 18 rfl rfl)
theorem dX0_bestLater_42 : decode cX0_bestLater 42 = .ok (.iinc 5 1, 3) := dk_132 5 1 (dk_at dksX0_bestLater_1 20 rfl rfl)
theorem dX0_bestLater_45 : decode cX0_bestLater 45 = .ok (.goto (-26), 3) := dk_167 255 230 (dk_at dksX0_bestLater_2 0 rfl rfl)
theorem dX0_bestLater_48 : decode cX0_bestLater 48 = .ok (.iload_n 1, 1) := dk_27 (dk_at dksX0_bestLater_2 3 rfl rfl)
theorem dX0_bestLater_49 : decode cX0_bestLater 49 = .ok (.ifCond .lt 12, 3) := dk_155 0 12 (dk_at dksX0_bestLater_2 4 rfl rfl)
theorem dX0_bestLater_52 : decode cX0_bestLater 52 = .ok (.iload 4, 2) := dk_21 4 (dk_at dksX0_bestLater_2 7 rfl rfl)
theorem dX0_bestLater_54 : decode cX0_bestLater 54 = .ok (.iload_n 2, 1) := dk_28 (dk_at dksX0_bestLater_2 9 rfl rfl)
theorem dX0_bestLater_55 : decode cX0_bestLater 55 = .ok (.if_icmp .lt 6, 3) := dk_161 0 6 (dk_at dksX0_bestLater_2 10 rfl rfl)
theorem dX0_bestLater_58 : decode cX0_bestLater 58 = .ok (.goto 8, 3) := dk_167 0 8 (dk_at dksX0_bestLater_2 13 rfl rfl)
theorem dX0_bestLater_61 : decode cX0_bestLater 61 = .ok (.iload_n 3, 1) := dk_29 (dk_at dksX0_bestLater_2 16 rfl rfl)
theorem dX0_bestLater_62 : decode cX0_bestLater 62 = .ok (.istore_n 1, 1) := dk_60 (dk_at dksX0_bestLater_2 17 rfl rfl)
theorem dX0_bestLater_63 : decode cX0_bestLater 63 = .ok (.iload 4, 2) := dk_21 4 (dk_at dksX0_bestLater_2 18 rfl rfl)
theorem dX0_bestLater_65 : decode cX0_bestLater 65 = .ok (.istore_n 2, 1) := dk_61 (dk_at dksX0_bestLater_2 20 rfl rfl)
theorem dX0_bestLater_66 : decode cX0_bestLater 66 = .ok (.iinc 3 1, 3) := dk_132 3 1 (dk_at dksX0_bestLater_2 21 rfl rfl)
theorem dX0_bestLater_69 : decode cX0_bestLater 69 = .ok (.goto (-62), 3) := dk_167 255 194 (dk_at dksX0_bestLater_3 0 rfl rfl)
theorem dX0_bestLater_72 : decode cX0_bestLater 72 = .ok (.iload_n 1, 1) := dk_27 (dk_at dksX0_bestLater_3 3 rfl rfl)
theorem dX0_bestLater_73 : decode cX0_bestLater 73 = .ok (.ireturn, 1) := dk_172 (dk_at dksX0_bestLater_3 4 rfl rfl)
abbrev cX0_gapOfTwo : ByteArray := prog_1_method_54_code
def yX0_gapOfTwo : MethodName := ⟨RX0, "gapOfTwo", "(II)I"⟩
def dkwX0_gapOfTwo_8 : List UInt8 := [167, 255, 107, 21, 6, 172]
abbrev dktX0_gapOfTwo_8 : List UInt8 := dkwX0_gapOfTwo_8 ++ []
def dkwX0_gapOfTwo_7 : List UInt8 := [132, 3, 1, 21, 5, 155, 0, 15, 21, 6, 21, 8, 21, 5, 100, 184, 1, 12, 54, 6, 21, 8, 54, 5]
abbrev dktX0_gapOfTwo_7 : List UInt8 := dkwX0_gapOfTwo_7 ++ dktX0_gapOfTwo_8
def dkwX0_gapOfTwo_6 : List UInt8 := [28, 96, 167, 0, 9, 42, 180, 0, 55, 29, 46, 54, 8, 21, 7, 153, 0, 9, 132, 4, 1, 167, 0, 6]
abbrev dktX0_gapOfTwo_6 : List UInt8 := dkwX0_gapOfTwo_6 ++ dktX0_gapOfTwo_7
def dkwX0_gapOfTwo_5 : List UInt8 := [29, 46, 162, 0, 7, 4, 167, 0, 4, 3, 54, 7, 21, 7, 153, 0, 15, 42, 180, 0, 55, 21, 4, 46]
abbrev dktX0_gapOfTwo_5 : List UInt8 := dkwX0_gapOfTwo_5 ++ dktX0_gapOfTwo_6
def dkwX0_gapOfTwo_4 : List UInt8 := [21, 4, 46, 28, 96, 17, 3, 231, 163, 0, 25, 42, 180, 0, 55, 21, 4, 46, 28, 96, 42, 180, 0, 55]
abbrev dktX0_gapOfTwo_4 : List UInt8 := dkwX0_gapOfTwo_4 ++ dktX0_gapOfTwo_5
def dkwX0_gapOfTwo_3 : List UInt8 := [163, 0, 123, 29, 42, 180, 1, 73, 159, 0, 45, 21, 4, 42, 180, 1, 73, 162, 0, 40, 42, 180, 0, 55]
abbrev dktX0_gapOfTwo_3 : List UInt8 := dkwX0_gapOfTwo_3 ++ dktX0_gapOfTwo_4
def dkwX0_gapOfTwo_2 : List UInt8 := [161, 0, 27, 21, 4, 42, 180, 1, 73, 162, 0, 138, 42, 180, 0, 55, 21, 4, 46, 28, 96, 17, 3, 231]
abbrev dktX0_gapOfTwo_2 : List UInt8 := dkwX0_gapOfTwo_2 ++ dktX0_gapOfTwo_3
def dkwX0_gapOfTwo_1 : List UInt8 := [162, 0, 19, 42, 180, 0, 55, 29, 46, 28, 162, 0, 9, 132, 3, 1, 167, 255, 235, 29, 42, 180, 1, 73]
abbrev dktX0_gapOfTwo_1 : List UInt8 := dkwX0_gapOfTwo_1 ++ dktX0_gapOfTwo_2
def dkwX0_gapOfTwo_0 : List UInt8 := [42, 27, 182, 1, 76, 3, 62, 3, 54, 4, 2, 54, 5, 16, 254, 54, 6, 29, 42, 180, 1, 73]
abbrev dktX0_gapOfTwo_0 : List UInt8 := dkwX0_gapOfTwo_0 ++ dktX0_gapOfTwo_1
theorem dksX0_gapOfTwo_0 : cX0_gapOfTwo.data.toList.drop 0 = dktX0_gapOfTwo_0 := by decide +kernel
theorem dksX0_gapOfTwo_1 : cX0_gapOfTwo.data.toList.drop 22 = dktX0_gapOfTwo_1 := dk_seg dksX0_gapOfTwo_0 22 rfl rfl
theorem dksX0_gapOfTwo_2 : cX0_gapOfTwo.data.toList.drop 46 = dktX0_gapOfTwo_2 := dk_seg dksX0_gapOfTwo_1 24 rfl rfl
theorem dksX0_gapOfTwo_3 : cX0_gapOfTwo.data.toList.drop 70 = dktX0_gapOfTwo_3 := dk_seg dksX0_gapOfTwo_2 24 rfl rfl
theorem dksX0_gapOfTwo_4 : cX0_gapOfTwo.data.toList.drop 94 = dktX0_gapOfTwo_4 := dk_seg dksX0_gapOfTwo_3 24 rfl rfl
theorem dksX0_gapOfTwo_5 : cX0_gapOfTwo.data.toList.drop 118 = dktX0_gapOfTwo_5 := dk_seg dksX0_gapOfTwo_4 24 rfl rfl
theorem dksX0_gapOfTwo_6 : cX0_gapOfTwo.data.toList.drop 142 = dktX0_gapOfTwo_6 := dk_seg dksX0_gapOfTwo_5 24 rfl rfl
theorem dksX0_gapOfTwo_7 : cX0_gapOfTwo.data.toList.drop 166 = dktX0_gapOfTwo_7 := dk_seg dksX0_gapOfTwo_6 24 rfl rfl
theorem dksX0_gapOfTwo_8 : cX0_gapOfTwo.data.toList.drop 190 = dktX0_gapOfTwo_8 := dk_seg dksX0_gapOfTwo_7 24 rfl rfl
theorem dX0_gapOfTwo_0 : decode cX0_gapOfTwo 0 = .ok (.aload_n 0, 1) := dk_42 (dk_at dksX0_gapOfTwo_0 0 rfl rfl)
theorem dX0_gapOfTwo_1 : decode cX0_gapOfTwo 1 = .ok (.iload_n 1, 1) := dk_27 (dk_at dksX0_gapOfTwo_0 1 rfl rfl)
theorem dX0_gapOfTwo_2 : decode cX0_gapOfTwo 2 = .ok (.invokevirtual 332, 3) := dk_182 1 76 (dk_at dksX0_gapOfTwo_0 2 rfl rfl)
theorem dX0_gapOfTwo_5 : decode cX0_gapOfTwo 5 = .ok (.iconst 0, 1) := dk_3 (dk_at dksX0_gapOfTwo_0 5 rfl rfl)
theorem dX0_gapOfTwo_6 : decode cX0_gapOfTwo 6 = .ok (.istore_n 3, 1) := dk_62 (dk_at dksX0_gapOfTwo_0 6 rfl rfl)
theorem dX0_gapOfTwo_7 : decode cX0_gapOfTwo 7 = .ok (.iconst 0, 1) := dk_3 (dk_at dksX0_gapOfTwo_0 7 rfl rfl)
theorem dX0_gapOfTwo_8 : decode cX0_gapOfTwo 8 = .ok (.istore 4, 2) := dk_54 4 (dk_at dksX0_gapOfTwo_0 8 rfl rfl)
theorem dX0_gapOfTwo_10 : decode cX0_gapOfTwo 10 = .ok (.iconst (-1), 1) := dk_2 (dk_at dksX0_gapOfTwo_0 10 rfl rfl)
theorem dX0_gapOfTwo_11 : decode cX0_gapOfTwo 11 = .ok (.istore 5, 2) := dk_54 5 (dk_at dksX0_gapOfTwo_0 11 rfl rfl)
theorem dX0_gapOfTwo_13 : decode cX0_gapOfTwo 13 = .ok (.bipush (-2), 2) := dk_16 254 (dk_at dksX0_gapOfTwo_0 13 rfl rfl)
theorem dX0_gapOfTwo_15 : decode cX0_gapOfTwo 15 = .ok (.istore 6, 2) := dk_54 6 (dk_at dksX0_gapOfTwo_0 15 rfl rfl)
theorem dX0_gapOfTwo_17 : decode cX0_gapOfTwo 17 = .ok (.iload_n 3, 1) := dk_29 (dk_at dksX0_gapOfTwo_0 17 rfl rfl)
theorem dX0_gapOfTwo_18 : decode cX0_gapOfTwo 18 = .ok (.aload_n 0, 1) := dk_42 (dk_at dksX0_gapOfTwo_0 18 rfl rfl)
theorem dX0_gapOfTwo_19 : decode cX0_gapOfTwo 19 = .ok (.getfield 329, 3) := dk_180 1 73 (dk_at dksX0_gapOfTwo_0 19 rfl rfl)
theorem dX0_gapOfTwo_22 : decode cX0_gapOfTwo 22 = .ok (.if_icmp .ge 19, 3) := dk_162 0 19 (dk_at dksX0_gapOfTwo_1 0 rfl rfl)
theorem dX0_gapOfTwo_25 : decode cX0_gapOfTwo 25 = .ok (.aload_n 0, 1) := dk_42 (dk_at dksX0_gapOfTwo_1 3 rfl rfl)
theorem dX0_gapOfTwo_26 : decode cX0_gapOfTwo 26 = .ok (.getfield 55, 3) := dk_180 0 55 (dk_at dksX0_gapOfTwo_1 4 rfl rfl)
theorem dX0_gapOfTwo_29 : decode cX0_gapOfTwo 29 = .ok (.iload_n 3, 1) := dk_29 (dk_at dksX0_gapOfTwo_1 7 rfl rfl)
theorem dX0_gapOfTwo_30 : decode cX0_gapOfTwo 30 = .ok (.iaload, 1) := dk_46 (dk_at dksX0_gapOfTwo_1 8 rfl rfl)
theorem dX0_gapOfTwo_31 : decode cX0_gapOfTwo 31 = .ok (.iload_n 2, 1) := dk_28 (dk_at dksX0_gapOfTwo_1 9 rfl rfl)
theorem dX0_gapOfTwo_32 : decode cX0_gapOfTwo 32 = .ok (.if_icmp .ge 9, 3) := dk_162 0 9 (dk_at dksX0_gapOfTwo_1 10 rfl rfl)
theorem dX0_gapOfTwo_35 : decode cX0_gapOfTwo 35 = .ok (.iinc 3 1, 3) := dk_132 3 1 (dk_at dksX0_gapOfTwo_1 13 rfl rfl)
theorem dX0_gapOfTwo_38 : decode cX0_gapOfTwo 38 = .ok (.goto (-21), 3) := dk_167 255 235 (dk_at dksX0_gapOfTwo_1 16 rfl rfl)
theorem dX0_gapOfTwo_41 : decode cX0_gapOfTwo 41 = .ok (.iload_n 3, 1) := dk_29 (dk_at dksX0_gapOfTwo_1 19 rfl rfl)
theorem dX0_gapOfTwo_42 : decode cX0_gapOfTwo 42 = .ok (.aload_n 0, 1) := dk_42 (dk_at dksX0_gapOfTwo_1 20 rfl rfl)
theorem dX0_gapOfTwo_43 : decode cX0_gapOfTwo 43 = .ok (.getfield 329, 3) := dk_180 1 73 (dk_at dksX0_gapOfTwo_1 21 rfl rfl)
theorem dX0_gapOfTwo_46 : decode cX0_gapOfTwo 46 = .ok (.if_icmp .lt 27, 3) := dk_161 0 27 (dk_at dksX0_gapOfTwo_2 0 rfl rfl)
theorem dX0_gapOfTwo_49 : decode cX0_gapOfTwo 49 = .ok (.iload 4, 2) := dk_21 4 (dk_at dksX0_gapOfTwo_2 3 rfl rfl)
theorem dX0_gapOfTwo_51 : decode cX0_gapOfTwo 51 = .ok (.aload_n 0, 1) := dk_42 (dk_at dksX0_gapOfTwo_2 5 rfl rfl)
theorem dX0_gapOfTwo_52 : decode cX0_gapOfTwo 52 = .ok (.getfield 329, 3) := dk_180 1 73 (dk_at dksX0_gapOfTwo_2 6 rfl rfl)
theorem dX0_gapOfTwo_55 : decode cX0_gapOfTwo 55 = .ok (.if_icmp .ge 138, 3) := dk_162 0 138 (dk_at dksX0_gapOfTwo_2 9 rfl rfl)
theorem dX0_gapOfTwo_58 : decode cX0_gapOfTwo 58 = .ok (.aload_n 0, 1) := dk_42 (dk_at dksX0_gapOfTwo_2 12 rfl rfl)
theorem dX0_gapOfTwo_59 : decode cX0_gapOfTwo 59 = .ok (.getfield 55, 3) := dk_180 0 55 (dk_at dksX0_gapOfTwo_2 13 rfl rfl)
theorem dX0_gapOfTwo_62 : decode cX0_gapOfTwo 62 = .ok (.iload 4, 2) := dk_21 4 (dk_at dksX0_gapOfTwo_2 16 rfl rfl)
theorem dX0_gapOfTwo_64 : decode cX0_gapOfTwo 64 = .ok (.iaload, 1) := dk_46 (dk_at dksX0_gapOfTwo_2 18 rfl rfl)
theorem dX0_gapOfTwo_65 : decode cX0_gapOfTwo 65 = .ok (.iload_n 2, 1) := dk_28 (dk_at dksX0_gapOfTwo_2 19 rfl rfl)
theorem dX0_gapOfTwo_66 : decode cX0_gapOfTwo 66 = .ok (.iadd, 1) := dk_96 (dk_at dksX0_gapOfTwo_2 20 rfl rfl)
theorem dX0_gapOfTwo_67 : decode cX0_gapOfTwo 67 = .ok (.sipush 999, 3) := dk_17 3 231 (dk_at dksX0_gapOfTwo_2 21 rfl rfl)
theorem dX0_gapOfTwo_70 : decode cX0_gapOfTwo 70 = .ok (.if_icmp .gt 123, 3) := dk_163 0 123 (dk_at dksX0_gapOfTwo_3 0 rfl rfl)
theorem dX0_gapOfTwo_73 : decode cX0_gapOfTwo 73 = .ok (.iload_n 3, 1) := dk_29 (dk_at dksX0_gapOfTwo_3 3 rfl rfl)
theorem dX0_gapOfTwo_74 : decode cX0_gapOfTwo 74 = .ok (.aload_n 0, 1) := dk_42 (dk_at dksX0_gapOfTwo_3 4 rfl rfl)
theorem dX0_gapOfTwo_75 : decode cX0_gapOfTwo 75 = .ok (.getfield 329, 3) := dk_180 1 73 (dk_at dksX0_gapOfTwo_3 5 rfl rfl)
theorem dX0_gapOfTwo_78 : decode cX0_gapOfTwo 78 = .ok (.if_icmp .eq 45, 3) := dk_159 0 45 (dk_at dksX0_gapOfTwo_3 8 rfl rfl)
theorem dX0_gapOfTwo_81 : decode cX0_gapOfTwo 81 = .ok (.iload 4, 2) := dk_21 4 (dk_at dksX0_gapOfTwo_3 11 rfl rfl)
theorem dX0_gapOfTwo_83 : decode cX0_gapOfTwo 83 = .ok (.aload_n 0, 1) := dk_42 (dk_at dksX0_gapOfTwo_3 13 rfl rfl)
theorem dX0_gapOfTwo_84 : decode cX0_gapOfTwo 84 = .ok (.getfield 329, 3) := dk_180 1 73 (dk_at dksX0_gapOfTwo_3 14 rfl rfl)
theorem dX0_gapOfTwo_87 : decode cX0_gapOfTwo 87 = .ok (.if_icmp .ge 40, 3) := dk_162 0 40 (dk_at dksX0_gapOfTwo_3 17 rfl rfl)
theorem dX0_gapOfTwo_90 : decode cX0_gapOfTwo 90 = .ok (.aload_n 0, 1) := dk_42 (dk_at dksX0_gapOfTwo_3 20 rfl rfl)
theorem dX0_gapOfTwo_91 : decode cX0_gapOfTwo 91 = .ok (.getfield 55, 3) := dk_180 0 55 (dk_at dksX0_gapOfTwo_3 21 rfl rfl)
theorem dX0_gapOfTwo_94 : decode cX0_gapOfTwo 94 = .ok (.iload 4, 2) := dk_21 4 (dk_at dksX0_gapOfTwo_4 0 rfl rfl)
theorem dX0_gapOfTwo_96 : decode cX0_gapOfTwo 96 = .ok (.iaload, 1) := dk_46 (dk_at dksX0_gapOfTwo_4 2 rfl rfl)
theorem dX0_gapOfTwo_97 : decode cX0_gapOfTwo 97 = .ok (.iload_n 2, 1) := dk_28 (dk_at dksX0_gapOfTwo_4 3 rfl rfl)
theorem dX0_gapOfTwo_98 : decode cX0_gapOfTwo 98 = .ok (.iadd, 1) := dk_96 (dk_at dksX0_gapOfTwo_4 4 rfl rfl)
theorem dX0_gapOfTwo_99 : decode cX0_gapOfTwo 99 = .ok (.sipush 999, 3) := dk_17 3 231 (dk_at dksX0_gapOfTwo_4 5 rfl rfl)
theorem dX0_gapOfTwo_102 : decode cX0_gapOfTwo 102 = .ok (.if_icmp .gt 25, 3) := dk_163 0 25 (dk_at dksX0_gapOfTwo_4 8 rfl rfl)
theorem dX0_gapOfTwo_105 : decode cX0_gapOfTwo 105 = .ok (.aload_n 0, 1) := dk_42 (dk_at dksX0_gapOfTwo_4 11 rfl rfl)
theorem dX0_gapOfTwo_106 : decode cX0_gapOfTwo 106 = .ok (.getfield 55, 3) := dk_180 0 55 (dk_at dksX0_gapOfTwo_4 12 rfl rfl)
theorem dX0_gapOfTwo_109 : decode cX0_gapOfTwo 109 = .ok (.iload 4, 2) := dk_21 4 (dk_at dksX0_gapOfTwo_4 15 rfl rfl)
theorem dX0_gapOfTwo_111 : decode cX0_gapOfTwo 111 = .ok (.iaload, 1) := dk_46 (dk_at dksX0_gapOfTwo_4 17 rfl rfl)
theorem dX0_gapOfTwo_112 : decode cX0_gapOfTwo 112 = .ok (.iload_n 2, 1) := dk_28 (dk_at dksX0_gapOfTwo_4 18 rfl rfl)
theorem dX0_gapOfTwo_113 : decode cX0_gapOfTwo 113 = .ok (.iadd, 1) := dk_96 (dk_at dksX0_gapOfTwo_4 19 rfl rfl)
theorem dX0_gapOfTwo_114 : decode cX0_gapOfTwo 114 = .ok (.aload_n 0, 1) := dk_42 (dk_at dksX0_gapOfTwo_4 20 rfl rfl)
theorem dX0_gapOfTwo_115 : decode cX0_gapOfTwo 115 = .ok (.getfield 55, 3) := dk_180 0 55 (dk_at dksX0_gapOfTwo_4 21 rfl rfl)
theorem dX0_gapOfTwo_118 : decode cX0_gapOfTwo 118 = .ok (.iload_n 3, 1) := dk_29 (dk_at dksX0_gapOfTwo_5 0 rfl rfl)
theorem dX0_gapOfTwo_119 : decode cX0_gapOfTwo 119 = .ok (.iaload, 1) := dk_46 (dk_at dksX0_gapOfTwo_5 1 rfl rfl)
theorem dX0_gapOfTwo_120 : decode cX0_gapOfTwo 120 = .ok (.if_icmp .ge 7, 3) := dk_162 0 7 (dk_at dksX0_gapOfTwo_5 2 rfl rfl)
theorem dX0_gapOfTwo_123 : decode cX0_gapOfTwo 123 = .ok (.iconst 1, 1) := dk_4 (dk_at dksX0_gapOfTwo_5 5 rfl rfl)
theorem dX0_gapOfTwo_124 : decode cX0_gapOfTwo 124 = .ok (.goto 4, 3) := dk_167 0 4 (dk_at dksX0_gapOfTwo_5 6 rfl rfl)
theorem dX0_gapOfTwo_127 : decode cX0_gapOfTwo 127 = .ok (.iconst 0, 1) := dk_3 (dk_at dksX0_gapOfTwo_5 9 rfl rfl)
theorem dX0_gapOfTwo_128 : decode cX0_gapOfTwo 128 = .ok (.istore 7, 2) := dk_54 7 (dk_at dksX0_gapOfTwo_5 10 rfl rfl)
theorem dX0_gapOfTwo_130 : decode cX0_gapOfTwo 130 = .ok (.iload 7, 2) := dk_21 7 (dk_at dksX0_gapOfTwo_5 12 rfl rfl)
theorem dX0_gapOfTwo_132 : decode cX0_gapOfTwo 132 = .ok (.ifCond .eq 15, 3) := dk_153 0 15 (dk_at dksX0_gapOfTwo_5 14 rfl rfl)
theorem dX0_gapOfTwo_135 : decode cX0_gapOfTwo 135 = .ok (.aload_n 0, 1) := dk_42 (dk_at dksX0_gapOfTwo_5 17 rfl rfl)
theorem dX0_gapOfTwo_136 : decode cX0_gapOfTwo 136 = .ok (.getfield 55, 3) := dk_180 0 55 (dk_at dksX0_gapOfTwo_5 18 rfl rfl)
theorem dX0_gapOfTwo_139 : decode cX0_gapOfTwo 139 = .ok (.iload 4, 2) := dk_21 4 (dk_at dksX0_gapOfTwo_5 21 rfl rfl)
theorem dX0_gapOfTwo_141 : decode cX0_gapOfTwo 141 = .ok (.iaload, 1) := dk_46 (dk_at dksX0_gapOfTwo_5 23 rfl rfl)
theorem dX0_gapOfTwo_142 : decode cX0_gapOfTwo 142 = .ok (.iload_n 2, 1) := dk_28 (dk_at dksX0_gapOfTwo_6 0 rfl rfl)
theorem dX0_gapOfTwo_143 : decode cX0_gapOfTwo 143 = .ok (.iadd, 1) := dk_96 (dk_at dksX0_gapOfTwo_6 1 rfl rfl)
theorem dX0_gapOfTwo_144 : decode cX0_gapOfTwo 144 = .ok (.goto 9, 3) := dk_167 0 9 (dk_at dksX0_gapOfTwo_6 2 rfl rfl)
theorem dX0_gapOfTwo_147 : decode cX0_gapOfTwo 147 = .ok (.aload_n 0, 1) := dk_42 (dk_at dksX0_gapOfTwo_6 5 rfl rfl)
theorem dX0_gapOfTwo_148 : decode cX0_gapOfTwo 148 = .ok (.getfield 55, 3) := dk_180 0 55 (dk_at dksX0_gapOfTwo_6 6 rfl rfl)
theorem dX0_gapOfTwo_151 : decode cX0_gapOfTwo 151 = .ok (.iload_n 3, 1) := dk_29 (dk_at dksX0_gapOfTwo_6 9 rfl rfl)
theorem dX0_gapOfTwo_152 : decode cX0_gapOfTwo 152 = .ok (.iaload, 1) := dk_46 (dk_at dksX0_gapOfTwo_6 10 rfl rfl)
theorem dX0_gapOfTwo_153 : decode cX0_gapOfTwo 153 = .ok (.istore 8, 2) := dk_54 8 (dk_at dksX0_gapOfTwo_6 11 rfl rfl)
theorem dX0_gapOfTwo_155 : decode cX0_gapOfTwo 155 = .ok (.iload 7, 2) := dk_21 7 (dk_at dksX0_gapOfTwo_6 13 rfl rfl)
theorem dX0_gapOfTwo_157 : decode cX0_gapOfTwo 157 = .ok (.ifCond .eq 9, 3) := dk_153 0 9 (dk_at dksX0_gapOfTwo_6 15 rfl rfl)
theorem dX0_gapOfTwo_160 : decode cX0_gapOfTwo 160 = .ok (.iinc 4 1, 3) := dk_132 4 1 (dk_at dksX0_gapOfTwo_6 18 rfl rfl)
theorem dX0_gapOfTwo_163 : decode cX0_gapOfTwo 163 = .ok (.goto 6, 3) := dk_167 0 6 (dk_at dksX0_gapOfTwo_6 21 rfl rfl)
theorem dX0_gapOfTwo_166 : decode cX0_gapOfTwo 166 = .ok (.iinc 3 1, 3) := dk_132 3 1 (dk_at dksX0_gapOfTwo_7 0 rfl rfl)
theorem dX0_gapOfTwo_169 : decode cX0_gapOfTwo 169 = .ok (.iload 5, 2) := dk_21 5 (dk_at dksX0_gapOfTwo_7 3 rfl rfl)
theorem dX0_gapOfTwo_171 : decode cX0_gapOfTwo 171 = .ok (.ifCond .lt 15, 3) := dk_155 0 15 (dk_at dksX0_gapOfTwo_7 5 rfl rfl)
theorem dX0_gapOfTwo_174 : decode cX0_gapOfTwo 174 = .ok (.iload 6, 2) := dk_21 6 (dk_at dksX0_gapOfTwo_7 8 rfl rfl)
theorem dX0_gapOfTwo_176 : decode cX0_gapOfTwo 176 = .ok (.iload 8, 2) := dk_21 8 (dk_at dksX0_gapOfTwo_7 10 rfl rfl)
theorem dX0_gapOfTwo_178 : decode cX0_gapOfTwo 178 = .ok (.iload 5, 2) := dk_21 5 (dk_at dksX0_gapOfTwo_7 12 rfl rfl)
theorem dX0_gapOfTwo_180 : decode cX0_gapOfTwo 180 = .ok (.isub, 1) := dk_100 (dk_at dksX0_gapOfTwo_7 14 rfl rfl)
theorem dX0_gapOfTwo_181 : decode cX0_gapOfTwo 181 = .ok (.invokestatic 268, 3) := dk_184 1 12 (dk_at dksX0_gapOfTwo_7 15 rfl rfl)
theorem dX0_gapOfTwo_184 : decode cX0_gapOfTwo 184 = .ok (.istore 6, 2) := dk_54 6 (dk_at dksX0_gapOfTwo_7 18 rfl rfl)
theorem dX0_gapOfTwo_186 : decode cX0_gapOfTwo 186 = .ok (.iload 8, 2) := dk_21 8 (dk_at dksX0_gapOfTwo_7 20 rfl rfl)
theorem dX0_gapOfTwo_188 : decode cX0_gapOfTwo 188 = .ok (.istore 5, 2) := dk_54 5 (dk_at dksX0_gapOfTwo_7 22 rfl rfl)
theorem dX0_gapOfTwo_190 : decode cX0_gapOfTwo 190 = .ok (.goto (-149), 3) := dk_167 255 107 (dk_at dksX0_gapOfTwo_8 0 rfl rfl)
theorem dX0_gapOfTwo_193 : decode cX0_gapOfTwo 193 = .ok (.iload 6, 2) := dk_21 6 (dk_at dksX0_gapOfTwo_8 3 rfl rfl)
theorem dX0_gapOfTwo_195 : decode cX0_gapOfTwo 195 = .ok (.ireturn, 1) := dk_172 (dk_at dksX0_gapOfTwo_8 5 rfl rfl)
abbrev cX0_layMine : ByteArray := prog_1_method_53_code
def yX0_layMine : MethodName := ⟨RX0, "layMine", "(I)V"⟩
def dkwX0_layMine_3 : List UInt8 := [167, 255, 195, 177]
abbrev dktX0_layMine_3 : List UInt8 := dkwX0_layMine_3 ++ []
def dkwX0_layMine_2 : List UInt8 := [180, 1, 73, 42, 180, 0, 46, 28, 46, 79, 42, 89, 180, 1, 73, 4, 96, 181, 1, 73, 132, 2, 1]
abbrev dktX0_layMine_2 : List UInt8 := dkwX0_layMine_2 ++ dktX0_layMine_3
def dkwX0_layMine_1 : List UInt8 := [160, 0, 43, 42, 180, 0, 46, 28, 46, 17, 3, 231, 164, 0, 6, 167, 0, 28, 42, 180, 0, 55, 42]
abbrev dktX0_layMine_1 : List UInt8 := dkwX0_layMine_1 ++ dktX0_layMine_2
def dkwX0_layMine_0 : List UInt8 := [42, 3, 181, 1, 73, 3, 61, 28, 42, 180, 0, 235, 162, 0, 59, 42, 180, 0, 43, 28, 46, 27]
abbrev dktX0_layMine_0 : List UInt8 := dkwX0_layMine_0 ++ dktX0_layMine_1
theorem dksX0_layMine_0 : cX0_layMine.data.toList.drop 0 = dktX0_layMine_0 := by decide +kernel
theorem dksX0_layMine_1 : cX0_layMine.data.toList.drop 22 = dktX0_layMine_1 := dk_seg dksX0_layMine_0 22 rfl rfl
theorem dksX0_layMine_2 : cX0_layMine.data.toList.drop 45 = dktX0_layMine_2 := dk_seg dksX0_layMine_1 23 rfl rfl
theorem dksX0_layMine_3 : cX0_layMine.data.toList.drop 68 = dktX0_layMine_3 := dk_seg dksX0_layMine_2 23 rfl rfl
theorem dX0_layMine_0 : decode cX0_layMine 0 = .ok (.aload_n 0, 1) := dk_42 (dk_at dksX0_layMine_0 0 rfl rfl)
theorem dX0_layMine_1 : decode cX0_layMine 1 = .ok (.iconst 0, 1) := dk_3 (dk_at dksX0_layMine_0 1 rfl rfl)
theorem dX0_layMine_2 : decode cX0_layMine 2 = .ok (.putfield 329, 3) := dk_181 1 73 (dk_at dksX0_layMine_0 2 rfl rfl)
theorem dX0_layMine_5 : decode cX0_layMine 5 = .ok (.iconst 0, 1) := dk_3 (dk_at dksX0_layMine_0 5 rfl rfl)
theorem dX0_layMine_6 : decode cX0_layMine 6 = .ok (.istore_n 2, 1) := dk_61 (dk_at dksX0_layMine_0 6 rfl rfl)
theorem dX0_layMine_7 : decode cX0_layMine 7 = .ok (.iload_n 2, 1) := dk_28 (dk_at dksX0_layMine_0 7 rfl rfl)
theorem dX0_layMine_8 : decode cX0_layMine 8 = .ok (.aload_n 0, 1) := dk_42 (dk_at dksX0_layMine_0 8 rfl rfl)
theorem dX0_layMine_9 : decode cX0_layMine 9 = .ok (.getfield 235, 3) := dk_180 0 235 (dk_at dksX0_layMine_0 9 rfl rfl)
theorem dX0_layMine_12 : decode cX0_layMine 12 = .ok (.if_icmp .ge 59, 3) := dk_162 0 59 (dk_at dksX0_layMine_0 12 rfl rfl)
theorem dX0_layMine_15 : decode cX0_layMine 15 = .ok (.aload_n 0, 1) := dk_42 (dk_at dksX0_layMine_0 15 rfl rfl)
theorem dX0_layMine_16 : decode cX0_layMine 16 = .ok (.getfield 43, 3) := dk_180 0 43 (dk_at dksX0_layMine_0 16 rfl rfl)
theorem dX0_layMine_19 : decode cX0_layMine 19 = .ok (.iload_n 2, 1) := dk_28 (dk_at dksX0_layMine_0 19 rfl rfl)
theorem dX0_layMine_20 : decode cX0_layMine 20 = .ok (.iaload, 1) := dk_46 (dk_at dksX0_layMine_0 20 rfl rfl)
theorem dX0_layMine_21 : decode cX0_layMine 21 = .ok (.iload_n 1, 1) := dk_27 (dk_at dksX0_layMine_0 21 rfl rfl)
theorem dX0_layMine_22 : decode cX0_layMine 22 = .ok (.if_icmp .ne 43, 3) := dk_160 0 43 (dk_at dksX0_layMine_1 0 rfl rfl)
theorem dX0_layMine_25 : decode cX0_layMine 25 = .ok (.aload_n 0, 1) := dk_42 (dk_at dksX0_layMine_1 3 rfl rfl)
theorem dX0_layMine_26 : decode cX0_layMine 26 = .ok (.getfield 46, 3) := dk_180 0 46 (dk_at dksX0_layMine_1 4 rfl rfl)
theorem dX0_layMine_29 : decode cX0_layMine 29 = .ok (.iload_n 2, 1) := dk_28 (dk_at dksX0_layMine_1 7 rfl rfl)
theorem dX0_layMine_30 : decode cX0_layMine 30 = .ok (.iaload, 1) := dk_46 (dk_at dksX0_layMine_1 8 rfl rfl)
theorem dX0_layMine_31 : decode cX0_layMine 31 = .ok (.sipush 999, 3) := dk_17 3 231 (dk_at dksX0_layMine_1 9 rfl rfl)
theorem dX0_layMine_34 : decode cX0_layMine 34 = .ok (.if_icmp .le 6, 3) := dk_164 0 6 (dk_at dksX0_layMine_1 12 rfl rfl)
theorem dX0_layMine_37 : decode cX0_layMine 37 = .ok (.goto 28, 3) := dk_167 0 28 (dk_at dksX0_layMine_1 15 rfl rfl)
theorem dX0_layMine_40 : decode cX0_layMine 40 = .ok (.aload_n 0, 1) := dk_42 (dk_at dksX0_layMine_1 18 rfl rfl)
theorem dX0_layMine_41 : decode cX0_layMine 41 = .ok (.getfield 55, 3) := dk_180 0 55 (dk_at dksX0_layMine_1 19 rfl rfl)
theorem dX0_layMine_44 : decode cX0_layMine 44 = .ok (.aload_n 0, 1) := dk_42 (dk_at dksX0_layMine_1 22 rfl rfl)
theorem dX0_layMine_45 : decode cX0_layMine 45 = .ok (.getfield 329, 3) := dk_180 1 73 (dk_at dksX0_layMine_2 0 rfl rfl)
theorem dX0_layMine_48 : decode cX0_layMine 48 = .ok (.aload_n 0, 1) := dk_42 (dk_at dksX0_layMine_2 3 rfl rfl)
theorem dX0_layMine_49 : decode cX0_layMine 49 = .ok (.getfield 46, 3) := dk_180 0 46 (dk_at dksX0_layMine_2 4 rfl rfl)
theorem dX0_layMine_52 : decode cX0_layMine 52 = .ok (.iload_n 2, 1) := dk_28 (dk_at dksX0_layMine_2 7 rfl rfl)
theorem dX0_layMine_53 : decode cX0_layMine 53 = .ok (.iaload, 1) := dk_46 (dk_at dksX0_layMine_2 8 rfl rfl)
theorem dX0_layMine_54 : decode cX0_layMine 54 = .ok (.iastore, 1) := dk_79 (dk_at dksX0_layMine_2 9 rfl rfl)
theorem dX0_layMine_55 : decode cX0_layMine 55 = .ok (.aload_n 0, 1) := dk_42 (dk_at dksX0_layMine_2 10 rfl rfl)
theorem dX0_layMine_56 : decode cX0_layMine 56 = .ok (.dup, 1) := dk_89 (dk_at dksX0_layMine_2 11 rfl rfl)
theorem dX0_layMine_57 : decode cX0_layMine 57 = .ok (.getfield 329, 3) := dk_180 1 73 (dk_at dksX0_layMine_2 12 rfl rfl)
theorem dX0_layMine_60 : decode cX0_layMine 60 = .ok (.iconst 1, 1) := dk_4 (dk_at dksX0_layMine_2 15 rfl rfl)
theorem dX0_layMine_61 : decode cX0_layMine 61 = .ok (.iadd, 1) := dk_96 (dk_at dksX0_layMine_2 16 rfl rfl)
theorem dX0_layMine_62 : decode cX0_layMine 62 = .ok (.putfield 329, 3) := dk_181 1 73 (dk_at dksX0_layMine_2 17 rfl rfl)
theorem dX0_layMine_65 : decode cX0_layMine 65 = .ok (.iinc 2 1, 3) := dk_132 2 1 (dk_at dksX0_layMine_2 20 rfl rfl)
theorem dX0_layMine_68 : decode cX0_layMine 68 = .ok (.goto (-61), 3) := dk_167 255 195 (dk_at dksX0_layMine_3 0 rfl rfl)
theorem dX0_layMine_71 : decode cX0_layMine 71 = .ok (.return_, 1) := dk_177 (dk_at dksX0_layMine_3 3 rfl rfl)
abbrev cX0_success : ByteArray := prog_1_method_62_code
def yX0_success : MethodName := ⟨RX0, "success", "(IIII)I"⟩
def dkwX0_success_2 : List UInt8 := [156, 0, 8, 21, 5, 167, 0, 18, 42, 29, 21, 4, 16, 100, 108, 21, 4, 16, 100, 112, 182, 1, 100, 172]
abbrev dktX0_success_2 : List UInt8 := dkwX0_success_2 ++ []
def dkwX0_success_1 : List UInt8 := [153, 0, 11, 21, 4, 184, 1, 94, 154, 0, 5, 2, 172, 42, 27, 28, 182, 1, 97, 54, 5, 21, 5]
abbrev dktX0_success_1 : List UInt8 := dkwX0_success_1 ++ dktX0_success_2
def dkwX0_success_0 : List UInt8 := [27, 184, 0, 121, 153, 0, 30, 42, 28, 182, 0, 172, 153, 0, 22, 29, 3, 17, 2, 87, 184, 0, 89]
abbrev dktX0_success_0 : List UInt8 := dkwX0_success_0 ++ dktX0_success_1
theorem dksX0_success_0 : cX0_success.data.toList.drop 0 = dktX0_success_0 := by decide +kernel
theorem dksX0_success_1 : cX0_success.data.toList.drop 23 = dktX0_success_1 := dk_seg dksX0_success_0 23 rfl rfl
theorem dksX0_success_2 : cX0_success.data.toList.drop 46 = dktX0_success_2 := dk_seg dksX0_success_1 23 rfl rfl
theorem dX0_success_0 : decode cX0_success 0 = .ok (.iload_n 1, 1) := dk_27 (dk_at dksX0_success_0 0 rfl rfl)
theorem dX0_success_1 : decode cX0_success 1 = .ok (.invokestatic 121, 3) := dk_184 0 121 (dk_at dksX0_success_0 1 rfl rfl)
theorem dX0_success_4 : decode cX0_success 4 = .ok (.ifCond .eq 30, 3) := dk_153 0 30 (dk_at dksX0_success_0 4 rfl rfl)
theorem dX0_success_7 : decode cX0_success 7 = .ok (.aload_n 0, 1) := dk_42 (dk_at dksX0_success_0 7 rfl rfl)
theorem dX0_success_8 : decode cX0_success 8 = .ok (.iload_n 2, 1) := dk_28 (dk_at dksX0_success_0 8 rfl rfl)
theorem dX0_success_9 : decode cX0_success 9 = .ok (.invokevirtual 172, 3) := dk_182 0 172 (dk_at dksX0_success_0 9 rfl rfl)
theorem dX0_success_12 : decode cX0_success 12 = .ok (.ifCond .eq 22, 3) := dk_153 0 22 (dk_at dksX0_success_0 12 rfl rfl)
theorem dX0_success_15 : decode cX0_success 15 = .ok (.iload_n 3, 1) := dk_29 (dk_at dksX0_success_0 15 rfl rfl)
theorem dX0_success_16 : decode cX0_success 16 = .ok (.iconst 0, 1) := dk_3 (dk_at dksX0_success_0 16 rfl rfl)
theorem dX0_success_17 : decode cX0_success 17 = .ok (.sipush 599, 3) := dk_17 2 87 (dk_at dksX0_success_0 17 rfl rfl)
theorem dX0_success_20 : decode cX0_success 20 = .ok (.invokestatic 89, 3) := dk_184 0 89 (dk_at dksX0_success_0 20 rfl rfl)
theorem dX0_success_23 : decode cX0_success 23 = .ok (.ifCond .eq 11, 3) := dk_153 0 11 (dk_at dksX0_success_1 0 rfl rfl)
theorem dX0_success_26 : decode cX0_success 26 = .ok (.iload 4, 2) := dk_21 4 (dk_at dksX0_success_1 3 rfl rfl)
theorem dX0_success_28 : decode cX0_success 28 = .ok (.invokestatic 350, 3) := dk_184 1 94 (dk_at dksX0_success_1 5 rfl rfl)
theorem dX0_success_31 : decode cX0_success 31 = .ok (.ifCond .ne 5, 3) := dk_154 0 5 (dk_at dksX0_success_1 8 rfl rfl)
theorem dX0_success_34 : decode cX0_success 34 = .ok (.iconst (-1), 1) := dk_2 (dk_at dksX0_success_1 11 rfl rfl)
theorem dX0_success_35 : decode cX0_success 35 = .ok (.ireturn, 1) := dk_172 (dk_at dksX0_success_1 12 rfl rfl)
theorem dX0_success_36 : decode cX0_success 36 = .ok (.aload_n 0, 1) := dk_42 (dk_at dksX0_success_1 13 rfl rfl)
theorem dX0_success_37 : decode cX0_success 37 = .ok (.iload_n 1, 1) := dk_27 (dk_at dksX0_success_1 14 rfl rfl)
theorem dX0_success_38 : decode cX0_success 38 = .ok (.iload_n 2, 1) := dk_28 (dk_at dksX0_success_1 15 rfl rfl)
theorem dX0_success_39 : decode cX0_success 39 = .ok (.invokevirtual 353, 3) := dk_182 1 97 (dk_at dksX0_success_1 16 rfl rfl)
theorem dX0_success_42 : decode cX0_success 42 = .ok (.istore 5, 2) := dk_54 5 (dk_at dksX0_success_1 19 rfl rfl)
theorem dX0_success_44 : decode cX0_success 44 = .ok (.iload 5, 2) := dk_21 5 (dk_at dksX0_success_1 21 rfl rfl)
theorem dX0_success_46 : decode cX0_success 46 = .ok (.ifCond .ge 8, 3) := dk_156 0 8 (dk_at dksX0_success_2 0 rfl rfl)
theorem dX0_success_49 : decode cX0_success 49 = .ok (.iload 5, 2) := dk_21 5 (dk_at dksX0_success_2 3 rfl rfl)
theorem dX0_success_51 : decode cX0_success 51 = .ok (.goto 18, 3) := dk_167 0 18 (dk_at dksX0_success_2 5 rfl rfl)
theorem dX0_success_54 : decode cX0_success 54 = .ok (.aload_n 0, 1) := dk_42 (dk_at dksX0_success_2 8 rfl rfl)
theorem dX0_success_55 : decode cX0_success 55 = .ok (.iload_n 3, 1) := dk_29 (dk_at dksX0_success_2 9 rfl rfl)
theorem dX0_success_56 : decode cX0_success 56 = .ok (.iload 4, 2) := dk_21 4 (dk_at dksX0_success_2 10 rfl rfl)
theorem dX0_success_58 : decode cX0_success 58 = .ok (.bipush 100, 2) := dk_16 100 (dk_at dksX0_success_2 12 rfl rfl)
theorem dX0_success_60 : decode cX0_success 60 = .ok (.idiv, 1) := dk_108 (dk_at dksX0_success_2 14 rfl rfl)
theorem dX0_success_61 : decode cX0_success 61 = .ok (.iload 4, 2) := dk_21 4 (dk_at dksX0_success_2 15 rfl rfl)
theorem dX0_success_63 : decode cX0_success 63 = .ok (.bipush 100, 2) := dk_16 100 (dk_at dksX0_success_2 17 rfl rfl)
theorem dX0_success_65 : decode cX0_success 65 = .ok (.irem, 1) := dk_112 (dk_at dksX0_success_2 19 rfl rfl)
theorem dX0_success_66 : decode cX0_success 66 = .ok (.invokevirtual 356, 3) := dk_182 1 100 (dk_at dksX0_success_2 20 rfl rfl)
theorem dX0_success_69 : decode cX0_success 69 = .ok (.ireturn, 1) := dk_172 (dk_at dksX0_success_2 23 rfl rfl)
abbrev cX0_arePn : ByteArray := prog_1_method_61_code
def yX0_arePn : MethodName := ⟨RX0, "arePn", "(I)Z"⟩
def dkwX0_arePn_1 : List UInt8 := [3, 172]
abbrev dktX0_arePn_1 : List UInt8 := dkwX0_arePn_1 ++ []
def dkwX0_arePn_0 : List UInt8 := [26, 155, 0, 23, 26, 16, 100, 108, 16, 12, 163, 0, 14, 26, 16, 100, 112, 158, 0, 7, 4, 167, 0, 4]
abbrev dktX0_arePn_0 : List UInt8 := dkwX0_arePn_0 ++ dktX0_arePn_1
theorem dksX0_arePn_0 : cX0_arePn.data.toList.drop 0 = dktX0_arePn_0 := by decide +kernel
theorem dksX0_arePn_1 : cX0_arePn.data.toList.drop 24 = dktX0_arePn_1 := dk_seg dksX0_arePn_0 24 rfl rfl
theorem dX0_arePn_0 : decode cX0_arePn 0 = .ok (.iload_n 0, 1) := dk_26 (dk_at dksX0_arePn_0 0 rfl rfl)
theorem dX0_arePn_1 : decode cX0_arePn 1 = .ok (.ifCond .lt 23, 3) := dk_155 0 23 (dk_at dksX0_arePn_0 1 rfl rfl)
theorem dX0_arePn_4 : decode cX0_arePn 4 = .ok (.iload_n 0, 1) := dk_26 (dk_at dksX0_arePn_0 4 rfl rfl)
theorem dX0_arePn_5 : decode cX0_arePn 5 = .ok (.bipush 100, 2) := dk_16 100 (dk_at dksX0_arePn_0 5 rfl rfl)
theorem dX0_arePn_7 : decode cX0_arePn 7 = .ok (.idiv, 1) := dk_108 (dk_at dksX0_arePn_0 7 rfl rfl)
theorem dX0_arePn_8 : decode cX0_arePn 8 = .ok (.bipush 12, 2) := dk_16 12 (dk_at dksX0_arePn_0 8 rfl rfl)
theorem dX0_arePn_10 : decode cX0_arePn 10 = .ok (.if_icmp .gt 14, 3) := dk_163 0 14 (dk_at dksX0_arePn_0 10 rfl rfl)
theorem dX0_arePn_13 : decode cX0_arePn 13 = .ok (.iload_n 0, 1) := dk_26 (dk_at dksX0_arePn_0 13 rfl rfl)
theorem dX0_arePn_14 : decode cX0_arePn 14 = .ok (.bipush 100, 2) := dk_16 100 (dk_at dksX0_arePn_0 14 rfl rfl)
theorem dX0_arePn_16 : decode cX0_arePn 16 = .ok (.irem, 1) := dk_112 (dk_at dksX0_arePn_0 16 rfl rfl)
theorem dX0_arePn_17 : decode cX0_arePn 17 = .ok (.ifCond .le 7, 3) := dk_158 0 7 (dk_at dksX0_arePn_0 17 rfl rfl)
theorem dX0_arePn_20 : decode cX0_arePn 20 = .ok (.iconst 1, 1) := dk_4 (dk_at dksX0_arePn_0 20 rfl rfl)
theorem dX0_arePn_21 : decode cX0_arePn 21 = .ok (.goto 4, 3) := dk_167 0 4 (dk_at dksX0_arePn_0 21 rfl rfl)
theorem dX0_arePn_24 : decode cX0_arePn 24 = .ok (.iconst 0, 1) := dk_3 (dk_at dksX0_arePn_1 0 rfl rfl)
theorem dX0_arePn_25 : decode cX0_arePn 25 = .ok (.ireturn, 1) := dk_172 (dk_at dksX0_arePn_1 1 rfl rfl)
abbrev cX0_laySeenBoth : ByteArray := prog_1_method_58_code
def yX0_laySeenBoth : MethodName := ⟨RX0, "laySeenBoth", "(II)I"⟩
def dkwX0_laySeenBoth_1 : List UInt8 := [4, 42, 180, 0, 62, 182, 1, 86, 3, 172]
abbrev dktX0_laySeenBoth_1 : List UInt8 := dkwX0_laySeenBoth_1 ++ []
def dkwX0_laySeenBoth_0 : List UInt8 := [42, 27, 182, 0, 249, 62, 29, 156, 0, 5, 29, 172, 42, 28, 3, 42, 180, 0, 58, 182, 1, 86, 42, 28]
abbrev dktX0_laySeenBoth_0 : List UInt8 := dkwX0_laySeenBoth_0 ++ dktX0_laySeenBoth_1
theorem dksX0_laySeenBoth_0 : cX0_laySeenBoth.data.toList.drop 0 = dktX0_laySeenBoth_0 := by decide +kernel
theorem dksX0_laySeenBoth_1 : cX0_laySeenBoth.data.toList.drop 24 = dktX0_laySeenBoth_1 := dk_seg dksX0_laySeenBoth_0 24 rfl rfl
theorem dX0_laySeenBoth_0 : decode cX0_laySeenBoth 0 = .ok (.aload_n 0, 1) := dk_42 (dk_at dksX0_laySeenBoth_0 0 rfl rfl)
theorem dX0_laySeenBoth_1 : decode cX0_laySeenBoth 1 = .ok (.iload_n 1, 1) := dk_27 (dk_at dksX0_laySeenBoth_0 1 rfl rfl)
theorem dX0_laySeenBoth_2 : decode cX0_laySeenBoth 2 = .ok (.invokevirtual 249, 3) := dk_182 0 249 (dk_at dksX0_laySeenBoth_0 2 rfl rfl)
theorem dX0_laySeenBoth_5 : decode cX0_laySeenBoth 5 = .ok (.istore_n 3, 1) := dk_62 (dk_at dksX0_laySeenBoth_0 5 rfl rfl)
theorem dX0_laySeenBoth_6 : decode cX0_laySeenBoth 6 = .ok (.iload_n 3, 1) := dk_29 (dk_at dksX0_laySeenBoth_0 6 rfl rfl)
theorem dX0_laySeenBoth_7 : decode cX0_laySeenBoth 7 = .ok (.ifCond .ge 5, 3) := dk_156 0 5 (dk_at dksX0_laySeenBoth_0 7 rfl rfl)
theorem dX0_laySeenBoth_10 : decode cX0_laySeenBoth 10 = .ok (.iload_n 3, 1) := dk_29 (dk_at dksX0_laySeenBoth_0 10 rfl rfl)
theorem dX0_laySeenBoth_11 : decode cX0_laySeenBoth 11 = .ok (.ireturn, 1) := dk_172 (dk_at dksX0_laySeenBoth_0 11 rfl rfl)
theorem dX0_laySeenBoth_12 : decode cX0_laySeenBoth 12 = .ok (.aload_n 0, 1) := dk_42 (dk_at dksX0_laySeenBoth_0 12 rfl rfl)
theorem dX0_laySeenBoth_13 : decode cX0_laySeenBoth 13 = .ok (.iload_n 2, 1) := dk_28 (dk_at dksX0_laySeenBoth_0 13 rfl rfl)
theorem dX0_laySeenBoth_14 : decode cX0_laySeenBoth 14 = .ok (.iconst 0, 1) := dk_3 (dk_at dksX0_laySeenBoth_0 14 rfl rfl)
theorem dX0_laySeenBoth_15 : decode cX0_laySeenBoth 15 = .ok (.aload_n 0, 1) := dk_42 (dk_at dksX0_laySeenBoth_0 15 rfl rfl)
theorem dX0_laySeenBoth_16 : decode cX0_laySeenBoth 16 = .ok (.getfield 58, 3) := dk_180 0 58 (dk_at dksX0_laySeenBoth_0 16 rfl rfl)
theorem dX0_laySeenBoth_19 : decode cX0_laySeenBoth 19 = .ok (.invokevirtual 342, 3) := dk_182 1 86 (dk_at dksX0_laySeenBoth_0 19 rfl rfl)
theorem dX0_laySeenBoth_22 : decode cX0_laySeenBoth 22 = .ok (.aload_n 0, 1) := dk_42 (dk_at dksX0_laySeenBoth_0 22 rfl rfl)
theorem dX0_laySeenBoth_23 : decode cX0_laySeenBoth 23 = .ok (.iload_n 2, 1) := dk_28 (dk_at dksX0_laySeenBoth_0 23 rfl rfl)
theorem dX0_laySeenBoth_24 : decode cX0_laySeenBoth 24 = .ok (.iconst 1, 1) := dk_4 (dk_at dksX0_laySeenBoth_1 0 rfl rfl)
theorem dX0_laySeenBoth_25 : decode cX0_laySeenBoth 25 = .ok (.aload_n 0, 1) := dk_42 (dk_at dksX0_laySeenBoth_1 1 rfl rfl)
theorem dX0_laySeenBoth_26 : decode cX0_laySeenBoth 26 = .ok (.getfield 62, 3) := dk_180 0 62 (dk_at dksX0_laySeenBoth_1 2 rfl rfl)
theorem dX0_laySeenBoth_29 : decode cX0_laySeenBoth 29 = .ok (.invokevirtual 342, 3) := dk_182 1 86 (dk_at dksX0_laySeenBoth_1 5 rfl rfl)
theorem dX0_laySeenBoth_32 : decode cX0_laySeenBoth 32 = .ok (.iconst 0, 1) := dk_3 (dk_at dksX0_laySeenBoth_1 8 rfl rfl)
theorem dX0_laySeenBoth_33 : decode cX0_laySeenBoth 33 = .ok (.ireturn, 1) := dk_172 (dk_at dksX0_laySeenBoth_1 9 rfl rfl)
abbrev cX0_laySeen : ByteArray := prog_1_method_57_code
def yX0_laySeen : MethodName := ⟨RX0, "laySeen", "(IZ[Z)V"⟩
def dkwX0_laySeen_4 : List UInt8 := [21, 6, 4, 84, 132, 6, 1, 167, 255, 214, 132, 5, 1, 167, 255, 190, 177]
abbrev dktX0_laySeen_4 : List UInt8 := dkwX0_laySeen_4 ++ []
def dkwX0_laySeen_3 : List UInt8 := [162, 0, 33, 21, 6, 17, 3, 231, 163, 0, 25, 42, 180, 0, 43, 21, 5, 46, 27, 160, 0, 14, 45]
abbrev dktX0_laySeen_3 : List UInt8 := dkwX0_laySeen_3 ++ dktX0_laySeen_4
def dkwX0_laySeen_2 : List UInt8 := [162, 0, 63, 42, 180, 0, 46, 21, 5, 46, 54, 6, 21, 6, 42, 180, 0, 46, 21, 5, 46, 21, 4, 96]
abbrev dktX0_laySeen_2 : List UInt8 := dkwX0_laySeen_2 ++ dktX0_laySeen_3
def dkwX0_laySeen_1 : List UInt8 := [163, 0, 14, 45, 21, 5, 3, 84, 132, 5, 1, 167, 255, 240, 3, 54, 5, 21, 5, 42, 180, 0, 235]
abbrev dktX0_laySeen_1 : List UInt8 := dkwX0_laySeen_1 ++ dktX0_laySeen_2
def dkwX0_laySeen_0 : List UInt8 := [42, 28, 182, 0, 252, 4, 42, 180, 0, 19, 184, 1, 12, 54, 4, 3, 54, 5, 21, 5, 17, 3, 231]
abbrev dktX0_laySeen_0 : List UInt8 := dkwX0_laySeen_0 ++ dktX0_laySeen_1
theorem dksX0_laySeen_0 : cX0_laySeen.data.toList.drop 0 = dktX0_laySeen_0 := by decide +kernel
theorem dksX0_laySeen_1 : cX0_laySeen.data.toList.drop 23 = dktX0_laySeen_1 := dk_seg dksX0_laySeen_0 23 rfl rfl
theorem dksX0_laySeen_2 : cX0_laySeen.data.toList.drop 46 = dktX0_laySeen_2 := dk_seg dksX0_laySeen_1 23 rfl rfl
theorem dksX0_laySeen_3 : cX0_laySeen.data.toList.drop 70 = dktX0_laySeen_3 := dk_seg dksX0_laySeen_2 24 rfl rfl
theorem dksX0_laySeen_4 : cX0_laySeen.data.toList.drop 93 = dktX0_laySeen_4 := dk_seg dksX0_laySeen_3 23 rfl rfl
theorem dX0_laySeen_0 : decode cX0_laySeen 0 = .ok (.aload_n 0, 1) := dk_42 (dk_at dksX0_laySeen_0 0 rfl rfl)
theorem dX0_laySeen_1 : decode cX0_laySeen 1 = .ok (.iload_n 2, 1) := dk_28 (dk_at dksX0_laySeen_0 1 rfl rfl)
theorem dX0_laySeen_2 : decode cX0_laySeen 2 = .ok (.invokevirtual 252, 3) := dk_182 0 252 (dk_at dksX0_laySeen_0 2 rfl rfl)
theorem dX0_laySeen_5 : decode cX0_laySeen 5 = .ok (.iconst 1, 1) := dk_4 (dk_at dksX0_laySeen_0 5 rfl rfl)
theorem dX0_laySeen_6 : decode cX0_laySeen 6 = .ok (.aload_n 0, 1) := dk_42 (dk_at dksX0_laySeen_0 6 rfl rfl)
theorem dX0_laySeen_7 : decode cX0_laySeen 7 = .ok (.getfield 19, 3) := dk_180 0 19 (dk_at dksX0_laySeen_0 7 rfl rfl)
theorem dX0_laySeen_10 : decode cX0_laySeen 10 = .ok (.invokestatic 268, 3) := dk_184 1 12 (dk_at dksX0_laySeen_0 10 rfl rfl)
theorem dX0_laySeen_13 : decode cX0_laySeen 13 = .ok (.istore 4, 2) := dk_54 4 (dk_at dksX0_laySeen_0 13 rfl rfl)
theorem dX0_laySeen_15 : decode cX0_laySeen 15 = .ok (.iconst 0, 1) := dk_3 (dk_at dksX0_laySeen_0 15 rfl rfl)
theorem dX0_laySeen_16 : decode cX0_laySeen 16 = .ok (.istore 5, 2) := dk_54 5 (dk_at dksX0_laySeen_0 16 rfl rfl)
theorem dX0_laySeen_18 : decode cX0_laySeen 18 = .ok (.iload 5, 2) := dk_21 5 (dk_at dksX0_laySeen_0 18 rfl rfl)
theorem dX0_laySeen_20 : decode cX0_laySeen 20 = .ok (.sipush 999, 3) := dk_17 3 231 (dk_at dksX0_laySeen_0 20 rfl rfl)
theorem dX0_laySeen_23 : decode cX0_laySeen 23 = .ok (.if_icmp .gt 14, 3) := dk_163 0 14 (dk_at dksX0_laySeen_1 0 rfl rfl)
theorem dX0_laySeen_26 : decode cX0_laySeen 26 = .ok (.aload_n 3, 1) := dk_45 (dk_at dksX0_laySeen_1 3 rfl rfl)
theorem dX0_laySeen_27 : decode cX0_laySeen 27 = .ok (.iload 5, 2) := dk_21 5 (dk_at dksX0_laySeen_1 4 rfl rfl)
theorem dX0_laySeen_29 : decode cX0_laySeen 29 = .ok (.iconst 0, 1) := dk_3 (dk_at dksX0_laySeen_1 6 rfl rfl)
theorem dX0_laySeen_30 : decode cX0_laySeen 30 = .ok (.bastore, 1) := dk_84 (dk_at dksX0_laySeen_1 7 rfl rfl)
theorem dX0_laySeen_31 : decode cX0_laySeen 31 = .ok (.iinc 5 1, 3) := dk_132 5 1 (dk_at dksX0_laySeen_1 8 rfl rfl)
theorem dX0_laySeen_34 : decode cX0_laySeen 34 = .ok (.goto (-16), 3) := dk_167 255 240 (dk_at dksX0_laySeen_1 11 rfl rfl)
theorem dX0_laySeen_37 : decode cX0_laySeen 37 = .ok (.iconst 0, 1) := dk_3 (dk_at dksX0_laySeen_1 14 rfl rfl)
theorem dX0_laySeen_38 : decode cX0_laySeen 38 = .ok (.istore 5, 2) := dk_54 5 (dk_at dksX0_laySeen_1 15 rfl rfl)
theorem dX0_laySeen_40 : decode cX0_laySeen 40 = .ok (.iload 5, 2) := dk_21 5 (dk_at dksX0_laySeen_1 17 rfl rfl)
theorem dX0_laySeen_42 : decode cX0_laySeen 42 = .ok (.aload_n 0, 1) := dk_42 (dk_at dksX0_laySeen_1 19 rfl rfl)
theorem dX0_laySeen_43 : decode cX0_laySeen 43 = .ok (.getfield 235, 3) := dk_180 0 235 (dk_at dksX0_laySeen_1 20 rfl rfl)
theorem dX0_laySeen_46 : decode cX0_laySeen 46 = .ok (.if_icmp .ge 63, 3) := dk_162 0 63 (dk_at dksX0_laySeen_2 0 rfl rfl)
theorem dX0_laySeen_49 : decode cX0_laySeen 49 = .ok (.aload_n 0, 1) := dk_42 (dk_at dksX0_laySeen_2 3 rfl rfl)
theorem dX0_laySeen_50 : decode cX0_laySeen 50 = .ok (.getfield 46, 3) := dk_180 0 46 (dk_at dksX0_laySeen_2 4 rfl rfl)
theorem dX0_laySeen_53 : decode cX0_laySeen 53 = .ok (.iload 5, 2) := dk_21 5 (dk_at dksX0_laySeen_2 7 rfl rfl)
theorem dX0_laySeen_55 : decode cX0_laySeen 55 = .ok (.iaload, 1) := dk_46 (dk_at dksX0_laySeen_2 9 rfl rfl)
theorem dX0_laySeen_56 : decode cX0_laySeen 56 = .ok (.istore 6, 2) := dk_54 6 (dk_at dksX0_laySeen_2 10 rfl rfl)
theorem dX0_laySeen_58 : decode cX0_laySeen 58 = .ok (.iload 6, 2) := dk_21 6 (dk_at dksX0_laySeen_2 12 rfl rfl)
theorem dX0_laySeen_60 : decode cX0_laySeen 60 = .ok (.aload_n 0, 1) := dk_42 (dk_at dksX0_laySeen_2 14 rfl rfl)
theorem dX0_laySeen_61 : decode cX0_laySeen 61 = .ok (.getfield 46, 3) := dk_180 0 46 (dk_at dksX0_laySeen_2 15 rfl rfl)
theorem dX0_laySeen_64 : decode cX0_laySeen 64 = .ok (.iload 5, 2) := dk_21 5 (dk_at dksX0_laySeen_2 18 rfl rfl)
theorem dX0_laySeen_66 : decode cX0_laySeen 66 = .ok (.iaload, 1) := dk_46 (dk_at dksX0_laySeen_2 20 rfl rfl)
theorem dX0_laySeen_67 : decode cX0_laySeen 67 = .ok (.iload 4, 2) := dk_21 4 (dk_at dksX0_laySeen_2 21 rfl rfl)
theorem dX0_laySeen_69 : decode cX0_laySeen 69 = .ok (.iadd, 1) := dk_96 (dk_at dksX0_laySeen_2 23 rfl rfl)
theorem dX0_laySeen_70 : decode cX0_laySeen 70 = .ok (.if_icmp .ge 33, 3) := dk_162 0 33 (dk_at dksX0_laySeen_3 0 rfl rfl)
theorem dX0_laySeen_73 : decode cX0_laySeen 73 = .ok (.iload 6, 2) := dk_21 6 (dk_at dksX0_laySeen_3 3 rfl rfl)
theorem dX0_laySeen_75 : decode cX0_laySeen 75 = .ok (.sipush 999, 3) := dk_17 3 231 (dk_at dksX0_laySeen_3 5 rfl rfl)
theorem dX0_laySeen_78 : decode cX0_laySeen 78 = .ok (.if_icmp .gt 25, 3) := dk_163 0 25 (dk_at dksX0_laySeen_3 8 rfl rfl)
theorem dX0_laySeen_81 : decode cX0_laySeen 81 = .ok (.aload_n 0, 1) := dk_42 (dk_at dksX0_laySeen_3 11 rfl rfl)
theorem dX0_laySeen_82 : decode cX0_laySeen 82 = .ok (.getfield 43, 3) := dk_180 0 43 (dk_at dksX0_laySeen_3 12 rfl rfl)
theorem dX0_laySeen_85 : decode cX0_laySeen 85 = .ok (.iload 5, 2) := dk_21 5 (dk_at dksX0_laySeen_3 15 rfl rfl)
theorem dX0_laySeen_87 : decode cX0_laySeen 87 = .ok (.iaload, 1) := dk_46 (dk_at dksX0_laySeen_3 17 rfl rfl)
theorem dX0_laySeen_88 : decode cX0_laySeen 88 = .ok (.iload_n 1, 1) := dk_27 (dk_at dksX0_laySeen_3 18 rfl rfl)
theorem dX0_laySeen_89 : decode cX0_laySeen 89 = .ok (.if_icmp .ne 14, 3) := dk_160 0 14 (dk_at dksX0_laySeen_3 19 rfl rfl)
theorem dX0_laySeen_92 : decode cX0_laySeen 92 = .ok (.aload_n 3, 1) := dk_45 (dk_at dksX0_laySeen_3 22 rfl rfl)
theorem dX0_laySeen_93 : decode cX0_laySeen 93 = .ok (.iload 6, 2) := dk_21 6 (dk_at dksX0_laySeen_4 0 rfl rfl)
theorem dX0_laySeen_95 : decode cX0_laySeen 95 = .ok (.iconst 1, 1) := dk_4 (dk_at dksX0_laySeen_4 2 rfl rfl)
theorem dX0_laySeen_96 : decode cX0_laySeen 96 = .ok (.bastore, 1) := dk_84 (dk_at dksX0_laySeen_4 3 rfl rfl)
theorem dX0_laySeen_97 : decode cX0_laySeen 97 = .ok (.iinc 6 1, 3) := dk_132 6 1 (dk_at dksX0_laySeen_4 4 rfl rfl)
theorem dX0_laySeen_100 : decode cX0_laySeen 100 = .ok (.goto (-42), 3) := dk_167 255 214 (dk_at dksX0_laySeen_4 7 rfl rfl)
theorem dX0_laySeen_103 : decode cX0_laySeen 103 = .ok (.iinc 5 1, 3) := dk_132 5 1 (dk_at dksX0_laySeen_4 10 rfl rfl)
theorem dX0_laySeen_106 : decode cX0_laySeen 106 = .ok (.goto (-66), 3) := dk_167 255 190 (dk_at dksX0_laySeen_4 13 rfl rfl)
theorem dX0_laySeen_109 : decode cX0_laySeen 109 = .ok (.return_, 1) := dk_177 (dk_at dksX0_laySeen_4 16 rfl rfl)
abbrev cX0_successAt : ByteArray := prog_1_method_60_code
def yX0_successAt : MethodName := ⟨RX0, "successAt", "(III)I"⟩
def dkwX0_successAt_1 : List UInt8 := [184, 1, 90, 153, 0, 10, 16, 12, 28, 100, 167, 0, 4, 3, 96, 172]
abbrev dktX0_successAt_1 : List UInt8 := dkwX0_successAt_1 ++ []
def dkwX0_successAt_0 : List UInt8 := [42, 180, 0, 58, 27, 29, 184, 1, 90, 153, 0, 7, 28, 167, 0, 4, 3, 42, 180, 0, 62, 27, 29]
abbrev dktX0_successAt_0 : List UInt8 := dkwX0_successAt_0 ++ dktX0_successAt_1
theorem dksX0_successAt_0 : cX0_successAt.data.toList.drop 0 = dktX0_successAt_0 := by decide +kernel
theorem dksX0_successAt_1 : cX0_successAt.data.toList.drop 23 = dktX0_successAt_1 := dk_seg dksX0_successAt_0 23 rfl rfl
theorem dX0_successAt_0 : decode cX0_successAt 0 = .ok (.aload_n 0, 1) := dk_42 (dk_at dksX0_successAt_0 0 rfl rfl)
theorem dX0_successAt_1 : decode cX0_successAt 1 = .ok (.getfield 58, 3) := dk_180 0 58 (dk_at dksX0_successAt_0 1 rfl rfl)
theorem dX0_successAt_4 : decode cX0_successAt 4 = .ok (.iload_n 1, 1) := dk_27 (dk_at dksX0_successAt_0 4 rfl rfl)
theorem dX0_successAt_5 : decode cX0_successAt 5 = .ok (.iload_n 3, 1) := dk_29 (dk_at dksX0_successAt_0 5 rfl rfl)
theorem dX0_successAt_6 : decode cX0_successAt 6 = .ok (.invokestatic 346, 3) := dk_184 1 90 (dk_at dksX0_successAt_0 6 rfl rfl)
theorem dX0_successAt_9 : decode cX0_successAt 9 = .ok (.ifCond .eq 7, 3) := dk_153 0 7 (dk_at dksX0_successAt_0 9 rfl rfl)
theorem dX0_successAt_12 : decode cX0_successAt 12 = .ok (.iload_n 2, 1) := dk_28 (dk_at dksX0_successAt_0 12 rfl rfl)
theorem dX0_successAt_13 : decode cX0_successAt 13 = .ok (.goto 4, 3) := dk_167 0 4 (dk_at dksX0_successAt_0 13 rfl rfl)
theorem dX0_successAt_16 : decode cX0_successAt 16 = .ok (.iconst 0, 1) := dk_3 (dk_at dksX0_successAt_0 16 rfl rfl)
theorem dX0_successAt_17 : decode cX0_successAt 17 = .ok (.aload_n 0, 1) := dk_42 (dk_at dksX0_successAt_0 17 rfl rfl)
theorem dX0_successAt_18 : decode cX0_successAt 18 = .ok (.getfield 62, 3) := dk_180 0 62 (dk_at dksX0_successAt_0 18 rfl rfl)
theorem dX0_successAt_21 : decode cX0_successAt 21 = .ok (.iload_n 1, 1) := dk_27 (dk_at dksX0_successAt_0 21 rfl rfl)
theorem dX0_successAt_22 : decode cX0_successAt 22 = .ok (.iload_n 3, 1) := dk_29 (dk_at dksX0_successAt_0 22 rfl rfl)
theorem dX0_successAt_23 : decode cX0_successAt 23 = .ok (.invokestatic 346, 3) := dk_184 1 90 (dk_at dksX0_successAt_1 0 rfl rfl)
theorem dX0_successAt_26 : decode cX0_successAt 26 = .ok (.ifCond .eq 10, 3) := dk_153 0 10 (dk_at dksX0_successAt_1 3 rfl rfl)
theorem dX0_successAt_29 : decode cX0_successAt 29 = .ok (.bipush 12, 2) := dk_16 12 (dk_at dksX0_successAt_1 6 rfl rfl)
theorem dX0_successAt_31 : decode cX0_successAt 31 = .ok (.iload_n 2, 1) := dk_28 (dk_at dksX0_successAt_1 8 rfl rfl)
theorem dX0_successAt_32 : decode cX0_successAt 32 = .ok (.isub, 1) := dk_100 (dk_at dksX0_successAt_1 9 rfl rfl)
theorem dX0_successAt_33 : decode cX0_successAt 33 = .ok (.goto 4, 3) := dk_167 0 4 (dk_at dksX0_successAt_1 10 rfl rfl)
theorem dX0_successAt_36 : decode cX0_successAt 36 = .ok (.iconst 0, 1) := dk_3 (dk_at dksX0_successAt_1 13 rfl rfl)
theorem dX0_successAt_37 : decode cX0_successAt 37 = .ok (.iadd, 1) := dk_96 (dk_at dksX0_successAt_1 14 rfl rfl)
theorem dX0_successAt_38 : decode cX0_successAt 38 = .ok (.ireturn, 1) := dk_172 (dk_at dksX0_successAt_1 15 rfl rfl)
abbrev cX0_isQuiet : ByteArray := prog_1_method_59_code
def yX0_isQuiet : MethodName := ⟨RX0, "isQuiet", "([ZII)Z"⟩
def dkwX0_isQuiet_1 : List UInt8 := [172]
abbrev dktX0_isQuiet_1 : List UInt8 := dkwX0_isQuiet_1 ++ []
def dkwX0_isQuiet_0 : List UInt8 := [27, 62, 29, 27, 28, 96, 162, 0, 17, 42, 29, 51, 153, 0, 5, 3, 172, 132, 3, 1, 167, 255, 238, 4]
abbrev dktX0_isQuiet_0 : List UInt8 := dkwX0_isQuiet_0 ++ dktX0_isQuiet_1
theorem dksX0_isQuiet_0 : cX0_isQuiet.data.toList.drop 0 = dktX0_isQuiet_0 := by decide +kernel
theorem dksX0_isQuiet_1 : cX0_isQuiet.data.toList.drop 24 = dktX0_isQuiet_1 := dk_seg dksX0_isQuiet_0 24 rfl rfl
theorem dX0_isQuiet_0 : decode cX0_isQuiet 0 = .ok (.iload_n 1, 1) := dk_27 (dk_at dksX0_isQuiet_0 0 rfl rfl)
theorem dX0_isQuiet_1 : decode cX0_isQuiet 1 = .ok (.istore_n 3, 1) := dk_62 (dk_at dksX0_isQuiet_0 1 rfl rfl)
theorem dX0_isQuiet_2 : decode cX0_isQuiet 2 = .ok (.iload_n 3, 1) := dk_29 (dk_at dksX0_isQuiet_0 2 rfl rfl)
theorem dX0_isQuiet_3 : decode cX0_isQuiet 3 = .ok (.iload_n 1, 1) := dk_27 (dk_at dksX0_isQuiet_0 3 rfl rfl)
theorem dX0_isQuiet_4 : decode cX0_isQuiet 4 = .ok (.iload_n 2, 1) := dk_28 (dk_at dksX0_isQuiet_0 4 rfl rfl)
theorem dX0_isQuiet_5 : decode cX0_isQuiet 5 = .ok (.iadd, 1) := dk_96 (dk_at dksX0_isQuiet_0 5 rfl rfl)
theorem dX0_isQuiet_6 : decode cX0_isQuiet 6 = .ok (.if_icmp .ge 17, 3) := dk_162 0 17 (dk_at dksX0_isQuiet_0 6 rfl rfl)
theorem dX0_isQuiet_9 : decode cX0_isQuiet 9 = .ok (.aload_n 0, 1) := dk_42 (dk_at dksX0_isQuiet_0 9 rfl rfl)
theorem dX0_isQuiet_10 : decode cX0_isQuiet 10 = .ok (.iload_n 3, 1) := dk_29 (dk_at dksX0_isQuiet_0 10 rfl rfl)
theorem dX0_isQuiet_11 : decode cX0_isQuiet 11 = .ok (.baload, 1) := dk_51 (dk_at dksX0_isQuiet_0 11 rfl rfl)
theorem dX0_isQuiet_12 : decode cX0_isQuiet 12 = .ok (.ifCond .eq 5, 3) := dk_153 0 5 (dk_at dksX0_isQuiet_0 12 rfl rfl)
theorem dX0_isQuiet_15 : decode cX0_isQuiet 15 = .ok (.iconst 0, 1) := dk_3 (dk_at dksX0_isQuiet_0 15 rfl rfl)
theorem dX0_isQuiet_16 : decode cX0_isQuiet 16 = .ok (.ireturn, 1) := dk_172 (dk_at dksX0_isQuiet_0 16 rfl rfl)
theorem dX0_isQuiet_17 : decode cX0_isQuiet 17 = .ok (.iinc 3 1, 3) := dk_132 3 1 (dk_at dksX0_isQuiet_0 17 rfl rfl)
theorem dX0_isQuiet_20 : decode cX0_isQuiet 20 = .ok (.goto (-18), 3) := dk_167 255 238 (dk_at dksX0_isQuiet_0 20 rfl rfl)
theorem dX0_isQuiet_23 : decode cX0_isQuiet 23 = .ok (.iconst 1, 1) := dk_4 (dk_at dksX0_isQuiet_0 23 rfl rfl)
theorem dX0_isQuiet_24 : decode cX0_isQuiet 24 = .ok (.ireturn, 1) := dk_172 (dk_at dksX0_isQuiet_1 0 rfl rfl)
abbrev cX0_bestMinute : ByteArray := prog_1_method_64_code
def yX0_bestMinute : MethodName := ⟨RX0, "bestMinute", "(IIII)I"⟩
def dkwX0_bestMinute_3 : List UInt8 := [167, 0, 17, 42, 21, 6, 29, 16, 100, 108, 29, 16, 100, 112, 182, 1, 100, 172]
abbrev dktX0_bestMinute_3 : List UInt8 := dkwX0_bestMinute_3 ++ []
def dkwX0_bestMinute_2 : List UInt8 := [21, 5, 172, 42, 29, 16, 100, 108, 29, 16, 100, 112, 182, 1, 103, 54, 6, 21, 4, 154, 0, 8, 21, 6]
abbrev dktX0_bestMinute_2 : List UInt8 := dkwX0_bestMinute_2 ++ dktX0_bestMinute_3
def dkwX0_bestMinute_1 : List UInt8 := [3, 4, 184, 0, 89, 154, 0, 5, 2, 172, 42, 27, 28, 182, 1, 97, 54, 5, 21, 5, 156, 0, 6]
abbrev dktX0_bestMinute_1 : List UInt8 := dkwX0_bestMinute_1 ++ dktX0_bestMinute_2
def dkwX0_bestMinute_0 : List UInt8 := [27, 184, 0, 121, 153, 0, 28, 42, 28, 182, 0, 172, 153, 0, 20, 29, 184, 1, 94, 153, 0, 13, 21, 4]
abbrev dktX0_bestMinute_0 : List UInt8 := dkwX0_bestMinute_0 ++ dktX0_bestMinute_1
theorem dksX0_bestMinute_0 : cX0_bestMinute.data.toList.drop 0 = dktX0_bestMinute_0 := by decide +kernel
theorem dksX0_bestMinute_1 : cX0_bestMinute.data.toList.drop 24 = dktX0_bestMinute_1 := dk_seg dksX0_bestMinute_0 24 rfl rfl
theorem dksX0_bestMinute_2 : cX0_bestMinute.data.toList.drop 47 = dktX0_bestMinute_2 := dk_seg dksX0_bestMinute_1 23 rfl rfl
theorem dksX0_bestMinute_3 : cX0_bestMinute.data.toList.drop 71 = dktX0_bestMinute_3 := dk_seg dksX0_bestMinute_2 24 rfl rfl
theorem dX0_bestMinute_0 : decode cX0_bestMinute 0 = .ok (.iload_n 1, 1) := dk_27 (dk_at dksX0_bestMinute_0 0 rfl rfl)
theorem dX0_bestMinute_1 : decode cX0_bestMinute 1 = .ok (.invokestatic 121, 3) := dk_184 0 121 (dk_at dksX0_bestMinute_0 1 rfl rfl)
theorem dX0_bestMinute_4 : decode cX0_bestMinute 4 = .ok (.ifCond .eq 28, 3) := dk_153 0 28 (dk_at dksX0_bestMinute_0 4 rfl rfl)
theorem dX0_bestMinute_7 : decode cX0_bestMinute 7 = .ok (.aload_n 0, 1) := dk_42 (dk_at dksX0_bestMinute_0 7 rfl rfl)
theorem dX0_bestMinute_8 : decode cX0_bestMinute 8 = .ok (.iload_n 2, 1) := dk_28 (dk_at dksX0_bestMinute_0 8 rfl rfl)
theorem dX0_bestMinute_9 : decode cX0_bestMinute 9 = .ok (.invokevirtual 172, 3) := dk_182 0 172 (dk_at dksX0_bestMinute_0 9 rfl rfl)
theorem dX0_bestMinute_12 : decode cX0_bestMinute 12 = .ok (.ifCond .eq 20, 3) := dk_153 0 20 (dk_at dksX0_bestMinute_0 12 rfl rfl)
theorem dX0_bestMinute_15 : decode cX0_bestMinute 15 = .ok (.iload_n 3, 1) := dk_29 (dk_at dksX0_bestMinute_0 15 rfl rfl)
theorem dX0_bestMinute_16 : decode cX0_bestMinute 16 = .ok (.invokestatic 350, 3) := dk_184 1 94 (dk_at dksX0_bestMinute_0 16 rfl rfl)
theorem dX0_bestMinute_19 : decode cX0_bestMinute 19 = .ok (.ifCond .eq 13, 3) := dk_153 0 13 (dk_at dksX0_bestMinute_0 19 rfl rfl)
theorem dX0_bestMinute_22 : decode cX0_bestMinute 22 = .ok (.iload 4, 2) := dk_21 4 (dk_at dksX0_bestMinute_0 22 rfl rfl)
theorem dX0_bestMinute_24 : decode cX0_bestMinute 24 = .ok (.iconst 0, 1) := dk_3 (dk_at dksX0_bestMinute_1 0 rfl rfl)
theorem dX0_bestMinute_25 : decode cX0_bestMinute 25 = .ok (.iconst 1, 1) := dk_4 (dk_at dksX0_bestMinute_1 1 rfl rfl)
theorem dX0_bestMinute_26 : decode cX0_bestMinute 26 = .ok (.invokestatic 89, 3) := dk_184 0 89 (dk_at dksX0_bestMinute_1 2 rfl rfl)
theorem dX0_bestMinute_29 : decode cX0_bestMinute 29 = .ok (.ifCond .ne 5, 3) := dk_154 0 5 (dk_at dksX0_bestMinute_1 5 rfl rfl)
theorem dX0_bestMinute_32 : decode cX0_bestMinute 32 = .ok (.iconst (-1), 1) := dk_2 (dk_at dksX0_bestMinute_1 8 rfl rfl)
theorem dX0_bestMinute_33 : decode cX0_bestMinute 33 = .ok (.ireturn, 1) := dk_172 (dk_at dksX0_bestMinute_1 9 rfl rfl)
theorem dX0_bestMinute_34 : decode cX0_bestMinute 34 = .ok (.aload_n 0, 1) := dk_42 (dk_at dksX0_bestMinute_1 10 rfl rfl)
theorem dX0_bestMinute_35 : decode cX0_bestMinute 35 = .ok (.iload_n 1, 1) := dk_27 (dk_at dksX0_bestMinute_1 11 rfl rfl)
theorem dX0_bestMinute_36 : decode cX0_bestMinute 36 = .ok (.iload_n 2, 1) := dk_28 (dk_at dksX0_bestMinute_1 12 rfl rfl)
theorem dX0_bestMinute_37 : decode cX0_bestMinute 37 = .ok (.invokevirtual 353, 3) := dk_182 1 97 (dk_at dksX0_bestMinute_1 13 rfl rfl)
theorem dX0_bestMinute_40 : decode cX0_bestMinute 40 = .ok (.istore 5, 2) := dk_54 5 (dk_at dksX0_bestMinute_1 16 rfl rfl)
theorem dX0_bestMinute_42 : decode cX0_bestMinute 42 = .ok (.iload 5, 2) := dk_21 5 (dk_at dksX0_bestMinute_1 18 rfl rfl)
theorem dX0_bestMinute_44 : decode cX0_bestMinute 44 = .ok (.ifCond .ge 6, 3) := dk_156 0 6 (dk_at dksX0_bestMinute_1 20 rfl rfl)
theorem dX0_bestMinute_47 : decode cX0_bestMinute 47 = .ok (.iload 5, 2) := dk_21 5 (dk_at dksX0_bestMinute_2 0 rfl rfl)
theorem dX0_bestMinute_49 : decode cX0_bestMinute 49 = .ok (.ireturn, 1) := dk_172 (dk_at dksX0_bestMinute_2 2 rfl rfl)
theorem dX0_bestMinute_50 : decode cX0_bestMinute 50 = .ok (.aload_n 0, 1) := dk_42 (dk_at dksX0_bestMinute_2 3 rfl rfl)
theorem dX0_bestMinute_51 : decode cX0_bestMinute 51 = .ok (.iload_n 3, 1) := dk_29 (dk_at dksX0_bestMinute_2 4 rfl rfl)
theorem dX0_bestMinute_52 : decode cX0_bestMinute 52 = .ok (.bipush 100, 2) := dk_16 100 (dk_at dksX0_bestMinute_2 5 rfl rfl)
theorem dX0_bestMinute_54 : decode cX0_bestMinute 54 = .ok (.idiv, 1) := dk_108 (dk_at dksX0_bestMinute_2 7 rfl rfl)
theorem dX0_bestMinute_55 : decode cX0_bestMinute 55 = .ok (.iload_n 3, 1) := dk_29 (dk_at dksX0_bestMinute_2 8 rfl rfl)
theorem dX0_bestMinute_56 : decode cX0_bestMinute 56 = .ok (.bipush 100, 2) := dk_16 100 (dk_at dksX0_bestMinute_2 9 rfl rfl)
theorem dX0_bestMinute_58 : decode cX0_bestMinute 58 = .ok (.irem, 1) := dk_112 (dk_at dksX0_bestMinute_2 11 rfl rfl)
theorem dX0_bestMinute_59 : decode cX0_bestMinute 59 = .ok (.invokevirtual 359, 3) := dk_182 1 103 (dk_at dksX0_bestMinute_2 12 rfl rfl)
theorem dX0_bestMinute_62 : decode cX0_bestMinute 62 = .ok (.istore 6, 2) := dk_54 6 (dk_at dksX0_bestMinute_2 15 rfl rfl)
theorem dX0_bestMinute_64 : decode cX0_bestMinute 64 = .ok (.iload 4, 2) := dk_21 4 (dk_at dksX0_bestMinute_2 17 rfl rfl)
theorem dX0_bestMinute_66 : decode cX0_bestMinute 66 = .ok (.ifCond .ne 8, 3) := dk_154 0 8 (dk_at dksX0_bestMinute_2 19 rfl rfl)
theorem dX0_bestMinute_69 : decode cX0_bestMinute 69 = .ok (.iload 6, 2) := dk_21 6 (dk_at dksX0_bestMinute_2 22 rfl rfl)
theorem dX0_bestMinute_71 : decode cX0_bestMinute 71 = .ok (.goto 17, 3) := dk_167 0 17 (dk_at dksX0_bestMinute_3 0 rfl rfl)
theorem dX0_bestMinute_74 : decode cX0_bestMinute 74 = .ok (.aload_n 0, 1) := dk_42 (dk_at dksX0_bestMinute_3 3 rfl rfl)
theorem dX0_bestMinute_75 : decode cX0_bestMinute 75 = .ok (.iload 6, 2) := dk_21 6 (dk_at dksX0_bestMinute_3 4 rfl rfl)
theorem dX0_bestMinute_77 : decode cX0_bestMinute 77 = .ok (.iload_n 3, 1) := dk_29 (dk_at dksX0_bestMinute_3 6 rfl rfl)
theorem dX0_bestMinute_78 : decode cX0_bestMinute 78 = .ok (.bipush 100, 2) := dk_16 100 (dk_at dksX0_bestMinute_3 7 rfl rfl)
theorem dX0_bestMinute_80 : decode cX0_bestMinute 80 = .ok (.idiv, 1) := dk_108 (dk_at dksX0_bestMinute_3 9 rfl rfl)
theorem dX0_bestMinute_81 : decode cX0_bestMinute 81 = .ok (.iload_n 3, 1) := dk_29 (dk_at dksX0_bestMinute_3 10 rfl rfl)
theorem dX0_bestMinute_82 : decode cX0_bestMinute 82 = .ok (.bipush 100, 2) := dk_16 100 (dk_at dksX0_bestMinute_3 11 rfl rfl)
theorem dX0_bestMinute_84 : decode cX0_bestMinute 84 = .ok (.irem, 1) := dk_112 (dk_at dksX0_bestMinute_3 13 rfl rfl)
theorem dX0_bestMinute_85 : decode cX0_bestMinute 85 = .ok (.invokevirtual 356, 3) := dk_182 1 100 (dk_at dksX0_bestMinute_3 14 rfl rfl)
theorem dX0_bestMinute_88 : decode cX0_bestMinute 88 = .ok (.ireturn, 1) := dk_172 (dk_at dksX0_bestMinute_3 17 rfl rfl)
abbrev cX0_bestTime : ByteArray := prog_1_method_63_code
def yX0_bestTime : MethodName := ⟨RX0, "bestTime", "(II)I"⟩
def dkwX0_bestTime_1 : List UInt8 := [28, 182, 1, 100, 164, 0, 6, 21, 4, 62, 132, 4, 1, 167, 255, 224, 29, 172]
abbrev dktX0_bestTime_1 : List UInt8 := dkwX0_bestTime_1 ++ []
def dkwX0_bestTime_0 : List UInt8 := [3, 62, 4, 54, 4, 21, 4, 17, 2, 87, 163, 0, 30, 42, 21, 4, 27, 28, 182, 1, 100, 42, 29, 27]
abbrev dktX0_bestTime_0 : List UInt8 := dkwX0_bestTime_0 ++ dktX0_bestTime_1
theorem dksX0_bestTime_0 : cX0_bestTime.data.toList.drop 0 = dktX0_bestTime_0 := by decide +kernel
theorem dksX0_bestTime_1 : cX0_bestTime.data.toList.drop 24 = dktX0_bestTime_1 := dk_seg dksX0_bestTime_0 24 rfl rfl
theorem dX0_bestTime_0 : decode cX0_bestTime 0 = .ok (.iconst 0, 1) := dk_3 (dk_at dksX0_bestTime_0 0 rfl rfl)
theorem dX0_bestTime_1 : decode cX0_bestTime 1 = .ok (.istore_n 3, 1) := dk_62 (dk_at dksX0_bestTime_0 1 rfl rfl)
theorem dX0_bestTime_2 : decode cX0_bestTime 2 = .ok (.iconst 1, 1) := dk_4 (dk_at dksX0_bestTime_0 2 rfl rfl)
theorem dX0_bestTime_3 : decode cX0_bestTime 3 = .ok (.istore 4, 2) := dk_54 4 (dk_at dksX0_bestTime_0 3 rfl rfl)
theorem dX0_bestTime_5 : decode cX0_bestTime 5 = .ok (.iload 4, 2) := dk_21 4 (dk_at dksX0_bestTime_0 5 rfl rfl)
theorem dX0_bestTime_7 : decode cX0_bestTime 7 = .ok (.sipush 599, 3) := dk_17 2 87 (dk_at dksX0_bestTime_0 7 rfl rfl)
theorem dX0_bestTime_10 : decode cX0_bestTime 10 = .ok (.if_icmp .gt 30, 3) := dk_163 0 30 (dk_at dksX0_bestTime_0 10 rfl rfl)
theorem dX0_bestTime_13 : decode cX0_bestTime 13 = .ok (.aload_n 0, 1) := dk_42 (dk_at dksX0_bestTime_0 13 rfl rfl)
theorem dX0_bestTime_14 : decode cX0_bestTime 14 = .ok (.iload 4, 2) := dk_21 4 (dk_at dksX0_bestTime_0 14 rfl rfl)
theorem dX0_bestTime_16 : decode cX0_bestTime 16 = .ok (.iload_n 1, 1) := dk_27 (dk_at dksX0_bestTime_0 16 rfl rfl)
theorem dX0_bestTime_17 : decode cX0_bestTime 17 = .ok (.iload_n 2, 1) := dk_28 (dk_at dksX0_bestTime_0 17 rfl rfl)
theorem dX0_bestTime_18 : decode cX0_bestTime 18 = .ok (.invokevirtual 356, 3) := dk_182 1 100 (dk_at dksX0_bestTime_0 18 rfl rfl)
theorem dX0_bestTime_21 : decode cX0_bestTime 21 = .ok (.aload_n 0, 1) := dk_42 (dk_at dksX0_bestTime_0 21 rfl rfl)
theorem dX0_bestTime_22 : decode cX0_bestTime 22 = .ok (.iload_n 3, 1) := dk_29 (dk_at dksX0_bestTime_0 22 rfl rfl)
theorem dX0_bestTime_23 : decode cX0_bestTime 23 = .ok (.iload_n 1, 1) := dk_27 (dk_at dksX0_bestTime_0 23 rfl rfl)
theorem dX0_bestTime_24 : decode cX0_bestTime 24 = .ok (.iload_n 2, 1) := dk_28 (dk_at dksX0_bestTime_1 0 rfl rfl)
theorem dX0_bestTime_25 : decode cX0_bestTime 25 = .ok (.invokevirtual 356, 3) := dk_182 1 100 (dk_at dksX0_bestTime_1 1 rfl rfl)
theorem dX0_bestTime_28 : decode cX0_bestTime 28 = .ok (.if_icmp .le 6, 3) := dk_164 0 6 (dk_at dksX0_bestTime_1 4 rfl rfl)
theorem dX0_bestTime_31 : decode cX0_bestTime 31 = .ok (.iload 4, 2) := dk_21 4 (dk_at dksX0_bestTime_1 7 rfl rfl)
theorem dX0_bestTime_33 : decode cX0_bestTime 33 = .ok (.istore_n 3, 1) := dk_62 (dk_at dksX0_bestTime_1 9 rfl rfl)
theorem dX0_bestTime_34 : decode cX0_bestTime 34 = .ok (.iinc 4 1, 3) := dk_132 4 1 (dk_at dksX0_bestTime_1 10 rfl rfl)
theorem dX0_bestTime_37 : decode cX0_bestTime 37 = .ok (.goto (-32), 3) := dk_167 255 224 (dk_at dksX0_bestTime_1 13 rfl rfl)
theorem dX0_bestTime_40 : decode cX0_bestTime 40 = .ok (.iload_n 3, 1) := dk_29 (dk_at dksX0_bestTime_1 16 rfl rfl)
theorem dX0_bestTime_41 : decode cX0_bestTime 41 = .ok (.ireturn, 1) := dk_172 (dk_at dksX0_bestTime_1 17 rfl rfl)
abbrev cX0_mix : ByteArray := prog_1_method_65_code
def yX0_mix : MethodName := ⟨RX0, "mix", "(III)I"⟩
def dkwX0_mix_4 : List UInt8 := [54, 6, 132, 7, 1, 167, 255, 207, 21, 5, 172]
abbrev dktX0_mix_4 : List UInt8 := dkwX0_mix_4 ++ []
def dkwX0_mix_3 : List UInt8 := [54, 8, 21, 5, 155, 0, 13, 21, 8, 21, 6, 161, 0, 6, 167, 0, 11, 21, 7, 54, 5, 21, 8]
abbrev dktX0_mix_3 : List UInt8 := dkwX0_mix_3 ++ dktX0_mix_4
def dkwX0_mix_2 : List UInt8 := [54, 7, 21, 7, 16, 12, 163, 0, 48, 42, 42, 21, 7, 29, 182, 1, 103, 21, 7, 29, 182, 1, 100]
abbrev dktX0_mix_2 : List UInt8 := dkwX0_mix_2 ++ dktX0_mix_3
def dkwX0_mix_1 : List UInt8 := [42, 27, 28, 182, 1, 97, 54, 4, 21, 4, 156, 0, 6, 21, 4, 172, 16, 254, 54, 5, 3, 54, 6, 3]
abbrev dktX0_mix_1 : List UInt8 := dkwX0_mix_1 ++ dktX0_mix_2
def dkwX0_mix_0 : List UInt8 := [27, 184, 0, 121, 153, 0, 18, 42, 28, 182, 0, 172, 153, 0, 10, 29, 184, 1, 67, 154, 0, 5, 2, 172]
abbrev dktX0_mix_0 : List UInt8 := dkwX0_mix_0 ++ dktX0_mix_1
theorem dksX0_mix_0 : cX0_mix.data.toList.drop 0 = dktX0_mix_0 := by decide +kernel
theorem dksX0_mix_1 : cX0_mix.data.toList.drop 24 = dktX0_mix_1 := dk_seg dksX0_mix_0 24 rfl rfl
theorem dksX0_mix_2 : cX0_mix.data.toList.drop 48 = dktX0_mix_2 := dk_seg dksX0_mix_1 24 rfl rfl
theorem dksX0_mix_3 : cX0_mix.data.toList.drop 71 = dktX0_mix_3 := dk_seg dksX0_mix_2 23 rfl rfl
theorem dksX0_mix_4 : cX0_mix.data.toList.drop 94 = dktX0_mix_4 := dk_seg dksX0_mix_3 23 rfl rfl
theorem dX0_mix_0 : decode cX0_mix 0 = .ok (.iload_n 1, 1) := dk_27 (dk_at dksX0_mix_0 0 rfl rfl)
theorem dX0_mix_1 : decode cX0_mix 1 = .ok (.invokestatic 121, 3) := dk_184 0 121 (dk_at dksX0_mix_0 1 rfl rfl)
theorem dX0_mix_4 : decode cX0_mix 4 = .ok (.ifCond .eq 18, 3) := dk_153 0 18 (dk_at dksX0_mix_0 4 rfl rfl)
theorem dX0_mix_7 : decode cX0_mix 7 = .ok (.aload_n 0, 1) := dk_42 (dk_at dksX0_mix_0 7 rfl rfl)
theorem dX0_mix_8 : decode cX0_mix 8 = .ok (.iload_n 2, 1) := dk_28 (dk_at dksX0_mix_0 8 rfl rfl)
theorem dX0_mix_9 : decode cX0_mix 9 = .ok (.invokevirtual 172, 3) := dk_182 0 172 (dk_at dksX0_mix_0 9 rfl rfl)
theorem dX0_mix_12 : decode cX0_mix 12 = .ok (.ifCond .eq 10, 3) := dk_153 0 10 (dk_at dksX0_mix_0 12 rfl rfl)
theorem dX0_mix_15 : decode cX0_mix 15 = .ok (.iload_n 3, 1) := dk_29 (dk_at dksX0_mix_0 15 rfl rfl)
theorem dX0_mix_16 : decode cX0_mix 16 = .ok (.invokestatic 323, 3) := dk_184 1 67 (dk_at dksX0_mix_0 16 rfl rfl)
theorem dX0_mix_19 : decode cX0_mix 19 = .ok (.ifCond .ne 5, 3) := dk_154 0 5 (dk_at dksX0_mix_0 19 rfl rfl)
theorem dX0_mix_22 : decode cX0_mix 22 = .ok (.iconst (-1), 1) := dk_2 (dk_at dksX0_mix_0 22 rfl rfl)
theorem dX0_mix_23 : decode cX0_mix 23 = .ok (.ireturn, 1) := dk_172 (dk_at dksX0_mix_0 23 rfl rfl)
theorem dX0_mix_24 : decode cX0_mix 24 = .ok (.aload_n 0, 1) := dk_42 (dk_at dksX0_mix_1 0 rfl rfl)
theorem dX0_mix_25 : decode cX0_mix 25 = .ok (.iload_n 1, 1) := dk_27 (dk_at dksX0_mix_1 1 rfl rfl)
theorem dX0_mix_26 : decode cX0_mix 26 = .ok (.iload_n 2, 1) := dk_28 (dk_at dksX0_mix_1 2 rfl rfl)
theorem dX0_mix_27 : decode cX0_mix 27 = .ok (.invokevirtual 353, 3) := dk_182 1 97 (dk_at dksX0_mix_1 3 rfl rfl)
theorem dX0_mix_30 : decode cX0_mix 30 = .ok (.istore 4, 2) := dk_54 4 (dk_at dksX0_mix_1 6 rfl rfl)
theorem dX0_mix_32 : decode cX0_mix 32 = .ok (.iload 4, 2) := dk_21 4 (dk_at dksX0_mix_1 8 rfl rfl)
theorem dX0_mix_34 : decode cX0_mix 34 = .ok (.ifCond .ge 6, 3) := dk_156 0 6 (dk_at dksX0_mix_1 10 rfl rfl)
theorem dX0_mix_37 : decode cX0_mix 37 = .ok (.iload 4, 2) := dk_21 4 (dk_at dksX0_mix_1 13 rfl rfl)
theorem dX0_mix_39 : decode cX0_mix 39 = .ok (.ireturn, 1) := dk_172 (dk_at dksX0_mix_1 15 rfl rfl)
theorem dX0_mix_40 : decode cX0_mix 40 = .ok (.bipush (-2), 2) := dk_16 254 (dk_at dksX0_mix_1 16 rfl rfl)
theorem dX0_mix_42 : decode cX0_mix 42 = .ok (.istore 5, 2) := dk_54 5 (dk_at dksX0_mix_1 18 rfl rfl)
theorem dX0_mix_44 : decode cX0_mix 44 = .ok (.iconst 0, 1) := dk_3 (dk_at dksX0_mix_1 20 rfl rfl)
theorem dX0_mix_45 : decode cX0_mix 45 = .ok (.istore 6, 2) := dk_54 6 (dk_at dksX0_mix_1 21 rfl rfl)
theorem dX0_mix_47 : decode cX0_mix 47 = .ok (.iconst 0, 1) := dk_3 (dk_at dksX0_mix_1 23 rfl rfl)
theorem dX0_mix_48 : decode cX0_mix 48 = .ok (.istore 7, 2) := dk_54 7 (dk_at dksX0_mix_2 0 rfl rfl)
theorem dX0_mix_50 : decode cX0_mix 50 = .ok (.iload 7, 2) := dk_21 7 (dk_at dksX0_mix_2 2 rfl rfl)
theorem dX0_mix_52 : decode cX0_mix 52 = .ok (.bipush 12, 2) := dk_16 12 (dk_at dksX0_mix_2 4 rfl rfl)
theorem dX0_mix_54 : decode cX0_mix 54 = .ok (.if_icmp .gt 48, 3) := dk_163 0 48 (dk_at dksX0_mix_2 6 rfl rfl)
theorem dX0_mix_57 : decode cX0_mix 57 = .ok (.aload_n 0, 1) := dk_42 (dk_at dksX0_mix_2 9 rfl rfl)
theorem dX0_mix_58 : decode cX0_mix 58 = .ok (.aload_n 0, 1) := dk_42 (dk_at dksX0_mix_2 10 rfl rfl)
theorem dX0_mix_59 : decode cX0_mix 59 = .ok (.iload 7, 2) := dk_21 7 (dk_at dksX0_mix_2 11 rfl rfl)
theorem dX0_mix_61 : decode cX0_mix 61 = .ok (.iload_n 3, 1) := dk_29 (dk_at dksX0_mix_2 13 rfl rfl)
theorem dX0_mix_62 : decode cX0_mix 62 = .ok (.invokevirtual 359, 3) := dk_182 1 103 (dk_at dksX0_mix_2 14 rfl rfl)
theorem dX0_mix_65 : decode cX0_mix 65 = .ok (.iload 7, 2) := dk_21 7 (dk_at dksX0_mix_2 17 rfl rfl)
theorem dX0_mix_67 : decode cX0_mix 67 = .ok (.iload_n 3, 1) := dk_29 (dk_at dksX0_mix_2 19 rfl rfl)
theorem dX0_mix_68 : decode cX0_mix 68 = .ok (.invokevirtual 356, 3) := dk_182 1 100 (dk_at dksX0_mix_2 20 rfl rfl)
theorem dX0_mix_71 : decode cX0_mix 71 = .ok (.istore 8, 2) := dk_54 8 (dk_at dksX0_mix_3 0 rfl rfl)
theorem dX0_mix_73 : decode cX0_mix 73 = .ok (.iload 5, 2) := dk_21 5 (dk_at dksX0_mix_3 2 rfl rfl)
theorem dX0_mix_75 : decode cX0_mix 75 = .ok (.ifCond .lt 13, 3) := dk_155 0 13 (dk_at dksX0_mix_3 4 rfl rfl)
theorem dX0_mix_78 : decode cX0_mix 78 = .ok (.iload 8, 2) := dk_21 8 (dk_at dksX0_mix_3 7 rfl rfl)
theorem dX0_mix_80 : decode cX0_mix 80 = .ok (.iload 6, 2) := dk_21 6 (dk_at dksX0_mix_3 9 rfl rfl)
theorem dX0_mix_82 : decode cX0_mix 82 = .ok (.if_icmp .lt 6, 3) := dk_161 0 6 (dk_at dksX0_mix_3 11 rfl rfl)
theorem dX0_mix_85 : decode cX0_mix 85 = .ok (.goto 11, 3) := dk_167 0 11 (dk_at dksX0_mix_3 14 rfl rfl)
theorem dX0_mix_88 : decode cX0_mix 88 = .ok (.iload 7, 2) := dk_21 7 (dk_at dksX0_mix_3 17 rfl rfl)
theorem dX0_mix_90 : decode cX0_mix 90 = .ok (.istore 5, 2) := dk_54 5 (dk_at dksX0_mix_3 19 rfl rfl)
theorem dX0_mix_92 : decode cX0_mix 92 = .ok (.iload 8, 2) := dk_21 8 (dk_at dksX0_mix_3 21 rfl rfl)
theorem dX0_mix_94 : decode cX0_mix 94 = .ok (.istore 6, 2) := dk_54 6 (dk_at dksX0_mix_4 0 rfl rfl)
theorem dX0_mix_96 : decode cX0_mix 96 = .ok (.iinc 7 1, 3) := dk_132 7 1 (dk_at dksX0_mix_4 2 rfl rfl)
theorem dX0_mix_99 : decode cX0_mix 99 = .ok (.goto (-49), 3) := dk_167 255 207 (dk_at dksX0_mix_4 5 rfl rfl)
theorem dX0_mix_102 : decode cX0_mix 102 = .ok (.iload 5, 2) := dk_21 5 (dk_at dksX0_mix_4 8 rfl rfl)
theorem dX0_mix_104 : decode cX0_mix 104 = .ok (.ireturn, 1) := dk_172 (dk_at dksX0_mix_4 10 rfl rfl)
abbrev cX0_paper : ByteArray := prog_1_method_71_code
def yX0_paper : MethodName := ⟨RX0, "paper", "(II)I"⟩
def dkwX0_paper_2 : List UInt8 := [182, 1, 123, 167, 0, 17, 42, 28, 5, 160, 0, 7, 4, 167, 0, 4, 3, 182, 1, 126, 172]
abbrev dktX0_paper_2 : List UInt8 := dkwX0_paper_2 ++ []
def dkwX0_paper_1 : List UInt8 := [29, 156, 0, 5, 29, 172, 28, 154, 0, 10, 42, 182, 1, 117, 167, 0, 29, 28, 6, 160, 0, 10, 42]
abbrev dktX0_paper_1 : List UInt8 := dkwX0_paper_1 ++ dktX0_paper_2
def dkwX0_paper_0 : List UInt8 := [27, 184, 0, 121, 153, 0, 12, 28, 3, 6, 184, 0, 89, 154, 0, 5, 2, 172, 42, 27, 182, 1, 120, 62]
abbrev dktX0_paper_0 : List UInt8 := dkwX0_paper_0 ++ dktX0_paper_1
theorem dksX0_paper_0 : cX0_paper.data.toList.drop 0 = dktX0_paper_0 := by decide +kernel
theorem dksX0_paper_1 : cX0_paper.data.toList.drop 24 = dktX0_paper_1 := dk_seg dksX0_paper_0 24 rfl rfl
theorem dksX0_paper_2 : cX0_paper.data.toList.drop 47 = dktX0_paper_2 := dk_seg dksX0_paper_1 23 rfl rfl
theorem dX0_paper_0 : decode cX0_paper 0 = .ok (.iload_n 1, 1) := dk_27 (dk_at dksX0_paper_0 0 rfl rfl)
theorem dX0_paper_1 : decode cX0_paper 1 = .ok (.invokestatic 121, 3) := dk_184 0 121 (dk_at dksX0_paper_0 1 rfl rfl)
theorem dX0_paper_4 : decode cX0_paper 4 = .ok (.ifCond .eq 12, 3) := dk_153 0 12 (dk_at dksX0_paper_0 4 rfl rfl)
theorem dX0_paper_7 : decode cX0_paper 7 = .ok (.iload_n 2, 1) := dk_28 (dk_at dksX0_paper_0 7 rfl rfl)
theorem dX0_paper_8 : decode cX0_paper 8 = .ok (.iconst 0, 1) := dk_3 (dk_at dksX0_paper_0 8 rfl rfl)
theorem dX0_paper_9 : decode cX0_paper 9 = .ok (.iconst 3, 1) := dk_6 (dk_at dksX0_paper_0 9 rfl rfl)
theorem dX0_paper_10 : decode cX0_paper 10 = .ok (.invokestatic 89, 3) := dk_184 0 89 (dk_at dksX0_paper_0 10 rfl rfl)
theorem dX0_paper_13 : decode cX0_paper 13 = .ok (.ifCond .ne 5, 3) := dk_154 0 5 (dk_at dksX0_paper_0 13 rfl rfl)
theorem dX0_paper_16 : decode cX0_paper 16 = .ok (.iconst (-1), 1) := dk_2 (dk_at dksX0_paper_0 16 rfl rfl)
theorem dX0_paper_17 : decode cX0_paper 17 = .ok (.ireturn, 1) := dk_172 (dk_at dksX0_paper_0 17 rfl rfl)
theorem dX0_paper_18 : decode cX0_paper 18 = .ok (.aload_n 0, 1) := dk_42 (dk_at dksX0_paper_0 18 rfl rfl)
theorem dX0_paper_19 : decode cX0_paper 19 = .ok (.iload_n 1, 1) := dk_27 (dk_at dksX0_paper_0 19 rfl rfl)
theorem dX0_paper_20 : decode cX0_paper 20 = .ok (.invokevirtual 376, 3) := dk_182 1 120 (dk_at dksX0_paper_0 20 rfl rfl)
theorem dX0_paper_23 : decode cX0_paper 23 = .ok (.istore_n 3, 1) := dk_62 (dk_at dksX0_paper_0 23 rfl rfl)
theorem dX0_paper_24 : decode cX0_paper 24 = .ok (.iload_n 3, 1) := dk_29 (dk_at dksX0_paper_1 0 rfl rfl)
theorem dX0_paper_25 : decode cX0_paper 25 = .ok (.ifCond .ge 5, 3) := dk_156 0 5 (dk_at dksX0_paper_1 1 rfl rfl)
theorem dX0_paper_28 : decode cX0_paper 28 = .ok (.iload_n 3, 1) := dk_29 (dk_at dksX0_paper_1 4 rfl rfl)
theorem dX0_paper_29 : decode cX0_paper 29 = .ok (.ireturn, 1) := dk_172 (dk_at dksX0_paper_1 5 rfl rfl)
theorem dX0_paper_30 : decode cX0_paper 30 = .ok (.iload_n 2, 1) := dk_28 (dk_at dksX0_paper_1 6 rfl rfl)
theorem dX0_paper_31 : decode cX0_paper 31 = .ok (.ifCond .ne 10, 3) := dk_154 0 10 (dk_at dksX0_paper_1 7 rfl rfl)
theorem dX0_paper_34 : decode cX0_paper 34 = .ok (.aload_n 0, 1) := dk_42 (dk_at dksX0_paper_1 10 rfl rfl)
theorem dX0_paper_35 : decode cX0_paper 35 = .ok (.invokevirtual 373, 3) := dk_182 1 117 (dk_at dksX0_paper_1 11 rfl rfl)
theorem dX0_paper_38 : decode cX0_paper 38 = .ok (.goto 29, 3) := dk_167 0 29 (dk_at dksX0_paper_1 14 rfl rfl)
theorem dX0_paper_41 : decode cX0_paper 41 = .ok (.iload_n 2, 1) := dk_28 (dk_at dksX0_paper_1 17 rfl rfl)
theorem dX0_paper_42 : decode cX0_paper 42 = .ok (.iconst 3, 1) := dk_6 (dk_at dksX0_paper_1 18 rfl rfl)
theorem dX0_paper_43 : decode cX0_paper 43 = .ok (.if_icmp .ne 10, 3) := dk_160 0 10 (dk_at dksX0_paper_1 19 rfl rfl)
theorem dX0_paper_46 : decode cX0_paper 46 = .ok (.aload_n 0, 1) := dk_42 (dk_at dksX0_paper_1 22 rfl rfl)
theorem dX0_paper_47 : decode cX0_paper 47 = .ok (.invokevirtual 379, 3) := dk_182 1 123 (dk_at dksX0_paper_2 0 rfl rfl)
theorem dX0_paper_50 : decode cX0_paper 50 = .ok (.goto 17, 3) := dk_167 0 17 (dk_at dksX0_paper_2 3 rfl rfl)
theorem dX0_paper_53 : decode cX0_paper 53 = .ok (.aload_n 0, 1) := dk_42 (dk_at dksX0_paper_2 6 rfl rfl)
theorem dX0_paper_54 : decode cX0_paper 54 = .ok (.iload_n 2, 1) := dk_28 (dk_at dksX0_paper_2 7 rfl rfl)
theorem dX0_paper_55 : decode cX0_paper 55 = .ok (.iconst 2, 1) := dk_5 (dk_at dksX0_paper_2 8 rfl rfl)
theorem dX0_paper_56 : decode cX0_paper 56 = .ok (.if_icmp .ne 7, 3) := dk_160 0 7 (dk_at dksX0_paper_2 9 rfl rfl)
theorem dX0_paper_59 : decode cX0_paper 59 = .ok (.iconst 1, 1) := dk_4 (dk_at dksX0_paper_2 12 rfl rfl)
theorem dX0_paper_60 : decode cX0_paper 60 = .ok (.goto 4, 3) := dk_167 0 4 (dk_at dksX0_paper_2 13 rfl rfl)
theorem dX0_paper_63 : decode cX0_paper 63 = .ok (.iconst 0, 1) := dk_3 (dk_at dksX0_paper_2 16 rfl rfl)
theorem dX0_paper_64 : decode cX0_paper 64 = .ok (.invokevirtual 382, 3) := dk_182 1 126 (dk_at dksX0_paper_2 17 rfl rfl)
theorem dX0_paper_67 : decode cX0_paper 67 = .ok (.ireturn, 1) := dk_172 (dk_at dksX0_paper_2 20 rfl rfl)
abbrev cX0_layPaper : ByteArray := prog_1_method_66_code
def yX0_layPaper : MethodName := ⟨RX0, "layPaper", "(I)I"⟩
def dkwX0_layPaper_2 : List UInt8 := [181, 1, 106, 132, 3, 1, 167, 255, 223, 167, 0, 11, 77, 16, 244, 172, 77, 16, 245, 172, 3, 172]
abbrev dktX0_layPaper_2 : List UInt8 := dkwX0_layPaper_2 ++ []
def dkwX0_layPaper_1 : List UInt8 := [162, 0, 31, 42, 180, 0, 65, 29, 44, 29, 182, 1, 112, 136, 79, 42, 89, 180, 1, 106, 4, 96]
abbrev dktX0_layPaper_1 : List UInt8 := dkwX0_layPaper_1 ++ dktX0_layPaper_2
def dkwX0_layPaper_0 : List UInt8 := [42, 3, 181, 1, 106, 42, 180, 0, 85, 27, 50, 192, 1, 109, 77, 3, 62, 29, 44, 182, 1, 111]
abbrev dktX0_layPaper_0 : List UInt8 := dkwX0_layPaper_0 ++ dktX0_layPaper_1
theorem dksX0_layPaper_0 : cX0_layPaper.data.toList.drop 0 = dktX0_layPaper_0 := by decide +kernel
theorem dksX0_layPaper_1 : cX0_layPaper.data.toList.drop 22 = dktX0_layPaper_1 := dk_seg dksX0_layPaper_0 22 rfl rfl
theorem dksX0_layPaper_2 : cX0_layPaper.data.toList.drop 44 = dktX0_layPaper_2 := dk_seg dksX0_layPaper_1 22 rfl rfl
theorem dX0_layPaper_0 : decode cX0_layPaper 0 = .ok (.aload_n 0, 1) := dk_42 (dk_at dksX0_layPaper_0 0 rfl rfl)
theorem dX0_layPaper_1 : decode cX0_layPaper 1 = .ok (.iconst 0, 1) := dk_3 (dk_at dksX0_layPaper_0 1 rfl rfl)
theorem dX0_layPaper_2 : decode cX0_layPaper 2 = .ok (.putfield 362, 3) := dk_181 1 106 (dk_at dksX0_layPaper_0 2 rfl rfl)
theorem dX0_layPaper_5 : decode cX0_layPaper 5 = .ok (.aload_n 0, 1) := dk_42 (dk_at dksX0_layPaper_0 5 rfl rfl)
theorem dX0_layPaper_6 : decode cX0_layPaper 6 = .ok (.getfield 85, 3) := dk_180 0 85 (dk_at dksX0_layPaper_0 6 rfl rfl)
theorem dX0_layPaper_9 : decode cX0_layPaper 9 = .ok (.iload_n 1, 1) := dk_27 (dk_at dksX0_layPaper_0 9 rfl rfl)
theorem dX0_layPaper_10 : decode cX0_layPaper 10 = .ok (.aaload, 1) := dk_50 (dk_at dksX0_layPaper_0 10 rfl rfl)
theorem dX0_layPaper_11 : decode cX0_layPaper 11 = .ok (.checkcast 365, 3) := dk_192 1 109 (dk_at dksX0_layPaper_0 11 rfl rfl)
theorem dX0_layPaper_14 : decode cX0_layPaper 14 = .ok (.astore_n 2, 1) := dk_77 (dk_at dksX0_layPaper_0 14 rfl rfl)
theorem dX0_layPaper_15 : decode cX0_layPaper 15 = .ok (.iconst 0, 1) := dk_3 (dk_at dksX0_layPaper_0 15 rfl rfl)
theorem dX0_layPaper_16 : decode cX0_layPaper 16 = .ok (.istore_n 3, 1) := dk_62 (dk_at dksX0_layPaper_0 16 rfl rfl)
theorem dX0_layPaper_17 : decode cX0_layPaper 17 = .ok (.iload_n 3, 1) := dk_29 (dk_at dksX0_layPaper_0 17 rfl rfl)
theorem dX0_layPaper_18 : decode cX0_layPaper 18 = .ok (.aload_n 2, 1) := dk_44 (dk_at dksX0_layPaper_0 18 rfl rfl)
theorem dX0_layPaper_19 : decode cX0_layPaper 19 = .ok (.invokevirtual 367, 3) := dk_182 1 111 (dk_at dksX0_layPaper_0 19 rfl rfl)
theorem dX0_layPaper_22 : decode cX0_layPaper 22 = .ok (.if_icmp .ge 31, 3) := dk_162 0 31 (dk_at dksX0_layPaper_1 0 rfl rfl)
theorem dX0_layPaper_25 : decode cX0_layPaper 25 = .ok (.aload_n 0, 1) := dk_42 (dk_at dksX0_layPaper_1 3 rfl rfl)
theorem dX0_layPaper_26 : decode cX0_layPaper 26 = .ok (.getfield 65, 3) := dk_180 0 65 (dk_at dksX0_layPaper_1 4 rfl rfl)
theorem dX0_layPaper_29 : decode cX0_layPaper 29 = .ok (.iload_n 3, 1) := dk_29 (dk_at dksX0_layPaper_1 7 rfl rfl)
theorem dX0_layPaper_30 : decode cX0_layPaper 30 = .ok (.aload_n 2, 1) := dk_44 (dk_at dksX0_layPaper_1 8 rfl rfl)
theorem dX0_layPaper_31 : decode cX0_layPaper 31 = .ok (.iload_n 3, 1) := dk_29 (dk_at dksX0_layPaper_1 9 rfl rfl)
theorem dX0_layPaper_32 : decode cX0_layPaper 32 = .ok (.invokevirtual 368, 3) := dk_182 1 112 (dk_at dksX0_layPaper_1 10 rfl rfl)
theorem dX0_layPaper_35 : decode cX0_layPaper 35 = .ok (.l2i, 1) := dk_136 (dk_at dksX0_layPaper_1 13 rfl rfl)
theorem dX0_layPaper_36 : decode cX0_layPaper 36 = .ok (.iastore, 1) := dk_79 (dk_at dksX0_layPaper_1 14 rfl rfl)
theorem dX0_layPaper_37 : decode cX0_layPaper 37 = .ok (.aload_n 0, 1) := dk_42 (dk_at dksX0_layPaper_1 15 rfl rfl)
theorem dX0_layPaper_38 : decode cX0_layPaper 38 = .ok (.dup, 1) := dk_89 (dk_at dksX0_layPaper_1 16 rfl rfl)
theorem dX0_layPaper_39 : decode cX0_layPaper 39 = .ok (.getfield 362, 3) := dk_180 1 106 (dk_at dksX0_layPaper_1 17 rfl rfl)
theorem dX0_layPaper_42 : decode cX0_layPaper 42 = .ok (.iconst 1, 1) := dk_4 (dk_at dksX0_layPaper_1 20 rfl rfl)
theorem dX0_layPaper_43 : decode cX0_layPaper 43 = .ok (.iadd, 1) := dk_96 (dk_at dksX0_layPaper_1 21 rfl rfl)
theorem dX0_layPaper_44 : decode cX0_layPaper 44 = .ok (.putfield 362, 3) := dk_181 1 106 (dk_at dksX0_layPaper_2 0 rfl rfl)
theorem dX0_layPaper_47 : decode cX0_layPaper 47 = .ok (.iinc 3 1, 3) := dk_132 3 1 (dk_at dksX0_layPaper_2 3 rfl rfl)
theorem dX0_layPaper_50 : decode cX0_layPaper 50 = .ok (.goto (-33), 3) := dk_167 255 223 (dk_at dksX0_layPaper_2 6 rfl rfl)
theorem dX0_layPaper_53 : decode cX0_layPaper 53 = .ok (.goto 11, 3) := dk_167 0 11 (dk_at dksX0_layPaper_2 9 rfl rfl)
theorem dX0_layPaper_56 : decode cX0_layPaper 56 = .ok (.astore_n 2, 1) := dk_77 (dk_at dksX0_layPaper_2 12 rfl rfl)
theorem dX0_layPaper_57 : decode cX0_layPaper 57 = .ok (.bipush (-12), 2) := dk_16 244 (dk_at dksX0_layPaper_2 13 rfl rfl)
theorem dX0_layPaper_59 : decode cX0_layPaper 59 = .ok (.ireturn, 1) := dk_172 (dk_at dksX0_layPaper_2 15 rfl rfl)
theorem dX0_layPaper_60 : decode cX0_layPaper 60 = .ok (.astore_n 2, 1) := dk_77 (dk_at dksX0_layPaper_2 16 rfl rfl)
theorem dX0_layPaper_61 : decode cX0_layPaper 61 = .ok (.bipush (-11), 2) := dk_16 245 (dk_at dksX0_layPaper_2 17 rfl rfl)
theorem dX0_layPaper_63 : decode cX0_layPaper 63 = .ok (.ireturn, 1) := dk_172 (dk_at dksX0_layPaper_2 19 rfl rfl)
theorem dX0_layPaper_64 : decode cX0_layPaper 64 = .ok (.iconst 0, 1) := dk_3 (dk_at dksX0_layPaper_2 20 rfl rfl)
theorem dX0_layPaper_65 : decode cX0_layPaper 65 = .ok (.ireturn, 1) := dk_172 (dk_at dksX0_layPaper_2 21 rfl rfl)
abbrev cX0_wrongDent : ByteArray := prog_1_method_68_code
def yX0_wrongDent : MethodName := ⟨RX0, "wrongDent", "()I"⟩
def dkwX0_wrongDent_1 : List UInt8 := [132, 1, 1, 167, 255, 233, 16, 254, 172]
abbrev dktX0_wrongDent_1 : List UInt8 := dkwX0_wrongDent_1 ++ []
def dkwX0_wrongDent_0 : List UInt8 := [3, 60, 5, 27, 104, 42, 180, 1, 106, 162, 0, 19, 42, 27, 182, 1, 114, 156, 0, 5, 27, 172]
abbrev dktX0_wrongDent_0 : List UInt8 := dkwX0_wrongDent_0 ++ dktX0_wrongDent_1
theorem dksX0_wrongDent_0 : cX0_wrongDent.data.toList.drop 0 = dktX0_wrongDent_0 := by decide +kernel
theorem dksX0_wrongDent_1 : cX0_wrongDent.data.toList.drop 22 = dktX0_wrongDent_1 := dk_seg dksX0_wrongDent_0 22 rfl rfl
theorem dX0_wrongDent_0 : decode cX0_wrongDent 0 = .ok (.iconst 0, 1) := dk_3 (dk_at dksX0_wrongDent_0 0 rfl rfl)
theorem dX0_wrongDent_1 : decode cX0_wrongDent 1 = .ok (.istore_n 1, 1) := dk_60 (dk_at dksX0_wrongDent_0 1 rfl rfl)
theorem dX0_wrongDent_2 : decode cX0_wrongDent 2 = .ok (.iconst 2, 1) := dk_5 (dk_at dksX0_wrongDent_0 2 rfl rfl)
theorem dX0_wrongDent_3 : decode cX0_wrongDent 3 = .ok (.iload_n 1, 1) := dk_27 (dk_at dksX0_wrongDent_0 3 rfl rfl)
theorem dX0_wrongDent_4 : decode cX0_wrongDent 4 = .ok (.imul, 1) := dk_104 (dk_at dksX0_wrongDent_0 4 rfl rfl)
theorem dX0_wrongDent_5 : decode cX0_wrongDent 5 = .ok (.aload_n 0, 1) := dk_42 (dk_at dksX0_wrongDent_0 5 rfl rfl)
theorem dX0_wrongDent_6 : decode cX0_wrongDent 6 = .ok (.getfield 362, 3) := dk_180 1 106 (dk_at dksX0_wrongDent_0 6 rfl rfl)
theorem dX0_wrongDent_9 : decode cX0_wrongDent 9 = .ok (.if_icmp .ge 19, 3) := dk_162 0 19 (dk_at dksX0_wrongDent_0 9 rfl rfl)
theorem dX0_wrongDent_12 : decode cX0_wrongDent 12 = .ok (.aload_n 0, 1) := dk_42 (dk_at dksX0_wrongDent_0 12 rfl rfl)
theorem dX0_wrongDent_13 : decode cX0_wrongDent 13 = .ok (.iload_n 1, 1) := dk_27 (dk_at dksX0_wrongDent_0 13 rfl rfl)
theorem dX0_wrongDent_14 : decode cX0_wrongDent 14 = .ok (.invokevirtual 370, 3) := dk_182 1 114 (dk_at dksX0_wrongDent_0 14 rfl rfl)
theorem dX0_wrongDent_17 : decode cX0_wrongDent 17 = .ok (.ifCond .ge 5, 3) := dk_156 0 5 (dk_at dksX0_wrongDent_0 17 rfl rfl)
theorem dX0_wrongDent_20 : decode cX0_wrongDent 20 = .ok (.iload_n 1, 1) := dk_27 (dk_at dksX0_wrongDent_0 20 rfl rfl)
theorem dX0_wrongDent_21 : decode cX0_wrongDent 21 = .ok (.ireturn, 1) := dk_172 (dk_at dksX0_wrongDent_0 21 rfl rfl)
theorem dX0_wrongDent_22 : decode cX0_wrongDent 22 = .ok (.iinc 1 1, 3) := dk_132 1 1 (dk_at dksX0_wrongDent_1 0 rfl rfl)
theorem dX0_wrongDent_25 : decode cX0_wrongDent 25 = .ok (.goto (-23), 3) := dk_167 255 233 (dk_at dksX0_wrongDent_1 3 rfl rfl)
theorem dX0_wrongDent_28 : decode cX0_wrongDent 28 = .ok (.bipush (-2), 2) := dk_16 254 (dk_at dksX0_wrongDent_1 6 rfl rfl)
theorem dX0_wrongDent_30 : decode cX0_wrongDent 30 = .ok (.ireturn, 1) := dk_172 (dk_at dksX0_wrongDent_1 8 rfl rfl)
abbrev cX0_laterThan : ByteArray := prog_1_method_67_code
def yX0_laterThan : MethodName := ⟨RX0, "laterThan", "(I)I"⟩
def dkwX0_laterThan_5 : List UInt8 := [46, 182, 0, 246, 100, 172]
abbrev dktX0_laterThan_5 : List UInt8 := dkwX0_laterThan_5 ++ []
def dkwX0_laterThan_4 : List UInt8 := [100, 42, 180, 0, 19, 100, 42, 42, 180, 0, 65, 5, 27, 104, 5, 100, 46, 42, 180, 0, 65, 5, 27, 104]
abbrev dktX0_laterThan_4 : List UInt8 := dkwX0_laterThan_4 ++ dktX0_laterThan_5
def dkwX0_laterThan_3 : List UInt8 := [19, 1, 113, 172, 42, 180, 0, 65, 5, 27, 104, 4, 96, 46, 42, 180, 0, 65, 5, 27, 104, 4, 100, 46]
abbrev dktX0_laterThan_3 : List UInt8 := dkwX0_laterThan_3 ++ dktX0_laterThan_4
def dkwX0_laterThan_2 : List UInt8 := [182, 0, 242, 100, 172, 42, 42, 180, 0, 65, 5, 27, 104, 5, 100, 46, 182, 0, 172, 154, 0, 7]
abbrev dktX0_laterThan_2 : List UInt8 := dkwX0_laterThan_2 ++ dktX0_laterThan_3
def dkwX0_laterThan_1 : List UInt8 := [154, 0, 7, 19, 1, 113, 172, 27, 154, 0, 21, 42, 180, 0, 65, 4, 46, 42, 42, 180, 0, 65, 3, 46]
abbrev dktX0_laterThan_1 : List UInt8 := dkwX0_laterThan_1 ++ dktX0_laterThan_2
def dkwX0_laterThan_0 : List UInt8 := [5, 27, 104, 4, 96, 42, 180, 1, 106, 162, 0, 18, 42, 42, 180, 0, 65, 5, 27, 104, 46, 182, 0, 172]
abbrev dktX0_laterThan_0 : List UInt8 := dkwX0_laterThan_0 ++ dktX0_laterThan_1
theorem dksX0_laterThan_0 : cX0_laterThan.data.toList.drop 0 = dktX0_laterThan_0 := by decide +kernel
theorem dksX0_laterThan_1 : cX0_laterThan.data.toList.drop 24 = dktX0_laterThan_1 := dk_seg dksX0_laterThan_0 24 rfl rfl
theorem dksX0_laterThan_2 : cX0_laterThan.data.toList.drop 48 = dktX0_laterThan_2 := dk_seg dksX0_laterThan_1 24 rfl rfl
theorem dksX0_laterThan_3 : cX0_laterThan.data.toList.drop 70 = dktX0_laterThan_3 := dk_seg dksX0_laterThan_2 22 rfl rfl
theorem dksX0_laterThan_4 : cX0_laterThan.data.toList.drop 94 = dktX0_laterThan_4 := dk_seg dksX0_laterThan_3 24 rfl rfl
theorem dksX0_laterThan_5 : cX0_laterThan.data.toList.drop 118 = dktX0_laterThan_5 := dk_seg dksX0_laterThan_4 24 rfl rfl
theorem dX0_laterThan_0 : decode cX0_laterThan 0 = .ok (.iconst 2, 1) := dk_5 (dk_at dksX0_laterThan_0 0 rfl rfl)
theorem dX0_laterThan_1 : decode cX0_laterThan 1 = .ok (.iload_n 1, 1) := dk_27 (dk_at dksX0_laterThan_0 1 rfl rfl)
theorem dX0_laterThan_2 : decode cX0_laterThan 2 = .ok (.imul, 1) := dk_104 (dk_at dksX0_laterThan_0 2 rfl rfl)
theorem dX0_laterThan_3 : decode cX0_laterThan 3 = .ok (.iconst 1, 1) := dk_4 (dk_at dksX0_laterThan_0 3 rfl rfl)
theorem dX0_laterThan_4 : decode cX0_laterThan 4 = .ok (.iadd, 1) := dk_96 (dk_at dksX0_laterThan_0 4 rfl rfl)
theorem dX0_laterThan_5 : decode cX0_laterThan 5 = .ok (.aload_n 0, 1) := dk_42 (dk_at dksX0_laterThan_0 5 rfl rfl)
theorem dX0_laterThan_6 : decode cX0_laterThan 6 = .ok (.getfield 362, 3) := dk_180 1 106 (dk_at dksX0_laterThan_0 6 rfl rfl)
theorem dX0_laterThan_9 : decode cX0_laterThan 9 = .ok (.if_icmp .ge 18, 3) := dk_162 0 18 (dk_at dksX0_laterThan_0 9 rfl rfl)
theorem dX0_laterThan_12 : decode cX0_laterThan 12 = .ok (.aload_n 0, 1) := dk_42 (dk_at dksX0_laterThan_0 12 rfl rfl)
theorem dX0_laterThan_13 : decode cX0_laterThan 13 = .ok (.aload_n 0, 1) := dk_42 (dk_at dksX0_laterThan_0 13 rfl rfl)
theorem dX0_laterThan_14 : decode cX0_laterThan 14 = .ok (.getfield 65, 3) := dk_180 0 65 (dk_at dksX0_laterThan_0 14 rfl rfl)
theorem dX0_laterThan_17 : decode cX0_laterThan 17 = .ok (.iconst 2, 1) := dk_5 (dk_at dksX0_laterThan_0 17 rfl rfl)
theorem dX0_laterThan_18 : decode cX0_laterThan 18 = .ok (.iload_n 1, 1) := dk_27 (dk_at dksX0_laterThan_0 18 rfl rfl)
theorem dX0_laterThan_19 : decode cX0_laterThan 19 = .ok (.imul, 1) := dk_104 (dk_at dksX0_laterThan_0 19 rfl rfl)
theorem dX0_laterThan_20 : decode cX0_laterThan 20 = .ok (.iaload, 1) := dk_46 (dk_at dksX0_laterThan_0 20 rfl rfl)
theorem dX0_laterThan_21 : decode cX0_laterThan 21 = .ok (.invokevirtual 172, 3) := dk_182 0 172 (dk_at dksX0_laterThan_0 21 rfl rfl)
theorem dX0_laterThan_24 : decode cX0_laterThan 24 = .ok (.ifCond .ne 7, 3) := dk_154 0 7 (dk_at dksX0_laterThan_1 0 rfl rfl)
theorem dX0_laterThan_27 : decode cX0_laterThan 27 = .ok (.ldc_w 369, 3) := dk_19 1 113 (dk_at dksX0_laterThan_1 3 rfl rfl)
theorem dX0_laterThan_30 : decode cX0_laterThan 30 = .ok (.ireturn, 1) := dk_172 (dk_at dksX0_laterThan_1 6 rfl rfl)
theorem dX0_laterThan_31 : decode cX0_laterThan 31 = .ok (.iload_n 1, 1) := dk_27 (dk_at dksX0_laterThan_1 7 rfl rfl)
theorem dX0_laterThan_32 : decode cX0_laterThan 32 = .ok (.ifCond .ne 21, 3) := dk_154 0 21 (dk_at dksX0_laterThan_1 8 rfl rfl)
theorem dX0_laterThan_35 : decode cX0_laterThan 35 = .ok (.aload_n 0, 1) := dk_42 (dk_at dksX0_laterThan_1 11 rfl rfl)
theorem dX0_laterThan_36 : decode cX0_laterThan 36 = .ok (.getfield 65, 3) := dk_180 0 65 (dk_at dksX0_laterThan_1 12 rfl rfl)
theorem dX0_laterThan_39 : decode cX0_laterThan 39 = .ok (.iconst 1, 1) := dk_4 (dk_at dksX0_laterThan_1 15 rfl rfl)
theorem dX0_laterThan_40 : decode cX0_laterThan 40 = .ok (.iaload, 1) := dk_46 (dk_at dksX0_laterThan_1 16 rfl rfl)
theorem dX0_laterThan_41 : decode cX0_laterThan 41 = .ok (.aload_n 0, 1) := dk_42 (dk_at dksX0_laterThan_1 17 rfl rfl)
theorem dX0_laterThan_42 : decode cX0_laterThan 42 = .ok (.aload_n 0, 1) := dk_42 (dk_at dksX0_laterThan_1 18 rfl rfl)
theorem dX0_laterThan_43 : decode cX0_laterThan 43 = .ok (.getfield 65, 3) := dk_180 0 65 (dk_at dksX0_laterThan_1 19 rfl rfl)
theorem dX0_laterThan_46 : decode cX0_laterThan 46 = .ok (.iconst 0, 1) := dk_3 (dk_at dksX0_laterThan_1 22 rfl rfl)
theorem dX0_laterThan_47 : decode cX0_laterThan 47 = .ok (.iaload, 1) := dk_46 (dk_at dksX0_laterThan_1 23 rfl rfl)
theorem dX0_laterThan_48 : decode cX0_laterThan 48 = .ok (.invokevirtual 242, 3) := dk_182 0 242 (dk_at dksX0_laterThan_2 0 rfl rfl)
theorem dX0_laterThan_51 : decode cX0_laterThan 51 = .ok (.isub, 1) := dk_100 (dk_at dksX0_laterThan_2 3 rfl rfl)
theorem dX0_laterThan_52 : decode cX0_laterThan 52 = .ok (.ireturn, 1) := dk_172 (dk_at dksX0_laterThan_2 4 rfl rfl)
theorem dX0_laterThan_53 : decode cX0_laterThan 53 = .ok (.aload_n 0, 1) := dk_42 (dk_at dksX0_laterThan_2 5 rfl rfl)
theorem dX0_laterThan_54 : decode cX0_laterThan 54 = .ok (.aload_n 0, 1) := dk_42 (dk_at dksX0_laterThan_2 6 rfl rfl)
theorem dX0_laterThan_55 : decode cX0_laterThan 55 = .ok (.getfield 65, 3) := dk_180 0 65 (dk_at dksX0_laterThan_2 7 rfl rfl)
theorem dX0_laterThan_58 : decode cX0_laterThan 58 = .ok (.iconst 2, 1) := dk_5 (dk_at dksX0_laterThan_2 10 rfl rfl)
theorem dX0_laterThan_59 : decode cX0_laterThan 59 = .ok (.iload_n 1, 1) := dk_27 (dk_at dksX0_laterThan_2 11 rfl rfl)
theorem dX0_laterThan_60 : decode cX0_laterThan 60 = .ok (.imul, 1) := dk_104 (dk_at dksX0_laterThan_2 12 rfl rfl)
theorem dX0_laterThan_61 : decode cX0_laterThan 61 = .ok (.iconst 2, 1) := dk_5 (dk_at dksX0_laterThan_2 13 rfl rfl)
theorem dX0_laterThan_62 : decode cX0_laterThan 62 = .ok (.isub, 1) := dk_100 (dk_at dksX0_laterThan_2 14 rfl rfl)
theorem dX0_laterThan_63 : decode cX0_laterThan 63 = .ok (.iaload, 1) := dk_46 (dk_at dksX0_laterThan_2 15 rfl rfl)
theorem dX0_laterThan_64 : decode cX0_laterThan 64 = .ok (.invokevirtual 172, 3) := dk_182 0 172 (dk_at dksX0_laterThan_2 16 rfl rfl)
theorem dX0_laterThan_67 : decode cX0_laterThan 67 = .ok (.ifCond .ne 7, 3) := dk_154 0 7 (dk_at dksX0_laterThan_2 19 rfl rfl)
theorem dX0_laterThan_70 : decode cX0_laterThan 70 = .ok (.ldc_w 369, 3) := dk_19 1 113 (dk_at dksX0_laterThan_3 0 rfl rfl)
theorem dX0_laterThan_73 : decode cX0_laterThan 73 = .ok (.ireturn, 1) := dk_172 (dk_at dksX0_laterThan_3 3 rfl rfl)
theorem dX0_laterThan_74 : decode cX0_laterThan 74 = .ok (.aload_n 0, 1) := dk_42 (dk_at dksX0_laterThan_3 4 rfl rfl)
theorem dX0_laterThan_75 : decode cX0_laterThan 75 = .ok (.getfield 65, 3) := dk_180 0 65 (dk_at dksX0_laterThan_3 5 rfl rfl)
theorem dX0_laterThan_78 : decode cX0_laterThan 78 = .ok (.iconst 2, 1) := dk_5 (dk_at dksX0_laterThan_3 8 rfl rfl)
theorem dX0_laterThan_79 : decode cX0_laterThan 79 = .ok (.iload_n 1, 1) := dk_27 (dk_at dksX0_laterThan_3 9 rfl rfl)
theorem dX0_laterThan_80 : decode cX0_laterThan 80 = .ok (.imul, 1) := dk_104 (dk_at dksX0_laterThan_3 10 rfl rfl)
theorem dX0_laterThan_81 : decode cX0_laterThan 81 = .ok (.iconst 1, 1) := dk_4 (dk_at dksX0_laterThan_3 11 rfl rfl)
theorem dX0_laterThan_82 : decode cX0_laterThan 82 = .ok (.iadd, 1) := dk_96 (dk_at dksX0_laterThan_3 12 rfl rfl)
theorem dX0_laterThan_83 : decode cX0_laterThan 83 = .ok (.iaload, 1) := dk_46 (dk_at dksX0_laterThan_3 13 rfl rfl)
theorem dX0_laterThan_84 : decode cX0_laterThan 84 = .ok (.aload_n 0, 1) := dk_42 (dk_at dksX0_laterThan_3 14 rfl rfl)
theorem dX0_laterThan_85 : decode cX0_laterThan 85 = .ok (.getfield 65, 3) := dk_180 0 65 (dk_at dksX0_laterThan_3 15 rfl rfl)
theorem dX0_laterThan_88 : decode cX0_laterThan 88 = .ok (.iconst 2, 1) := dk_5 (dk_at dksX0_laterThan_3 18 rfl rfl)
theorem dX0_laterThan_89 : decode cX0_laterThan 89 = .ok (.iload_n 1, 1) := dk_27 (dk_at dksX0_laterThan_3 19 rfl rfl)
theorem dX0_laterThan_90 : decode cX0_laterThan 90 = .ok (.imul, 1) := dk_104 (dk_at dksX0_laterThan_3 20 rfl rfl)
theorem dX0_laterThan_91 : decode cX0_laterThan 91 = .ok (.iconst 1, 1) := dk_4 (dk_at dksX0_laterThan_3 21 rfl rfl)
theorem dX0_laterThan_92 : decode cX0_laterThan 92 = .ok (.isub, 1) := dk_100 (dk_at dksX0_laterThan_3 22 rfl rfl)
theorem dX0_laterThan_93 : decode cX0_laterThan 93 = .ok (.iaload, 1) := dk_46 (dk_at dksX0_laterThan_3 23 rfl rfl)
theorem dX0_laterThan_94 : decode cX0_laterThan 94 = .ok (.isub, 1) := dk_100 (dk_at dksX0_laterThan_4 0 rfl rfl)
theorem dX0_laterThan_95 : decode cX0_laterThan 95 = .ok (.aload_n 0, 1) := dk_42 (dk_at dksX0_laterThan_4 1 rfl rfl)
theorem dX0_laterThan_96 : decode cX0_laterThan 96 = .ok (.getfield 19, 3) := dk_180 0 19 (dk_at dksX0_laterThan_4 2 rfl rfl)
theorem dX0_laterThan_99 : decode cX0_laterThan 99 = .ok (.isub, 1) := dk_100 (dk_at dksX0_laterThan_4 5 rfl rfl)
theorem dX0_laterThan_100 : decode cX0_laterThan 100 = .ok (.aload_n 0, 1) := dk_42 (dk_at dksX0_laterThan_4 6 rfl rfl)
theorem dX0_laterThan_101 : decode cX0_laterThan 101 = .ok (.aload_n 0, 1) := dk_42 (dk_at dksX0_laterThan_4 7 rfl rfl)
theorem dX0_laterThan_102 : decode cX0_laterThan 102 = .ok (.getfield 65, 3) := dk_180 0 65 (dk_at dksX0_laterThan_4 8 rfl rfl)
theorem dX0_laterThan_105 : decode cX0_laterThan 105 = .ok (.iconst 2, 1) := dk_5 (dk_at dksX0_laterThan_4 11 rfl rfl)
theorem dX0_laterThan_106 : decode cX0_laterThan 106 = .ok (.iload_n 1, 1) := dk_27 (dk_at dksX0_laterThan_4 12 rfl rfl)
theorem dX0_laterThan_107 : decode cX0_laterThan 107 = .ok (.imul, 1) := dk_104 (dk_at dksX0_laterThan_4 13 rfl rfl)
theorem dX0_laterThan_108 : decode cX0_laterThan 108 = .ok (.iconst 2, 1) := dk_5 (dk_at dksX0_laterThan_4 14 rfl rfl)
theorem dX0_laterThan_109 : decode cX0_laterThan 109 = .ok (.isub, 1) := dk_100 (dk_at dksX0_laterThan_4 15 rfl rfl)
theorem dX0_laterThan_110 : decode cX0_laterThan 110 = .ok (.iaload, 1) := dk_46 (dk_at dksX0_laterThan_4 16 rfl rfl)
theorem dX0_laterThan_111 : decode cX0_laterThan 111 = .ok (.aload_n 0, 1) := dk_42 (dk_at dksX0_laterThan_4 17 rfl rfl)
theorem dX0_laterThan_112 : decode cX0_laterThan 112 = .ok (.getfield 65, 3) := dk_180 0 65 (dk_at dksX0_laterThan_4 18 rfl rfl)
theorem dX0_laterThan_115 : decode cX0_laterThan 115 = .ok (.iconst 2, 1) := dk_5 (dk_at dksX0_laterThan_4 21 rfl rfl)
theorem dX0_laterThan_116 : decode cX0_laterThan 116 = .ok (.iload_n 1, 1) := dk_27 (dk_at dksX0_laterThan_4 22 rfl rfl)
theorem dX0_laterThan_117 : decode cX0_laterThan 117 = .ok (.imul, 1) := dk_104 (dk_at dksX0_laterThan_4 23 rfl rfl)
theorem dX0_laterThan_118 : decode cX0_laterThan 118 = .ok (.iaload, 1) := dk_46 (dk_at dksX0_laterThan_5 0 rfl rfl)
theorem dX0_laterThan_119 : decode cX0_laterThan 119 = .ok (.invokevirtual 246, 3) := dk_182 0 246 (dk_at dksX0_laterThan_5 1 rfl rfl)
theorem dX0_laterThan_122 : decode cX0_laterThan 122 = .ok (.isub, 1) := dk_100 (dk_at dksX0_laterThan_5 4 rfl rfl)
theorem dX0_laterThan_123 : decode cX0_laterThan 123 = .ok (.ireturn, 1) := dk_172 (dk_at dksX0_laterThan_5 5 rfl rfl)
abbrev cX0_forged : ByteArray := prog_1_method_70_code
def yX0_forged : MethodName := ⟨RX0, "forged", "()I"⟩
def dkwX0_forged_1 : List UInt8 := [167, 0, 4, 3, 96, 60, 132, 2, 1, 167, 255, 227, 27, 172]
abbrev dktX0_forged_1 : List UInt8 := dkwX0_forged_1 ++ []
def dkwX0_forged_0 : List UInt8 := [3, 60, 3, 61, 5, 28, 104, 42, 180, 1, 106, 162, 0, 25, 27, 42, 28, 182, 1, 114, 156, 0, 7, 4]
abbrev dktX0_forged_0 : List UInt8 := dkwX0_forged_0 ++ dktX0_forged_1
theorem dksX0_forged_0 : cX0_forged.data.toList.drop 0 = dktX0_forged_0 := by decide +kernel
theorem dksX0_forged_1 : cX0_forged.data.toList.drop 24 = dktX0_forged_1 := dk_seg dksX0_forged_0 24 rfl rfl
theorem dX0_forged_0 : decode cX0_forged 0 = .ok (.iconst 0, 1) := dk_3 (dk_at dksX0_forged_0 0 rfl rfl)
theorem dX0_forged_1 : decode cX0_forged 1 = .ok (.istore_n 1, 1) := dk_60 (dk_at dksX0_forged_0 1 rfl rfl)
theorem dX0_forged_2 : decode cX0_forged 2 = .ok (.iconst 0, 1) := dk_3 (dk_at dksX0_forged_0 2 rfl rfl)
theorem dX0_forged_3 : decode cX0_forged 3 = .ok (.istore_n 2, 1) := dk_61 (dk_at dksX0_forged_0 3 rfl rfl)
theorem dX0_forged_4 : decode cX0_forged 4 = .ok (.iconst 2, 1) := dk_5 (dk_at dksX0_forged_0 4 rfl rfl)
theorem dX0_forged_5 : decode cX0_forged 5 = .ok (.iload_n 2, 1) := dk_28 (dk_at dksX0_forged_0 5 rfl rfl)
theorem dX0_forged_6 : decode cX0_forged 6 = .ok (.imul, 1) := dk_104 (dk_at dksX0_forged_0 6 rfl rfl)
theorem dX0_forged_7 : decode cX0_forged 7 = .ok (.aload_n 0, 1) := dk_42 (dk_at dksX0_forged_0 7 rfl rfl)
theorem dX0_forged_8 : decode cX0_forged 8 = .ok (.getfield 362, 3) := dk_180 1 106 (dk_at dksX0_forged_0 8 rfl rfl)
theorem dX0_forged_11 : decode cX0_forged 11 = .ok (.if_icmp .ge 25, 3) := dk_162 0 25 (dk_at dksX0_forged_0 11 rfl rfl)
theorem dX0_forged_14 : decode cX0_forged 14 = .ok (.iload_n 1, 1) := dk_27 (dk_at dksX0_forged_0 14 rfl rfl)
theorem dX0_forged_15 : decode cX0_forged 15 = .ok (.aload_n 0, 1) := dk_42 (dk_at dksX0_forged_0 15 rfl rfl)
theorem dX0_forged_16 : decode cX0_forged 16 = .ok (.iload_n 2, 1) := dk_28 (dk_at dksX0_forged_0 16 rfl rfl)
theorem dX0_forged_17 : decode cX0_forged 17 = .ok (.invokevirtual 370, 3) := dk_182 1 114 (dk_at dksX0_forged_0 17 rfl rfl)
theorem dX0_forged_20 : decode cX0_forged 20 = .ok (.ifCond .ge 7, 3) := dk_156 0 7 (dk_at dksX0_forged_0 20 rfl rfl)
theorem dX0_forged_23 : decode cX0_forged 23 = .ok (.iconst 1, 1) := dk_4 (dk_at dksX0_forged_0 23 rfl rfl)
theorem dX0_forged_24 : decode cX0_forged 24 = .ok (.goto 4, 3) := dk_167 0 4 (dk_at dksX0_forged_1 0 rfl rfl)
theorem dX0_forged_27 : decode cX0_forged 27 = .ok (.iconst 0, 1) := dk_3 (dk_at dksX0_forged_1 3 rfl rfl)
theorem dX0_forged_28 : decode cX0_forged 28 = .ok (.iadd, 1) := dk_96 (dk_at dksX0_forged_1 4 rfl rfl)
theorem dX0_forged_29 : decode cX0_forged 29 = .ok (.istore_n 1, 1) := dk_60 (dk_at dksX0_forged_1 5 rfl rfl)
theorem dX0_forged_30 : decode cX0_forged 30 = .ok (.iinc 2 1, 3) := dk_132 2 1 (dk_at dksX0_forged_1 6 rfl rfl)
theorem dX0_forged_33 : decode cX0_forged 33 = .ok (.goto (-29), 3) := dk_167 255 227 (dk_at dksX0_forged_1 9 rfl rfl)
theorem dX0_forged_36 : decode cX0_forged 36 = .ok (.iload_n 1, 1) := dk_27 (dk_at dksX0_forged_1 12 rfl rfl)
theorem dX0_forged_37 : decode cX0_forged 37 = .ok (.ireturn, 1) := dk_172 (dk_at dksX0_forged_1 13 rfl rfl)
abbrev cX0_slept : ByteArray := prog_1_method_69_code
def yX0_slept : MethodName := ⟨RX0, "slept", "(Z)I"⟩
def dkwX0_slept_3 : List UInt8 := [167, 255, 205, 27, 153, 0, 8, 21, 4, 167, 0, 4, 29, 172]
abbrev dktX0_slept_3 : List UInt8 := dkwX0_slept_3 ++ []
def dkwX0_slept_2 : List UInt8 := [62, 21, 7, 21, 5, 163, 0, 6, 167, 0, 11, 21, 6, 54, 4, 21, 7, 54, 5, 132, 6, 1]
abbrev dktX0_slept_2 : List UInt8 := dkwX0_slept_2 ++ dktX0_slept_3
def dkwX0_slept_1 : List UInt8 := [180, 1, 106, 162, 0, 46, 21, 6, 28, 159, 0, 40, 42, 21, 6, 182, 1, 114, 54, 7, 29, 21, 7, 96]
abbrev dktX0_slept_1 : List UInt8 := dkwX0_slept_1 ++ dktX0_slept_2
def dkwX0_slept_0 : List UInt8 := [42, 182, 1, 117, 61, 3, 62, 16, 254, 54, 4, 3, 54, 5, 3, 54, 6, 5, 21, 6, 104, 42]
abbrev dktX0_slept_0 : List UInt8 := dkwX0_slept_0 ++ dktX0_slept_1
theorem dksX0_slept_0 : cX0_slept.data.toList.drop 0 = dktX0_slept_0 := by decide +kernel
theorem dksX0_slept_1 : cX0_slept.data.toList.drop 22 = dktX0_slept_1 := dk_seg dksX0_slept_0 22 rfl rfl
theorem dksX0_slept_2 : cX0_slept.data.toList.drop 46 = dktX0_slept_2 := dk_seg dksX0_slept_1 24 rfl rfl
theorem dksX0_slept_3 : cX0_slept.data.toList.drop 68 = dktX0_slept_3 := dk_seg dksX0_slept_2 22 rfl rfl
theorem dX0_slept_0 : decode cX0_slept 0 = .ok (.aload_n 0, 1) := dk_42 (dk_at dksX0_slept_0 0 rfl rfl)
theorem dX0_slept_1 : decode cX0_slept 1 = .ok (.invokevirtual 373, 3) := dk_182 1 117 (dk_at dksX0_slept_0 1 rfl rfl)
theorem dX0_slept_4 : decode cX0_slept 4 = .ok (.istore_n 2, 1) := dk_61 (dk_at dksX0_slept_0 4 rfl rfl)
theorem dX0_slept_5 : decode cX0_slept 5 = .ok (.iconst 0, 1) := dk_3 (dk_at dksX0_slept_0 5 rfl rfl)
theorem dX0_slept_6 : decode cX0_slept 6 = .ok (.istore_n 3, 1) := dk_62 (dk_at dksX0_slept_0 6 rfl rfl)
theorem dX0_slept_7 : decode cX0_slept 7 = .ok (.bipush (-2), 2) := dk_16 254 (dk_at dksX0_slept_0 7 rfl rfl)
theorem dX0_slept_9 : decode cX0_slept 9 = .ok (.istore 4, 2) := dk_54 4 (dk_at dksX0_slept_0 9 rfl rfl)
theorem dX0_slept_11 : decode cX0_slept 11 = .ok (.iconst 0, 1) := dk_3 (dk_at dksX0_slept_0 11 rfl rfl)
theorem dX0_slept_12 : decode cX0_slept 12 = .ok (.istore 5, 2) := dk_54 5 (dk_at dksX0_slept_0 12 rfl rfl)
theorem dX0_slept_14 : decode cX0_slept 14 = .ok (.iconst 0, 1) := dk_3 (dk_at dksX0_slept_0 14 rfl rfl)
theorem dX0_slept_15 : decode cX0_slept 15 = .ok (.istore 6, 2) := dk_54 6 (dk_at dksX0_slept_0 15 rfl rfl)
theorem dX0_slept_17 : decode cX0_slept 17 = .ok (.iconst 2, 1) := dk_5 (dk_at dksX0_slept_0 17 rfl rfl)
theorem dX0_slept_18 : decode cX0_slept 18 = .ok (.iload 6, 2) := dk_21 6 (dk_at dksX0_slept_0 18 rfl rfl)
theorem dX0_slept_20 : decode cX0_slept 20 = .ok (.imul, 1) := dk_104 (dk_at dksX0_slept_0 20 rfl rfl)
theorem dX0_slept_21 : decode cX0_slept 21 = .ok (.aload_n 0, 1) := dk_42 (dk_at dksX0_slept_0 21 rfl rfl)
theorem dX0_slept_22 : decode cX0_slept 22 = .ok (.getfield 362, 3) := dk_180 1 106 (dk_at dksX0_slept_1 0 rfl rfl)
theorem dX0_slept_25 : decode cX0_slept 25 = .ok (.if_icmp .ge 46, 3) := dk_162 0 46 (dk_at dksX0_slept_1 3 rfl rfl)
theorem dX0_slept_28 : decode cX0_slept 28 = .ok (.iload 6, 2) := dk_21 6 (dk_at dksX0_slept_1 6 rfl rfl)
theorem dX0_slept_30 : decode cX0_slept 30 = .ok (.iload_n 2, 1) := dk_28 (dk_at dksX0_slept_1 8 rfl rfl)
theorem dX0_slept_31 : decode cX0_slept 31 = .ok (.if_icmp .eq 40, 3) := dk_159 0 40 (dk_at dksX0_slept_1 9 rfl rfl)
theorem dX0_slept_34 : decode cX0_slept 34 = .ok (.aload_n 0, 1) := dk_42 (dk_at dksX0_slept_1 12 rfl rfl)
theorem dX0_slept_35 : decode cX0_slept 35 = .ok (.iload 6, 2) := dk_21 6 (dk_at dksX0_slept_1 13 rfl rfl)
theorem dX0_slept_37 : decode cX0_slept 37 = .ok (.invokevirtual 370, 3) := dk_182 1 114 (dk_at dksX0_slept_1 15 rfl rfl)
theorem dX0_slept_40 : decode cX0_slept 40 = .ok (.istore 7, 2) := dk_54 7 (dk_at dksX0_slept_1 18 rfl rfl)
theorem dX0_slept_42 : decode cX0_slept 42 = .ok (.iload_n 3, 1) := dk_29 (dk_at dksX0_slept_1 20 rfl rfl)
theorem dX0_slept_43 : decode cX0_slept 43 = .ok (.iload 7, 2) := dk_21 7 (dk_at dksX0_slept_1 21 rfl rfl)
theorem dX0_slept_45 : decode cX0_slept 45 = .ok (.iadd, 1) := dk_96 (dk_at dksX0_slept_1 23 rfl rfl)
theorem dX0_slept_46 : decode cX0_slept 46 = .ok (.istore_n 3, 1) := dk_62 (dk_at dksX0_slept_2 0 rfl rfl)
theorem dX0_slept_47 : decode cX0_slept 47 = .ok (.iload 7, 2) := dk_21 7 (dk_at dksX0_slept_2 1 rfl rfl)
theorem dX0_slept_49 : decode cX0_slept 49 = .ok (.iload 5, 2) := dk_21 5 (dk_at dksX0_slept_2 3 rfl rfl)
theorem dX0_slept_51 : decode cX0_slept 51 = .ok (.if_icmp .gt 6, 3) := dk_163 0 6 (dk_at dksX0_slept_2 5 rfl rfl)
theorem dX0_slept_54 : decode cX0_slept 54 = .ok (.goto 11, 3) := dk_167 0 11 (dk_at dksX0_slept_2 8 rfl rfl)
theorem dX0_slept_57 : decode cX0_slept 57 = .ok (.iload 6, 2) := dk_21 6 (dk_at dksX0_slept_2 11 rfl rfl)
theorem dX0_slept_59 : decode cX0_slept 59 = .ok (.istore 4, 2) := dk_54 4 (dk_at dksX0_slept_2 13 rfl rfl)
theorem dX0_slept_61 : decode cX0_slept 61 = .ok (.iload 7, 2) := dk_21 7 (dk_at dksX0_slept_2 15 rfl rfl)
theorem dX0_slept_63 : decode cX0_slept 63 = .ok (.istore 5, 2) := dk_54 5 (dk_at dksX0_slept_2 17 rfl rfl)
theorem dX0_slept_65 : decode cX0_slept 65 = .ok (.iinc 6 1, 3) := dk_132 6 1 (dk_at dksX0_slept_2 19 rfl rfl)
theorem dX0_slept_68 : decode cX0_slept 68 = .ok (.goto (-51), 3) := dk_167 255 205 (dk_at dksX0_slept_3 0 rfl rfl)
theorem dX0_slept_71 : decode cX0_slept 71 = .ok (.iload_n 1, 1) := dk_27 (dk_at dksX0_slept_3 3 rfl rfl)
theorem dX0_slept_72 : decode cX0_slept 72 = .ok (.ifCond .eq 8, 3) := dk_153 0 8 (dk_at dksX0_slept_3 4 rfl rfl)
theorem dX0_slept_75 : decode cX0_slept 75 = .ok (.iload 4, 2) := dk_21 4 (dk_at dksX0_slept_3 7 rfl rfl)
theorem dX0_slept_77 : decode cX0_slept 77 = .ok (.goto 4, 3) := dk_167 0 4 (dk_at dksX0_slept_3 9 rfl rfl)
theorem dX0_slept_80 : decode cX0_slept 80 = .ok (.iload_n 3, 1) := dk_29 (dk_at dksX0_slept_3 12 rfl rfl)
theorem dX0_slept_81 : decode cX0_slept 81 = .ok (.ireturn, 1) := dk_172 (dk_at dksX0_slept_3 13 rfl rfl)
abbrev cX0_which : ByteArray := prog_1_method_73_code
def yX0_which : MethodName := ⟨RX0, "which", "(I)I"⟩
def dkwX0_which_4 : List UInt8 := [21, 4, 42, 182, 1, 130, 153, 0, 7, 5, 167, 0, 4, 3, 96, 172]
abbrev dktX0_which_4 : List UInt8 := dkwX0_which_4 ++ []
def dkwX0_which_3 : List UInt8 := [3, 182, 0, 252, 42, 182, 1, 130, 153, 0, 7, 4, 167, 0, 4, 3, 54, 4, 42, 4, 182, 0, 252]
abbrev dktX0_which_3 : List UInt8 := dkwX0_which_3 ++ dktX0_which_4
def dkwX0_which_2 : List UInt8 := [159, 0, 9, 29, 16, 245, 160, 0, 6, 16, 245, 172, 28, 155, 0, 7, 29, 156, 0, 6, 16, 244, 172, 42]
abbrev dktX0_which_2 : List UInt8 := dkwX0_which_2 ++ dktX0_which_3
def dkwX0_which_1 : List UInt8 := [2, 172, 42, 27, 16, 10, 108, 182, 0, 249, 61, 42, 27, 16, 10, 112, 182, 1, 120, 62, 28, 16, 245]
abbrev dktX0_which_1 : List UInt8 := dkwX0_which_1 ++ dktX0_which_2
def dkwX0_which_0 : List UInt8 := [27, 155, 0, 23, 27, 16, 10, 108, 184, 0, 121, 153, 0, 13, 27, 16, 10, 112, 184, 0, 121, 154, 0, 5]
abbrev dktX0_which_0 : List UInt8 := dkwX0_which_0 ++ dktX0_which_1
theorem dksX0_which_0 : cX0_which.data.toList.drop 0 = dktX0_which_0 := by decide +kernel
theorem dksX0_which_1 : cX0_which.data.toList.drop 24 = dktX0_which_1 := dk_seg dksX0_which_0 24 rfl rfl
theorem dksX0_which_2 : cX0_which.data.toList.drop 47 = dktX0_which_2 := dk_seg dksX0_which_1 23 rfl rfl
theorem dksX0_which_3 : cX0_which.data.toList.drop 71 = dktX0_which_3 := dk_seg dksX0_which_2 24 rfl rfl
theorem dksX0_which_4 : cX0_which.data.toList.drop 94 = dktX0_which_4 := dk_seg dksX0_which_3 23 rfl rfl
theorem dX0_which_0 : decode cX0_which 0 = .ok (.iload_n 1, 1) := dk_27 (dk_at dksX0_which_0 0 rfl rfl)
theorem dX0_which_1 : decode cX0_which 1 = .ok (.ifCond .lt 23, 3) := dk_155 0 23 (dk_at dksX0_which_0 1 rfl rfl)
theorem dX0_which_4 : decode cX0_which 4 = .ok (.iload_n 1, 1) := dk_27 (dk_at dksX0_which_0 4 rfl rfl)
theorem dX0_which_5 : decode cX0_which 5 = .ok (.bipush 10, 2) := dk_16 10 (dk_at dksX0_which_0 5 rfl rfl)
theorem dX0_which_7 : decode cX0_which 7 = .ok (.idiv, 1) := dk_108 (dk_at dksX0_which_0 7 rfl rfl)
theorem dX0_which_8 : decode cX0_which 8 = .ok (.invokestatic 121, 3) := dk_184 0 121 (dk_at dksX0_which_0 8 rfl rfl)
theorem dX0_which_11 : decode cX0_which 11 = .ok (.ifCond .eq 13, 3) := dk_153 0 13 (dk_at dksX0_which_0 11 rfl rfl)
theorem dX0_which_14 : decode cX0_which 14 = .ok (.iload_n 1, 1) := dk_27 (dk_at dksX0_which_0 14 rfl rfl)
theorem dX0_which_15 : decode cX0_which 15 = .ok (.bipush 10, 2) := dk_16 10 (dk_at dksX0_which_0 15 rfl rfl)
theorem dX0_which_17 : decode cX0_which 17 = .ok (.irem, 1) := dk_112 (dk_at dksX0_which_0 17 rfl rfl)
theorem dX0_which_18 : decode cX0_which 18 = .ok (.invokestatic 121, 3) := dk_184 0 121 (dk_at dksX0_which_0 18 rfl rfl)
theorem dX0_which_21 : decode cX0_which 21 = .ok (.ifCond .ne 5, 3) := dk_154 0 5 (dk_at dksX0_which_0 21 rfl rfl)
theorem dX0_which_24 : decode cX0_which 24 = .ok (.iconst (-1), 1) := dk_2 (dk_at dksX0_which_1 0 rfl rfl)
theorem dX0_which_25 : decode cX0_which 25 = .ok (.ireturn, 1) := dk_172 (dk_at dksX0_which_1 1 rfl rfl)
theorem dX0_which_26 : decode cX0_which 26 = .ok (.aload_n 0, 1) := dk_42 (dk_at dksX0_which_1 2 rfl rfl)
theorem dX0_which_27 : decode cX0_which 27 = .ok (.iload_n 1, 1) := dk_27 (dk_at dksX0_which_1 3 rfl rfl)
theorem dX0_which_28 : decode cX0_which 28 = .ok (.bipush 10, 2) := dk_16 10 (dk_at dksX0_which_1 4 rfl rfl)
theorem dX0_which_30 : decode cX0_which 30 = .ok (.idiv, 1) := dk_108 (dk_at dksX0_which_1 6 rfl rfl)
theorem dX0_which_31 : decode cX0_which 31 = .ok (.invokevirtual 249, 3) := dk_182 0 249 (dk_at dksX0_which_1 7 rfl rfl)
theorem dX0_which_34 : decode cX0_which 34 = .ok (.istore_n 2, 1) := dk_61 (dk_at dksX0_which_1 10 rfl rfl)
theorem dX0_which_35 : decode cX0_which 35 = .ok (.aload_n 0, 1) := dk_42 (dk_at dksX0_which_1 11 rfl rfl)
theorem dX0_which_36 : decode cX0_which 36 = .ok (.iload_n 1, 1) := dk_27 (dk_at dksX0_which_1 12 rfl rfl)
theorem dX0_which_37 : decode cX0_which 37 = .ok (.bipush 10, 2) := dk_16 10 (dk_at dksX0_which_1 13 rfl rfl)
theorem dX0_which_39 : decode cX0_which 39 = .ok (.irem, 1) := dk_112 (dk_at dksX0_which_1 15 rfl rfl)
theorem dX0_which_40 : decode cX0_which 40 = .ok (.invokevirtual 376, 3) := dk_182 1 120 (dk_at dksX0_which_1 16 rfl rfl)
theorem dX0_which_43 : decode cX0_which 43 = .ok (.istore_n 3, 1) := dk_62 (dk_at dksX0_which_1 19 rfl rfl)
theorem dX0_which_44 : decode cX0_which 44 = .ok (.iload_n 2, 1) := dk_28 (dk_at dksX0_which_1 20 rfl rfl)
theorem dX0_which_45 : decode cX0_which 45 = .ok (.bipush (-11), 2) := dk_16 245 (dk_at dksX0_which_1 21 rfl rfl)
theorem dX0_which_47 : decode cX0_which 47 = .ok (.if_icmp .eq 9, 3) := dk_159 0 9 (dk_at dksX0_which_2 0 rfl rfl)
theorem dX0_which_50 : decode cX0_which 50 = .ok (.iload_n 3, 1) := dk_29 (dk_at dksX0_which_2 3 rfl rfl)
theorem dX0_which_51 : decode cX0_which 51 = .ok (.bipush (-11), 2) := dk_16 245 (dk_at dksX0_which_2 4 rfl rfl)
theorem dX0_which_53 : decode cX0_which 53 = .ok (.if_icmp .ne 6, 3) := dk_160 0 6 (dk_at dksX0_which_2 6 rfl rfl)
theorem dX0_which_56 : decode cX0_which 56 = .ok (.bipush (-11), 2) := dk_16 245 (dk_at dksX0_which_2 9 rfl rfl)
theorem dX0_which_58 : decode cX0_which 58 = .ok (.ireturn, 1) := dk_172 (dk_at dksX0_which_2 11 rfl rfl)
theorem dX0_which_59 : decode cX0_which 59 = .ok (.iload_n 2, 1) := dk_28 (dk_at dksX0_which_2 12 rfl rfl)
theorem dX0_which_60 : decode cX0_which 60 = .ok (.ifCond .lt 7, 3) := dk_155 0 7 (dk_at dksX0_which_2 13 rfl rfl)
theorem dX0_which_63 : decode cX0_which 63 = .ok (.iload_n 3, 1) := dk_29 (dk_at dksX0_which_2 16 rfl rfl)
theorem dX0_which_64 : decode cX0_which 64 = .ok (.ifCond .ge 6, 3) := dk_156 0 6 (dk_at dksX0_which_2 17 rfl rfl)
theorem dX0_which_67 : decode cX0_which 67 = .ok (.bipush (-12), 2) := dk_16 244 (dk_at dksX0_which_2 20 rfl rfl)
theorem dX0_which_69 : decode cX0_which 69 = .ok (.ireturn, 1) := dk_172 (dk_at dksX0_which_2 22 rfl rfl)
theorem dX0_which_70 : decode cX0_which 70 = .ok (.aload_n 0, 1) := dk_42 (dk_at dksX0_which_2 23 rfl rfl)
theorem dX0_which_71 : decode cX0_which 71 = .ok (.iconst 0, 1) := dk_3 (dk_at dksX0_which_3 0 rfl rfl)
theorem dX0_which_72 : decode cX0_which 72 = .ok (.invokevirtual 252, 3) := dk_182 0 252 (dk_at dksX0_which_3 1 rfl rfl)
theorem dX0_which_75 : decode cX0_which 75 = .ok (.aload_n 0, 1) := dk_42 (dk_at dksX0_which_3 4 rfl rfl)
theorem dX0_which_76 : decode cX0_which 76 = .ok (.invokevirtual 386, 3) := dk_182 1 130 (dk_at dksX0_which_3 5 rfl rfl)
theorem dX0_which_79 : decode cX0_which 79 = .ok (.ifCond .eq 7, 3) := dk_153 0 7 (dk_at dksX0_which_3 8 rfl rfl)
theorem dX0_which_82 : decode cX0_which 82 = .ok (.iconst 1, 1) := dk_4 (dk_at dksX0_which_3 11 rfl rfl)
theorem dX0_which_83 : decode cX0_which 83 = .ok (.goto 4, 3) := dk_167 0 4 (dk_at dksX0_which_3 12 rfl rfl)
theorem dX0_which_86 : decode cX0_which 86 = .ok (.iconst 0, 1) := dk_3 (dk_at dksX0_which_3 15 rfl rfl)
theorem dX0_which_87 : decode cX0_which 87 = .ok (.istore 4, 2) := dk_54 4 (dk_at dksX0_which_3 16 rfl rfl)
theorem dX0_which_89 : decode cX0_which 89 = .ok (.aload_n 0, 1) := dk_42 (dk_at dksX0_which_3 18 rfl rfl)
theorem dX0_which_90 : decode cX0_which 90 = .ok (.iconst 1, 1) := dk_4 (dk_at dksX0_which_3 19 rfl rfl)
theorem dX0_which_91 : decode cX0_which 91 = .ok (.invokevirtual 252, 3) := dk_182 0 252 (dk_at dksX0_which_3 20 rfl rfl)
theorem dX0_which_94 : decode cX0_which 94 = .ok (.iload 4, 2) := dk_21 4 (dk_at dksX0_which_4 0 rfl rfl)
theorem dX0_which_96 : decode cX0_which 96 = .ok (.aload_n 0, 1) := dk_42 (dk_at dksX0_which_4 2 rfl rfl)
theorem dX0_which_97 : decode cX0_which 97 = .ok (.invokevirtual 386, 3) := dk_182 1 130 (dk_at dksX0_which_4 3 rfl rfl)
theorem dX0_which_100 : decode cX0_which 100 = .ok (.ifCond .eq 7, 3) := dk_153 0 7 (dk_at dksX0_which_4 6 rfl rfl)
theorem dX0_which_103 : decode cX0_which 103 = .ok (.iconst 2, 1) := dk_5 (dk_at dksX0_which_4 9 rfl rfl)
theorem dX0_which_104 : decode cX0_which 104 = .ok (.goto 4, 3) := dk_167 0 4 (dk_at dksX0_which_4 10 rfl rfl)
theorem dX0_which_107 : decode cX0_which 107 = .ok (.iconst 0, 1) := dk_3 (dk_at dksX0_which_4 13 rfl rfl)
theorem dX0_which_108 : decode cX0_which 108 = .ok (.iadd, 1) := dk_96 (dk_at dksX0_which_4 14 rfl rfl)
theorem dX0_which_109 : decode cX0_which 109 = .ok (.ireturn, 1) := dk_172 (dk_at dksX0_which_4 15 rfl rfl)
abbrev cX0_isPaper : ByteArray := prog_1_method_72_code
def yX0_isPaper : MethodName := ⟨RX0, "isPaper", "()Z"⟩
def dkwX0_isPaper_3 : List UInt8 := [132, 1, 1, 167, 255, 197, 4, 172]
abbrev dktX0_isPaper_3 : List UInt8 := dkwX0_isPaper_3 ++ []
def dkwX0_isPaper_2 : List UInt8 := [160, 0, 22, 42, 180, 0, 46, 27, 46, 42, 180, 0, 65, 5, 27, 104, 4, 96, 46, 159, 0, 5, 3, 172]
abbrev dktX0_isPaper_2 : List UInt8 := dkwX0_isPaper_2 ++ dktX0_isPaper_3
def dkwX0_isPaper_1 : List UInt8 := [27, 42, 180, 0, 235, 162, 0, 39, 42, 180, 0, 43, 27, 46, 42, 180, 0, 65, 5, 27, 104, 46]
abbrev dktX0_isPaper_1 : List UInt8 := dkwX0_isPaper_1 ++ dktX0_isPaper_2
def dkwX0_isPaper_0 : List UInt8 := [42, 180, 1, 106, 5, 112, 4, 160, 0, 5, 3, 172, 3, 60, 5, 27, 104, 42, 180, 1, 106, 162, 0, 55]
abbrev dktX0_isPaper_0 : List UInt8 := dkwX0_isPaper_0 ++ dktX0_isPaper_1
theorem dksX0_isPaper_0 : cX0_isPaper.data.toList.drop 0 = dktX0_isPaper_0 := by decide +kernel
theorem dksX0_isPaper_1 : cX0_isPaper.data.toList.drop 24 = dktX0_isPaper_1 := dk_seg dksX0_isPaper_0 24 rfl rfl
theorem dksX0_isPaper_2 : cX0_isPaper.data.toList.drop 46 = dktX0_isPaper_2 := dk_seg dksX0_isPaper_1 22 rfl rfl
theorem dksX0_isPaper_3 : cX0_isPaper.data.toList.drop 70 = dktX0_isPaper_3 := dk_seg dksX0_isPaper_2 24 rfl rfl
theorem dX0_isPaper_0 : decode cX0_isPaper 0 = .ok (.aload_n 0, 1) := dk_42 (dk_at dksX0_isPaper_0 0 rfl rfl)
theorem dX0_isPaper_1 : decode cX0_isPaper 1 = .ok (.getfield 362, 3) := dk_180 1 106 (dk_at dksX0_isPaper_0 1 rfl rfl)
theorem dX0_isPaper_4 : decode cX0_isPaper 4 = .ok (.iconst 2, 1) := dk_5 (dk_at dksX0_isPaper_0 4 rfl rfl)
theorem dX0_isPaper_5 : decode cX0_isPaper 5 = .ok (.irem, 1) := dk_112 (dk_at dksX0_isPaper_0 5 rfl rfl)
theorem dX0_isPaper_6 : decode cX0_isPaper 6 = .ok (.iconst 1, 1) := dk_4 (dk_at dksX0_isPaper_0 6 rfl rfl)
theorem dX0_isPaper_7 : decode cX0_isPaper 7 = .ok (.if_icmp .ne 5, 3) := dk_160 0 5 (dk_at dksX0_isPaper_0 7 rfl rfl)
theorem dX0_isPaper_10 : decode cX0_isPaper 10 = .ok (.iconst 0, 1) := dk_3 (dk_at dksX0_isPaper_0 10 rfl rfl)
theorem dX0_isPaper_11 : decode cX0_isPaper 11 = .ok (.ireturn, 1) := dk_172 (dk_at dksX0_isPaper_0 11 rfl rfl)
theorem dX0_isPaper_12 : decode cX0_isPaper 12 = .ok (.iconst 0, 1) := dk_3 (dk_at dksX0_isPaper_0 12 rfl rfl)
theorem dX0_isPaper_13 : decode cX0_isPaper 13 = .ok (.istore_n 1, 1) := dk_60 (dk_at dksX0_isPaper_0 13 rfl rfl)
theorem dX0_isPaper_14 : decode cX0_isPaper 14 = .ok (.iconst 2, 1) := dk_5 (dk_at dksX0_isPaper_0 14 rfl rfl)
theorem dX0_isPaper_15 : decode cX0_isPaper 15 = .ok (.iload_n 1, 1) := dk_27 (dk_at dksX0_isPaper_0 15 rfl rfl)
theorem dX0_isPaper_16 : decode cX0_isPaper 16 = .ok (.imul, 1) := dk_104 (dk_at dksX0_isPaper_0 16 rfl rfl)
theorem dX0_isPaper_17 : decode cX0_isPaper 17 = .ok (.aload_n 0, 1) := dk_42 (dk_at dksX0_isPaper_0 17 rfl rfl)
theorem dX0_isPaper_18 : decode cX0_isPaper 18 = .ok (.getfield 362, 3) := dk_180 1 106 (dk_at dksX0_isPaper_0 18 rfl rfl)
theorem dX0_isPaper_21 : decode cX0_isPaper 21 = .ok (.if_icmp .ge 55, 3) := dk_162 0 55 (dk_at dksX0_isPaper_0 21 rfl rfl)
theorem dX0_isPaper_24 : decode cX0_isPaper 24 = .ok (.iload_n 1, 1) := dk_27 (dk_at dksX0_isPaper_1 0 rfl rfl)
theorem dX0_isPaper_25 : decode cX0_isPaper 25 = .ok (.aload_n 0, 1) := dk_42 (dk_at dksX0_isPaper_1 1 rfl rfl)
theorem dX0_isPaper_26 : decode cX0_isPaper 26 = .ok (.getfield 235, 3) := dk_180 0 235 (dk_at dksX0_isPaper_1 2 rfl rfl)
theorem dX0_isPaper_29 : decode cX0_isPaper 29 = .ok (.if_icmp .ge 39, 3) := dk_162 0 39 (dk_at dksX0_isPaper_1 5 rfl rfl)
theorem dX0_isPaper_32 : decode cX0_isPaper 32 = .ok (.aload_n 0, 1) := dk_42 (dk_at dksX0_isPaper_1 8 rfl rfl)
theorem dX0_isPaper_33 : decode cX0_isPaper 33 = .ok (.getfield 43, 3) := dk_180 0 43 (dk_at dksX0_isPaper_1 9 rfl rfl)
theorem dX0_isPaper_36 : decode cX0_isPaper 36 = .ok (.iload_n 1, 1) := dk_27 (dk_at dksX0_isPaper_1 12 rfl rfl)
theorem dX0_isPaper_37 : decode cX0_isPaper 37 = .ok (.iaload, 1) := dk_46 (dk_at dksX0_isPaper_1 13 rfl rfl)
theorem dX0_isPaper_38 : decode cX0_isPaper 38 = .ok (.aload_n 0, 1) := dk_42 (dk_at dksX0_isPaper_1 14 rfl rfl)
theorem dX0_isPaper_39 : decode cX0_isPaper 39 = .ok (.getfield 65, 3) := dk_180 0 65 (dk_at dksX0_isPaper_1 15 rfl rfl)
theorem dX0_isPaper_42 : decode cX0_isPaper 42 = .ok (.iconst 2, 1) := dk_5 (dk_at dksX0_isPaper_1 18 rfl rfl)
theorem dX0_isPaper_43 : decode cX0_isPaper 43 = .ok (.iload_n 1, 1) := dk_27 (dk_at dksX0_isPaper_1 19 rfl rfl)
theorem dX0_isPaper_44 : decode cX0_isPaper 44 = .ok (.imul, 1) := dk_104 (dk_at dksX0_isPaper_1 20 rfl rfl)
theorem dX0_isPaper_45 : decode cX0_isPaper 45 = .ok (.iaload, 1) := dk_46 (dk_at dksX0_isPaper_1 21 rfl rfl)
theorem dX0_isPaper_46 : decode cX0_isPaper 46 = .ok (.if_icmp .ne 22, 3) := dk_160 0 22 (dk_at dksX0_isPaper_2 0 rfl rfl)
theorem dX0_isPaper_49 : decode cX0_isPaper 49 = .ok (.aload_n 0, 1) := dk_42 (dk_at dksX0_isPaper_2 3 rfl rfl)
theorem dX0_isPaper_50 : decode cX0_isPaper 50 = .ok (.getfield 46, 3) := dk_180 0 46 (dk_at dksX0_isPaper_2 4 rfl rfl)
theorem dX0_isPaper_53 : decode cX0_isPaper 53 = .ok (.iload_n 1, 1) := dk_27 (dk_at dksX0_isPaper_2 7 rfl rfl)
theorem dX0_isPaper_54 : decode cX0_isPaper 54 = .ok (.iaload, 1) := dk_46 (dk_at dksX0_isPaper_2 8 rfl rfl)
theorem dX0_isPaper_55 : decode cX0_isPaper 55 = .ok (.aload_n 0, 1) := dk_42 (dk_at dksX0_isPaper_2 9 rfl rfl)
theorem dX0_isPaper_56 : decode cX0_isPaper 56 = .ok (.getfield 65, 3) := dk_180 0 65 (dk_at dksX0_isPaper_2 10 rfl rfl)
theorem dX0_isPaper_59 : decode cX0_isPaper 59 = .ok (.iconst 2, 1) := dk_5 (dk_at dksX0_isPaper_2 13 rfl rfl)
theorem dX0_isPaper_60 : decode cX0_isPaper 60 = .ok (.iload_n 1, 1) := dk_27 (dk_at dksX0_isPaper_2 14 rfl rfl)
theorem dX0_isPaper_61 : decode cX0_isPaper 61 = .ok (.imul, 1) := dk_104 (dk_at dksX0_isPaper_2 15 rfl rfl)
theorem dX0_isPaper_62 : decode cX0_isPaper 62 = .ok (.iconst 1, 1) := dk_4 (dk_at dksX0_isPaper_2 16 rfl rfl)
theorem dX0_isPaper_63 : decode cX0_isPaper 63 = .ok (.iadd, 1) := dk_96 (dk_at dksX0_isPaper_2 17 rfl rfl)
theorem dX0_isPaper_64 : decode cX0_isPaper 64 = .ok (.iaload, 1) := dk_46 (dk_at dksX0_isPaper_2 18 rfl rfl)
theorem dX0_isPaper_65 : decode cX0_isPaper 65 = .ok (.if_icmp .eq 5, 3) := dk_159 0 5 (dk_at dksX0_isPaper_2 19 rfl rfl)
theorem dX0_isPaper_68 : decode cX0_isPaper 68 = .ok (.iconst 0, 1) := dk_3 (dk_at dksX0_isPaper_2 22 rfl rfl)
theorem dX0_isPaper_69 : decode cX0_isPaper 69 = .ok (.ireturn, 1) := dk_172 (dk_at dksX0_isPaper_2 23 rfl rfl)
theorem dX0_isPaper_70 : decode cX0_isPaper 70 = .ok (.iinc 1 1, 3) := dk_132 1 1 (dk_at dksX0_isPaper_3 0 rfl rfl)
theorem dX0_isPaper_73 : decode cX0_isPaper 73 = .ok (.goto (-59), 3) := dk_167 255 197 (dk_at dksX0_isPaper_3 3 rfl rfl)
theorem dX0_isPaper_76 : decode cX0_isPaper 76 = .ok (.iconst 1, 1) := dk_4 (dk_at dksX0_isPaper_3 6 rfl rfl)
theorem dX0_isPaper_77 : decode cX0_isPaper 77 = .ok (.ireturn, 1) := dk_172 (dk_at dksX0_isPaper_3 7 rfl rfl)
abbrev cX0_fit : ByteArray := prog_1_method_75_code
def yX0_fit : MethodName := ⟨RX0, "fit", "(II)I"⟩
def dkwX0_fit_3 : List UInt8 := [158, 0, 20, 28, 42, 180, 0, 93, 162, 0, 12, 42, 180, 0, 52, 28, 46, 167, 0, 5, 16, 254, 172]
abbrev dktX0_fit_3 : List UInt8 := dkwX0_fit_3 ++ []
def dkwX0_fit_2 : List UInt8 := [181, 1, 134, 42, 3, 3, 182, 1, 137, 28, 156, 0, 10, 42, 180, 1, 134, 167, 0, 29, 42, 180, 1, 134]
abbrev dktX0_fit_2 : List UInt8 := dkwX0_fit_2 ++ dktX0_fit_3
def dkwX0_fit_1 : List UInt8 := [29, 172, 42, 180, 0, 93, 16, 6, 164, 0, 6, 16, 251, 172, 42, 42, 180, 0, 93, 181, 0, 228, 42, 3]
abbrev dktX0_fit_1 : List UInt8 := dkwX0_fit_1 ++ dktX0_fit_2
def dkwX0_fit_0 : List UInt8 := [27, 184, 0, 121, 153, 0, 8, 28, 2, 162, 0, 5, 2, 172, 42, 27, 182, 1, 120, 62, 29, 156, 0, 5]
abbrev dktX0_fit_0 : List UInt8 := dkwX0_fit_0 ++ dktX0_fit_1
theorem dksX0_fit_0 : cX0_fit.data.toList.drop 0 = dktX0_fit_0 := by decide +kernel
theorem dksX0_fit_1 : cX0_fit.data.toList.drop 24 = dktX0_fit_1 := dk_seg dksX0_fit_0 24 rfl rfl
theorem dksX0_fit_2 : cX0_fit.data.toList.drop 48 = dktX0_fit_2 := dk_seg dksX0_fit_1 24 rfl rfl
theorem dksX0_fit_3 : cX0_fit.data.toList.drop 72 = dktX0_fit_3 := dk_seg dksX0_fit_2 24 rfl rfl
theorem dX0_fit_0 : decode cX0_fit 0 = .ok (.iload_n 1, 1) := dk_27 (dk_at dksX0_fit_0 0 rfl rfl)
theorem dX0_fit_1 : decode cX0_fit 1 = .ok (.invokestatic 121, 3) := dk_184 0 121 (dk_at dksX0_fit_0 1 rfl rfl)
theorem dX0_fit_4 : decode cX0_fit 4 = .ok (.ifCond .eq 8, 3) := dk_153 0 8 (dk_at dksX0_fit_0 4 rfl rfl)
theorem dX0_fit_7 : decode cX0_fit 7 = .ok (.iload_n 2, 1) := dk_28 (dk_at dksX0_fit_0 7 rfl rfl)
theorem dX0_fit_8 : decode cX0_fit 8 = .ok (.iconst (-1), 1) := dk_2 (dk_at dksX0_fit_0 8 rfl rfl)
theorem dX0_fit_9 : decode cX0_fit 9 = .ok (.if_icmp .ge 5, 3) := dk_162 0 5 (dk_at dksX0_fit_0 9 rfl rfl)
theorem dX0_fit_12 : decode cX0_fit 12 = .ok (.iconst (-1), 1) := dk_2 (dk_at dksX0_fit_0 12 rfl rfl)
theorem dX0_fit_13 : decode cX0_fit 13 = .ok (.ireturn, 1) := dk_172 (dk_at dksX0_fit_0 13 rfl rfl)
theorem dX0_fit_14 : decode cX0_fit 14 = .ok (.aload_n 0, 1) := dk_42 (dk_at dksX0_fit_0 14 rfl rfl)
theorem dX0_fit_15 : decode cX0_fit 15 = .ok (.iload_n 1, 1) := dk_27 (dk_at dksX0_fit_0 15 rfl rfl)
theorem dX0_fit_16 : decode cX0_fit 16 = .ok (.invokevirtual 376, 3) := dk_182 1 120 (dk_at dksX0_fit_0 16 rfl rfl)
theorem dX0_fit_19 : decode cX0_fit 19 = .ok (.istore_n 3, 1) := dk_62 (dk_at dksX0_fit_0 19 rfl rfl)
theorem dX0_fit_20 : decode cX0_fit 20 = .ok (.iload_n 3, 1) := dk_29 (dk_at dksX0_fit_0 20 rfl rfl)
theorem dX0_fit_21 : decode cX0_fit 21 = .ok (.ifCond .ge 5, 3) := dk_156 0 5 (dk_at dksX0_fit_0 21 rfl rfl)
theorem dX0_fit_24 : decode cX0_fit 24 = .ok (.iload_n 3, 1) := dk_29 (dk_at dksX0_fit_1 0 rfl rfl)
theorem dX0_fit_25 : decode cX0_fit 25 = .ok (.ireturn, 1) := dk_172 (dk_at dksX0_fit_1 1 rfl rfl)
theorem dX0_fit_26 : decode cX0_fit 26 = .ok (.aload_n 0, 1) := dk_42 (dk_at dksX0_fit_1 2 rfl rfl)
theorem dX0_fit_27 : decode cX0_fit 27 = .ok (.getfield 93, 3) := dk_180 0 93 (dk_at dksX0_fit_1 3 rfl rfl)
theorem dX0_fit_30 : decode cX0_fit 30 = .ok (.bipush 6, 2) := dk_16 6 (dk_at dksX0_fit_1 6 rfl rfl)
theorem dX0_fit_32 : decode cX0_fit 32 = .ok (.if_icmp .le 6, 3) := dk_164 0 6 (dk_at dksX0_fit_1 8 rfl rfl)
theorem dX0_fit_35 : decode cX0_fit 35 = .ok (.bipush (-5), 2) := dk_16 251 (dk_at dksX0_fit_1 11 rfl rfl)
theorem dX0_fit_37 : decode cX0_fit 37 = .ok (.ireturn, 1) := dk_172 (dk_at dksX0_fit_1 13 rfl rfl)
theorem dX0_fit_38 : decode cX0_fit 38 = .ok (.aload_n 0, 1) := dk_42 (dk_at dksX0_fit_1 14 rfl rfl)
theorem dX0_fit_39 : decode cX0_fit 39 = .ok (.aload_n 0, 1) := dk_42 (dk_at dksX0_fit_1 15 rfl rfl)
theorem dX0_fit_40 : decode cX0_fit 40 = .ok (.getfield 93, 3) := dk_180 0 93 (dk_at dksX0_fit_1 16 rfl rfl)
theorem dX0_fit_43 : decode cX0_fit 43 = .ok (.putfield 228, 3) := dk_181 0 228 (dk_at dksX0_fit_1 19 rfl rfl)
theorem dX0_fit_46 : decode cX0_fit 46 = .ok (.aload_n 0, 1) := dk_42 (dk_at dksX0_fit_1 22 rfl rfl)
theorem dX0_fit_47 : decode cX0_fit 47 = .ok (.iconst 0, 1) := dk_3 (dk_at dksX0_fit_1 23 rfl rfl)
theorem dX0_fit_48 : decode cX0_fit 48 = .ok (.putfield 390, 3) := dk_181 1 134 (dk_at dksX0_fit_2 0 rfl rfl)
theorem dX0_fit_51 : decode cX0_fit 51 = .ok (.aload_n 0, 1) := dk_42 (dk_at dksX0_fit_2 3 rfl rfl)
theorem dX0_fit_52 : decode cX0_fit 52 = .ok (.iconst 0, 1) := dk_3 (dk_at dksX0_fit_2 4 rfl rfl)
theorem dX0_fit_53 : decode cX0_fit 53 = .ok (.iconst 0, 1) := dk_3 (dk_at dksX0_fit_2 5 rfl rfl)
theorem dX0_fit_54 : decode cX0_fit 54 = .ok (.invokevirtual 393, 3) := dk_182 1 137 (dk_at dksX0_fit_2 6 rfl rfl)
theorem dX0_fit_57 : decode cX0_fit 57 = .ok (.iload_n 2, 1) := dk_28 (dk_at dksX0_fit_2 9 rfl rfl)
theorem dX0_fit_58 : decode cX0_fit 58 = .ok (.ifCond .ge 10, 3) := dk_156 0 10 (dk_at dksX0_fit_2 10 rfl rfl)
theorem dX0_fit_61 : decode cX0_fit 61 = .ok (.aload_n 0, 1) := dk_42 (dk_at dksX0_fit_2 13 rfl rfl)
theorem dX0_fit_62 : decode cX0_fit 62 = .ok (.getfield 390, 3) := dk_180 1 134 (dk_at dksX0_fit_2 14 rfl rfl)
theorem dX0_fit_65 : decode cX0_fit 65 = .ok (.goto 29, 3) := dk_167 0 29 (dk_at dksX0_fit_2 17 rfl rfl)
theorem dX0_fit_68 : decode cX0_fit 68 = .ok (.aload_n 0, 1) := dk_42 (dk_at dksX0_fit_2 20 rfl rfl)
theorem dX0_fit_69 : decode cX0_fit 69 = .ok (.getfield 390, 3) := dk_180 1 134 (dk_at dksX0_fit_2 21 rfl rfl)
theorem dX0_fit_72 : decode cX0_fit 72 = .ok (.ifCond .le 20, 3) := dk_158 0 20 (dk_at dksX0_fit_3 0 rfl rfl)
theorem dX0_fit_75 : decode cX0_fit 75 = .ok (.iload_n 2, 1) := dk_28 (dk_at dksX0_fit_3 3 rfl rfl)
theorem dX0_fit_76 : decode cX0_fit 76 = .ok (.aload_n 0, 1) := dk_42 (dk_at dksX0_fit_3 4 rfl rfl)
theorem dX0_fit_77 : decode cX0_fit 77 = .ok (.getfield 93, 3) := dk_180 0 93 (dk_at dksX0_fit_3 5 rfl rfl)
theorem dX0_fit_80 : decode cX0_fit 80 = .ok (.if_icmp .ge 12, 3) := dk_162 0 12 (dk_at dksX0_fit_3 8 rfl rfl)
theorem dX0_fit_83 : decode cX0_fit 83 = .ok (.aload_n 0, 1) := dk_42 (dk_at dksX0_fit_3 11 rfl rfl)
theorem dX0_fit_84 : decode cX0_fit 84 = .ok (.getfield 52, 3) := dk_180 0 52 (dk_at dksX0_fit_3 12 rfl rfl)
theorem dX0_fit_87 : decode cX0_fit 87 = .ok (.iload_n 2, 1) := dk_28 (dk_at dksX0_fit_3 15 rfl rfl)
theorem dX0_fit_88 : decode cX0_fit 88 = .ok (.iaload, 1) := dk_46 (dk_at dksX0_fit_3 16 rfl rfl)
theorem dX0_fit_89 : decode cX0_fit 89 = .ok (.goto 5, 3) := dk_167 0 5 (dk_at dksX0_fit_3 17 rfl rfl)
theorem dX0_fit_92 : decode cX0_fit 92 = .ok (.bipush (-2), 2) := dk_16 254 (dk_at dksX0_fit_3 20 rfl rfl)
theorem dX0_fit_94 : decode cX0_fit 94 = .ok (.ireturn, 1) := dk_172 (dk_at dksX0_fit_3 22 rfl rfl)
abbrev cX0_goFits : ByteArray := prog_1_method_74_code
def yX0_goFits : MethodName := ⟨RX0, "goFits", "(II)V"⟩
def dkwX0_goFits_4 : List UInt8 := [27, 29, 79, 42, 27, 4, 96, 28, 4, 29, 120, 128, 182, 1, 137, 132, 3, 1, 167, 255, 215, 177]
abbrev dktX0_goFits_4 : List UInt8 := dkwX0_goFits_4 ++ []
def dkwX0_goFits_3 : List UInt8 := [62, 29, 42, 180, 0, 93, 162, 0, 39, 28, 29, 184, 1, 50, 153, 0, 6, 167, 0, 22, 42, 180, 0, 39]
abbrev dktX0_goFits_3 : List UInt8 := dkwX0_goFits_3 ++ dktX0_goFits_4
def dkwX0_goFits_2 : List UInt8 := [180, 0, 39, 29, 46, 79, 132, 3, 1, 167, 255, 233, 42, 89, 180, 1, 134, 4, 96, 181, 1, 134, 177, 3]
abbrev dktX0_goFits_2 : List UInt8 := dkwX0_goFits_2 ++ dktX0_goFits_3
def dkwX0_goFits_1 : List UInt8 := [180, 1, 134, 154, 0, 31, 3, 62, 29, 42, 180, 0, 93, 162, 0, 21, 42, 180, 0, 52, 29, 42]
abbrev dktX0_goFits_1 : List UInt8 := dkwX0_goFits_1 ++ dktX0_goFits_2
def dkwX0_goFits_0 : List UInt8 := [27, 42, 180, 0, 93, 160, 0, 62, 42, 3, 182, 0, 252, 42, 182, 1, 130, 154, 0, 4, 177, 42]
abbrev dktX0_goFits_0 : List UInt8 := dkwX0_goFits_0 ++ dktX0_goFits_1
theorem dksX0_goFits_0 : cX0_goFits.data.toList.drop 0 = dktX0_goFits_0 := by decide +kernel
theorem dksX0_goFits_1 : cX0_goFits.data.toList.drop 22 = dktX0_goFits_1 := dk_seg dksX0_goFits_0 22 rfl rfl
theorem dksX0_goFits_2 : cX0_goFits.data.toList.drop 44 = dktX0_goFits_2 := dk_seg dksX0_goFits_1 22 rfl rfl
theorem dksX0_goFits_3 : cX0_goFits.data.toList.drop 68 = dktX0_goFits_3 := dk_seg dksX0_goFits_2 24 rfl rfl
theorem dksX0_goFits_4 : cX0_goFits.data.toList.drop 92 = dktX0_goFits_4 := dk_seg dksX0_goFits_3 24 rfl rfl
theorem dX0_goFits_0 : decode cX0_goFits 0 = .ok (.iload_n 1, 1) := dk_27 (dk_at dksX0_goFits_0 0 rfl rfl)
theorem dX0_goFits_1 : decode cX0_goFits 1 = .ok (.aload_n 0, 1) := dk_42 (dk_at dksX0_goFits_0 1 rfl rfl)
theorem dX0_goFits_2 : decode cX0_goFits 2 = .ok (.getfield 93, 3) := dk_180 0 93 (dk_at dksX0_goFits_0 2 rfl rfl)
theorem dX0_goFits_5 : decode cX0_goFits 5 = .ok (.if_icmp .ne 62, 3) := dk_160 0 62 (dk_at dksX0_goFits_0 5 rfl rfl)
theorem dX0_goFits_8 : decode cX0_goFits 8 = .ok (.aload_n 0, 1) := dk_42 (dk_at dksX0_goFits_0 8 rfl rfl)
theorem dX0_goFits_9 : decode cX0_goFits 9 = .ok (.iconst 0, 1) := dk_3 (dk_at dksX0_goFits_0 9 rfl rfl)
theorem dX0_goFits_10 : decode cX0_goFits 10 = .ok (.invokevirtual 252, 3) := dk_182 0 252 (dk_at dksX0_goFits_0 10 rfl rfl)
theorem dX0_goFits_13 : decode cX0_goFits 13 = .ok (.aload_n 0, 1) := dk_42 (dk_at dksX0_goFits_0 13 rfl rfl)
theorem dX0_goFits_14 : decode cX0_goFits 14 = .ok (.invokevirtual 386, 3) := dk_182 1 130 (dk_at dksX0_goFits_0 14 rfl rfl)
theorem dX0_goFits_17 : decode cX0_goFits 17 = .ok (.ifCond .ne 4, 3) := dk_154 0 4 (dk_at dksX0_goFits_0 17 rfl rfl)
theorem dX0_goFits_20 : decode cX0_goFits 20 = .ok (.return_, 1) := dk_177 (dk_at dksX0_goFits_0 20 rfl rfl)
theorem dX0_goFits_21 : decode cX0_goFits 21 = .ok (.aload_n 0, 1) := dk_42 (dk_at dksX0_goFits_0 21 rfl rfl)
theorem dX0_goFits_22 : decode cX0_goFits 22 = .ok (.getfield 390, 3) := dk_180 1 134 (dk_at dksX0_goFits_1 0 rfl rfl)
theorem dX0_goFits_25 : decode cX0_goFits 25 = .ok (.ifCond .ne 31, 3) := dk_154 0 31 (dk_at dksX0_goFits_1 3 rfl rfl)
theorem dX0_goFits_28 : decode cX0_goFits 28 = .ok (.iconst 0, 1) := dk_3 (dk_at dksX0_goFits_1 6 rfl rfl)
theorem dX0_goFits_29 : decode cX0_goFits 29 = .ok (.istore_n 3, 1) := dk_62 (dk_at dksX0_goFits_1 7 rfl rfl)
theorem dX0_goFits_30 : decode cX0_goFits 30 = .ok (.iload_n 3, 1) := dk_29 (dk_at dksX0_goFits_1 8 rfl rfl)
theorem dX0_goFits_31 : decode cX0_goFits 31 = .ok (.aload_n 0, 1) := dk_42 (dk_at dksX0_goFits_1 9 rfl rfl)
theorem dX0_goFits_32 : decode cX0_goFits 32 = .ok (.getfield 93, 3) := dk_180 0 93 (dk_at dksX0_goFits_1 10 rfl rfl)
theorem dX0_goFits_35 : decode cX0_goFits 35 = .ok (.if_icmp .ge 21, 3) := dk_162 0 21 (dk_at dksX0_goFits_1 13 rfl rfl)
theorem dX0_goFits_38 : decode cX0_goFits 38 = .ok (.aload_n 0, 1) := dk_42 (dk_at dksX0_goFits_1 16 rfl rfl)
theorem dX0_goFits_39 : decode cX0_goFits 39 = .ok (.getfield 52, 3) := dk_180 0 52 (dk_at dksX0_goFits_1 17 rfl rfl)
theorem dX0_goFits_42 : decode cX0_goFits 42 = .ok (.iload_n 3, 1) := dk_29 (dk_at dksX0_goFits_1 20 rfl rfl)
theorem dX0_goFits_43 : decode cX0_goFits 43 = .ok (.aload_n 0, 1) := dk_42 (dk_at dksX0_goFits_1 21 rfl rfl)
theorem dX0_goFits_44 : decode cX0_goFits 44 = .ok (.getfield 39, 3) := dk_180 0 39 (dk_at dksX0_goFits_2 0 rfl rfl)
theorem dX0_goFits_47 : decode cX0_goFits 47 = .ok (.iload_n 3, 1) := dk_29 (dk_at dksX0_goFits_2 3 rfl rfl)
theorem dX0_goFits_48 : decode cX0_goFits 48 = .ok (.iaload, 1) := dk_46 (dk_at dksX0_goFits_2 4 rfl rfl)
theorem dX0_goFits_49 : decode cX0_goFits 49 = .ok (.iastore, 1) := dk_79 (dk_at dksX0_goFits_2 5 rfl rfl)
theorem dX0_goFits_50 : decode cX0_goFits 50 = .ok (.iinc 3 1, 3) := dk_132 3 1 (dk_at dksX0_goFits_2 6 rfl rfl)
theorem dX0_goFits_53 : decode cX0_goFits 53 = .ok (.goto (-23), 3) := dk_167 255 233 (dk_at dksX0_goFits_2 9 rfl rfl)
theorem dX0_goFits_56 : decode cX0_goFits 56 = .ok (.aload_n 0, 1) := dk_42 (dk_at dksX0_goFits_2 12 rfl rfl)
theorem dX0_goFits_57 : decode cX0_goFits 57 = .ok (.dup, 1) := dk_89 (dk_at dksX0_goFits_2 13 rfl rfl)
theorem dX0_goFits_58 : decode cX0_goFits 58 = .ok (.getfield 390, 3) := dk_180 1 134 (dk_at dksX0_goFits_2 14 rfl rfl)
theorem dX0_goFits_61 : decode cX0_goFits 61 = .ok (.iconst 1, 1) := dk_4 (dk_at dksX0_goFits_2 17 rfl rfl)
theorem dX0_goFits_62 : decode cX0_goFits 62 = .ok (.iadd, 1) := dk_96 (dk_at dksX0_goFits_2 18 rfl rfl)
theorem dX0_goFits_63 : decode cX0_goFits 63 = .ok (.putfield 390, 3) := dk_181 1 134 (dk_at dksX0_goFits_2 19 rfl rfl)
theorem dX0_goFits_66 : decode cX0_goFits 66 = .ok (.return_, 1) := dk_177 (dk_at dksX0_goFits_2 22 rfl rfl)
theorem dX0_goFits_67 : decode cX0_goFits 67 = .ok (.iconst 0, 1) := dk_3 (dk_at dksX0_goFits_2 23 rfl rfl)
theorem dX0_goFits_68 : decode cX0_goFits 68 = .ok (.istore_n 3, 1) := dk_62 (dk_at dksX0_goFits_3 0 rfl rfl)
theorem dX0_goFits_69 : decode cX0_goFits 69 = .ok (.iload_n 3, 1) := dk_29 (dk_at dksX0_goFits_3 1 rfl rfl)
theorem dX0_goFits_70 : decode cX0_goFits 70 = .ok (.aload_n 0, 1) := dk_42 (dk_at dksX0_goFits_3 2 rfl rfl)
theorem dX0_goFits_71 : decode cX0_goFits 71 = .ok (.getfield 93, 3) := dk_180 0 93 (dk_at dksX0_goFits_3 3 rfl rfl)
theorem dX0_goFits_74 : decode cX0_goFits 74 = .ok (.if_icmp .ge 39, 3) := dk_162 0 39 (dk_at dksX0_goFits_3 6 rfl rfl)
theorem dX0_goFits_77 : decode cX0_goFits 77 = .ok (.iload_n 2, 1) := dk_28 (dk_at dksX0_goFits_3 9 rfl rfl)
theorem dX0_goFits_78 : decode cX0_goFits 78 = .ok (.iload_n 3, 1) := dk_29 (dk_at dksX0_goFits_3 10 rfl rfl)
theorem dX0_goFits_79 : decode cX0_goFits 79 = .ok (.invokestatic 306, 3) := dk_184 1 50 (dk_at dksX0_goFits_3 11 rfl rfl)
theorem dX0_goFits_82 : decode cX0_goFits 82 = .ok (.ifCond .eq 6, 3) := dk_153 0 6 (dk_at dksX0_goFits_3 14 rfl rfl)
theorem dX0_goFits_85 : decode cX0_goFits 85 = .ok (.goto 22, 3) := dk_167 0 22 (dk_at dksX0_goFits_3 17 rfl rfl)
theorem dX0_goFits_88 : decode cX0_goFits 88 = .ok (.aload_n 0, 1) := dk_42 (dk_at dksX0_goFits_3 20 rfl rfl)
theorem dX0_goFits_89 : decode cX0_goFits 89 = .ok (.getfield 39, 3) := dk_180 0 39 (dk_at dksX0_goFits_3 21 rfl rfl)
theorem dX0_goFits_92 : decode cX0_goFits 92 = .ok (.iload_n 1, 1) := dk_27 (dk_at dksX0_goFits_4 0 rfl rfl)
theorem dX0_goFits_93 : decode cX0_goFits 93 = .ok (.iload_n 3, 1) := dk_29 (dk_at dksX0_goFits_4 1 rfl rfl)
theorem dX0_goFits_94 : decode cX0_goFits 94 = .ok (.iastore, 1) := dk_79 (dk_at dksX0_goFits_4 2 rfl rfl)
theorem dX0_goFits_95 : decode cX0_goFits 95 = .ok (.aload_n 0, 1) := dk_42 (dk_at dksX0_goFits_4 3 rfl rfl)
theorem dX0_goFits_96 : decode cX0_goFits 96 = .ok (.iload_n 1, 1) := dk_27 (dk_at dksX0_goFits_4 4 rfl rfl)
theorem dX0_goFits_97 : decode cX0_goFits 97 = .ok (.iconst 1, 1) := dk_4 (dk_at dksX0_goFits_4 5 rfl rfl)
theorem dX0_goFits_98 : decode cX0_goFits 98 = .ok (.iadd, 1) := dk_96 (dk_at dksX0_goFits_4 6 rfl rfl)
theorem dX0_goFits_99 : decode cX0_goFits 99 = .ok (.iload_n 2, 1) := dk_28 (dk_at dksX0_goFits_4 7 rfl rfl)
theorem dX0_goFits_100 : decode cX0_goFits 100 = .ok (.iconst 1, 1) := dk_4 (dk_at dksX0_goFits_4 8 rfl rfl)
theorem dX0_goFits_101 : decode cX0_goFits 101 = .ok (.iload_n 3, 1) := dk_29 (dk_at dksX0_goFits_4 9 rfl rfl)
theorem dX0_goFits_102 : decode cX0_goFits 102 = .ok (.ishl, 1) := dk_120 (dk_at dksX0_goFits_4 10 rfl rfl)
theorem dX0_goFits_103 : decode cX0_goFits 103 = .ok (.ior, 1) := dk_128 (dk_at dksX0_goFits_4 11 rfl rfl)
theorem dX0_goFits_104 : decode cX0_goFits 104 = .ok (.invokevirtual 393, 3) := dk_182 1 137 (dk_at dksX0_goFits_4 12 rfl rfl)
theorem dX0_goFits_107 : decode cX0_goFits 107 = .ok (.iinc 3 1, 3) := dk_132 3 1 (dk_at dksX0_goFits_4 15 rfl rfl)
theorem dX0_goFits_110 : decode cX0_goFits 110 = .ok (.goto (-41), 3) := dk_167 255 215 (dk_at dksX0_goFits_4 18 rfl rfl)
theorem dX0_goFits_113 : decode cX0_goFits 113 = .ok (.return_, 1) := dk_177 (dk_at dksX0_goFits_4 21 rfl rfl)
abbrev cX0_hang : ByteArray := prog_1_method_77_code
def yX0_hang : MethodName := ⟨RX0, "hang", "(II)I"⟩
def dkwX0_hang_5 : List UInt8 := [167, 255, 172, 28, 154, 0, 7, 29, 167, 0, 5, 21, 4, 172]
abbrev dktX0_hang_5 : List UInt8 := dkwX0_hang_5 ++ []
def dkwX0_hang_4 : List UInt8 := [155, 0, 13, 21, 8, 21, 4, 163, 0, 6, 167, 0, 10, 21, 5, 62, 21, 8, 54, 4, 132, 5, 1]
abbrev dktX0_hang_4 : List UInt8 := dkwX0_hang_4 ++ dktX0_hang_5
def dkwX0_hang_3 : List UInt8 := [184, 1, 140, 96, 27, 164, 0, 6, 167, 0, 34, 42, 21, 6, 21, 7, 182, 1, 143, 54, 8, 29]
abbrev dktX0_hang_3 : List UInt8 := dkwX0_hang_3 ++ dktX0_hang_4
def dkwX0_hang_2 : List UInt8 := [16, 16, 108, 54, 7, 21, 6, 42, 180, 0, 100, 100, 184, 1, 140, 21, 7, 42, 180, 0, 103, 100]
abbrev dktX0_hang_2 : List UInt8 := dkwX0_hang_2 ++ dktX0_hang_3
def dkwX0_hang_1 : List UInt8 := [3, 54, 4, 3, 54, 5, 21, 5, 17, 1, 0, 162, 0, 82, 21, 5, 16, 16, 112, 54, 6, 21, 5]
abbrev dktX0_hang_1 : List UInt8 := dkwX0_hang_1 ++ dktX0_hang_2
def dkwX0_hang_0 : List UInt8 := [27, 3, 16, 30, 184, 0, 89, 153, 0, 12, 28, 3, 4, 184, 0, 89, 154, 0, 5, 2, 172, 16, 254, 62]
abbrev dktX0_hang_0 : List UInt8 := dkwX0_hang_0 ++ dktX0_hang_1
theorem dksX0_hang_0 : cX0_hang.data.toList.drop 0 = dktX0_hang_0 := by decide +kernel
theorem dksX0_hang_1 : cX0_hang.data.toList.drop 24 = dktX0_hang_1 := dk_seg dksX0_hang_0 24 rfl rfl
theorem dksX0_hang_2 : cX0_hang.data.toList.drop 47 = dktX0_hang_2 := dk_seg dksX0_hang_1 23 rfl rfl
theorem dksX0_hang_3 : cX0_hang.data.toList.drop 69 = dktX0_hang_3 := dk_seg dksX0_hang_2 22 rfl rfl
theorem dksX0_hang_4 : cX0_hang.data.toList.drop 91 = dktX0_hang_4 := dk_seg dksX0_hang_3 22 rfl rfl
theorem dksX0_hang_5 : cX0_hang.data.toList.drop 114 = dktX0_hang_5 := dk_seg dksX0_hang_4 23 rfl rfl
theorem dX0_hang_0 : decode cX0_hang 0 = .ok (.iload_n 1, 1) := dk_27 (dk_at dksX0_hang_0 0 rfl rfl)
theorem dX0_hang_1 : decode cX0_hang 1 = .ok (.iconst 0, 1) := dk_3 (dk_at dksX0_hang_0 1 rfl rfl)
theorem dX0_hang_2 : decode cX0_hang 2 = .ok (.bipush 30, 2) := dk_16 30 (dk_at dksX0_hang_0 2 rfl rfl)
theorem dX0_hang_4 : decode cX0_hang 4 = .ok (.invokestatic 89, 3) := dk_184 0 89 (dk_at dksX0_hang_0 4 rfl rfl)
theorem dX0_hang_7 : decode cX0_hang 7 = .ok (.ifCond .eq 12, 3) := dk_153 0 12 (dk_at dksX0_hang_0 7 rfl rfl)
theorem dX0_hang_10 : decode cX0_hang 10 = .ok (.iload_n 2, 1) := dk_28 (dk_at dksX0_hang_0 10 rfl rfl)
theorem dX0_hang_11 : decode cX0_hang 11 = .ok (.iconst 0, 1) := dk_3 (dk_at dksX0_hang_0 11 rfl rfl)
theorem dX0_hang_12 : decode cX0_hang 12 = .ok (.iconst 1, 1) := dk_4 (dk_at dksX0_hang_0 12 rfl rfl)
theorem dX0_hang_13 : decode cX0_hang 13 = .ok (.invokestatic 89, 3) := dk_184 0 89 (dk_at dksX0_hang_0 13 rfl rfl)
theorem dX0_hang_16 : decode cX0_hang 16 = .ok (.ifCond .ne 5, 3) := dk_154 0 5 (dk_at dksX0_hang_0 16 rfl rfl)
theorem dX0_hang_19 : decode cX0_hang 19 = .ok (.iconst (-1), 1) := dk_2 (dk_at dksX0_hang_0 19 rfl rfl)
theorem dX0_hang_20 : decode cX0_hang 20 = .ok (.ireturn, 1) := dk_172 (dk_at dksX0_hang_0 20 rfl rfl)
theorem dX0_hang_21 : decode cX0_hang 21 = .ok (.bipush (-2), 2) := dk_16 254 (dk_at dksX0_hang_0 21 rfl rfl)
theorem dX0_hang_23 : decode cX0_hang 23 = .ok (.istore_n 3, 1) := dk_62 (dk_at dksX0_hang_0 23 rfl rfl)
theorem dX0_hang_24 : decode cX0_hang 24 = .ok (.iconst 0, 1) := dk_3 (dk_at dksX0_hang_1 0 rfl rfl)
theorem dX0_hang_25 : decode cX0_hang 25 = .ok (.istore 4, 2) := dk_54 4 (dk_at dksX0_hang_1 1 rfl rfl)
theorem dX0_hang_27 : decode cX0_hang 27 = .ok (.iconst 0, 1) := dk_3 (dk_at dksX0_hang_1 3 rfl rfl)
theorem dX0_hang_28 : decode cX0_hang 28 = .ok (.istore 5, 2) := dk_54 5 (dk_at dksX0_hang_1 4 rfl rfl)
theorem dX0_hang_30 : decode cX0_hang 30 = .ok (.iload 5, 2) := dk_21 5 (dk_at dksX0_hang_1 6 rfl rfl)
theorem dX0_hang_32 : decode cX0_hang 32 = .ok (.sipush 256, 3) := dk_17 1 0 (dk_at dksX0_hang_1 8 rfl rfl)
theorem dX0_hang_35 : decode cX0_hang 35 = .ok (.if_icmp .ge 82, 3) := dk_162 0 82 (dk_at dksX0_hang_1 11 rfl rfl)
theorem dX0_hang_38 : decode cX0_hang 38 = .ok (.iload 5, 2) := dk_21 5 (dk_at dksX0_hang_1 14 rfl rfl)
theorem dX0_hang_40 : decode cX0_hang 40 = .ok (.bipush 16, 2) := dk_16 16 (dk_at dksX0_hang_1 16 rfl rfl)
theorem dX0_hang_42 : decode cX0_hang 42 = .ok (.irem, 1) := dk_112 (dk_at dksX0_hang_1 18 rfl rfl)
theorem dX0_hang_43 : decode cX0_hang 43 = .ok (.istore 6, 2) := dk_54 6 (dk_at dksX0_hang_1 19 rfl rfl)
theorem dX0_hang_45 : decode cX0_hang 45 = .ok (.iload 5, 2) := dk_21 5 (dk_at dksX0_hang_1 21 rfl rfl)
theorem dX0_hang_47 : decode cX0_hang 47 = .ok (.bipush 16, 2) := dk_16 16 (dk_at dksX0_hang_2 0 rfl rfl)
theorem dX0_hang_49 : decode cX0_hang 49 = .ok (.idiv, 1) := dk_108 (dk_at dksX0_hang_2 2 rfl rfl)
theorem dX0_hang_50 : decode cX0_hang 50 = .ok (.istore 7, 2) := dk_54 7 (dk_at dksX0_hang_2 3 rfl rfl)
theorem dX0_hang_52 : decode cX0_hang 52 = .ok (.iload 6, 2) := dk_21 6 (dk_at dksX0_hang_2 5 rfl rfl)
theorem dX0_hang_54 : decode cX0_hang 54 = .ok (.aload_n 0, 1) := dk_42 (dk_at dksX0_hang_2 7 rfl rfl)
theorem dX0_hang_55 : decode cX0_hang 55 = .ok (.getfield 100, 3) := dk_180 0 100 (dk_at dksX0_hang_2 8 rfl rfl)
theorem dX0_hang_58 : decode cX0_hang 58 = .ok (.isub, 1) := dk_100 (dk_at dksX0_hang_2 11 rfl rfl)
theorem dX0_hang_59 : decode cX0_hang 59 = .ok (.invokestatic 396, 3) := dk_184 1 140 (dk_at dksX0_hang_2 12 rfl rfl)
theorem dX0_hang_62 : decode cX0_hang 62 = .ok (.iload 7, 2) := dk_21 7 (dk_at dksX0_hang_2 15 rfl rfl)
theorem dX0_hang_64 : decode cX0_hang 64 = .ok (.aload_n 0, 1) := dk_42 (dk_at dksX0_hang_2 17 rfl rfl)
theorem dX0_hang_65 : decode cX0_hang 65 = .ok (.getfield 103, 3) := dk_180 0 103 (dk_at dksX0_hang_2 18 rfl rfl)
theorem dX0_hang_68 : decode cX0_hang 68 = .ok (.isub, 1) := dk_100 (dk_at dksX0_hang_2 21 rfl rfl)
theorem dX0_hang_69 : decode cX0_hang 69 = .ok (.invokestatic 396, 3) := dk_184 1 140 (dk_at dksX0_hang_3 0 rfl rfl)
theorem dX0_hang_72 : decode cX0_hang 72 = .ok (.iadd, 1) := dk_96 (dk_at dksX0_hang_3 3 rfl rfl)
theorem dX0_hang_73 : decode cX0_hang 73 = .ok (.iload_n 1, 1) := dk_27 (dk_at dksX0_hang_3 4 rfl rfl)
theorem dX0_hang_74 : decode cX0_hang 74 = .ok (.if_icmp .le 6, 3) := dk_164 0 6 (dk_at dksX0_hang_3 5 rfl rfl)
theorem dX0_hang_77 : decode cX0_hang 77 = .ok (.goto 34, 3) := dk_167 0 34 (dk_at dksX0_hang_3 8 rfl rfl)
theorem dX0_hang_80 : decode cX0_hang 80 = .ok (.aload_n 0, 1) := dk_42 (dk_at dksX0_hang_3 11 rfl rfl)
theorem dX0_hang_81 : decode cX0_hang 81 = .ok (.iload 6, 2) := dk_21 6 (dk_at dksX0_hang_3 12 rfl rfl)
theorem dX0_hang_83 : decode cX0_hang 83 = .ok (.iload 7, 2) := dk_21 7 (dk_at dksX0_hang_3 14 rfl rfl)
theorem dX0_hang_85 : decode cX0_hang 85 = .ok (.invokevirtual 399, 3) := dk_182 1 143 (dk_at dksX0_hang_3 16 rfl rfl)
theorem dX0_hang_88 : decode cX0_hang 88 = .ok (.istore 8, 2) := dk_54 8 (dk_at dksX0_hang_3 19 rfl rfl)
theorem dX0_hang_90 : decode cX0_hang 90 = .ok (.iload_n 3, 1) := dk_29 (dk_at dksX0_hang_3 21 rfl rfl)
theorem dX0_hang_91 : decode cX0_hang 91 = .ok (.ifCond .lt 13, 3) := dk_155 0 13 (dk_at dksX0_hang_4 0 rfl rfl)
theorem dX0_hang_94 : decode cX0_hang 94 = .ok (.iload 8, 2) := dk_21 8 (dk_at dksX0_hang_4 3 rfl rfl)
theorem dX0_hang_96 : decode cX0_hang 96 = .ok (.iload 4, 2) := dk_21 4 (dk_at dksX0_hang_4 5 rfl rfl)
theorem dX0_hang_98 : decode cX0_hang 98 = .ok (.if_icmp .gt 6, 3) := dk_163 0 6 (dk_at dksX0_hang_4 7 rfl rfl)
theorem dX0_hang_101 : decode cX0_hang 101 = .ok (.goto 10, 3) := dk_167 0 10 (dk_at dksX0_hang_4 10 rfl rfl)
theorem dX0_hang_104 : decode cX0_hang 104 = .ok (.iload 5, 2) := dk_21 5 (dk_at dksX0_hang_4 13 rfl rfl)
theorem dX0_hang_106 : decode cX0_hang 106 = .ok (.istore_n 3, 1) := dk_62 (dk_at dksX0_hang_4 15 rfl rfl)
theorem dX0_hang_107 : decode cX0_hang 107 = .ok (.iload 8, 2) := dk_21 8 (dk_at dksX0_hang_4 16 rfl rfl)
theorem dX0_hang_109 : decode cX0_hang 109 = .ok (.istore 4, 2) := dk_54 4 (dk_at dksX0_hang_4 18 rfl rfl)
theorem dX0_hang_111 : decode cX0_hang 111 = .ok (.iinc 5 1, 3) := dk_132 5 1 (dk_at dksX0_hang_4 20 rfl rfl)
theorem dX0_hang_114 : decode cX0_hang 114 = .ok (.goto (-84), 3) := dk_167 255 172 (dk_at dksX0_hang_5 0 rfl rfl)
theorem dX0_hang_117 : decode cX0_hang 117 = .ok (.iload_n 2, 1) := dk_28 (dk_at dksX0_hang_5 3 rfl rfl)
theorem dX0_hang_118 : decode cX0_hang 118 = .ok (.ifCond .ne 7, 3) := dk_154 0 7 (dk_at dksX0_hang_5 4 rfl rfl)
theorem dX0_hang_121 : decode cX0_hang 121 = .ok (.iload_n 3, 1) := dk_29 (dk_at dksX0_hang_5 7 rfl rfl)
theorem dX0_hang_122 : decode cX0_hang 122 = .ok (.goto 5, 3) := dk_167 0 5 (dk_at dksX0_hang_5 8 rfl rfl)
theorem dX0_hang_125 : decode cX0_hang 125 = .ok (.iload 4, 2) := dk_21 4 (dk_at dksX0_hang_5 11 rfl rfl)
theorem dX0_hang_127 : decode cX0_hang 127 = .ok (.ireturn, 1) := dk_172 (dk_at dksX0_hang_5 13 rfl rfl)
abbrev cX0_nearestPost : ByteArray := prog_1_method_76_code
def yX0_nearestPost : MethodName := ⟨RX0, "nearestPost", "(II)I"⟩
def dkwX0_nearestPost_2 : List UInt8 := [62, 132, 4, 1, 167, 255, 211, 3, 29, 184, 1, 12, 172]
abbrev dktX0_nearestPost_2 : List UInt8 := dkwX0_nearestPost_2 ++ []
def dkwX0_nearestPost_1 : List UInt8 := [21, 4, 50, 27, 28, 182, 0, 106, 29, 162, 0, 16, 42, 180, 0, 11, 21, 4, 50, 27, 28, 182, 0, 106]
abbrev dktX0_nearestPost_1 : List UInt8 := dkwX0_nearestPost_1 ++ dktX0_nearestPost_2
def dkwX0_nearestPost_0 : List UInt8 := [16, 254, 62, 3, 54, 4, 21, 4, 42, 180, 0, 93, 162, 0, 42, 29, 155, 0, 19, 42, 180, 0, 11]
abbrev dktX0_nearestPost_0 : List UInt8 := dkwX0_nearestPost_0 ++ dktX0_nearestPost_1
theorem dksX0_nearestPost_0 : cX0_nearestPost.data.toList.drop 0 = dktX0_nearestPost_0 := by decide +kernel
theorem dksX0_nearestPost_1 : cX0_nearestPost.data.toList.drop 23 = dktX0_nearestPost_1 := dk_seg dksX0_nearestPost_0 23 rfl rfl
theorem dksX0_nearestPost_2 : cX0_nearestPost.data.toList.drop 47 = dktX0_nearestPost_2 := dk_seg dksX0_nearestPost_1 24 rfl rfl
theorem dX0_nearestPost_0 : decode cX0_nearestPost 0 = .ok (.bipush (-2), 2) := dk_16 254 (dk_at dksX0_nearestPost_0 0 rfl rfl)
theorem dX0_nearestPost_2 : decode cX0_nearestPost 2 = .ok (.istore_n 3, 1) := dk_62 (dk_at dksX0_nearestPost_0 2 rfl rfl)
theorem dX0_nearestPost_3 : decode cX0_nearestPost 3 = .ok (.iconst 0, 1) := dk_3 (dk_at dksX0_nearestPost_0 3 rfl rfl)
theorem dX0_nearestPost_4 : decode cX0_nearestPost 4 = .ok (.istore 4, 2) := dk_54 4 (dk_at dksX0_nearestPost_0 4 rfl rfl)
theorem dX0_nearestPost_6 : decode cX0_nearestPost 6 = .ok (.iload 4, 2) := dk_21 4 (dk_at dksX0_nearestPost_0 6 rfl rfl)
theorem dX0_nearestPost_8 : decode cX0_nearestPost 8 = .ok (.aload_n 0, 1) := dk_42 (dk_at dksX0_nearestPost_0 8 rfl rfl)
theorem dX0_nearestPost_9 : decode cX0_nearestPost 9 = .ok (.getfield 93, 3) := dk_180 0 93 (dk_at dksX0_nearestPost_0 9 rfl rfl)
theorem dX0_nearestPost_12 : decode cX0_nearestPost 12 = .ok (.if_icmp .ge 42, 3) := dk_162 0 42 (dk_at dksX0_nearestPost_0 12 rfl rfl)
theorem dX0_nearestPost_15 : decode cX0_nearestPost 15 = .ok (.iload_n 3, 1) := dk_29 (dk_at dksX0_nearestPost_0 15 rfl rfl)
theorem dX0_nearestPost_16 : decode cX0_nearestPost 16 = .ok (.ifCond .lt 19, 3) := dk_155 0 19 (dk_at dksX0_nearestPost_0 16 rfl rfl)
theorem dX0_nearestPost_19 : decode cX0_nearestPost 19 = .ok (.aload_n 0, 1) := dk_42 (dk_at dksX0_nearestPost_0 19 rfl rfl)
theorem dX0_nearestPost_20 : decode cX0_nearestPost 20 = .ok (.getfield 11, 3) := dk_180 0 11 (dk_at dksX0_nearestPost_0 20 rfl rfl)
theorem dX0_nearestPost_23 : decode cX0_nearestPost 23 = .ok (.iload 4, 2) := dk_21 4 (dk_at dksX0_nearestPost_1 0 rfl rfl)
theorem dX0_nearestPost_25 : decode cX0_nearestPost 25 = .ok (.aaload, 1) := dk_50 (dk_at dksX0_nearestPost_1 2 rfl rfl)
theorem dX0_nearestPost_26 : decode cX0_nearestPost 26 = .ok (.iload_n 1, 1) := dk_27 (dk_at dksX0_nearestPost_1 3 rfl rfl)
theorem dX0_nearestPost_27 : decode cX0_nearestPost 27 = .ok (.iload_n 2, 1) := dk_28 (dk_at dksX0_nearestPost_1 4 rfl rfl)
theorem dX0_nearestPost_28 : decode cX0_nearestPost 28 = .ok (.invokevirtual 106, 3) := dk_182 0 106 (dk_at dksX0_nearestPost_1 5 rfl rfl)
theorem dX0_nearestPost_31 : decode cX0_nearestPost 31 = .ok (.iload_n 3, 1) := dk_29 (dk_at dksX0_nearestPost_1 8 rfl rfl)
theorem dX0_nearestPost_32 : decode cX0_nearestPost 32 = .ok (.if_icmp .ge 16, 3) := dk_162 0 16 (dk_at dksX0_nearestPost_1 9 rfl rfl)
theorem dX0_nearestPost_35 : decode cX0_nearestPost 35 = .ok (.aload_n 0, 1) := dk_42 (dk_at dksX0_nearestPost_1 12 rfl rfl)
theorem dX0_nearestPost_36 : decode cX0_nearestPost 36 = .ok (.getfield 11, 3) := dk_180 0 11 (dk_at dksX0_nearestPost_1 13 rfl rfl)
theorem dX0_nearestPost_39 : decode cX0_nearestPost 39 = .ok (.iload 4, 2) := dk_21 4 (dk_at dksX0_nearestPost_1 16 rfl rfl)
theorem dX0_nearestPost_41 : decode cX0_nearestPost 41 = .ok (.aaload, 1) := dk_50 (dk_at dksX0_nearestPost_1 18 rfl rfl)
theorem dX0_nearestPost_42 : decode cX0_nearestPost 42 = .ok (.iload_n 1, 1) := dk_27 (dk_at dksX0_nearestPost_1 19 rfl rfl)
theorem dX0_nearestPost_43 : decode cX0_nearestPost 43 = .ok (.iload_n 2, 1) := dk_28 (dk_at dksX0_nearestPost_1 20 rfl rfl)
theorem dX0_nearestPost_44 : decode cX0_nearestPost 44 = .ok (.invokevirtual 106, 3) := dk_182 0 106 (dk_at dksX0_nearestPost_1 21 rfl rfl)
theorem dX0_nearestPost_47 : decode cX0_nearestPost 47 = .ok (.istore_n 3, 1) := dk_62 (dk_at dksX0_nearestPost_2 0 rfl rfl)
theorem dX0_nearestPost_48 : decode cX0_nearestPost 48 = .ok (.iinc 4 1, 3) := dk_132 4 1 (dk_at dksX0_nearestPost_2 1 rfl rfl)
theorem dX0_nearestPost_51 : decode cX0_nearestPost 51 = .ok (.goto (-45), 3) := dk_167 255 211 (dk_at dksX0_nearestPost_2 4 rfl rfl)
theorem dX0_nearestPost_54 : decode cX0_nearestPost 54 = .ok (.iconst 0, 1) := dk_3 (dk_at dksX0_nearestPost_2 7 rfl rfl)
theorem dX0_nearestPost_55 : decode cX0_nearestPost 55 = .ok (.iload_n 3, 1) := dk_29 (dk_at dksX0_nearestPost_2 8 rfl rfl)
theorem dX0_nearestPost_56 : decode cX0_nearestPost 56 = .ok (.invokestatic 268, 3) := dk_184 1 12 (dk_at dksX0_nearestPost_2 9 rfl rfl)
theorem dX0_nearestPost_59 : decode cX0_nearestPost 59 = .ok (.ireturn, 1) := dk_172 (dk_at dksX0_nearestPost_2 12 rfl rfl)
abbrev cX0_drawn : ByteArray := prog_1_method_79_code
def yX0_drawn : MethodName := ⟨RX0, "drawn", "(III)I"⟩
def dkwX0_drawn_7 : List UInt8 := [21, 6, 172]
abbrev dktX0_drawn_7 : List UInt8 := dkwX0_drawn_7 ++ []
def dkwX0_drawn_6 : List UInt8 := [21, 6, 21, 8, 184, 1, 12, 54, 6, 132, 7, 1, 167, 255, 148, 29, 154, 0, 8, 21, 5, 167, 0, 5]
abbrev dktX0_drawn_6 : List UInt8 := dkwX0_drawn_6 ++ dktX0_drawn_7
def dkwX0_drawn_5 : List UInt8 := [4, 167, 0, 4, 3, 182, 1, 150, 96, 54, 8, 132, 9, 1, 167, 255, 197, 21, 5, 21, 8, 96, 54, 5]
abbrev dktX0_drawn_5 : List UInt8 := dkwX0_drawn_5 ++ dktX0_drawn_6
def dkwX0_drawn_4 : List UInt8 := [21, 8, 42, 21, 4, 16, 8, 124, 42, 180, 0, 93, 112, 21, 4, 16, 16, 124, 4, 126, 4, 160, 0, 7]
abbrev dktX0_drawn_4 : List UInt8 := dkwX0_drawn_4 ++ dktX0_drawn_5
def dkwX0_drawn_3 : List UInt8 := [3, 54, 9, 21, 9, 28, 16, 10, 112, 162, 0, 56, 21, 4, 19, 1, 149, 104, 17, 48, 57, 96, 54, 4]
abbrev dktX0_drawn_3 : List UInt8 := dkwX0_drawn_3 ++ dktX0_drawn_4
def dkwX0_drawn_2 : List UInt8 := [21, 7, 28, 16, 10, 108, 162, 0, 105, 42, 180, 0, 93, 158, 0, 98, 42, 2, 181, 1, 146, 3, 54, 8]
abbrev dktX0_drawn_2 : List UInt8 := dkwX0_drawn_2 ++ dktX0_drawn_3
def dkwX0_drawn_1 : List UInt8 := [29, 3, 4, 184, 0, 89, 154, 0, 5, 2, 172, 27, 54, 4, 3, 54, 5, 3, 54, 6, 3, 54, 7]
abbrev dktX0_drawn_1 : List UInt8 := dkwX0_drawn_1 ++ dktX0_drawn_2
def dkwX0_drawn_0 : List UInt8 := [28, 155, 0, 32, 28, 16, 10, 108, 4, 16, 30, 184, 0, 89, 153, 0, 19, 28, 16, 10, 112, 153, 0, 12]
abbrev dktX0_drawn_0 : List UInt8 := dkwX0_drawn_0 ++ dktX0_drawn_1
theorem dksX0_drawn_0 : cX0_drawn.data.toList.drop 0 = dktX0_drawn_0 := by decide +kernel
theorem dksX0_drawn_1 : cX0_drawn.data.toList.drop 24 = dktX0_drawn_1 := dk_seg dksX0_drawn_0 24 rfl rfl
theorem dksX0_drawn_2 : cX0_drawn.data.toList.drop 47 = dktX0_drawn_2 := dk_seg dksX0_drawn_1 23 rfl rfl
theorem dksX0_drawn_3 : cX0_drawn.data.toList.drop 71 = dktX0_drawn_3 := dk_seg dksX0_drawn_2 24 rfl rfl
theorem dksX0_drawn_4 : cX0_drawn.data.toList.drop 95 = dktX0_drawn_4 := dk_seg dksX0_drawn_3 24 rfl rfl
theorem dksX0_drawn_5 : cX0_drawn.data.toList.drop 119 = dktX0_drawn_5 := dk_seg dksX0_drawn_4 24 rfl rfl
theorem dksX0_drawn_6 : cX0_drawn.data.toList.drop 143 = dktX0_drawn_6 := dk_seg dksX0_drawn_5 24 rfl rfl
theorem dksX0_drawn_7 : cX0_drawn.data.toList.drop 167 = dktX0_drawn_7 := dk_seg dksX0_drawn_6 24 rfl rfl
theorem dX0_drawn_0 : decode cX0_drawn 0 = .ok (.iload_n 2, 1) := dk_28 (dk_at dksX0_drawn_0 0 rfl rfl)
theorem dX0_drawn_1 : decode cX0_drawn 1 = .ok (.ifCond .lt 32, 3) := dk_155 0 32 (dk_at dksX0_drawn_0 1 rfl rfl)
theorem dX0_drawn_4 : decode cX0_drawn 4 = .ok (.iload_n 2, 1) := dk_28 (dk_at dksX0_drawn_0 4 rfl rfl)
theorem dX0_drawn_5 : decode cX0_drawn 5 = .ok (.bipush 10, 2) := dk_16 10 (dk_at dksX0_drawn_0 5 rfl rfl)
theorem dX0_drawn_7 : decode cX0_drawn 7 = .ok (.idiv, 1) := dk_108 (dk_at dksX0_drawn_0 7 rfl rfl)
theorem dX0_drawn_8 : decode cX0_drawn 8 = .ok (.iconst 1, 1) := dk_4 (dk_at dksX0_drawn_0 8 rfl rfl)
theorem dX0_drawn_9 : decode cX0_drawn 9 = .ok (.bipush 30, 2) := dk_16 30 (dk_at dksX0_drawn_0 9 rfl rfl)
theorem dX0_drawn_11 : decode cX0_drawn 11 = .ok (.invokestatic 89, 3) := dk_184 0 89 (dk_at dksX0_drawn_0 11 rfl rfl)
theorem dX0_drawn_14 : decode cX0_drawn 14 = .ok (.ifCond .eq 19, 3) := dk_153 0 19 (dk_at dksX0_drawn_0 14 rfl rfl)
theorem dX0_drawn_17 : decode cX0_drawn 17 = .ok (.iload_n 2, 1) := dk_28 (dk_at dksX0_drawn_0 17 rfl rfl)
theorem dX0_drawn_18 : decode cX0_drawn 18 = .ok (.bipush 10, 2) := dk_16 10 (dk_at dksX0_drawn_0 18 rfl rfl)
theorem dX0_drawn_20 : decode cX0_drawn 20 = .ok (.irem, 1) := dk_112 (dk_at dksX0_drawn_0 20 rfl rfl)
theorem dX0_drawn_21 : decode cX0_drawn 21 = .ok (.ifCond .eq 12, 3) := dk_153 0 12 (dk_at dksX0_drawn_0 21 rfl rfl)
theorem dX0_drawn_24 : decode cX0_drawn 24 = .ok (.iload_n 3, 1) := dk_29 (dk_at dksX0_drawn_1 0 rfl rfl)
theorem dX0_drawn_25 : decode cX0_drawn 25 = .ok (.iconst 0, 1) := dk_3 (dk_at dksX0_drawn_1 1 rfl rfl)
theorem dX0_drawn_26 : decode cX0_drawn 26 = .ok (.iconst 1, 1) := dk_4 (dk_at dksX0_drawn_1 2 rfl rfl)
theorem dX0_drawn_27 : decode cX0_drawn 27 = .ok (.invokestatic 89, 3) := dk_184 0 89 (dk_at dksX0_drawn_1 3 rfl rfl)
theorem dX0_drawn_30 : decode cX0_drawn 30 = .ok (.ifCond .ne 5, 3) := dk_154 0 5 (dk_at dksX0_drawn_1 6 rfl rfl)
theorem dX0_drawn_33 : decode cX0_drawn 33 = .ok (.iconst (-1), 1) := dk_2 (dk_at dksX0_drawn_1 9 rfl rfl)
theorem dX0_drawn_34 : decode cX0_drawn 34 = .ok (.ireturn, 1) := dk_172 (dk_at dksX0_drawn_1 10 rfl rfl)
theorem dX0_drawn_35 : decode cX0_drawn 35 = .ok (.iload_n 1, 1) := dk_27 (dk_at dksX0_drawn_1 11 rfl rfl)
theorem dX0_drawn_36 : decode cX0_drawn 36 = .ok (.istore 4, 2) := dk_54 4 (dk_at dksX0_drawn_1 12 rfl rfl)
theorem dX0_drawn_38 : decode cX0_drawn 38 = .ok (.iconst 0, 1) := dk_3 (dk_at dksX0_drawn_1 14 rfl rfl)
theorem dX0_drawn_39 : decode cX0_drawn 39 = .ok (.istore 5, 2) := dk_54 5 (dk_at dksX0_drawn_1 15 rfl rfl)
theorem dX0_drawn_41 : decode cX0_drawn 41 = .ok (.iconst 0, 1) := dk_3 (dk_at dksX0_drawn_1 17 rfl rfl)
theorem dX0_drawn_42 : decode cX0_drawn 42 = .ok (.istore 6, 2) := dk_54 6 (dk_at dksX0_drawn_1 18 rfl rfl)
theorem dX0_drawn_44 : decode cX0_drawn 44 = .ok (.iconst 0, 1) := dk_3 (dk_at dksX0_drawn_1 20 rfl rfl)
theorem dX0_drawn_45 : decode cX0_drawn 45 = .ok (.istore 7, 2) := dk_54 7 (dk_at dksX0_drawn_1 21 rfl rfl)
theorem dX0_drawn_47 : decode cX0_drawn 47 = .ok (.iload 7, 2) := dk_21 7 (dk_at dksX0_drawn_2 0 rfl rfl)
theorem dX0_drawn_49 : decode cX0_drawn 49 = .ok (.iload_n 2, 1) := dk_28 (dk_at dksX0_drawn_2 2 rfl rfl)
theorem dX0_drawn_50 : decode cX0_drawn 50 = .ok (.bipush 10, 2) := dk_16 10 (dk_at dksX0_drawn_2 3 rfl rfl)
theorem dX0_drawn_52 : decode cX0_drawn 52 = .ok (.idiv, 1) := dk_108 (dk_at dksX0_drawn_2 5 rfl rfl)
theorem dX0_drawn_53 : decode cX0_drawn 53 = .ok (.if_icmp .ge 105, 3) := dk_162 0 105 (dk_at dksX0_drawn_2 6 rfl rfl)
theorem dX0_drawn_56 : decode cX0_drawn 56 = .ok (.aload_n 0, 1) := dk_42 (dk_at dksX0_drawn_2 9 rfl rfl)
theorem dX0_drawn_57 : decode cX0_drawn 57 = .ok (.getfield 93, 3) := dk_180 0 93 (dk_at dksX0_drawn_2 10 rfl rfl)
theorem dX0_drawn_60 : decode cX0_drawn 60 = .ok (.ifCond .le 98, 3) := dk_158 0 98 (dk_at dksX0_drawn_2 13 rfl rfl)
theorem dX0_drawn_63 : decode cX0_drawn 63 = .ok (.aload_n 0, 1) := dk_42 (dk_at dksX0_drawn_2 16 rfl rfl)
theorem dX0_drawn_64 : decode cX0_drawn 64 = .ok (.iconst (-1), 1) := dk_2 (dk_at dksX0_drawn_2 17 rfl rfl)
theorem dX0_drawn_65 : decode cX0_drawn 65 = .ok (.putfield 402, 3) := dk_181 1 146 (dk_at dksX0_drawn_2 18 rfl rfl)
theorem dX0_drawn_68 : decode cX0_drawn 68 = .ok (.iconst 0, 1) := dk_3 (dk_at dksX0_drawn_2 21 rfl rfl)
theorem dX0_drawn_69 : decode cX0_drawn 69 = .ok (.istore 8, 2) := dk_54 8 (dk_at dksX0_drawn_2 22 rfl rfl)
theorem dX0_drawn_71 : decode cX0_drawn 71 = .ok (.iconst 0, 1) := dk_3 (dk_at dksX0_drawn_3 0 rfl rfl)
theorem dX0_drawn_72 : decode cX0_drawn 72 = .ok (.istore 9, 2) := dk_54 9 (dk_at dksX0_drawn_3 1 rfl rfl)
theorem dX0_drawn_74 : decode cX0_drawn 74 = .ok (.iload 9, 2) := dk_21 9 (dk_at dksX0_drawn_3 3 rfl rfl)
theorem dX0_drawn_76 : decode cX0_drawn 76 = .ok (.iload_n 2, 1) := dk_28 (dk_at dksX0_drawn_3 5 rfl rfl)
theorem dX0_drawn_77 : decode cX0_drawn 77 = .ok (.bipush 10, 2) := dk_16 10 (dk_at dksX0_drawn_3 6 rfl rfl)
theorem dX0_drawn_79 : decode cX0_drawn 79 = .ok (.irem, 1) := dk_112 (dk_at dksX0_drawn_3 8 rfl rfl)
theorem dX0_drawn_80 : decode cX0_drawn 80 = .ok (.if_icmp .ge 56, 3) := dk_162 0 56 (dk_at dksX0_drawn_3 9 rfl rfl)
theorem dX0_drawn_83 : decode cX0_drawn 83 = .ok (.iload 4, 2) := dk_21 4 (dk_at dksX0_drawn_3 12 rfl rfl)
theorem dX0_drawn_85 : decode cX0_drawn 85 = .ok (.ldc_w 405, 3) := dk_19 1 149 (dk_at dksX0_drawn_3 14 rfl rfl)
theorem dX0_drawn_88 : decode cX0_drawn 88 = .ok (.imul, 1) := dk_104 (dk_at dksX0_drawn_3 17 rfl rfl)
theorem dX0_drawn_89 : decode cX0_drawn 89 = .ok (.sipush 12345, 3) := dk_17 48 57 (dk_at dksX0_drawn_3 18 rfl rfl)
theorem dX0_drawn_92 : decode cX0_drawn 92 = .ok (.iadd, 1) := dk_96 (dk_at dksX0_drawn_3 21 rfl rfl)
theorem dX0_drawn_93 : decode cX0_drawn 93 = .ok (.istore 4, 2) := dk_54 4 (dk_at dksX0_drawn_3 22 rfl rfl)
theorem dX0_drawn_95 : decode cX0_drawn 95 = .ok (.iload 8, 2) := dk_21 8 (dk_at dksX0_drawn_4 0 rfl rfl)
theorem dX0_drawn_97 : decode cX0_drawn 97 = .ok (.aload_n 0, 1) := dk_42 (dk_at dksX0_drawn_4 2 rfl rfl)
theorem dX0_drawn_98 : decode cX0_drawn 98 = .ok (.iload 4, 2) := dk_21 4 (dk_at dksX0_drawn_4 3 rfl rfl)
theorem dX0_drawn_100 : decode cX0_drawn 100 = .ok (.bipush 8, 2) := dk_16 8 (dk_at dksX0_drawn_4 5 rfl rfl)
theorem dX0_drawn_102 : decode cX0_drawn 102 = .ok (.iushr, 1) := dk_124 (dk_at dksX0_drawn_4 7 rfl rfl)
theorem dX0_drawn_103 : decode cX0_drawn 103 = .ok (.aload_n 0, 1) := dk_42 (dk_at dksX0_drawn_4 8 rfl rfl)
theorem dX0_drawn_104 : decode cX0_drawn 104 = .ok (.getfield 93, 3) := dk_180 0 93 (dk_at dksX0_drawn_4 9 rfl rfl)
theorem dX0_drawn_107 : decode cX0_drawn 107 = .ok (.irem, 1) := dk_112 (dk_at dksX0_drawn_4 12 rfl rfl)
theorem dX0_drawn_108 : decode cX0_drawn 108 = .ok (.iload 4, 2) := dk_21 4 (dk_at dksX0_drawn_4 13 rfl rfl)
theorem dX0_drawn_110 : decode cX0_drawn 110 = .ok (.bipush 16, 2) := dk_16 16 (dk_at dksX0_drawn_4 15 rfl rfl)
theorem dX0_drawn_112 : decode cX0_drawn 112 = .ok (.iushr, 1) := dk_124 (dk_at dksX0_drawn_4 17 rfl rfl)
theorem dX0_drawn_113 : decode cX0_drawn 113 = .ok (.iconst 1, 1) := dk_4 (dk_at dksX0_drawn_4 18 rfl rfl)
theorem dX0_drawn_114 : decode cX0_drawn 114 = .ok (.iand, 1) := dk_126 (dk_at dksX0_drawn_4 19 rfl rfl)
theorem dX0_drawn_115 : decode cX0_drawn 115 = .ok (.iconst 1, 1) := dk_4 (dk_at dksX0_drawn_4 20 rfl rfl)
theorem dX0_drawn_116 : decode cX0_drawn 116 = .ok (.if_icmp .ne 7, 3) := dk_160 0 7 (dk_at dksX0_drawn_4 21 rfl rfl)
theorem dX0_drawn_119 : decode cX0_drawn 119 = .ok (.iconst 1, 1) := dk_4 (dk_at dksX0_drawn_5 0 rfl rfl)
theorem dX0_drawn_120 : decode cX0_drawn 120 = .ok (.goto 4, 3) := dk_167 0 4 (dk_at dksX0_drawn_5 1 rfl rfl)
theorem dX0_drawn_123 : decode cX0_drawn 123 = .ok (.iconst 0, 1) := dk_3 (dk_at dksX0_drawn_5 4 rfl rfl)
theorem dX0_drawn_124 : decode cX0_drawn 124 = .ok (.invokevirtual 406, 3) := dk_182 1 150 (dk_at dksX0_drawn_5 5 rfl rfl)
theorem dX0_drawn_127 : decode cX0_drawn 127 = .ok (.iadd, 1) := dk_96 (dk_at dksX0_drawn_5 8 rfl rfl)
theorem dX0_drawn_128 : decode cX0_drawn 128 = .ok (.istore 8, 2) := dk_54 8 (dk_at dksX0_drawn_5 9 rfl rfl)
theorem dX0_drawn_130 : decode cX0_drawn 130 = .ok (.iinc 9 1, 3) := dk_132 9 1 (dk_at dksX0_drawn_5 11 rfl rfl)
theorem dX0_drawn_133 : decode cX0_drawn 133 = .ok (.goto (-59), 3) := dk_167 255 197 (dk_at dksX0_drawn_5 14 rfl rfl)
theorem dX0_drawn_136 : decode cX0_drawn 136 = .ok (.iload 5, 2) := dk_21 5 (dk_at dksX0_drawn_5 17 rfl rfl)
theorem dX0_drawn_138 : decode cX0_drawn 138 = .ok (.iload 8, 2) := dk_21 8 (dk_at dksX0_drawn_5 19 rfl rfl)
theorem dX0_drawn_140 : decode cX0_drawn 140 = .ok (.iadd, 1) := dk_96 (dk_at dksX0_drawn_5 21 rfl rfl)
theorem dX0_drawn_141 : decode cX0_drawn 141 = .ok (.istore 5, 2) := dk_54 5 (dk_at dksX0_drawn_5 22 rfl rfl)
theorem dX0_drawn_143 : decode cX0_drawn 143 = .ok (.iload 6, 2) := dk_21 6 (dk_at dksX0_drawn_6 0 rfl rfl)
theorem dX0_drawn_145 : decode cX0_drawn 145 = .ok (.iload 8, 2) := dk_21 8 (dk_at dksX0_drawn_6 2 rfl rfl)
theorem dX0_drawn_147 : decode cX0_drawn 147 = .ok (.invokestatic 268, 3) := dk_184 1 12 (dk_at dksX0_drawn_6 4 rfl rfl)
theorem dX0_drawn_150 : decode cX0_drawn 150 = .ok (.istore 6, 2) := dk_54 6 (dk_at dksX0_drawn_6 7 rfl rfl)
theorem dX0_drawn_152 : decode cX0_drawn 152 = .ok (.iinc 7 1, 3) := dk_132 7 1 (dk_at dksX0_drawn_6 9 rfl rfl)
theorem dX0_drawn_155 : decode cX0_drawn 155 = .ok (.goto (-108), 3) := dk_167 255 148 (dk_at dksX0_drawn_6 12 rfl rfl)
theorem dX0_drawn_158 : decode cX0_drawn 158 = .ok (.iload_n 3, 1) := dk_29 (dk_at dksX0_drawn_6 15 rfl rfl)
theorem dX0_drawn_159 : decode cX0_drawn 159 = .ok (.ifCond .ne 8, 3) := dk_154 0 8 (dk_at dksX0_drawn_6 16 rfl rfl)
theorem dX0_drawn_162 : decode cX0_drawn 162 = .ok (.iload 5, 2) := dk_21 5 (dk_at dksX0_drawn_6 19 rfl rfl)
theorem dX0_drawn_164 : decode cX0_drawn 164 = .ok (.goto 5, 3) := dk_167 0 5 (dk_at dksX0_drawn_6 21 rfl rfl)
theorem dX0_drawn_167 : decode cX0_drawn 167 = .ok (.iload 6, 2) := dk_21 6 (dk_at dksX0_drawn_7 0 rfl rfl)
theorem dX0_drawn_169 : decode cX0_drawn 169 = .ok (.ireturn, 1) := dk_172 (dk_at dksX0_drawn_7 2 rfl rfl)
abbrev cX0_roundFrom : ByteArray := prog_1_method_78_code
def yX0_roundFrom : MethodName := ⟨RX0, "roundFrom", "(IZ)I"⟩
def dkwX0_roundFrom_3 : List UInt8 := [182, 0, 246, 96, 96, 62, 42, 21, 5, 181, 1, 146, 132, 4, 1, 167, 255, 177, 29, 172]
abbrev dktX0_roundFrom_3 : List UInt8 := dkwX0_roundFrom_3 ++ []
def dkwX0_roundFrom_2 : List UInt8 := [180, 1, 146, 156, 0, 12, 42, 21, 5, 182, 0, 242, 167, 0, 13, 42, 42, 180, 1, 146, 21, 5]
abbrev dktX0_roundFrom_2 : List UInt8 := dkwX0_roundFrom_2 ++ dktX0_roundFrom_3
def dkwX0_roundFrom_1 : List UInt8 := [180, 0, 93, 96, 167, 0, 7, 27, 21, 4, 96, 42, 180, 0, 93, 112, 54, 5, 29, 42, 180, 0, 19, 42]
abbrev dktX0_roundFrom_1 : List UInt8 := dkwX0_roundFrom_1 ++ dktX0_roundFrom_2
def dkwX0_roundFrom_0 : List UInt8 := [3, 62, 3, 54, 4, 21, 4, 42, 180, 0, 93, 162, 0, 76, 28, 153, 0, 15, 27, 21, 4, 100, 42]
abbrev dktX0_roundFrom_0 : List UInt8 := dkwX0_roundFrom_0 ++ dktX0_roundFrom_1
theorem dksX0_roundFrom_0 : cX0_roundFrom.data.toList.drop 0 = dktX0_roundFrom_0 := by decide +kernel
theorem dksX0_roundFrom_1 : cX0_roundFrom.data.toList.drop 23 = dktX0_roundFrom_1 := dk_seg dksX0_roundFrom_0 23 rfl rfl
theorem dksX0_roundFrom_2 : cX0_roundFrom.data.toList.drop 47 = dktX0_roundFrom_2 := dk_seg dksX0_roundFrom_1 24 rfl rfl
theorem dksX0_roundFrom_3 : cX0_roundFrom.data.toList.drop 69 = dktX0_roundFrom_3 := dk_seg dksX0_roundFrom_2 22 rfl rfl
theorem dX0_roundFrom_0 : decode cX0_roundFrom 0 = .ok (.iconst 0, 1) := dk_3 (dk_at dksX0_roundFrom_0 0 rfl rfl)
theorem dX0_roundFrom_1 : decode cX0_roundFrom 1 = .ok (.istore_n 3, 1) := dk_62 (dk_at dksX0_roundFrom_0 1 rfl rfl)
theorem dX0_roundFrom_2 : decode cX0_roundFrom 2 = .ok (.iconst 0, 1) := dk_3 (dk_at dksX0_roundFrom_0 2 rfl rfl)
theorem dX0_roundFrom_3 : decode cX0_roundFrom 3 = .ok (.istore 4, 2) := dk_54 4 (dk_at dksX0_roundFrom_0 3 rfl rfl)
theorem dX0_roundFrom_5 : decode cX0_roundFrom 5 = .ok (.iload 4, 2) := dk_21 4 (dk_at dksX0_roundFrom_0 5 rfl rfl)
theorem dX0_roundFrom_7 : decode cX0_roundFrom 7 = .ok (.aload_n 0, 1) := dk_42 (dk_at dksX0_roundFrom_0 7 rfl rfl)
theorem dX0_roundFrom_8 : decode cX0_roundFrom 8 = .ok (.getfield 93, 3) := dk_180 0 93 (dk_at dksX0_roundFrom_0 8 rfl rfl)
theorem dX0_roundFrom_11 : decode cX0_roundFrom 11 = .ok (.if_icmp .ge 76, 3) := dk_162 0 76 (dk_at dksX0_roundFrom_0 11 rfl rfl)
theorem dX0_roundFrom_14 : decode cX0_roundFrom 14 = .ok (.iload_n 2, 1) := dk_28 (dk_at dksX0_roundFrom_0 14 rfl rfl)
theorem dX0_roundFrom_15 : decode cX0_roundFrom 15 = .ok (.ifCond .eq 15, 3) := dk_153 0 15 (dk_at dksX0_roundFrom_0 15 rfl rfl)
theorem dX0_roundFrom_18 : decode cX0_roundFrom 18 = .ok (.iload_n 1, 1) := dk_27 (dk_at dksX0_roundFrom_0 18 rfl rfl)
theorem dX0_roundFrom_19 : decode cX0_roundFrom 19 = .ok (.iload 4, 2) := dk_21 4 (dk_at dksX0_roundFrom_0 19 rfl rfl)
theorem dX0_roundFrom_21 : decode cX0_roundFrom 21 = .ok (.isub, 1) := dk_100 (dk_at dksX0_roundFrom_0 21 rfl rfl)
theorem dX0_roundFrom_22 : decode cX0_roundFrom 22 = .ok (.aload_n 0, 1) := dk_42 (dk_at dksX0_roundFrom_0 22 rfl rfl)
theorem dX0_roundFrom_23 : decode cX0_roundFrom 23 = .ok (.getfield 93, 3) := dk_180 0 93 (dk_at dksX0_roundFrom_1 0 rfl rfl)
theorem dX0_roundFrom_26 : decode cX0_roundFrom 26 = .ok (.iadd, 1) := dk_96 (dk_at dksX0_roundFrom_1 3 rfl rfl)
theorem dX0_roundFrom_27 : decode cX0_roundFrom 27 = .ok (.goto 7, 3) := dk_167 0 7 (dk_at dksX0_roundFrom_1 4 rfl rfl)
theorem dX0_roundFrom_30 : decode cX0_roundFrom 30 = .ok (.iload_n 1, 1) := dk_27 (dk_at dksX0_roundFrom_1 7 rfl rfl)
theorem dX0_roundFrom_31 : decode cX0_roundFrom 31 = .ok (.iload 4, 2) := dk_21 4 (dk_at dksX0_roundFrom_1 8 rfl rfl)
theorem dX0_roundFrom_33 : decode cX0_roundFrom 33 = .ok (.iadd, 1) := dk_96 (dk_at dksX0_roundFrom_1 10 rfl rfl)
theorem dX0_roundFrom_34 : decode cX0_roundFrom 34 = .ok (.aload_n 0, 1) := dk_42 (dk_at dksX0_roundFrom_1 11 rfl rfl)
theorem dX0_roundFrom_35 : decode cX0_roundFrom 35 = .ok (.getfield 93, 3) := dk_180 0 93 (dk_at dksX0_roundFrom_1 12 rfl rfl)
theorem dX0_roundFrom_38 : decode cX0_roundFrom 38 = .ok (.irem, 1) := dk_112 (dk_at dksX0_roundFrom_1 15 rfl rfl)
theorem dX0_roundFrom_39 : decode cX0_roundFrom 39 = .ok (.istore 5, 2) := dk_54 5 (dk_at dksX0_roundFrom_1 16 rfl rfl)
theorem dX0_roundFrom_41 : decode cX0_roundFrom 41 = .ok (.iload_n 3, 1) := dk_29 (dk_at dksX0_roundFrom_1 18 rfl rfl)
theorem dX0_roundFrom_42 : decode cX0_roundFrom 42 = .ok (.aload_n 0, 1) := dk_42 (dk_at dksX0_roundFrom_1 19 rfl rfl)
theorem dX0_roundFrom_43 : decode cX0_roundFrom 43 = .ok (.getfield 19, 3) := dk_180 0 19 (dk_at dksX0_roundFrom_1 20 rfl rfl)
theorem dX0_roundFrom_46 : decode cX0_roundFrom 46 = .ok (.aload_n 0, 1) := dk_42 (dk_at dksX0_roundFrom_1 23 rfl rfl)
theorem dX0_roundFrom_47 : decode cX0_roundFrom 47 = .ok (.getfield 402, 3) := dk_180 1 146 (dk_at dksX0_roundFrom_2 0 rfl rfl)
theorem dX0_roundFrom_50 : decode cX0_roundFrom 50 = .ok (.ifCond .ge 12, 3) := dk_156 0 12 (dk_at dksX0_roundFrom_2 3 rfl rfl)
theorem dX0_roundFrom_53 : decode cX0_roundFrom 53 = .ok (.aload_n 0, 1) := dk_42 (dk_at dksX0_roundFrom_2 6 rfl rfl)
theorem dX0_roundFrom_54 : decode cX0_roundFrom 54 = .ok (.iload 5, 2) := dk_21 5 (dk_at dksX0_roundFrom_2 7 rfl rfl)
theorem dX0_roundFrom_56 : decode cX0_roundFrom 56 = .ok (.invokevirtual 242, 3) := dk_182 0 242 (dk_at dksX0_roundFrom_2 9 rfl rfl)
theorem dX0_roundFrom_59 : decode cX0_roundFrom 59 = .ok (.goto 13, 3) := dk_167 0 13 (dk_at dksX0_roundFrom_2 12 rfl rfl)
theorem dX0_roundFrom_62 : decode cX0_roundFrom 62 = .ok (.aload_n 0, 1) := dk_42 (dk_at dksX0_roundFrom_2 15 rfl rfl)
theorem dX0_roundFrom_63 : decode cX0_roundFrom 63 = .ok (.aload_n 0, 1) := dk_42 (dk_at dksX0_roundFrom_2 16 rfl rfl)
theorem dX0_roundFrom_64 : decode cX0_roundFrom 64 = .ok (.getfield 402, 3) := dk_180 1 146 (dk_at dksX0_roundFrom_2 17 rfl rfl)
theorem dX0_roundFrom_67 : decode cX0_roundFrom 67 = .ok (.iload 5, 2) := dk_21 5 (dk_at dksX0_roundFrom_2 20 rfl rfl)
theorem dX0_roundFrom_69 : decode cX0_roundFrom 69 = .ok (.invokevirtual 246, 3) := dk_182 0 246 (dk_at dksX0_roundFrom_3 0 rfl rfl)
theorem dX0_roundFrom_72 : decode cX0_roundFrom 72 = .ok (.iadd, 1) := dk_96 (dk_at dksX0_roundFrom_3 3 rfl rfl)
theorem dX0_roundFrom_73 : decode cX0_roundFrom 73 = .ok (.iadd, 1) := dk_96 (dk_at dksX0_roundFrom_3 4 rfl rfl)
theorem dX0_roundFrom_74 : decode cX0_roundFrom 74 = .ok (.istore_n 3, 1) := dk_62 (dk_at dksX0_roundFrom_3 5 rfl rfl)
theorem dX0_roundFrom_75 : decode cX0_roundFrom 75 = .ok (.aload_n 0, 1) := dk_42 (dk_at dksX0_roundFrom_3 6 rfl rfl)
theorem dX0_roundFrom_76 : decode cX0_roundFrom 76 = .ok (.iload 5, 2) := dk_21 5 (dk_at dksX0_roundFrom_3 7 rfl rfl)
theorem dX0_roundFrom_78 : decode cX0_roundFrom 78 = .ok (.putfield 402, 3) := dk_181 1 146 (dk_at dksX0_roundFrom_3 9 rfl rfl)
theorem dX0_roundFrom_81 : decode cX0_roundFrom 81 = .ok (.iinc 4 1, 3) := dk_132 4 1 (dk_at dksX0_roundFrom_3 12 rfl rfl)
theorem dX0_roundFrom_84 : decode cX0_roundFrom 84 = .ok (.goto (-79), 3) := dk_167 255 177 (dk_at dksX0_roundFrom_3 15 rfl rfl)
theorem dX0_roundFrom_87 : decode cX0_roundFrom 87 = .ok (.iload_n 3, 1) := dk_29 (dk_at dksX0_roundFrom_3 18 rfl rfl)
theorem dX0_roundFrom_88 : decode cX0_roundFrom 88 = .ok (.ireturn, 1) := dk_172 (dk_at dksX0_roundFrom_3 19 rfl rfl)
abbrev cX0_walk : ByteArray := prog_1_method_80_code
def yX0_walk : MethodName := ⟨RX0, "walk", "(I)I"⟩
def dkwX0_walk_5 : List UInt8 := [180, 0, 19, 96, 181, 1, 162, 42, 180, 1, 153, 172]
abbrev dktX0_walk_5 : List UInt8 := dkwX0_walk_5 ++ []
def dkwX0_walk_4 : List UInt8 := [180, 1, 156, 28, 96, 181, 1, 156, 42, 89, 180, 1, 159, 4, 96, 181, 1, 159, 42, 89, 180, 1, 162, 42]
abbrev dktX0_walk_4 : List UInt8 := dkwX0_walk_4 ++ dktX0_walk_5
def dkwX0_walk_3 : List UInt8 := [42, 27, 181, 0, 68, 42, 180, 0, 11, 27, 50, 89, 180, 0, 189, 4, 96, 181, 0, 189, 42, 89]
abbrev dktX0_walk_3 : List UInt8 := dkwX0_walk_3 ++ dktX0_walk_4
def dkwX0_walk_2 : List UInt8 := [17, 39, 15, 164, 0, 6, 16, 251, 172, 42, 89, 180, 1, 153, 28, 42, 180, 0, 19, 96, 96, 181, 1, 153]
abbrev dktX0_walk_2 : List UInt8 := dkwX0_walk_2 ++ dktX0_walk_3
def dkwX0_walk_1 : List UInt8 := [167, 0, 12, 42, 42, 180, 0, 68, 27, 182, 0, 246, 61, 42, 180, 1, 153, 28, 96, 42, 180, 0, 19, 96]
abbrev dktX0_walk_1 : List UInt8 := dkwX0_walk_1 ++ dktX0_walk_2
def dkwX0_walk_0 : List UInt8 := [42, 27, 182, 0, 172, 154, 0, 5, 2, 172, 42, 180, 0, 68, 156, 0, 11, 42, 27, 182, 0, 242]
abbrev dktX0_walk_0 : List UInt8 := dkwX0_walk_0 ++ dktX0_walk_1
theorem dksX0_walk_0 : cX0_walk.data.toList.drop 0 = dktX0_walk_0 := by decide +kernel
theorem dksX0_walk_1 : cX0_walk.data.toList.drop 22 = dktX0_walk_1 := dk_seg dksX0_walk_0 22 rfl rfl
theorem dksX0_walk_2 : cX0_walk.data.toList.drop 46 = dktX0_walk_2 := dk_seg dksX0_walk_1 24 rfl rfl
theorem dksX0_walk_3 : cX0_walk.data.toList.drop 70 = dktX0_walk_3 := dk_seg dksX0_walk_2 24 rfl rfl
theorem dksX0_walk_4 : cX0_walk.data.toList.drop 92 = dktX0_walk_4 := dk_seg dksX0_walk_3 22 rfl rfl
theorem dksX0_walk_5 : cX0_walk.data.toList.drop 116 = dktX0_walk_5 := dk_seg dksX0_walk_4 24 rfl rfl
theorem dX0_walk_0 : decode cX0_walk 0 = .ok (.aload_n 0, 1) := dk_42 (dk_at dksX0_walk_0 0 rfl rfl)
theorem dX0_walk_1 : decode cX0_walk 1 = .ok (.iload_n 1, 1) := dk_27 (dk_at dksX0_walk_0 1 rfl rfl)
theorem dX0_walk_2 : decode cX0_walk 2 = .ok (.invokevirtual 172, 3) := dk_182 0 172 (dk_at dksX0_walk_0 2 rfl rfl)
theorem dX0_walk_5 : decode cX0_walk 5 = .ok (.ifCond .ne 5, 3) := dk_154 0 5 (dk_at dksX0_walk_0 5 rfl rfl)
theorem dX0_walk_8 : decode cX0_walk 8 = .ok (.iconst (-1), 1) := dk_2 (dk_at dksX0_walk_0 8 rfl rfl)
theorem dX0_walk_9 : decode cX0_walk 9 = .ok (.ireturn, 1) := dk_172 (dk_at dksX0_walk_0 9 rfl rfl)
theorem dX0_walk_10 : decode cX0_walk 10 = .ok (.aload_n 0, 1) := dk_42 (dk_at dksX0_walk_0 10 rfl rfl)
theorem dX0_walk_11 : decode cX0_walk 11 = .ok (.getfield 68, 3) := dk_180 0 68 (dk_at dksX0_walk_0 11 rfl rfl)
theorem dX0_walk_14 : decode cX0_walk 14 = .ok (.ifCond .ge 11, 3) := dk_156 0 11 (dk_at dksX0_walk_0 14 rfl rfl)
theorem dX0_walk_17 : decode cX0_walk 17 = .ok (.aload_n 0, 1) := dk_42 (dk_at dksX0_walk_0 17 rfl rfl)
theorem dX0_walk_18 : decode cX0_walk 18 = .ok (.iload_n 1, 1) := dk_27 (dk_at dksX0_walk_0 18 rfl rfl)
theorem dX0_walk_19 : decode cX0_walk 19 = .ok (.invokevirtual 242, 3) := dk_182 0 242 (dk_at dksX0_walk_0 19 rfl rfl)
theorem dX0_walk_22 : decode cX0_walk 22 = .ok (.goto 12, 3) := dk_167 0 12 (dk_at dksX0_walk_1 0 rfl rfl)
theorem dX0_walk_25 : decode cX0_walk 25 = .ok (.aload_n 0, 1) := dk_42 (dk_at dksX0_walk_1 3 rfl rfl)
theorem dX0_walk_26 : decode cX0_walk 26 = .ok (.aload_n 0, 1) := dk_42 (dk_at dksX0_walk_1 4 rfl rfl)
theorem dX0_walk_27 : decode cX0_walk 27 = .ok (.getfield 68, 3) := dk_180 0 68 (dk_at dksX0_walk_1 5 rfl rfl)
theorem dX0_walk_30 : decode cX0_walk 30 = .ok (.iload_n 1, 1) := dk_27 (dk_at dksX0_walk_1 8 rfl rfl)
theorem dX0_walk_31 : decode cX0_walk 31 = .ok (.invokevirtual 246, 3) := dk_182 0 246 (dk_at dksX0_walk_1 9 rfl rfl)
theorem dX0_walk_34 : decode cX0_walk 34 = .ok (.istore_n 2, 1) := dk_61 (dk_at dksX0_walk_1 12 rfl rfl)
theorem dX0_walk_35 : decode cX0_walk 35 = .ok (.aload_n 0, 1) := dk_42 (dk_at dksX0_walk_1 13 rfl rfl)
theorem dX0_walk_36 : decode cX0_walk 36 = .ok (.getfield 409, 3) := dk_180 1 153 (dk_at dksX0_walk_1 14 rfl rfl)
theorem dX0_walk_39 : decode cX0_walk 39 = .ok (.iload_n 2, 1) := dk_28 (dk_at dksX0_walk_1 17 rfl rfl)
theorem dX0_walk_40 : decode cX0_walk 40 = .ok (.iadd, 1) := dk_96 (dk_at dksX0_walk_1 18 rfl rfl)
theorem dX0_walk_41 : decode cX0_walk 41 = .ok (.aload_n 0, 1) := dk_42 (dk_at dksX0_walk_1 19 rfl rfl)
theorem dX0_walk_42 : decode cX0_walk 42 = .ok (.getfield 19, 3) := dk_180 0 19 (dk_at dksX0_walk_1 20 rfl rfl)
theorem dX0_walk_45 : decode cX0_walk 45 = .ok (.iadd, 1) := dk_96 (dk_at dksX0_walk_1 23 rfl rfl)
theorem dX0_walk_46 : decode cX0_walk 46 = .ok (.sipush 9999, 3) := dk_17 39 15 (dk_at dksX0_walk_2 0 rfl rfl)
theorem dX0_walk_49 : decode cX0_walk 49 = .ok (.if_icmp .le 6, 3) := dk_164 0 6 (dk_at dksX0_walk_2 3 rfl rfl)
theorem dX0_walk_52 : decode cX0_walk 52 = .ok (.bipush (-5), 2) := dk_16 251 (dk_at dksX0_walk_2 6 rfl rfl)
theorem dX0_walk_54 : decode cX0_walk 54 = .ok (.ireturn, 1) := dk_172 (dk_at dksX0_walk_2 8 rfl rfl)
theorem dX0_walk_55 : decode cX0_walk 55 = .ok (.aload_n 0, 1) := dk_42 (dk_at dksX0_walk_2 9 rfl rfl)
theorem dX0_walk_56 : decode cX0_walk 56 = .ok (.dup, 1) := dk_89 (dk_at dksX0_walk_2 10 rfl rfl)
theorem dX0_walk_57 : decode cX0_walk 57 = .ok (.getfield 409, 3) := dk_180 1 153 (dk_at dksX0_walk_2 11 rfl rfl)
theorem dX0_walk_60 : decode cX0_walk 60 = .ok (.iload_n 2, 1) := dk_28 (dk_at dksX0_walk_2 14 rfl rfl)
theorem dX0_walk_61 : decode cX0_walk 61 = .ok (.aload_n 0, 1) := dk_42 (dk_at dksX0_walk_2 15 rfl rfl)
theorem dX0_walk_62 : decode cX0_walk 62 = .ok (.getfield 19, 3) := dk_180 0 19 (dk_at dksX0_walk_2 16 rfl rfl)
theorem dX0_walk_65 : decode cX0_walk 65 = .ok (.iadd, 1) := dk_96 (dk_at dksX0_walk_2 19 rfl rfl)
theorem dX0_walk_66 : decode cX0_walk 66 = .ok (.iadd, 1) := dk_96 (dk_at dksX0_walk_2 20 rfl rfl)
theorem dX0_walk_67 : decode cX0_walk 67 = .ok (.putfield 409, 3) := dk_181 1 153 (dk_at dksX0_walk_2 21 rfl rfl)
theorem dX0_walk_70 : decode cX0_walk 70 = .ok (.aload_n 0, 1) := dk_42 (dk_at dksX0_walk_3 0 rfl rfl)
theorem dX0_walk_71 : decode cX0_walk 71 = .ok (.iload_n 1, 1) := dk_27 (dk_at dksX0_walk_3 1 rfl rfl)
theorem dX0_walk_72 : decode cX0_walk 72 = .ok (.putfield 68, 3) := dk_181 0 68 (dk_at dksX0_walk_3 2 rfl rfl)
theorem dX0_walk_75 : decode cX0_walk 75 = .ok (.aload_n 0, 1) := dk_42 (dk_at dksX0_walk_3 5 rfl rfl)
theorem dX0_walk_76 : decode cX0_walk 76 = .ok (.getfield 11, 3) := dk_180 0 11 (dk_at dksX0_walk_3 6 rfl rfl)
theorem dX0_walk_79 : decode cX0_walk 79 = .ok (.iload_n 1, 1) := dk_27 (dk_at dksX0_walk_3 9 rfl rfl)
theorem dX0_walk_80 : decode cX0_walk 80 = .ok (.aaload, 1) := dk_50 (dk_at dksX0_walk_3 10 rfl rfl)
theorem dX0_walk_81 : decode cX0_walk 81 = .ok (.dup, 1) := dk_89 (dk_at dksX0_walk_3 11 rfl rfl)
theorem dX0_walk_82 : decode cX0_walk 82 = .ok (.getfield 189, 3) := dk_180 0 189 (dk_at dksX0_walk_3 12 rfl rfl)
theorem dX0_walk_85 : decode cX0_walk 85 = .ok (.iconst 1, 1) := dk_4 (dk_at dksX0_walk_3 15 rfl rfl)
theorem dX0_walk_86 : decode cX0_walk 86 = .ok (.iadd, 1) := dk_96 (dk_at dksX0_walk_3 16 rfl rfl)
theorem dX0_walk_87 : decode cX0_walk 87 = .ok (.putfield 189, 3) := dk_181 0 189 (dk_at dksX0_walk_3 17 rfl rfl)
theorem dX0_walk_90 : decode cX0_walk 90 = .ok (.aload_n 0, 1) := dk_42 (dk_at dksX0_walk_3 20 rfl rfl)
theorem dX0_walk_91 : decode cX0_walk 91 = .ok (.dup, 1) := dk_89 (dk_at dksX0_walk_3 21 rfl rfl)
theorem dX0_walk_92 : decode cX0_walk 92 = .ok (.getfield 412, 3) := dk_180 1 156 (dk_at dksX0_walk_4 0 rfl rfl)
theorem dX0_walk_95 : decode cX0_walk 95 = .ok (.iload_n 2, 1) := dk_28 (dk_at dksX0_walk_4 3 rfl rfl)
theorem dX0_walk_96 : decode cX0_walk 96 = .ok (.iadd, 1) := dk_96 (dk_at dksX0_walk_4 4 rfl rfl)
theorem dX0_walk_97 : decode cX0_walk 97 = .ok (.putfield 412, 3) := dk_181 1 156 (dk_at dksX0_walk_4 5 rfl rfl)
theorem dX0_walk_100 : decode cX0_walk 100 = .ok (.aload_n 0, 1) := dk_42 (dk_at dksX0_walk_4 8 rfl rfl)
theorem dX0_walk_101 : decode cX0_walk 101 = .ok (.dup, 1) := dk_89 (dk_at dksX0_walk_4 9 rfl rfl)
theorem dX0_walk_102 : decode cX0_walk 102 = .ok (.getfield 415, 3) := dk_180 1 159 (dk_at dksX0_walk_4 10 rfl rfl)
theorem dX0_walk_105 : decode cX0_walk 105 = .ok (.iconst 1, 1) := dk_4 (dk_at dksX0_walk_4 13 rfl rfl)
theorem dX0_walk_106 : decode cX0_walk 106 = .ok (.iadd, 1) := dk_96 (dk_at dksX0_walk_4 14 rfl rfl)
theorem dX0_walk_107 : decode cX0_walk 107 = .ok (.putfield 415, 3) := dk_181 1 159 (dk_at dksX0_walk_4 15 rfl rfl)
theorem dX0_walk_110 : decode cX0_walk 110 = .ok (.aload_n 0, 1) := dk_42 (dk_at dksX0_walk_4 18 rfl rfl)
theorem dX0_walk_111 : decode cX0_walk 111 = .ok (.dup, 1) := dk_89 (dk_at dksX0_walk_4 19 rfl rfl)
theorem dX0_walk_112 : decode cX0_walk 112 = .ok (.getfield 418, 3) := dk_180 1 162 (dk_at dksX0_walk_4 20 rfl rfl)
theorem dX0_walk_115 : decode cX0_walk 115 = .ok (.aload_n 0, 1) := dk_42 (dk_at dksX0_walk_4 23 rfl rfl)
theorem dX0_walk_116 : decode cX0_walk 116 = .ok (.getfield 19, 3) := dk_180 0 19 (dk_at dksX0_walk_5 0 rfl rfl)
theorem dX0_walk_119 : decode cX0_walk 119 = .ok (.iadd, 1) := dk_96 (dk_at dksX0_walk_5 3 rfl rfl)
theorem dX0_walk_120 : decode cX0_walk 120 = .ok (.putfield 418, 3) := dk_181 1 162 (dk_at dksX0_walk_5 4 rfl rfl)
theorem dX0_walk_123 : decode cX0_walk 123 = .ok (.aload_n 0, 1) := dk_42 (dk_at dksX0_walk_5 7 rfl rfl)
theorem dX0_walk_124 : decode cX0_walk 124 = .ok (.getfield 409, 3) := dk_180 1 153 (dk_at dksX0_walk_5 8 rfl rfl)
theorem dX0_walk_127 : decode cX0_walk 127 = .ok (.ireturn, 1) := dk_172 (dk_at dksX0_walk_5 11 rfl rfl)
abbrev cX0_waits : ByteArray := prog_1_method_81_code
def yX0_waits : MethodName := ⟨RX0, "waits", "(I)I"⟩
def dkwX0_waits_2 : List UInt8 := [181, 1, 165, 42, 180, 1, 153, 172]
abbrev dktX0_waits_2 : List UInt8 := dkwX0_waits_2 ++ []
def dkwX0_waits_1 : List UInt8 := [164, 0, 6, 16, 251, 172, 42, 89, 180, 1, 153, 27, 96, 181, 1, 153, 42, 89, 180, 1, 165, 27, 96]
abbrev dktX0_waits_1 : List UInt8 := dkwX0_waits_1 ++ dktX0_waits_2
def dkwX0_waits_0 : List UInt8 := [27, 4, 17, 3, 231, 184, 0, 89, 154, 0, 5, 2, 172, 42, 180, 1, 153, 27, 96, 17, 39, 15]
abbrev dktX0_waits_0 : List UInt8 := dkwX0_waits_0 ++ dktX0_waits_1
theorem dksX0_waits_0 : cX0_waits.data.toList.drop 0 = dktX0_waits_0 := by decide +kernel
theorem dksX0_waits_1 : cX0_waits.data.toList.drop 22 = dktX0_waits_1 := dk_seg dksX0_waits_0 22 rfl rfl
theorem dksX0_waits_2 : cX0_waits.data.toList.drop 45 = dktX0_waits_2 := dk_seg dksX0_waits_1 23 rfl rfl
theorem dX0_waits_0 : decode cX0_waits 0 = .ok (.iload_n 1, 1) := dk_27 (dk_at dksX0_waits_0 0 rfl rfl)
theorem dX0_waits_1 : decode cX0_waits 1 = .ok (.iconst 1, 1) := dk_4 (dk_at dksX0_waits_0 1 rfl rfl)
theorem dX0_waits_2 : decode cX0_waits 2 = .ok (.sipush 999, 3) := dk_17 3 231 (dk_at dksX0_waits_0 2 rfl rfl)
theorem dX0_waits_5 : decode cX0_waits 5 = .ok (.invokestatic 89, 3) := dk_184 0 89 (dk_at dksX0_waits_0 5 rfl rfl)
theorem dX0_waits_8 : decode cX0_waits 8 = .ok (.ifCond .ne 5, 3) := dk_154 0 5 (dk_at dksX0_waits_0 8 rfl rfl)
theorem dX0_waits_11 : decode cX0_waits 11 = .ok (.iconst (-1), 1) := dk_2 (dk_at dksX0_waits_0 11 rfl rfl)
theorem dX0_waits_12 : decode cX0_waits 12 = .ok (.ireturn, 1) := dk_172 (dk_at dksX0_waits_0 12 rfl rfl)
theorem dX0_waits_13 : decode cX0_waits 13 = .ok (.aload_n 0, 1) := dk_42 (dk_at dksX0_waits_0 13 rfl rfl)
theorem dX0_waits_14 : decode cX0_waits 14 = .ok (.getfield 409, 3) := dk_180 1 153 (dk_at dksX0_waits_0 14 rfl rfl)
theorem dX0_waits_17 : decode cX0_waits 17 = .ok (.iload_n 1, 1) := dk_27 (dk_at dksX0_waits_0 17 rfl rfl)
theorem dX0_waits_18 : decode cX0_waits 18 = .ok (.iadd, 1) := dk_96 (dk_at dksX0_waits_0 18 rfl rfl)
theorem dX0_waits_19 : decode cX0_waits 19 = .ok (.sipush 9999, 3) := dk_17 39 15 (dk_at dksX0_waits_0 19 rfl rfl)
theorem dX0_waits_22 : decode cX0_waits 22 = .ok (.if_icmp .le 6, 3) := dk_164 0 6 (dk_at dksX0_waits_1 0 rfl rfl)
theorem dX0_waits_25 : decode cX0_waits 25 = .ok (.bipush (-5), 2) := dk_16 251 (dk_at dksX0_waits_1 3 rfl rfl)
theorem dX0_waits_27 : decode cX0_waits 27 = .ok (.ireturn, 1) := dk_172 (dk_at dksX0_waits_1 5 rfl rfl)
theorem dX0_waits_28 : decode cX0_waits 28 = .ok (.aload_n 0, 1) := dk_42 (dk_at dksX0_waits_1 6 rfl rfl)
theorem dX0_waits_29 : decode cX0_waits 29 = .ok (.dup, 1) := dk_89 (dk_at dksX0_waits_1 7 rfl rfl)
theorem dX0_waits_30 : decode cX0_waits 30 = .ok (.getfield 409, 3) := dk_180 1 153 (dk_at dksX0_waits_1 8 rfl rfl)
theorem dX0_waits_33 : decode cX0_waits 33 = .ok (.iload_n 1, 1) := dk_27 (dk_at dksX0_waits_1 11 rfl rfl)
theorem dX0_waits_34 : decode cX0_waits 34 = .ok (.iadd, 1) := dk_96 (dk_at dksX0_waits_1 12 rfl rfl)
theorem dX0_waits_35 : decode cX0_waits 35 = .ok (.putfield 409, 3) := dk_181 1 153 (dk_at dksX0_waits_1 13 rfl rfl)
theorem dX0_waits_38 : decode cX0_waits 38 = .ok (.aload_n 0, 1) := dk_42 (dk_at dksX0_waits_1 16 rfl rfl)
theorem dX0_waits_39 : decode cX0_waits 39 = .ok (.dup, 1) := dk_89 (dk_at dksX0_waits_1 17 rfl rfl)
theorem dX0_waits_40 : decode cX0_waits 40 = .ok (.getfield 421, 3) := dk_180 1 165 (dk_at dksX0_waits_1 18 rfl rfl)
theorem dX0_waits_43 : decode cX0_waits 43 = .ok (.iload_n 1, 1) := dk_27 (dk_at dksX0_waits_1 21 rfl rfl)
theorem dX0_waits_44 : decode cX0_waits 44 = .ok (.iadd, 1) := dk_96 (dk_at dksX0_waits_1 22 rfl rfl)
theorem dX0_waits_45 : decode cX0_waits 45 = .ok (.putfield 421, 3) := dk_181 1 165 (dk_at dksX0_waits_2 0 rfl rfl)
theorem dX0_waits_48 : decode cX0_waits 48 = .ok (.aload_n 0, 1) := dk_42 (dk_at dksX0_waits_2 3 rfl rfl)
theorem dX0_waits_49 : decode cX0_waits 49 = .ok (.getfield 409, 3) := dk_180 1 153 (dk_at dksX0_waits_2 4 rfl rfl)
theorem dX0_waits_52 : decode cX0_waits 52 = .ok (.ireturn, 1) := dk_172 (dk_at dksX0_waits_2 7 rfl rfl)
abbrev cX0_home : ByteArray := prog_1_method_82_code
def yX0_home : MethodName := ⟨RX0, "home", "()I"⟩
def dkwX0_home_2 : List UInt8 := [180, 1, 156, 27, 96, 181, 1, 156, 42, 2, 181, 0, 68, 42, 180, 1, 153, 172]
abbrev dktX0_home_2 : List UInt8 := dkwX0_home_2 ++ []
def dkwX0_home_1 : List UInt8 := [27, 96, 17, 39, 15, 164, 0, 6, 16, 251, 172, 42, 89, 180, 1, 153, 27, 96, 181, 1, 153, 42, 89]
abbrev dktX0_home_1 : List UInt8 := dkwX0_home_1 ++ dktX0_home_2
def dkwX0_home_0 : List UInt8 := [42, 180, 0, 68, 156, 0, 7, 3, 167, 0, 11, 42, 42, 180, 0, 68, 182, 0, 242, 60, 42, 180, 1, 153]
abbrev dktX0_home_0 : List UInt8 := dkwX0_home_0 ++ dktX0_home_1
theorem dksX0_home_0 : cX0_home.data.toList.drop 0 = dktX0_home_0 := by decide +kernel
theorem dksX0_home_1 : cX0_home.data.toList.drop 24 = dktX0_home_1 := dk_seg dksX0_home_0 24 rfl rfl
theorem dksX0_home_2 : cX0_home.data.toList.drop 47 = dktX0_home_2 := dk_seg dksX0_home_1 23 rfl rfl
theorem dX0_home_0 : decode cX0_home 0 = .ok (.aload_n 0, 1) := dk_42 (dk_at dksX0_home_0 0 rfl rfl)
theorem dX0_home_1 : decode cX0_home 1 = .ok (.getfield 68, 3) := dk_180 0 68 (dk_at dksX0_home_0 1 rfl rfl)
theorem dX0_home_4 : decode cX0_home 4 = .ok (.ifCond .ge 7, 3) := dk_156 0 7 (dk_at dksX0_home_0 4 rfl rfl)
theorem dX0_home_7 : decode cX0_home 7 = .ok (.iconst 0, 1) := dk_3 (dk_at dksX0_home_0 7 rfl rfl)
theorem dX0_home_8 : decode cX0_home 8 = .ok (.goto 11, 3) := dk_167 0 11 (dk_at dksX0_home_0 8 rfl rfl)
theorem dX0_home_11 : decode cX0_home 11 = .ok (.aload_n 0, 1) := dk_42 (dk_at dksX0_home_0 11 rfl rfl)
theorem dX0_home_12 : decode cX0_home 12 = .ok (.aload_n 0, 1) := dk_42 (dk_at dksX0_home_0 12 rfl rfl)
theorem dX0_home_13 : decode cX0_home 13 = .ok (.getfield 68, 3) := dk_180 0 68 (dk_at dksX0_home_0 13 rfl rfl)
theorem dX0_home_16 : decode cX0_home 16 = .ok (.invokevirtual 242, 3) := dk_182 0 242 (dk_at dksX0_home_0 16 rfl rfl)
theorem dX0_home_19 : decode cX0_home 19 = .ok (.istore_n 1, 1) := dk_60 (dk_at dksX0_home_0 19 rfl rfl)
theorem dX0_home_20 : decode cX0_home 20 = .ok (.aload_n 0, 1) := dk_42 (dk_at dksX0_home_0 20 rfl rfl)
theorem dX0_home_21 : decode cX0_home 21 = .ok (.getfield 409, 3) := dk_180 1 153 (dk_at dksX0_home_0 21 rfl rfl)
theorem dX0_home_24 : decode cX0_home 24 = .ok (.iload_n 1, 1) := dk_27 (dk_at dksX0_home_1 0 rfl rfl)
theorem dX0_home_25 : decode cX0_home 25 = .ok (.iadd, 1) := dk_96 (dk_at dksX0_home_1 1 rfl rfl)
theorem dX0_home_26 : decode cX0_home 26 = .ok (.sipush 9999, 3) := dk_17 39 15 (dk_at dksX0_home_1 2 rfl rfl)
theorem dX0_home_29 : decode cX0_home 29 = .ok (.if_icmp .le 6, 3) := dk_164 0 6 (dk_at dksX0_home_1 5 rfl rfl)
theorem dX0_home_32 : decode cX0_home 32 = .ok (.bipush (-5), 2) := dk_16 251 (dk_at dksX0_home_1 8 rfl rfl)
theorem dX0_home_34 : decode cX0_home 34 = .ok (.ireturn, 1) := dk_172 (dk_at dksX0_home_1 10 rfl rfl)
theorem dX0_home_35 : decode cX0_home 35 = .ok (.aload_n 0, 1) := dk_42 (dk_at dksX0_home_1 11 rfl rfl)
theorem dX0_home_36 : decode cX0_home 36 = .ok (.dup, 1) := dk_89 (dk_at dksX0_home_1 12 rfl rfl)
theorem dX0_home_37 : decode cX0_home 37 = .ok (.getfield 409, 3) := dk_180 1 153 (dk_at dksX0_home_1 13 rfl rfl)
theorem dX0_home_40 : decode cX0_home 40 = .ok (.iload_n 1, 1) := dk_27 (dk_at dksX0_home_1 16 rfl rfl)
theorem dX0_home_41 : decode cX0_home 41 = .ok (.iadd, 1) := dk_96 (dk_at dksX0_home_1 17 rfl rfl)
theorem dX0_home_42 : decode cX0_home 42 = .ok (.putfield 409, 3) := dk_181 1 153 (dk_at dksX0_home_1 18 rfl rfl)
theorem dX0_home_45 : decode cX0_home 45 = .ok (.aload_n 0, 1) := dk_42 (dk_at dksX0_home_1 21 rfl rfl)
theorem dX0_home_46 : decode cX0_home 46 = .ok (.dup, 1) := dk_89 (dk_at dksX0_home_1 22 rfl rfl)
theorem dX0_home_47 : decode cX0_home 47 = .ok (.getfield 412, 3) := dk_180 1 156 (dk_at dksX0_home_2 0 rfl rfl)
theorem dX0_home_50 : decode cX0_home 50 = .ok (.iload_n 1, 1) := dk_27 (dk_at dksX0_home_2 3 rfl rfl)
theorem dX0_home_51 : decode cX0_home 51 = .ok (.iadd, 1) := dk_96 (dk_at dksX0_home_2 4 rfl rfl)
theorem dX0_home_52 : decode cX0_home 52 = .ok (.putfield 412, 3) := dk_181 1 156 (dk_at dksX0_home_2 5 rfl rfl)
theorem dX0_home_55 : decode cX0_home 55 = .ok (.aload_n 0, 1) := dk_42 (dk_at dksX0_home_2 8 rfl rfl)
theorem dX0_home_56 : decode cX0_home 56 = .ok (.iconst (-1), 1) := dk_2 (dk_at dksX0_home_2 9 rfl rfl)
theorem dX0_home_57 : decode cX0_home 57 = .ok (.putfield 68, 3) := dk_181 0 68 (dk_at dksX0_home_2 10 rfl rfl)
theorem dX0_home_60 : decode cX0_home 60 = .ok (.aload_n 0, 1) := dk_42 (dk_at dksX0_home_2 13 rfl rfl)
theorem dX0_home_61 : decode cX0_home 61 = .ok (.getfield 409, 3) := dk_180 1 153 (dk_at dksX0_home_2 14 rfl rfl)
theorem dX0_home_64 : decode cX0_home 64 = .ok (.ireturn, 1) := dk_172 (dk_at dksX0_home_2 17 rfl rfl)
abbrev cX0_led : ByteArray := prog_1_method_83_code
def yX0_led : MethodName := ⟨RX0, "led", "(I)I"⟩
def dkwX0_led_3 : List UInt8 := [172, 2, 172]
abbrev dktX0_led_3 : List UInt8 := dkwX0_led_3 ++ []
def dkwX0_led_2 : List UInt8 := [42, 180, 1, 156, 172, 42, 180, 1, 159, 172, 42, 180, 1, 162, 172, 42, 180, 1, 165, 172, 42, 180, 1, 153]
abbrev dktX0_led_2 : List UInt8 := dkwX0_led_2 ++ dktX0_led_3
def dkwX0_led_1 : List UInt8 := [170, 0, 0, 0, 0, 0, 60, 0, 0, 0, 0, 0, 0, 0, 4, 0, 0, 0, 35, 0, 0, 0, 40, 0, 0, 0, 45, 0, 0, 0, 50, 0, 0, 0, 55]
abbrev dktX0_led_1 : List UInt8 := dkwX0_led_1 ++ dktX0_led_2
def dkwX0_led_0 : List UInt8 := [27]
abbrev dktX0_led_0 : List UInt8 := dkwX0_led_0 ++ dktX0_led_1
theorem dksX0_led_0 : cX0_led.data.toList.drop 0 = dktX0_led_0 := by decide +kernel
theorem dksX0_led_1 : cX0_led.data.toList.drop 1 = dktX0_led_1 := dk_seg dksX0_led_0 1 rfl rfl
theorem dksX0_led_2 : cX0_led.data.toList.drop 36 = dktX0_led_2 := dk_seg dksX0_led_1 35 rfl rfl
theorem dksX0_led_3 : cX0_led.data.toList.drop 60 = dktX0_led_3 := dk_seg dksX0_led_2 24 rfl rfl
theorem dX0_led_0 : decode cX0_led 0 = .ok (.iload_n 1, 1) := dk_27 (dk_at dksX0_led_0 0 rfl rfl)
theorem dX0_led_1 : decode cX0_led 1 = .ok (.tableswitch 60 0 4 #[35, 40, 45, 50, 55], 35) := by decide +kernel
theorem dX0_led_36 : decode cX0_led 36 = .ok (.aload_n 0, 1) := dk_42 (dk_at dksX0_led_2 0 rfl rfl)
theorem dX0_led_37 : decode cX0_led 37 = .ok (.getfield 412, 3) := dk_180 1 156 (dk_at dksX0_led_2 1 rfl rfl)
theorem dX0_led_40 : decode cX0_led 40 = .ok (.ireturn, 1) := dk_172 (dk_at dksX0_led_2 4 rfl rfl)
theorem dX0_led_41 : decode cX0_led 41 = .ok (.aload_n 0, 1) := dk_42 (dk_at dksX0_led_2 5 rfl rfl)
theorem dX0_led_42 : decode cX0_led 42 = .ok (.getfield 415, 3) := dk_180 1 159 (dk_at dksX0_led_2 6 rfl rfl)
theorem dX0_led_45 : decode cX0_led 45 = .ok (.ireturn, 1) := dk_172 (dk_at dksX0_led_2 9 rfl rfl)
theorem dX0_led_46 : decode cX0_led 46 = .ok (.aload_n 0, 1) := dk_42 (dk_at dksX0_led_2 10 rfl rfl)
theorem dX0_led_47 : decode cX0_led 47 = .ok (.getfield 418, 3) := dk_180 1 162 (dk_at dksX0_led_2 11 rfl rfl)
theorem dX0_led_50 : decode cX0_led 50 = .ok (.ireturn, 1) := dk_172 (dk_at dksX0_led_2 14 rfl rfl)
theorem dX0_led_51 : decode cX0_led 51 = .ok (.aload_n 0, 1) := dk_42 (dk_at dksX0_led_2 15 rfl rfl)
theorem dX0_led_52 : decode cX0_led 52 = .ok (.getfield 421, 3) := dk_180 1 165 (dk_at dksX0_led_2 16 rfl rfl)
theorem dX0_led_55 : decode cX0_led 55 = .ok (.ireturn, 1) := dk_172 (dk_at dksX0_led_2 19 rfl rfl)
theorem dX0_led_56 : decode cX0_led 56 = .ok (.aload_n 0, 1) := dk_42 (dk_at dksX0_led_2 20 rfl rfl)
theorem dX0_led_57 : decode cX0_led 57 = .ok (.getfield 409, 3) := dk_180 1 153 (dk_at dksX0_led_2 21 rfl rfl)
theorem dX0_led_60 : decode cX0_led 60 = .ok (.ireturn, 1) := dk_172 (dk_at dksX0_led_3 0 rfl rfl)
theorem dX0_led_61 : decode cX0_led 61 = .ok (.iconst (-1), 1) := dk_2 (dk_at dksX0_led_3 1 rfl rfl)
theorem dX0_led_62 : decode cX0_led 62 = .ok (.ireturn, 1) := dk_172 (dk_at dksX0_led_3 2 rfl rfl)
abbrev cX0_image : ByteArray := prog_1_method_84_code
def yX0_image : MethodName := ⟨RX0, "image", "()I"⟩
def dkwX0_image_4 : List UInt8 := [180, 1, 153, 172]
abbrev dktX0_image_4 : List UInt8 := dkwX0_image_4 ++ []
def dkwX0_image_3 : List UInt8 := [180, 1, 159, 181, 1, 184, 42, 42, 180, 1, 162, 181, 1, 187, 42, 42, 180, 1, 165, 181, 1, 190, 42]
abbrev dktX0_image_3 : List UInt8 := dkwX0_image_3 ++ dktX0_image_4
def dkwX0_image_2 : List UInt8 := [180, 0, 68, 181, 1, 175, 42, 42, 180, 1, 153, 181, 1, 178, 42, 42, 180, 1, 156, 181, 1, 181, 42, 42]
abbrev dktX0_image_2 : List UInt8 := dkwX0_image_2 ++ dktX0_image_3
def dkwX0_image_1 : List UInt8 := [27, 50, 180, 0, 189, 79, 132, 1, 1, 167, 255, 230, 42, 42, 180, 0, 93, 181, 1, 172, 42, 42]
abbrev dktX0_image_1 : List UInt8 := dkwX0_image_1 ++ dktX0_image_2
def dkwX0_image_0 : List UInt8 := [42, 4, 181, 1, 168, 3, 60, 27, 42, 180, 0, 93, 162, 0, 24, 42, 180, 0, 71, 27, 42, 180, 0, 11]
abbrev dktX0_image_0 : List UInt8 := dkwX0_image_0 ++ dktX0_image_1
theorem dksX0_image_0 : cX0_image.data.toList.drop 0 = dktX0_image_0 := by decide +kernel
theorem dksX0_image_1 : cX0_image.data.toList.drop 24 = dktX0_image_1 := dk_seg dksX0_image_0 24 rfl rfl
theorem dksX0_image_2 : cX0_image.data.toList.drop 46 = dktX0_image_2 := dk_seg dksX0_image_1 22 rfl rfl
theorem dksX0_image_3 : cX0_image.data.toList.drop 70 = dktX0_image_3 := dk_seg dksX0_image_2 24 rfl rfl
theorem dksX0_image_4 : cX0_image.data.toList.drop 93 = dktX0_image_4 := dk_seg dksX0_image_3 23 rfl rfl
theorem dX0_image_0 : decode cX0_image 0 = .ok (.aload_n 0, 1) := dk_42 (dk_at dksX0_image_0 0 rfl rfl)
theorem dX0_image_1 : decode cX0_image 1 = .ok (.iconst 1, 1) := dk_4 (dk_at dksX0_image_0 1 rfl rfl)
theorem dX0_image_2 : decode cX0_image 2 = .ok (.putfield 424, 3) := dk_181 1 168 (dk_at dksX0_image_0 2 rfl rfl)
theorem dX0_image_5 : decode cX0_image 5 = .ok (.iconst 0, 1) := dk_3 (dk_at dksX0_image_0 5 rfl rfl)
theorem dX0_image_6 : decode cX0_image 6 = .ok (.istore_n 1, 1) := dk_60 (dk_at dksX0_image_0 6 rfl rfl)
theorem dX0_image_7 : decode cX0_image 7 = .ok (.iload_n 1, 1) := dk_27 (dk_at dksX0_image_0 7 rfl rfl)
theorem dX0_image_8 : decode cX0_image 8 = .ok (.aload_n 0, 1) := dk_42 (dk_at dksX0_image_0 8 rfl rfl)
theorem dX0_image_9 : decode cX0_image 9 = .ok (.getfield 93, 3) := dk_180 0 93 (dk_at dksX0_image_0 9 rfl rfl)
theorem dX0_image_12 : decode cX0_image 12 = .ok (.if_icmp .ge 24, 3) := dk_162 0 24 (dk_at dksX0_image_0 12 rfl rfl)
theorem dX0_image_15 : decode cX0_image 15 = .ok (.aload_n 0, 1) := dk_42 (dk_at dksX0_image_0 15 rfl rfl)
theorem dX0_image_16 : decode cX0_image 16 = .ok (.getfield 71, 3) := dk_180 0 71 (dk_at dksX0_image_0 16 rfl rfl)
theorem dX0_image_19 : decode cX0_image 19 = .ok (.iload_n 1, 1) := dk_27 (dk_at dksX0_image_0 19 rfl rfl)
theorem dX0_image_20 : decode cX0_image 20 = .ok (.aload_n 0, 1) := dk_42 (dk_at dksX0_image_0 20 rfl rfl)
theorem dX0_image_21 : decode cX0_image 21 = .ok (.getfield 11, 3) := dk_180 0 11 (dk_at dksX0_image_0 21 rfl rfl)
theorem dX0_image_24 : decode cX0_image 24 = .ok (.iload_n 1, 1) := dk_27 (dk_at dksX0_image_1 0 rfl rfl)
theorem dX0_image_25 : decode cX0_image 25 = .ok (.aaload, 1) := dk_50 (dk_at dksX0_image_1 1 rfl rfl)
theorem dX0_image_26 : decode cX0_image 26 = .ok (.getfield 189, 3) := dk_180 0 189 (dk_at dksX0_image_1 2 rfl rfl)
theorem dX0_image_29 : decode cX0_image 29 = .ok (.iastore, 1) := dk_79 (dk_at dksX0_image_1 5 rfl rfl)
theorem dX0_image_30 : decode cX0_image 30 = .ok (.iinc 1 1, 3) := dk_132 1 1 (dk_at dksX0_image_1 6 rfl rfl)
theorem dX0_image_33 : decode cX0_image 33 = .ok (.goto (-26), 3) := dk_167 255 230 (dk_at dksX0_image_1 9 rfl rfl)
theorem dX0_image_36 : decode cX0_image 36 = .ok (.aload_n 0, 1) := dk_42 (dk_at dksX0_image_1 12 rfl rfl)
theorem dX0_image_37 : decode cX0_image 37 = .ok (.aload_n 0, 1) := dk_42 (dk_at dksX0_image_1 13 rfl rfl)
theorem dX0_image_38 : decode cX0_image 38 = .ok (.getfield 93, 3) := dk_180 0 93 (dk_at dksX0_image_1 14 rfl rfl)
theorem dX0_image_41 : decode cX0_image 41 = .ok (.putfield 428, 3) := dk_181 1 172 (dk_at dksX0_image_1 17 rfl rfl)
theorem dX0_image_44 : decode cX0_image 44 = .ok (.aload_n 0, 1) := dk_42 (dk_at dksX0_image_1 20 rfl rfl)
theorem dX0_image_45 : decode cX0_image 45 = .ok (.aload_n 0, 1) := dk_42 (dk_at dksX0_image_1 21 rfl rfl)
theorem dX0_image_46 : decode cX0_image 46 = .ok (.getfield 68, 3) := dk_180 0 68 (dk_at dksX0_image_2 0 rfl rfl)
theorem dX0_image_49 : decode cX0_image 49 = .ok (.putfield 431, 3) := dk_181 1 175 (dk_at dksX0_image_2 3 rfl rfl)
theorem dX0_image_52 : decode cX0_image 52 = .ok (.aload_n 0, 1) := dk_42 (dk_at dksX0_image_2 6 rfl rfl)
theorem dX0_image_53 : decode cX0_image 53 = .ok (.aload_n 0, 1) := dk_42 (dk_at dksX0_image_2 7 rfl rfl)
theorem dX0_image_54 : decode cX0_image 54 = .ok (.getfield 409, 3) := dk_180 1 153 (dk_at dksX0_image_2 8 rfl rfl)
theorem dX0_image_57 : decode cX0_image 57 = .ok (.putfield 434, 3) := dk_181 1 178 (dk_at dksX0_image_2 11 rfl rfl)
theorem dX0_image_60 : decode cX0_image 60 = .ok (.aload_n 0, 1) := dk_42 (dk_at dksX0_image_2 14 rfl rfl)
theorem dX0_image_61 : decode cX0_image 61 = .ok (.aload_n 0, 1) := dk_42 (dk_at dksX0_image_2 15 rfl rfl)
theorem dX0_image_62 : decode cX0_image 62 = .ok (.getfield 412, 3) := dk_180 1 156 (dk_at dksX0_image_2 16 rfl rfl)
theorem dX0_image_65 : decode cX0_image 65 = .ok (.putfield 437, 3) := dk_181 1 181 (dk_at dksX0_image_2 19 rfl rfl)
theorem dX0_image_68 : decode cX0_image 68 = .ok (.aload_n 0, 1) := dk_42 (dk_at dksX0_image_2 22 rfl rfl)
theorem dX0_image_69 : decode cX0_image 69 = .ok (.aload_n 0, 1) := dk_42 (dk_at dksX0_image_2 23 rfl rfl)
theorem dX0_image_70 : decode cX0_image 70 = .ok (.getfield 415, 3) := dk_180 1 159 (dk_at dksX0_image_3 0 rfl rfl)
theorem dX0_image_73 : decode cX0_image 73 = .ok (.putfield 440, 3) := dk_181 1 184 (dk_at dksX0_image_3 3 rfl rfl)
theorem dX0_image_76 : decode cX0_image 76 = .ok (.aload_n 0, 1) := dk_42 (dk_at dksX0_image_3 6 rfl rfl)
theorem dX0_image_77 : decode cX0_image 77 = .ok (.aload_n 0, 1) := dk_42 (dk_at dksX0_image_3 7 rfl rfl)
theorem dX0_image_78 : decode cX0_image 78 = .ok (.getfield 418, 3) := dk_180 1 162 (dk_at dksX0_image_3 8 rfl rfl)
theorem dX0_image_81 : decode cX0_image 81 = .ok (.putfield 443, 3) := dk_181 1 187 (dk_at dksX0_image_3 11 rfl rfl)
theorem dX0_image_84 : decode cX0_image 84 = .ok (.aload_n 0, 1) := dk_42 (dk_at dksX0_image_3 14 rfl rfl)
theorem dX0_image_85 : decode cX0_image 85 = .ok (.aload_n 0, 1) := dk_42 (dk_at dksX0_image_3 15 rfl rfl)
theorem dX0_image_86 : decode cX0_image 86 = .ok (.getfield 421, 3) := dk_180 1 165 (dk_at dksX0_image_3 16 rfl rfl)
theorem dX0_image_89 : decode cX0_image 89 = .ok (.putfield 446, 3) := dk_181 1 190 (dk_at dksX0_image_3 19 rfl rfl)
theorem dX0_image_92 : decode cX0_image 92 = .ok (.aload_n 0, 1) := dk_42 (dk_at dksX0_image_3 22 rfl rfl)
theorem dX0_image_93 : decode cX0_image 93 = .ok (.getfield 409, 3) := dk_180 1 153 (dk_at dksX0_image_4 0 rfl rfl)
theorem dX0_image_96 : decode cX0_image 96 = .ok (.ireturn, 1) := dk_172 (dk_at dksX0_image_4 3 rfl rfl)
abbrev cX0_back : ByteArray := prog_1_method_85_code
def yX0_back : MethodName := ⟨RX0, "back", "()I"⟩
def dkwX0_back_4 : List UInt8 := [180, 1, 190, 181, 1, 165, 42, 180, 1, 153, 172]
abbrev dktX0_back_4 : List UInt8 := dkwX0_back_4 ++ []
def dkwX0_back_3 : List UInt8 := [180, 1, 181, 181, 1, 156, 42, 42, 180, 1, 184, 181, 1, 159, 42, 42, 180, 1, 187, 181, 1, 162, 42, 42]
abbrev dktX0_back_3 : List UInt8 := dkwX0_back_3 ++ dktX0_back_4
def dkwX0_back_2 : List UInt8 := [132, 1, 1, 167, 255, 218, 42, 42, 180, 1, 175, 181, 0, 68, 42, 42, 180, 1, 178, 181, 1, 153, 42, 42]
abbrev dktX0_back_2 : List UInt8 := dkwX0_back_2 ++ dktX0_back_3
def dkwX0_back_1 : List UInt8 := [27, 50, 27, 42, 180, 1, 172, 162, 0, 12, 42, 180, 0, 71, 27, 46, 167, 0, 4, 3, 181, 0, 189]
abbrev dktX0_back_1 : List UInt8 := dkwX0_back_1 ++ dktX0_back_2
def dkwX0_back_0 : List UInt8 := [42, 180, 1, 168, 154, 0, 6, 16, 251, 172, 3, 60, 27, 42, 180, 0, 93, 162, 0, 36, 42, 180, 0, 11]
abbrev dktX0_back_0 : List UInt8 := dkwX0_back_0 ++ dktX0_back_1
theorem dksX0_back_0 : cX0_back.data.toList.drop 0 = dktX0_back_0 := by decide +kernel
theorem dksX0_back_1 : cX0_back.data.toList.drop 24 = dktX0_back_1 := dk_seg dksX0_back_0 24 rfl rfl
theorem dksX0_back_2 : cX0_back.data.toList.drop 47 = dktX0_back_2 := dk_seg dksX0_back_1 23 rfl rfl
theorem dksX0_back_3 : cX0_back.data.toList.drop 71 = dktX0_back_3 := dk_seg dksX0_back_2 24 rfl rfl
theorem dksX0_back_4 : cX0_back.data.toList.drop 95 = dktX0_back_4 := dk_seg dksX0_back_3 24 rfl rfl
theorem dX0_back_0 : decode cX0_back 0 = .ok (.aload_n 0, 1) := dk_42 (dk_at dksX0_back_0 0 rfl rfl)
theorem dX0_back_1 : decode cX0_back 1 = .ok (.getfield 424, 3) := dk_180 1 168 (dk_at dksX0_back_0 1 rfl rfl)
theorem dX0_back_4 : decode cX0_back 4 = .ok (.ifCond .ne 6, 3) := dk_154 0 6 (dk_at dksX0_back_0 4 rfl rfl)
theorem dX0_back_7 : decode cX0_back 7 = .ok (.bipush (-5), 2) := dk_16 251 (dk_at dksX0_back_0 7 rfl rfl)
theorem dX0_back_9 : decode cX0_back 9 = .ok (.ireturn, 1) := dk_172 (dk_at dksX0_back_0 9 rfl rfl)
theorem dX0_back_10 : decode cX0_back 10 = .ok (.iconst 0, 1) := dk_3 (dk_at dksX0_back_0 10 rfl rfl)
theorem dX0_back_11 : decode cX0_back 11 = .ok (.istore_n 1, 1) := dk_60 (dk_at dksX0_back_0 11 rfl rfl)
theorem dX0_back_12 : decode cX0_back 12 = .ok (.iload_n 1, 1) := dk_27 (dk_at dksX0_back_0 12 rfl rfl)
theorem dX0_back_13 : decode cX0_back 13 = .ok (.aload_n 0, 1) := dk_42 (dk_at dksX0_back_0 13 rfl rfl)
theorem dX0_back_14 : decode cX0_back 14 = .ok (.getfield 93, 3) := dk_180 0 93 (dk_at dksX0_back_0 14 rfl rfl)
theorem dX0_back_17 : decode cX0_back 17 = .ok (.if_icmp .ge 36, 3) := dk_162 0 36 (dk_at dksX0_back_0 17 rfl rfl)
theorem dX0_back_20 : decode cX0_back 20 = .ok (.aload_n 0, 1) := dk_42 (dk_at dksX0_back_0 20 rfl rfl)
theorem dX0_back_21 : decode cX0_back 21 = .ok (.getfield 11, 3) := dk_180 0 11 (dk_at dksX0_back_0 21 rfl rfl)
theorem dX0_back_24 : decode cX0_back 24 = .ok (.iload_n 1, 1) := dk_27 (dk_at dksX0_back_1 0 rfl rfl)
theorem dX0_back_25 : decode cX0_back 25 = .ok (.aaload, 1) := dk_50 (dk_at dksX0_back_1 1 rfl rfl)
theorem dX0_back_26 : decode cX0_back 26 = .ok (.iload_n 1, 1) := dk_27 (dk_at dksX0_back_1 2 rfl rfl)
theorem dX0_back_27 : decode cX0_back 27 = .ok (.aload_n 0, 1) := dk_42 (dk_at dksX0_back_1 3 rfl rfl)
theorem dX0_back_28 : decode cX0_back 28 = .ok (.getfield 428, 3) := dk_180 1 172 (dk_at dksX0_back_1 4 rfl rfl)
theorem dX0_back_31 : decode cX0_back 31 = .ok (.if_icmp .ge 12, 3) := dk_162 0 12 (dk_at dksX0_back_1 7 rfl rfl)
theorem dX0_back_34 : decode cX0_back 34 = .ok (.aload_n 0, 1) := dk_42 (dk_at dksX0_back_1 10 rfl rfl)
theorem dX0_back_35 : decode cX0_back 35 = .ok (.getfield 71, 3) := dk_180 0 71 (dk_at dksX0_back_1 11 rfl rfl)
theorem dX0_back_38 : decode cX0_back 38 = .ok (.iload_n 1, 1) := dk_27 (dk_at dksX0_back_1 14 rfl rfl)
theorem dX0_back_39 : decode cX0_back 39 = .ok (.iaload, 1) := dk_46 (dk_at dksX0_back_1 15 rfl rfl)
theorem dX0_back_40 : decode cX0_back 40 = .ok (.goto 4, 3) := dk_167 0 4 (dk_at dksX0_back_1 16 rfl rfl)
theorem dX0_back_43 : decode cX0_back 43 = .ok (.iconst 0, 1) := dk_3 (dk_at dksX0_back_1 19 rfl rfl)
theorem dX0_back_44 : decode cX0_back 44 = .ok (.putfield 189, 3) := dk_181 0 189 (dk_at dksX0_back_1 20 rfl rfl)
theorem dX0_back_47 : decode cX0_back 47 = .ok (.iinc 1 1, 3) := dk_132 1 1 (dk_at dksX0_back_2 0 rfl rfl)
theorem dX0_back_50 : decode cX0_back 50 = .ok (.goto (-38), 3) := dk_167 255 218 (dk_at dksX0_back_2 3 rfl rfl)
theorem dX0_back_53 : decode cX0_back 53 = .ok (.aload_n 0, 1) := dk_42 (dk_at dksX0_back_2 6 rfl rfl)
theorem dX0_back_54 : decode cX0_back 54 = .ok (.aload_n 0, 1) := dk_42 (dk_at dksX0_back_2 7 rfl rfl)
theorem dX0_back_55 : decode cX0_back 55 = .ok (.getfield 431, 3) := dk_180 1 175 (dk_at dksX0_back_2 8 rfl rfl)
theorem dX0_back_58 : decode cX0_back 58 = .ok (.putfield 68, 3) := dk_181 0 68 (dk_at dksX0_back_2 11 rfl rfl)
theorem dX0_back_61 : decode cX0_back 61 = .ok (.aload_n 0, 1) := dk_42 (dk_at dksX0_back_2 14 rfl rfl)
theorem dX0_back_62 : decode cX0_back 62 = .ok (.aload_n 0, 1) := dk_42 (dk_at dksX0_back_2 15 rfl rfl)
theorem dX0_back_63 : decode cX0_back 63 = .ok (.getfield 434, 3) := dk_180 1 178 (dk_at dksX0_back_2 16 rfl rfl)
theorem dX0_back_66 : decode cX0_back 66 = .ok (.putfield 409, 3) := dk_181 1 153 (dk_at dksX0_back_2 19 rfl rfl)
theorem dX0_back_69 : decode cX0_back 69 = .ok (.aload_n 0, 1) := dk_42 (dk_at dksX0_back_2 22 rfl rfl)
theorem dX0_back_70 : decode cX0_back 70 = .ok (.aload_n 0, 1) := dk_42 (dk_at dksX0_back_2 23 rfl rfl)
theorem dX0_back_71 : decode cX0_back 71 = .ok (.getfield 437, 3) := dk_180 1 181 (dk_at dksX0_back_3 0 rfl rfl)
theorem dX0_back_74 : decode cX0_back 74 = .ok (.putfield 412, 3) := dk_181 1 156 (dk_at dksX0_back_3 3 rfl rfl)
theorem dX0_back_77 : decode cX0_back 77 = .ok (.aload_n 0, 1) := dk_42 (dk_at dksX0_back_3 6 rfl rfl)
theorem dX0_back_78 : decode cX0_back 78 = .ok (.aload_n 0, 1) := dk_42 (dk_at dksX0_back_3 7 rfl rfl)
theorem dX0_back_79 : decode cX0_back 79 = .ok (.getfield 440, 3) := dk_180 1 184 (dk_at dksX0_back_3 8 rfl rfl)
theorem dX0_back_82 : decode cX0_back 82 = .ok (.putfield 415, 3) := dk_181 1 159 (dk_at dksX0_back_3 11 rfl rfl)
theorem dX0_back_85 : decode cX0_back 85 = .ok (.aload_n 0, 1) := dk_42 (dk_at dksX0_back_3 14 rfl rfl)
theorem dX0_back_86 : decode cX0_back 86 = .ok (.aload_n 0, 1) := dk_42 (dk_at dksX0_back_3 15 rfl rfl)
theorem dX0_back_87 : decode cX0_back 87 = .ok (.getfield 443, 3) := dk_180 1 187 (dk_at dksX0_back_3 16 rfl rfl)
theorem dX0_back_90 : decode cX0_back 90 = .ok (.putfield 418, 3) := dk_181 1 162 (dk_at dksX0_back_3 19 rfl rfl)
theorem dX0_back_93 : decode cX0_back 93 = .ok (.aload_n 0, 1) := dk_42 (dk_at dksX0_back_3 22 rfl rfl)
theorem dX0_back_94 : decode cX0_back 94 = .ok (.aload_n 0, 1) := dk_42 (dk_at dksX0_back_3 23 rfl rfl)
theorem dX0_back_95 : decode cX0_back 95 = .ok (.getfield 446, 3) := dk_180 1 190 (dk_at dksX0_back_4 0 rfl rfl)
theorem dX0_back_98 : decode cX0_back 98 = .ok (.putfield 421, 3) := dk_181 1 165 (dk_at dksX0_back_4 3 rfl rfl)
theorem dX0_back_101 : decode cX0_back 101 = .ok (.aload_n 0, 1) := dk_42 (dk_at dksX0_back_4 6 rfl rfl)
theorem dX0_back_102 : decode cX0_back 102 = .ok (.getfield 409, 3) := dk_180 1 153 (dk_at dksX0_back_4 7 rfl rfl)
theorem dX0_back_105 : decode cX0_back 105 = .ok (.ireturn, 1) := dk_172 (dk_at dksX0_back_4 10 rfl rfl)
abbrev cX0_body : ByteArray := prog_1_method_89_code
def yX0_body : MethodName := ⟨RX0, "body", "(I)I"⟩
def dkwX0_body_2 : List UInt8 := [42, 180, 1, 196, 4, 100, 172]
abbrev dktX0_body_2 : List UInt8 := dkwX0_body_2 ++ []
def dkwX0_body_1 : List UInt8 := [42, 180, 0, 79, 42, 180, 1, 196, 42, 27, 182, 1, 223, 83, 42, 89, 180, 1, 196, 4, 96, 181, 1, 196]
abbrev dktX0_body_1 : List UInt8 := dkwX0_body_1 ++ dktX0_body_2
def dkwX0_body_0 : List UInt8 := [27, 3, 16, 7, 184, 0, 89, 154, 0, 5, 2, 172, 42, 180, 1, 196, 16, 50, 160, 0, 6, 16, 253, 172]
abbrev dktX0_body_0 : List UInt8 := dkwX0_body_0 ++ dktX0_body_1
theorem dksX0_body_0 : cX0_body.data.toList.drop 0 = dktX0_body_0 := by decide +kernel
theorem dksX0_body_1 : cX0_body.data.toList.drop 24 = dktX0_body_1 := dk_seg dksX0_body_0 24 rfl rfl
theorem dksX0_body_2 : cX0_body.data.toList.drop 48 = dktX0_body_2 := dk_seg dksX0_body_1 24 rfl rfl
theorem dX0_body_0 : decode cX0_body 0 = .ok (.iload_n 1, 1) := dk_27 (dk_at dksX0_body_0 0 rfl rfl)
theorem dX0_body_1 : decode cX0_body 1 = .ok (.iconst 0, 1) := dk_3 (dk_at dksX0_body_0 1 rfl rfl)
theorem dX0_body_2 : decode cX0_body 2 = .ok (.bipush 7, 2) := dk_16 7 (dk_at dksX0_body_0 2 rfl rfl)
theorem dX0_body_4 : decode cX0_body 4 = .ok (.invokestatic 89, 3) := dk_184 0 89 (dk_at dksX0_body_0 4 rfl rfl)
theorem dX0_body_7 : decode cX0_body 7 = .ok (.ifCond .ne 5, 3) := dk_154 0 5 (dk_at dksX0_body_0 7 rfl rfl)
theorem dX0_body_10 : decode cX0_body 10 = .ok (.iconst (-1), 1) := dk_2 (dk_at dksX0_body_0 10 rfl rfl)
theorem dX0_body_11 : decode cX0_body 11 = .ok (.ireturn, 1) := dk_172 (dk_at dksX0_body_0 11 rfl rfl)
theorem dX0_body_12 : decode cX0_body 12 = .ok (.aload_n 0, 1) := dk_42 (dk_at dksX0_body_0 12 rfl rfl)
theorem dX0_body_13 : decode cX0_body 13 = .ok (.getfield 452, 3) := dk_180 1 196 (dk_at dksX0_body_0 13 rfl rfl)
theorem dX0_body_16 : decode cX0_body 16 = .ok (.bipush 50, 2) := dk_16 50 (dk_at dksX0_body_0 16 rfl rfl)
theorem dX0_body_18 : decode cX0_body 18 = .ok (.if_icmp .ne 6, 3) := dk_160 0 6 (dk_at dksX0_body_0 18 rfl rfl)
theorem dX0_body_21 : decode cX0_body 21 = .ok (.bipush (-3), 2) := dk_16 253 (dk_at dksX0_body_0 21 rfl rfl)
theorem dX0_body_23 : decode cX0_body 23 = .ok (.ireturn, 1) := dk_172 (dk_at dksX0_body_0 23 rfl rfl)
theorem dX0_body_24 : decode cX0_body 24 = .ok (.aload_n 0, 1) := dk_42 (dk_at dksX0_body_1 0 rfl rfl)
theorem dX0_body_25 : decode cX0_body 25 = .ok (.getfield 79, 3) := dk_180 0 79 (dk_at dksX0_body_1 1 rfl rfl)
theorem dX0_body_28 : decode cX0_body 28 = .ok (.aload_n 0, 1) := dk_42 (dk_at dksX0_body_1 4 rfl rfl)
theorem dX0_body_29 : decode cX0_body 29 = .ok (.getfield 452, 3) := dk_180 1 196 (dk_at dksX0_body_1 5 rfl rfl)
theorem dX0_body_32 : decode cX0_body 32 = .ok (.aload_n 0, 1) := dk_42 (dk_at dksX0_body_1 8 rfl rfl)
theorem dX0_body_33 : decode cX0_body 33 = .ok (.iload_n 1, 1) := dk_27 (dk_at dksX0_body_1 9 rfl rfl)
theorem dX0_body_34 : decode cX0_body 34 = .ok (.invokevirtual 479, 3) := dk_182 1 223 (dk_at dksX0_body_1 10 rfl rfl)
theorem dX0_body_37 : decode cX0_body 37 = .ok (.aastore, 1) := dk_83 (dk_at dksX0_body_1 13 rfl rfl)
theorem dX0_body_38 : decode cX0_body 38 = .ok (.aload_n 0, 1) := dk_42 (dk_at dksX0_body_1 14 rfl rfl)
theorem dX0_body_39 : decode cX0_body 39 = .ok (.dup, 1) := dk_89 (dk_at dksX0_body_1 15 rfl rfl)
theorem dX0_body_40 : decode cX0_body 40 = .ok (.getfield 452, 3) := dk_180 1 196 (dk_at dksX0_body_1 16 rfl rfl)
theorem dX0_body_43 : decode cX0_body 43 = .ok (.iconst 1, 1) := dk_4 (dk_at dksX0_body_1 19 rfl rfl)
theorem dX0_body_44 : decode cX0_body 44 = .ok (.iadd, 1) := dk_96 (dk_at dksX0_body_1 20 rfl rfl)
theorem dX0_body_45 : decode cX0_body 45 = .ok (.putfield 452, 3) := dk_181 1 196 (dk_at dksX0_body_1 21 rfl rfl)
theorem dX0_body_48 : decode cX0_body 48 = .ok (.aload_n 0, 1) := dk_42 (dk_at dksX0_body_2 0 rfl rfl)
theorem dX0_body_49 : decode cX0_body 49 = .ok (.getfield 452, 3) := dk_180 1 196 (dk_at dksX0_body_2 1 rfl rfl)
theorem dX0_body_52 : decode cX0_body 52 = .ok (.iconst 1, 1) := dk_4 (dk_at dksX0_body_2 4 rfl rfl)
theorem dX0_body_53 : decode cX0_body 53 = .ok (.isub, 1) := dk_100 (dk_at dksX0_body_2 5 rfl rfl)
theorem dX0_body_54 : decode cX0_body 54 = .ok (.ireturn, 1) := dk_172 (dk_at dksX0_body_2 6 rfl rfl)
abbrev cX0_made : ByteArray := prog_1_method_88_code
def yX0_made : MethodName := ⟨RX0, "made", "(I)LNineKeysRound$Key;"⟩
def dkwX0_made_6 : List UInt8 := [187, 0, 77, 89, 42, 42, 180, 1, 196, 183, 1, 222, 176]
abbrev dktX0_made_6 : List UInt8 := dkwX0_made_6 ++ []
def dkwX0_made_5 : List UInt8 := [42, 42, 180, 1, 196, 183, 1, 218, 176, 187, 1, 219, 89, 42, 42, 180, 1, 196, 183, 1, 221, 176]
abbrev dktX0_made_5 : List UInt8 := dkwX0_made_5 ++ dktX0_made_6
def dkwX0_made_4 : List UInt8 := [180, 1, 196, 183, 1, 212, 176, 187, 1, 213, 89, 42, 42, 180, 1, 196, 183, 1, 215, 176, 187, 1, 216, 89]
abbrev dktX0_made_4 : List UInt8 := dkwX0_made_4 ++ dktX0_made_5
def dkwX0_made_3 : List UInt8 := [183, 1, 206, 176, 187, 1, 207, 89, 42, 42, 180, 1, 196, 183, 1, 209, 176, 187, 1, 210, 89, 42, 42]
abbrev dktX0_made_3 : List UInt8 := dkwX0_made_3 ++ dktX0_made_4
def dkwX0_made_2 : List UInt8 := [187, 1, 199, 89, 42, 42, 180, 1, 196, 183, 1, 201, 176, 187, 1, 204, 89, 42, 42, 180, 1, 196]
abbrev dktX0_made_2 : List UInt8 := dkwX0_made_2 ++ dktX0_made_3
def dkwX0_made_1 : List UInt8 := [170, 0, 0, 0, 0, 0, 134, 0, 0, 0, 1, 0, 0, 0, 7, 0, 0, 0, 43, 0, 0, 0, 56, 0, 0, 0, 69, 0, 0, 0, 82, 0, 0, 0, 95, 0, 0, 0, 108, 0, 0, 0, 121]
abbrev dktX0_made_1 : List UInt8 := dkwX0_made_1 ++ dktX0_made_2
def dkwX0_made_0 : List UInt8 := [27]
abbrev dktX0_made_0 : List UInt8 := dkwX0_made_0 ++ dktX0_made_1
theorem dksX0_made_0 : cX0_made.data.toList.drop 0 = dktX0_made_0 := by decide +kernel
theorem dksX0_made_1 : cX0_made.data.toList.drop 1 = dktX0_made_1 := dk_seg dksX0_made_0 1 rfl rfl
theorem dksX0_made_2 : cX0_made.data.toList.drop 44 = dktX0_made_2 := dk_seg dksX0_made_1 43 rfl rfl
theorem dksX0_made_3 : cX0_made.data.toList.drop 66 = dktX0_made_3 := dk_seg dksX0_made_2 22 rfl rfl
theorem dksX0_made_4 : cX0_made.data.toList.drop 89 = dktX0_made_4 := dk_seg dksX0_made_3 23 rfl rfl
theorem dksX0_made_5 : cX0_made.data.toList.drop 113 = dktX0_made_5 := dk_seg dksX0_made_4 24 rfl rfl
theorem dksX0_made_6 : cX0_made.data.toList.drop 135 = dktX0_made_6 := dk_seg dksX0_made_5 22 rfl rfl
theorem dX0_made_0 : decode cX0_made 0 = .ok (.iload_n 1, 1) := dk_27 (dk_at dksX0_made_0 0 rfl rfl)
theorem dX0_made_1 : decode cX0_made 1 = .ok (.tableswitch 134 1 7 #[43, 56, 69, 82, 95, 108, 121], 43) := by decide +kernel
theorem dX0_made_44 : decode cX0_made 44 = .ok (.new 455, 3) := dk_187 1 199 (dk_at dksX0_made_2 0 rfl rfl)
theorem dX0_made_47 : decode cX0_made 47 = .ok (.dup, 1) := dk_89 (dk_at dksX0_made_2 3 rfl rfl)
theorem dX0_made_48 : decode cX0_made 48 = .ok (.aload_n 0, 1) := dk_42 (dk_at dksX0_made_2 4 rfl rfl)
theorem dX0_made_49 : decode cX0_made 49 = .ok (.aload_n 0, 1) := dk_42 (dk_at dksX0_made_2 5 rfl rfl)
theorem dX0_made_50 : decode cX0_made 50 = .ok (.getfield 452, 3) := dk_180 1 196 (dk_at dksX0_made_2 6 rfl rfl)
theorem dX0_made_53 : decode cX0_made 53 = .ok (.invokespecial 457, 3) := dk_183 1 201 (dk_at dksX0_made_2 9 rfl rfl)
theorem dX0_made_56 : decode cX0_made 56 = .ok (.areturn, 1) := dk_176 (dk_at dksX0_made_2 12 rfl rfl)
theorem dX0_made_57 : decode cX0_made 57 = .ok (.new 460, 3) := dk_187 1 204 (dk_at dksX0_made_2 13 rfl rfl)
theorem dX0_made_60 : decode cX0_made 60 = .ok (.dup, 1) := dk_89 (dk_at dksX0_made_2 16 rfl rfl)
theorem dX0_made_61 : decode cX0_made 61 = .ok (.aload_n 0, 1) := dk_42 (dk_at dksX0_made_2 17 rfl rfl)
theorem dX0_made_62 : decode cX0_made 62 = .ok (.aload_n 0, 1) := dk_42 (dk_at dksX0_made_2 18 rfl rfl)
theorem dX0_made_63 : decode cX0_made 63 = .ok (.getfield 452, 3) := dk_180 1 196 (dk_at dksX0_made_2 19 rfl rfl)
theorem dX0_made_66 : decode cX0_made 66 = .ok (.invokespecial 462, 3) := dk_183 1 206 (dk_at dksX0_made_3 0 rfl rfl)
theorem dX0_made_69 : decode cX0_made 69 = .ok (.areturn, 1) := dk_176 (dk_at dksX0_made_3 3 rfl rfl)
theorem dX0_made_70 : decode cX0_made 70 = .ok (.new 463, 3) := dk_187 1 207 (dk_at dksX0_made_3 4 rfl rfl)
theorem dX0_made_73 : decode cX0_made 73 = .ok (.dup, 1) := dk_89 (dk_at dksX0_made_3 7 rfl rfl)
theorem dX0_made_74 : decode cX0_made 74 = .ok (.aload_n 0, 1) := dk_42 (dk_at dksX0_made_3 8 rfl rfl)
theorem dX0_made_75 : decode cX0_made 75 = .ok (.aload_n 0, 1) := dk_42 (dk_at dksX0_made_3 9 rfl rfl)
theorem dX0_made_76 : decode cX0_made 76 = .ok (.getfield 452, 3) := dk_180 1 196 (dk_at dksX0_made_3 10 rfl rfl)
theorem dX0_made_79 : decode cX0_made 79 = .ok (.invokespecial 465, 3) := dk_183 1 209 (dk_at dksX0_made_3 13 rfl rfl)
theorem dX0_made_82 : decode cX0_made 82 = .ok (.areturn, 1) := dk_176 (dk_at dksX0_made_3 16 rfl rfl)
theorem dX0_made_83 : decode cX0_made 83 = .ok (.new 466, 3) := dk_187 1 210 (dk_at dksX0_made_3 17 rfl rfl)
theorem dX0_made_86 : decode cX0_made 86 = .ok (.dup, 1) := dk_89 (dk_at dksX0_made_3 20 rfl rfl)
theorem dX0_made_87 : decode cX0_made 87 = .ok (.aload_n 0, 1) := dk_42 (dk_at dksX0_made_3 21 rfl rfl)
theorem dX0_made_88 : decode cX0_made 88 = .ok (.aload_n 0, 1) := dk_42 (dk_at dksX0_made_3 22 rfl rfl)
theorem dX0_made_89 : decode cX0_made 89 = .ok (.getfield 452, 3) := dk_180 1 196 (dk_at dksX0_made_4 0 rfl rfl)
theorem dX0_made_92 : decode cX0_made 92 = .ok (.invokespecial 468, 3) := dk_183 1 212 (dk_at dksX0_made_4 3 rfl rfl)
theorem dX0_made_95 : decode cX0_made 95 = .ok (.areturn, 1) := dk_176 (dk_at dksX0_made_4 6 rfl rfl)
theorem dX0_made_96 : decode cX0_made 96 = .ok (.new 469, 3) := dk_187 1 213 (dk_at dksX0_made_4 7 rfl rfl)
theorem dX0_made_99 : decode cX0_made 99 = .ok (.dup, 1) := dk_89 (dk_at dksX0_made_4 10 rfl rfl)
theorem dX0_made_100 : decode cX0_made 100 = .ok (.aload_n 0, 1) := dk_42 (dk_at dksX0_made_4 11 rfl rfl)
theorem dX0_made_101 : decode cX0_made 101 = .ok (.aload_n 0, 1) := dk_42 (dk_at dksX0_made_4 12 rfl rfl)
theorem dX0_made_102 : decode cX0_made 102 = .ok (.getfield 452, 3) := dk_180 1 196 (dk_at dksX0_made_4 13 rfl rfl)
theorem dX0_made_105 : decode cX0_made 105 = .ok (.invokespecial 471, 3) := dk_183 1 215 (dk_at dksX0_made_4 16 rfl rfl)
theorem dX0_made_108 : decode cX0_made 108 = .ok (.areturn, 1) := dk_176 (dk_at dksX0_made_4 19 rfl rfl)
theorem dX0_made_109 : decode cX0_made 109 = .ok (.new 472, 3) := dk_187 1 216 (dk_at dksX0_made_4 20 rfl rfl)
theorem dX0_made_112 : decode cX0_made 112 = .ok (.dup, 1) := dk_89 (dk_at dksX0_made_4 23 rfl rfl)
theorem dX0_made_113 : decode cX0_made 113 = .ok (.aload_n 0, 1) := dk_42 (dk_at dksX0_made_5 0 rfl rfl)
theorem dX0_made_114 : decode cX0_made 114 = .ok (.aload_n 0, 1) := dk_42 (dk_at dksX0_made_5 1 rfl rfl)
theorem dX0_made_115 : decode cX0_made 115 = .ok (.getfield 452, 3) := dk_180 1 196 (dk_at dksX0_made_5 2 rfl rfl)
theorem dX0_made_118 : decode cX0_made 118 = .ok (.invokespecial 474, 3) := dk_183 1 218 (dk_at dksX0_made_5 5 rfl rfl)
theorem dX0_made_121 : decode cX0_made 121 = .ok (.areturn, 1) := dk_176 (dk_at dksX0_made_5 8 rfl rfl)
theorem dX0_made_122 : decode cX0_made 122 = .ok (.new 475, 3) := dk_187 1 219 (dk_at dksX0_made_5 9 rfl rfl)
theorem dX0_made_125 : decode cX0_made 125 = .ok (.dup, 1) := dk_89 (dk_at dksX0_made_5 12 rfl rfl)
theorem dX0_made_126 : decode cX0_made 126 = .ok (.aload_n 0, 1) := dk_42 (dk_at dksX0_made_5 13 rfl rfl)
theorem dX0_made_127 : decode cX0_made 127 = .ok (.aload_n 0, 1) := dk_42 (dk_at dksX0_made_5 14 rfl rfl)
theorem dX0_made_128 : decode cX0_made 128 = .ok (.getfield 452, 3) := dk_180 1 196 (dk_at dksX0_made_5 15 rfl rfl)
theorem dX0_made_131 : decode cX0_made 131 = .ok (.invokespecial 477, 3) := dk_183 1 221 (dk_at dksX0_made_5 18 rfl rfl)
theorem dX0_made_134 : decode cX0_made 134 = .ok (.areturn, 1) := dk_176 (dk_at dksX0_made_5 21 rfl rfl)
theorem dX0_made_135 : decode cX0_made 135 = .ok (.new 77, 3) := dk_187 0 77 (dk_at dksX0_made_6 0 rfl rfl)
theorem dX0_made_138 : decode cX0_made 138 = .ok (.dup, 1) := dk_89 (dk_at dksX0_made_6 3 rfl rfl)
theorem dX0_made_139 : decode cX0_made 139 = .ok (.aload_n 0, 1) := dk_42 (dk_at dksX0_made_6 4 rfl rfl)
theorem dX0_made_140 : decode cX0_made 140 = .ok (.aload_n 0, 1) := dk_42 (dk_at dksX0_made_6 5 rfl rfl)
theorem dX0_made_141 : decode cX0_made 141 = .ok (.getfield 452, 3) := dk_180 1 196 (dk_at dksX0_made_6 6 rfl rfl)
theorem dX0_made_144 : decode cX0_made 144 = .ok (.invokespecial 478, 3) := dk_183 1 222 (dk_at dksX0_made_6 9 rfl rfl)
theorem dX0_made_147 : decode cX0_made 147 = .ok (.areturn, 1) := dk_176 (dk_at dksX0_made_6 12 rfl rfl)
abbrev cX0_act : ByteArray := prog_1_method_91_code
def yX0_act : MethodName := ⟨RX0, "act", "(III)I"⟩
def dkwX0_act_3 : List UInt8 := [25, 4, 29, 182, 1, 240, 167, 0, 9, 25, 4, 29, 182, 1, 243, 172]
abbrev dktX0_act_3 : List UInt8 := dkwX0_act_3 ++ []
def dkwX0_act_2 : List UInt8 := [172, 28, 6, 160, 0, 16, 25, 4, 58, 5, 25, 5, 29, 185, 1, 235, 2, 0, 172, 28, 4, 160, 0, 12]
abbrev dktX0_act_2 : List UInt8 := dkwX0_act_2 ++ dktX0_act_3
def dkwX0_act_1 : List UInt8 := [42, 180, 0, 79, 27, 50, 58, 4, 28, 154, 0, 16, 25, 4, 58, 5, 25, 5, 29, 185, 1, 230, 2, 0]
abbrev dktX0_act_1 : List UInt8 := dkwX0_act_1 ++ dktX0_act_2
def dkwX0_act_0 : List UInt8 := [42, 3, 181, 1, 193, 42, 27, 182, 1, 227, 153, 0, 12, 28, 3, 6, 184, 0, 89, 154, 0, 5, 3, 172]
abbrev dktX0_act_0 : List UInt8 := dkwX0_act_0 ++ dktX0_act_1
theorem dksX0_act_0 : cX0_act.data.toList.drop 0 = dktX0_act_0 := by decide +kernel
theorem dksX0_act_1 : cX0_act.data.toList.drop 24 = dktX0_act_1 := dk_seg dksX0_act_0 24 rfl rfl
theorem dksX0_act_2 : cX0_act.data.toList.drop 48 = dktX0_act_2 := dk_seg dksX0_act_1 24 rfl rfl
theorem dksX0_act_3 : cX0_act.data.toList.drop 72 = dktX0_act_3 := dk_seg dksX0_act_2 24 rfl rfl
theorem dX0_act_0 : decode cX0_act 0 = .ok (.aload_n 0, 1) := dk_42 (dk_at dksX0_act_0 0 rfl rfl)
theorem dX0_act_1 : decode cX0_act 1 = .ok (.iconst 0, 1) := dk_3 (dk_at dksX0_act_0 1 rfl rfl)
theorem dX0_act_2 : decode cX0_act 2 = .ok (.putfield 449, 3) := dk_181 1 193 (dk_at dksX0_act_0 2 rfl rfl)
theorem dX0_act_5 : decode cX0_act 5 = .ok (.aload_n 0, 1) := dk_42 (dk_at dksX0_act_0 5 rfl rfl)
theorem dX0_act_6 : decode cX0_act 6 = .ok (.iload_n 1, 1) := dk_27 (dk_at dksX0_act_0 6 rfl rfl)
theorem dX0_act_7 : decode cX0_act 7 = .ok (.invokevirtual 483, 3) := dk_182 1 227 (dk_at dksX0_act_0 7 rfl rfl)
theorem dX0_act_10 : decode cX0_act 10 = .ok (.ifCond .eq 12, 3) := dk_153 0 12 (dk_at dksX0_act_0 10 rfl rfl)
theorem dX0_act_13 : decode cX0_act 13 = .ok (.iload_n 2, 1) := dk_28 (dk_at dksX0_act_0 13 rfl rfl)
theorem dX0_act_14 : decode cX0_act 14 = .ok (.iconst 0, 1) := dk_3 (dk_at dksX0_act_0 14 rfl rfl)
theorem dX0_act_15 : decode cX0_act 15 = .ok (.iconst 3, 1) := dk_6 (dk_at dksX0_act_0 15 rfl rfl)
theorem dX0_act_16 : decode cX0_act 16 = .ok (.invokestatic 89, 3) := dk_184 0 89 (dk_at dksX0_act_0 16 rfl rfl)
theorem dX0_act_19 : decode cX0_act 19 = .ok (.ifCond .ne 5, 3) := dk_154 0 5 (dk_at dksX0_act_0 19 rfl rfl)
theorem dX0_act_22 : decode cX0_act 22 = .ok (.iconst 0, 1) := dk_3 (dk_at dksX0_act_0 22 rfl rfl)
theorem dX0_act_23 : decode cX0_act 23 = .ok (.ireturn, 1) := dk_172 (dk_at dksX0_act_0 23 rfl rfl)
theorem dX0_act_24 : decode cX0_act 24 = .ok (.aload_n 0, 1) := dk_42 (dk_at dksX0_act_1 0 rfl rfl)
theorem dX0_act_25 : decode cX0_act 25 = .ok (.getfield 79, 3) := dk_180 0 79 (dk_at dksX0_act_1 1 rfl rfl)
theorem dX0_act_28 : decode cX0_act 28 = .ok (.iload_n 1, 1) := dk_27 (dk_at dksX0_act_1 4 rfl rfl)
theorem dX0_act_29 : decode cX0_act 29 = .ok (.aaload, 1) := dk_50 (dk_at dksX0_act_1 5 rfl rfl)
theorem dX0_act_30 : decode cX0_act 30 = .ok (.astore 4, 2) := dk_58 4 (dk_at dksX0_act_1 6 rfl rfl)
theorem dX0_act_32 : decode cX0_act 32 = .ok (.iload_n 2, 1) := dk_28 (dk_at dksX0_act_1 8 rfl rfl)
theorem dX0_act_33 : decode cX0_act 33 = .ok (.ifCond .ne 16, 3) := dk_154 0 16 (dk_at dksX0_act_1 9 rfl rfl)
theorem dX0_act_36 : decode cX0_act 36 = .ok (.aload 4, 2) := dk_25 4 (dk_at dksX0_act_1 12 rfl rfl)
theorem dX0_act_38 : decode cX0_act 38 = .ok (.astore 5, 2) := dk_58 5 (dk_at dksX0_act_1 14 rfl rfl)
theorem dX0_act_40 : decode cX0_act 40 = .ok (.aload 5, 2) := dk_25 5 (dk_at dksX0_act_1 16 rfl rfl)
theorem dX0_act_42 : decode cX0_act 42 = .ok (.iload_n 3, 1) := dk_29 (dk_at dksX0_act_1 18 rfl rfl)
theorem dX0_act_43 : decode cX0_act 43 = .ok (.invokeinterface 486 2, 5) := by decide +kernel
theorem dX0_act_48 : decode cX0_act 48 = .ok (.ireturn, 1) := dk_172 (dk_at dksX0_act_2 0 rfl rfl)
theorem dX0_act_49 : decode cX0_act 49 = .ok (.iload_n 2, 1) := dk_28 (dk_at dksX0_act_2 1 rfl rfl)
theorem dX0_act_50 : decode cX0_act 50 = .ok (.iconst 3, 1) := dk_6 (dk_at dksX0_act_2 2 rfl rfl)
theorem dX0_act_51 : decode cX0_act 51 = .ok (.if_icmp .ne 16, 3) := dk_160 0 16 (dk_at dksX0_act_2 3 rfl rfl)
theorem dX0_act_54 : decode cX0_act 54 = .ok (.aload 4, 2) := dk_25 4 (dk_at dksX0_act_2 6 rfl rfl)
theorem dX0_act_56 : decode cX0_act 56 = .ok (.astore 5, 2) := dk_58 5 (dk_at dksX0_act_2 8 rfl rfl)
theorem dX0_act_58 : decode cX0_act 58 = .ok (.aload 5, 2) := dk_25 5 (dk_at dksX0_act_2 10 rfl rfl)
theorem dX0_act_60 : decode cX0_act 60 = .ok (.iload_n 3, 1) := dk_29 (dk_at dksX0_act_2 12 rfl rfl)
theorem dX0_act_61 : decode cX0_act 61 = .ok (.invokeinterface 491 2, 5) := by decide +kernel
theorem dX0_act_66 : decode cX0_act 66 = .ok (.ireturn, 1) := dk_172 (dk_at dksX0_act_2 18 rfl rfl)
theorem dX0_act_67 : decode cX0_act 67 = .ok (.iload_n 2, 1) := dk_28 (dk_at dksX0_act_2 19 rfl rfl)
theorem dX0_act_68 : decode cX0_act 68 = .ok (.iconst 1, 1) := dk_4 (dk_at dksX0_act_2 20 rfl rfl)
theorem dX0_act_69 : decode cX0_act 69 = .ok (.if_icmp .ne 12, 3) := dk_160 0 12 (dk_at dksX0_act_2 21 rfl rfl)
theorem dX0_act_72 : decode cX0_act 72 = .ok (.aload 4, 2) := dk_25 4 (dk_at dksX0_act_3 0 rfl rfl)
theorem dX0_act_74 : decode cX0_act 74 = .ok (.iload_n 3, 1) := dk_29 (dk_at dksX0_act_3 2 rfl rfl)
theorem dX0_act_75 : decode cX0_act 75 = .ok (.invokevirtual 496, 3) := dk_182 1 240 (dk_at dksX0_act_3 3 rfl rfl)
theorem dX0_act_78 : decode cX0_act 78 = .ok (.goto 9, 3) := dk_167 0 9 (dk_at dksX0_act_3 6 rfl rfl)
theorem dX0_act_81 : decode cX0_act 81 = .ok (.aload 4, 2) := dk_25 4 (dk_at dksX0_act_3 9 rfl rfl)
theorem dX0_act_83 : decode cX0_act 83 = .ok (.iload_n 3, 1) := dk_29 (dk_at dksX0_act_3 11 rfl rfl)
theorem dX0_act_84 : decode cX0_act 84 = .ok (.invokevirtual 499, 3) := dk_182 1 243 (dk_at dksX0_act_3 12 rfl rfl)
theorem dX0_act_87 : decode cX0_act 87 = .ok (.ireturn, 1) := dk_172 (dk_at dksX0_act_3 15 rfl rfl)
abbrev cX0_isBody : ByteArray := prog_1_method_87_code
def yX0_isBody : MethodName := ⟨RX0, "isBody", "(I)Z"⟩
def dkwX0_isBody_0 : List UInt8 := [27, 3, 42, 180, 1, 196, 4, 100, 184, 0, 89, 172]
abbrev dktX0_isBody_0 : List UInt8 := dkwX0_isBody_0 ++ []
theorem dksX0_isBody_0 : cX0_isBody.data.toList.drop 0 = dktX0_isBody_0 := by decide +kernel
theorem dX0_isBody_0 : decode cX0_isBody 0 = .ok (.iload_n 1, 1) := dk_27 (dk_at dksX0_isBody_0 0 rfl rfl)
theorem dX0_isBody_1 : decode cX0_isBody 1 = .ok (.iconst 0, 1) := dk_3 (dk_at dksX0_isBody_0 1 rfl rfl)
theorem dX0_isBody_2 : decode cX0_isBody 2 = .ok (.aload_n 0, 1) := dk_42 (dk_at dksX0_isBody_0 2 rfl rfl)
theorem dX0_isBody_3 : decode cX0_isBody 3 = .ok (.getfield 452, 3) := dk_180 1 196 (dk_at dksX0_isBody_0 3 rfl rfl)
theorem dX0_isBody_6 : decode cX0_isBody 6 = .ok (.iconst 1, 1) := dk_4 (dk_at dksX0_isBody_0 6 rfl rfl)
theorem dX0_isBody_7 : decode cX0_isBody 7 = .ok (.isub, 1) := dk_100 (dk_at dksX0_isBody_0 7 rfl rfl)
theorem dX0_isBody_8 : decode cX0_isBody 8 = .ok (.invokestatic 89, 3) := dk_184 0 89 (dk_at dksX0_isBody_0 8 rfl rfl)
theorem dX0_isBody_11 : decode cX0_isBody 11 = .ok (.ireturn, 1) := dk_172 (dk_at dksX0_isBody_0 11 rfl rfl)
abbrev cX0_ran : ByteArray := prog_1_method_86_code
def yX0_ran : MethodName := ⟨RX0, "ran", "(I)V"⟩
def dkwX0_ran_1 : List UInt8 := [180, 1, 193, 4, 96, 181, 1, 193, 177]
abbrev dktX0_ran_1 : List UInt8 := dkwX0_ran_1 ++ []
def dkwX0_ran_0 : List UInt8 := [42, 180, 1, 193, 16, 24, 162, 0, 14, 42, 180, 0, 74, 42, 180, 1, 193, 27, 145, 84, 42, 89]
abbrev dktX0_ran_0 : List UInt8 := dkwX0_ran_0 ++ dktX0_ran_1
theorem dksX0_ran_0 : cX0_ran.data.toList.drop 0 = dktX0_ran_0 := by decide +kernel
theorem dksX0_ran_1 : cX0_ran.data.toList.drop 22 = dktX0_ran_1 := dk_seg dksX0_ran_0 22 rfl rfl
theorem dX0_ran_0 : decode cX0_ran 0 = .ok (.aload_n 0, 1) := dk_42 (dk_at dksX0_ran_0 0 rfl rfl)
theorem dX0_ran_1 : decode cX0_ran 1 = .ok (.getfield 449, 3) := dk_180 1 193 (dk_at dksX0_ran_0 1 rfl rfl)
theorem dX0_ran_4 : decode cX0_ran 4 = .ok (.bipush 24, 2) := dk_16 24 (dk_at dksX0_ran_0 4 rfl rfl)
theorem dX0_ran_6 : decode cX0_ran 6 = .ok (.if_icmp .ge 14, 3) := dk_162 0 14 (dk_at dksX0_ran_0 6 rfl rfl)
theorem dX0_ran_9 : decode cX0_ran 9 = .ok (.aload_n 0, 1) := dk_42 (dk_at dksX0_ran_0 9 rfl rfl)
theorem dX0_ran_10 : decode cX0_ran 10 = .ok (.getfield 74, 3) := dk_180 0 74 (dk_at dksX0_ran_0 10 rfl rfl)
theorem dX0_ran_13 : decode cX0_ran 13 = .ok (.aload_n 0, 1) := dk_42 (dk_at dksX0_ran_0 13 rfl rfl)
theorem dX0_ran_14 : decode cX0_ran 14 = .ok (.getfield 449, 3) := dk_180 1 193 (dk_at dksX0_ran_0 14 rfl rfl)
theorem dX0_ran_17 : decode cX0_ran 17 = .ok (.iload_n 1, 1) := dk_27 (dk_at dksX0_ran_0 17 rfl rfl)
theorem dX0_ran_18 : decode cX0_ran 18 = .ok (.i2b, 1) := dk_145 (dk_at dksX0_ran_0 18 rfl rfl)
theorem dX0_ran_19 : decode cX0_ran 19 = .ok (.bastore, 1) := dk_84 (dk_at dksX0_ran_0 19 rfl rfl)
theorem dX0_ran_20 : decode cX0_ran 20 = .ok (.aload_n 0, 1) := dk_42 (dk_at dksX0_ran_0 20 rfl rfl)
theorem dX0_ran_21 : decode cX0_ran 21 = .ok (.dup, 1) := dk_89 (dk_at dksX0_ran_0 21 rfl rfl)
theorem dX0_ran_22 : decode cX0_ran 22 = .ok (.getfield 449, 3) := dk_180 1 193 (dk_at dksX0_ran_1 0 rfl rfl)
theorem dX0_ran_25 : decode cX0_ran 25 = .ok (.iconst 1, 1) := dk_4 (dk_at dksX0_ran_1 3 rfl rfl)
theorem dX0_ran_26 : decode cX0_ran 26 = .ok (.iadd, 1) := dk_96 (dk_at dksX0_ran_1 4 rfl rfl)
theorem dX0_ran_27 : decode cX0_ran 27 = .ok (.putfield 449, 3) := dk_181 1 193 (dk_at dksX0_ran_1 5 rfl rfl)
theorem dX0_ran_30 : decode cX0_ran 30 = .ok (.return_, 1) := dk_177 (dk_at dksX0_ran_1 8 rfl rfl)
abbrev cX0_trace : ByteArray := prog_1_method_92_code
def yX0_trace : MethodName := ⟨RX0, "trace", "(I)I"⟩
def dkwX0_trace_1 : List UInt8 := [167, 0, 4, 2, 172]
abbrev dktX0_trace_1 : List UInt8 := dkwX0_trace_1 ++ []
def dkwX0_trace_0 : List UInt8 := [27, 155, 0, 26, 27, 42, 180, 1, 193, 162, 0, 18, 27, 16, 24, 162, 0, 12, 42, 180, 0, 74, 27, 51]
abbrev dktX0_trace_0 : List UInt8 := dkwX0_trace_0 ++ dktX0_trace_1
theorem dksX0_trace_0 : cX0_trace.data.toList.drop 0 = dktX0_trace_0 := by decide +kernel
theorem dksX0_trace_1 : cX0_trace.data.toList.drop 24 = dktX0_trace_1 := dk_seg dksX0_trace_0 24 rfl rfl
theorem dX0_trace_0 : decode cX0_trace 0 = .ok (.iload_n 1, 1) := dk_27 (dk_at dksX0_trace_0 0 rfl rfl)
theorem dX0_trace_1 : decode cX0_trace 1 = .ok (.ifCond .lt 26, 3) := dk_155 0 26 (dk_at dksX0_trace_0 1 rfl rfl)
theorem dX0_trace_4 : decode cX0_trace 4 = .ok (.iload_n 1, 1) := dk_27 (dk_at dksX0_trace_0 4 rfl rfl)
theorem dX0_trace_5 : decode cX0_trace 5 = .ok (.aload_n 0, 1) := dk_42 (dk_at dksX0_trace_0 5 rfl rfl)
theorem dX0_trace_6 : decode cX0_trace 6 = .ok (.getfield 449, 3) := dk_180 1 193 (dk_at dksX0_trace_0 6 rfl rfl)
theorem dX0_trace_9 : decode cX0_trace 9 = .ok (.if_icmp .ge 18, 3) := dk_162 0 18 (dk_at dksX0_trace_0 9 rfl rfl)
theorem dX0_trace_12 : decode cX0_trace 12 = .ok (.iload_n 1, 1) := dk_27 (dk_at dksX0_trace_0 12 rfl rfl)
theorem dX0_trace_13 : decode cX0_trace 13 = .ok (.bipush 24, 2) := dk_16 24 (dk_at dksX0_trace_0 13 rfl rfl)
theorem dX0_trace_15 : decode cX0_trace 15 = .ok (.if_icmp .ge 12, 3) := dk_162 0 12 (dk_at dksX0_trace_0 15 rfl rfl)
theorem dX0_trace_18 : decode cX0_trace 18 = .ok (.aload_n 0, 1) := dk_42 (dk_at dksX0_trace_0 18 rfl rfl)
theorem dX0_trace_19 : decode cX0_trace 19 = .ok (.getfield 74, 3) := dk_180 0 74 (dk_at dksX0_trace_0 19 rfl rfl)
theorem dX0_trace_22 : decode cX0_trace 22 = .ok (.iload_n 1, 1) := dk_27 (dk_at dksX0_trace_0 22 rfl rfl)
theorem dX0_trace_23 : decode cX0_trace 23 = .ok (.baload, 1) := dk_51 (dk_at dksX0_trace_0 23 rfl rfl)
theorem dX0_trace_24 : decode cX0_trace 24 = .ok (.goto 4, 3) := dk_167 0 4 (dk_at dksX0_trace_1 0 rfl rfl)
theorem dX0_trace_27 : decode cX0_trace 27 = .ok (.iconst (-1), 1) := dk_2 (dk_at dksX0_trace_1 3 rfl rfl)
theorem dX0_trace_28 : decode cX0_trace 28 = .ok (.ireturn, 1) := dk_172 (dk_at dksX0_trace_1 4 rfl rfl)
abbrev cX0_keep : ByteArray := prog_1_method_93_code
def yX0_keep : MethodName := ⟨RX0, "keep", "(II)I"⟩
def dkwX0_keep_1 : List UInt8 := [180, 0, 85, 27, 28, 156, 0, 7, 1, 167, 0, 9, 42, 180, 0, 79, 28, 50, 83, 4, 172]
abbrev dktX0_keep_1 : List UInt8 := dkwX0_keep_1 ++ []
def dkwX0_keep_0 : List UInt8 := [27, 184, 0, 121, 153, 0, 16, 28, 2, 159, 0, 13, 42, 28, 182, 1, 227, 154, 0, 5, 2, 172, 42]
abbrev dktX0_keep_0 : List UInt8 := dkwX0_keep_0 ++ dktX0_keep_1
theorem dksX0_keep_0 : cX0_keep.data.toList.drop 0 = dktX0_keep_0 := by decide +kernel
theorem dksX0_keep_1 : cX0_keep.data.toList.drop 23 = dktX0_keep_1 := dk_seg dksX0_keep_0 23 rfl rfl
theorem dX0_keep_0 : decode cX0_keep 0 = .ok (.iload_n 1, 1) := dk_27 (dk_at dksX0_keep_0 0 rfl rfl)
theorem dX0_keep_1 : decode cX0_keep 1 = .ok (.invokestatic 121, 3) := dk_184 0 121 (dk_at dksX0_keep_0 1 rfl rfl)
theorem dX0_keep_4 : decode cX0_keep 4 = .ok (.ifCond .eq 16, 3) := dk_153 0 16 (dk_at dksX0_keep_0 4 rfl rfl)
theorem dX0_keep_7 : decode cX0_keep 7 = .ok (.iload_n 2, 1) := dk_28 (dk_at dksX0_keep_0 7 rfl rfl)
theorem dX0_keep_8 : decode cX0_keep 8 = .ok (.iconst (-1), 1) := dk_2 (dk_at dksX0_keep_0 8 rfl rfl)
theorem dX0_keep_9 : decode cX0_keep 9 = .ok (.if_icmp .eq 13, 3) := dk_159 0 13 (dk_at dksX0_keep_0 9 rfl rfl)
theorem dX0_keep_12 : decode cX0_keep 12 = .ok (.aload_n 0, 1) := dk_42 (dk_at dksX0_keep_0 12 rfl rfl)
theorem dX0_keep_13 : decode cX0_keep 13 = .ok (.iload_n 2, 1) := dk_28 (dk_at dksX0_keep_0 13 rfl rfl)
theorem dX0_keep_14 : decode cX0_keep 14 = .ok (.invokevirtual 483, 3) := dk_182 1 227 (dk_at dksX0_keep_0 14 rfl rfl)
theorem dX0_keep_17 : decode cX0_keep 17 = .ok (.ifCond .ne 5, 3) := dk_154 0 5 (dk_at dksX0_keep_0 17 rfl rfl)
theorem dX0_keep_20 : decode cX0_keep 20 = .ok (.iconst (-1), 1) := dk_2 (dk_at dksX0_keep_0 20 rfl rfl)
theorem dX0_keep_21 : decode cX0_keep 21 = .ok (.ireturn, 1) := dk_172 (dk_at dksX0_keep_0 21 rfl rfl)
theorem dX0_keep_22 : decode cX0_keep 22 = .ok (.aload_n 0, 1) := dk_42 (dk_at dksX0_keep_0 22 rfl rfl)
theorem dX0_keep_23 : decode cX0_keep 23 = .ok (.getfield 85, 3) := dk_180 0 85 (dk_at dksX0_keep_1 0 rfl rfl)
theorem dX0_keep_26 : decode cX0_keep 26 = .ok (.iload_n 1, 1) := dk_27 (dk_at dksX0_keep_1 3 rfl rfl)
theorem dX0_keep_27 : decode cX0_keep 27 = .ok (.iload_n 2, 1) := dk_28 (dk_at dksX0_keep_1 4 rfl rfl)
theorem dX0_keep_28 : decode cX0_keep 28 = .ok (.ifCond .ge 7, 3) := dk_156 0 7 (dk_at dksX0_keep_1 5 rfl rfl)
theorem dX0_keep_31 : decode cX0_keep 31 = .ok (.aconst_null, 1) := dk_1 (dk_at dksX0_keep_1 8 rfl rfl)
theorem dX0_keep_32 : decode cX0_keep 32 = .ok (.goto 9, 3) := dk_167 0 9 (dk_at dksX0_keep_1 9 rfl rfl)
theorem dX0_keep_35 : decode cX0_keep 35 = .ok (.aload_n 0, 1) := dk_42 (dk_at dksX0_keep_1 12 rfl rfl)
theorem dX0_keep_36 : decode cX0_keep 36 = .ok (.getfield 79, 3) := dk_180 0 79 (dk_at dksX0_keep_1 13 rfl rfl)
theorem dX0_keep_39 : decode cX0_keep 39 = .ok (.iload_n 2, 1) := dk_28 (dk_at dksX0_keep_1 16 rfl rfl)
theorem dX0_keep_40 : decode cX0_keep 40 = .ok (.aaload, 1) := dk_50 (dk_at dksX0_keep_1 17 rfl rfl)
theorem dX0_keep_41 : decode cX0_keep 41 = .ok (.aastore, 1) := dk_83 (dk_at dksX0_keep_1 18 rfl rfl)
theorem dX0_keep_42 : decode cX0_keep 42 = .ok (.iconst 1, 1) := dk_4 (dk_at dksX0_keep_1 19 rfl rfl)
theorem dX0_keep_43 : decode cX0_keep 43 = .ok (.ireturn, 1) := dk_172 (dk_at dksX0_keep_1 20 rfl rfl)
abbrev cX0_row : ByteArray := prog_1_method_95_code
def yX0_row : MethodName := ⟨RX0, "row", "(III)I"⟩
def dkwX0_row_1 : List UInt8 := [42, 180, 0, 85, 27, 28, 29, 184, 2, 2, 83, 167, 0, 8, 58, 4, 16, 242, 172, 4, 172]
abbrev dktX0_row_1 : List UInt8 := dkwX0_row_1 ++ []
def dkwX0_row_0 : List UInt8 := [27, 184, 0, 121, 153, 0, 18, 28, 3, 7, 184, 0, 89, 153, 0, 9, 29, 16, 60, 164, 0, 5, 2, 172]
abbrev dktX0_row_0 : List UInt8 := dkwX0_row_0 ++ dktX0_row_1
theorem dksX0_row_0 : cX0_row.data.toList.drop 0 = dktX0_row_0 := by decide +kernel
theorem dksX0_row_1 : cX0_row.data.toList.drop 24 = dktX0_row_1 := dk_seg dksX0_row_0 24 rfl rfl
theorem dX0_row_0 : decode cX0_row 0 = .ok (.iload_n 1, 1) := dk_27 (dk_at dksX0_row_0 0 rfl rfl)
theorem dX0_row_1 : decode cX0_row 1 = .ok (.invokestatic 121, 3) := dk_184 0 121 (dk_at dksX0_row_0 1 rfl rfl)
theorem dX0_row_4 : decode cX0_row 4 = .ok (.ifCond .eq 18, 3) := dk_153 0 18 (dk_at dksX0_row_0 4 rfl rfl)
theorem dX0_row_7 : decode cX0_row 7 = .ok (.iload_n 2, 1) := dk_28 (dk_at dksX0_row_0 7 rfl rfl)
theorem dX0_row_8 : decode cX0_row 8 = .ok (.iconst 0, 1) := dk_3 (dk_at dksX0_row_0 8 rfl rfl)
theorem dX0_row_9 : decode cX0_row 9 = .ok (.iconst 4, 1) := dk_7 (dk_at dksX0_row_0 9 rfl rfl)
theorem dX0_row_10 : decode cX0_row 10 = .ok (.invokestatic 89, 3) := dk_184 0 89 (dk_at dksX0_row_0 10 rfl rfl)
theorem dX0_row_13 : decode cX0_row 13 = .ok (.ifCond .eq 9, 3) := dk_153 0 9 (dk_at dksX0_row_0 13 rfl rfl)
theorem dX0_row_16 : decode cX0_row 16 = .ok (.iload_n 3, 1) := dk_29 (dk_at dksX0_row_0 16 rfl rfl)
theorem dX0_row_17 : decode cX0_row 17 = .ok (.bipush 60, 2) := dk_16 60 (dk_at dksX0_row_0 17 rfl rfl)
theorem dX0_row_19 : decode cX0_row 19 = .ok (.if_icmp .le 5, 3) := dk_164 0 5 (dk_at dksX0_row_0 19 rfl rfl)
theorem dX0_row_22 : decode cX0_row 22 = .ok (.iconst (-1), 1) := dk_2 (dk_at dksX0_row_0 22 rfl rfl)
theorem dX0_row_23 : decode cX0_row 23 = .ok (.ireturn, 1) := dk_172 (dk_at dksX0_row_0 23 rfl rfl)
theorem dX0_row_24 : decode cX0_row 24 = .ok (.aload_n 0, 1) := dk_42 (dk_at dksX0_row_1 0 rfl rfl)
theorem dX0_row_25 : decode cX0_row 25 = .ok (.getfield 85, 3) := dk_180 0 85 (dk_at dksX0_row_1 1 rfl rfl)
theorem dX0_row_28 : decode cX0_row 28 = .ok (.iload_n 1, 1) := dk_27 (dk_at dksX0_row_1 4 rfl rfl)
theorem dX0_row_29 : decode cX0_row 29 = .ok (.iload_n 2, 1) := dk_28 (dk_at dksX0_row_1 5 rfl rfl)
theorem dX0_row_30 : decode cX0_row 30 = .ok (.iload_n 3, 1) := dk_29 (dk_at dksX0_row_1 6 rfl rfl)
theorem dX0_row_31 : decode cX0_row 31 = .ok (.invokestatic 514, 3) := dk_184 2 2 (dk_at dksX0_row_1 7 rfl rfl)
theorem dX0_row_34 : decode cX0_row 34 = .ok (.aastore, 1) := dk_83 (dk_at dksX0_row_1 10 rfl rfl)
theorem dX0_row_35 : decode cX0_row 35 = .ok (.goto 8, 3) := dk_167 0 8 (dk_at dksX0_row_1 11 rfl rfl)
theorem dX0_row_38 : decode cX0_row 38 = .ok (.astore 4, 2) := dk_58 4 (dk_at dksX0_row_1 14 rfl rfl)
theorem dX0_row_40 : decode cX0_row 40 = .ok (.bipush (-14), 2) := dk_16 242 (dk_at dksX0_row_1 16 rfl rfl)
theorem dX0_row_42 : decode cX0_row 42 = .ok (.ireturn, 1) := dk_172 (dk_at dksX0_row_1 18 rfl rfl)
theorem dX0_row_43 : decode cX0_row 43 = .ok (.iconst 1, 1) := dk_4 (dk_at dksX0_row_1 19 rfl rfl)
theorem dX0_row_44 : decode cX0_row 44 = .ok (.ireturn, 1) := dk_172 (dk_at dksX0_row_1 20 rfl rfl)
abbrev cX0_newRow : ByteArray := prog_1_method_94_code
def yX0_newRow : MethodName := ⟨RX0, "newRow", "(II)LNineKeysRound$Row;"⟩
def dkwX0_newRow_3 : List UInt8 := [183, 1, 251, 176, 187, 1, 252, 89, 27, 183, 1, 254, 176, 187, 1, 255, 89, 27, 183, 2, 1, 176]
abbrev dktX0_newRow_3 : List UInt8 := dkwX0_newRow_3 ++ []
def dkwX0_newRow_2 : List UInt8 := [187, 0, 124, 89, 27, 183, 1, 246, 176, 187, 1, 109, 89, 27, 183, 1, 248, 176, 187, 1, 249, 89, 27]
abbrev dktX0_newRow_2 : List UInt8 := dkwX0_newRow_2 ++ dktX0_newRow_3
def dkwX0_newRow_1 : List UInt8 := [170, 0, 0, 0, 0, 0, 67, 0, 0, 0, 0, 0, 0, 0, 3, 0, 0, 0, 31, 0, 0, 0, 40, 0, 0, 0, 49, 0, 0, 0, 58]
abbrev dktX0_newRow_1 : List UInt8 := dkwX0_newRow_1 ++ dktX0_newRow_2
def dkwX0_newRow_0 : List UInt8 := [26]
abbrev dktX0_newRow_0 : List UInt8 := dkwX0_newRow_0 ++ dktX0_newRow_1
theorem dksX0_newRow_0 : cX0_newRow.data.toList.drop 0 = dktX0_newRow_0 := by decide +kernel
theorem dksX0_newRow_1 : cX0_newRow.data.toList.drop 1 = dktX0_newRow_1 := dk_seg dksX0_newRow_0 1 rfl rfl
theorem dksX0_newRow_2 : cX0_newRow.data.toList.drop 32 = dktX0_newRow_2 := dk_seg dksX0_newRow_1 31 rfl rfl
theorem dksX0_newRow_3 : cX0_newRow.data.toList.drop 55 = dktX0_newRow_3 := dk_seg dksX0_newRow_2 23 rfl rfl
theorem dX0_newRow_0 : decode cX0_newRow 0 = .ok (.iload_n 0, 1) := dk_26 (dk_at dksX0_newRow_0 0 rfl rfl)
theorem dX0_newRow_1 : decode cX0_newRow 1 = .ok (.tableswitch 67 0 3 #[31, 40, 49, 58], 31) := by decide +kernel
theorem dX0_newRow_32 : decode cX0_newRow 32 = .ok (.new 124, 3) := dk_187 0 124 (dk_at dksX0_newRow_2 0 rfl rfl)
theorem dX0_newRow_35 : decode cX0_newRow 35 = .ok (.dup, 1) := dk_89 (dk_at dksX0_newRow_2 3 rfl rfl)
theorem dX0_newRow_36 : decode cX0_newRow 36 = .ok (.iload_n 1, 1) := dk_27 (dk_at dksX0_newRow_2 4 rfl rfl)
theorem dX0_newRow_37 : decode cX0_newRow 37 = .ok (.invokespecial 502, 3) := dk_183 1 246 (dk_at dksX0_newRow_2 5 rfl rfl)
theorem dX0_newRow_40 : decode cX0_newRow 40 = .ok (.areturn, 1) := dk_176 (dk_at dksX0_newRow_2 8 rfl rfl)
theorem dX0_newRow_41 : decode cX0_newRow 41 = .ok (.new 365, 3) := dk_187 1 109 (dk_at dksX0_newRow_2 9 rfl rfl)
theorem dX0_newRow_44 : decode cX0_newRow 44 = .ok (.dup, 1) := dk_89 (dk_at dksX0_newRow_2 12 rfl rfl)
theorem dX0_newRow_45 : decode cX0_newRow 45 = .ok (.iload_n 1, 1) := dk_27 (dk_at dksX0_newRow_2 13 rfl rfl)
theorem dX0_newRow_46 : decode cX0_newRow 46 = .ok (.invokespecial 504, 3) := dk_183 1 248 (dk_at dksX0_newRow_2 14 rfl rfl)
theorem dX0_newRow_49 : decode cX0_newRow 49 = .ok (.areturn, 1) := dk_176 (dk_at dksX0_newRow_2 17 rfl rfl)
theorem dX0_newRow_50 : decode cX0_newRow 50 = .ok (.new 505, 3) := dk_187 1 249 (dk_at dksX0_newRow_2 18 rfl rfl)
theorem dX0_newRow_53 : decode cX0_newRow 53 = .ok (.dup, 1) := dk_89 (dk_at dksX0_newRow_2 21 rfl rfl)
theorem dX0_newRow_54 : decode cX0_newRow 54 = .ok (.iload_n 1, 1) := dk_27 (dk_at dksX0_newRow_2 22 rfl rfl)
theorem dX0_newRow_55 : decode cX0_newRow 55 = .ok (.invokespecial 507, 3) := dk_183 1 251 (dk_at dksX0_newRow_3 0 rfl rfl)
theorem dX0_newRow_58 : decode cX0_newRow 58 = .ok (.areturn, 1) := dk_176 (dk_at dksX0_newRow_3 3 rfl rfl)
theorem dX0_newRow_59 : decode cX0_newRow 59 = .ok (.new 508, 3) := dk_187 1 252 (dk_at dksX0_newRow_3 4 rfl rfl)
theorem dX0_newRow_62 : decode cX0_newRow 62 = .ok (.dup, 1) := dk_89 (dk_at dksX0_newRow_3 7 rfl rfl)
theorem dX0_newRow_63 : decode cX0_newRow 63 = .ok (.iload_n 1, 1) := dk_27 (dk_at dksX0_newRow_3 8 rfl rfl)
theorem dX0_newRow_64 : decode cX0_newRow 64 = .ok (.invokespecial 510, 3) := dk_183 1 254 (dk_at dksX0_newRow_3 9 rfl rfl)
theorem dX0_newRow_67 : decode cX0_newRow 67 = .ok (.areturn, 1) := dk_176 (dk_at dksX0_newRow_3 12 rfl rfl)
theorem dX0_newRow_68 : decode cX0_newRow 68 = .ok (.new 511, 3) := dk_187 1 255 (dk_at dksX0_newRow_3 13 rfl rfl)
theorem dX0_newRow_71 : decode cX0_newRow 71 = .ok (.dup, 1) := dk_89 (dk_at dksX0_newRow_3 16 rfl rfl)
theorem dX0_newRow_72 : decode cX0_newRow 72 = .ok (.iload_n 1, 1) := dk_27 (dk_at dksX0_newRow_3 17 rfl rfl)
theorem dX0_newRow_73 : decode cX0_newRow 73 = .ok (.invokespecial 513, 3) := dk_183 2 1 (dk_at dksX0_newRow_3 18 rfl rfl)
theorem dX0_newRow_76 : decode cX0_newRow 76 = .ok (.areturn, 1) := dk_176 (dk_at dksX0_newRow_3 21 rfl rfl)
abbrev cX0_put : ByteArray := prog_1_method_96_code
def yX0_put : MethodName := ⟨RX0, "put", "(IIJ)I"⟩
def dkwX0_put_1 : List UInt8 := [153, 0, 7, 4, 167, 0, 4, 2, 172, 58, 5, 16, 245, 172, 58, 5, 16, 244, 172, 58, 5, 16, 243, 172]
abbrev dktX0_put_1 : List UInt8 := dkwX0_put_1 ++ []
def dkwX0_put_0 : List UInt8 := [27, 184, 0, 121, 154, 0, 5, 2, 172, 42, 180, 0, 85, 27, 50, 192, 2, 8, 28, 33, 182, 2, 10]
abbrev dktX0_put_0 : List UInt8 := dkwX0_put_0 ++ dktX0_put_1
theorem dksX0_put_0 : cX0_put.data.toList.drop 0 = dktX0_put_0 := by decide +kernel
theorem dksX0_put_1 : cX0_put.data.toList.drop 23 = dktX0_put_1 := dk_seg dksX0_put_0 23 rfl rfl
theorem dX0_put_0 : decode cX0_put 0 = .ok (.iload_n 1, 1) := dk_27 (dk_at dksX0_put_0 0 rfl rfl)
theorem dX0_put_1 : decode cX0_put 1 = .ok (.invokestatic 121, 3) := dk_184 0 121 (dk_at dksX0_put_0 1 rfl rfl)
theorem dX0_put_4 : decode cX0_put 4 = .ok (.ifCond .ne 5, 3) := dk_154 0 5 (dk_at dksX0_put_0 4 rfl rfl)
theorem dX0_put_7 : decode cX0_put 7 = .ok (.iconst (-1), 1) := dk_2 (dk_at dksX0_put_0 7 rfl rfl)
theorem dX0_put_8 : decode cX0_put 8 = .ok (.ireturn, 1) := dk_172 (dk_at dksX0_put_0 8 rfl rfl)
theorem dX0_put_9 : decode cX0_put 9 = .ok (.aload_n 0, 1) := dk_42 (dk_at dksX0_put_0 9 rfl rfl)
theorem dX0_put_10 : decode cX0_put 10 = .ok (.getfield 85, 3) := dk_180 0 85 (dk_at dksX0_put_0 10 rfl rfl)
theorem dX0_put_13 : decode cX0_put 13 = .ok (.iload_n 1, 1) := dk_27 (dk_at dksX0_put_0 13 rfl rfl)
theorem dX0_put_14 : decode cX0_put 14 = .ok (.aaload, 1) := dk_50 (dk_at dksX0_put_0 14 rfl rfl)
theorem dX0_put_15 : decode cX0_put 15 = .ok (.checkcast 520, 3) := dk_192 2 8 (dk_at dksX0_put_0 15 rfl rfl)
theorem dX0_put_18 : decode cX0_put 18 = .ok (.iload_n 2, 1) := dk_28 (dk_at dksX0_put_0 18 rfl rfl)
theorem dX0_put_19 : decode cX0_put 19 = .ok (.lload_n 3, 1) := dk_33 (dk_at dksX0_put_0 19 rfl rfl)
theorem dX0_put_20 : decode cX0_put 20 = .ok (.invokevirtual 522, 3) := dk_182 2 10 (dk_at dksX0_put_0 20 rfl rfl)
theorem dX0_put_23 : decode cX0_put 23 = .ok (.ifCond .eq 7, 3) := dk_153 0 7 (dk_at dksX0_put_1 0 rfl rfl)
theorem dX0_put_26 : decode cX0_put 26 = .ok (.iconst 1, 1) := dk_4 (dk_at dksX0_put_1 3 rfl rfl)
theorem dX0_put_27 : decode cX0_put 27 = .ok (.goto 4, 3) := dk_167 0 4 (dk_at dksX0_put_1 4 rfl rfl)
theorem dX0_put_30 : decode cX0_put 30 = .ok (.iconst (-1), 1) := dk_2 (dk_at dksX0_put_1 7 rfl rfl)
theorem dX0_put_31 : decode cX0_put 31 = .ok (.ireturn, 1) := dk_172 (dk_at dksX0_put_1 8 rfl rfl)
theorem dX0_put_32 : decode cX0_put 32 = .ok (.astore 5, 2) := dk_58 5 (dk_at dksX0_put_1 9 rfl rfl)
theorem dX0_put_34 : decode cX0_put 34 = .ok (.bipush (-11), 2) := dk_16 245 (dk_at dksX0_put_1 11 rfl rfl)
theorem dX0_put_36 : decode cX0_put 36 = .ok (.ireturn, 1) := dk_172 (dk_at dksX0_put_1 13 rfl rfl)
theorem dX0_put_37 : decode cX0_put 37 = .ok (.astore 5, 2) := dk_58 5 (dk_at dksX0_put_1 14 rfl rfl)
theorem dX0_put_39 : decode cX0_put 39 = .ok (.bipush (-12), 2) := dk_16 244 (dk_at dksX0_put_1 16 rfl rfl)
theorem dX0_put_41 : decode cX0_put 41 = .ok (.ireturn, 1) := dk_172 (dk_at dksX0_put_1 18 rfl rfl)
theorem dX0_put_42 : decode cX0_put 42 = .ok (.astore 5, 2) := dk_58 5 (dk_at dksX0_put_1 19 rfl rfl)
theorem dX0_put_44 : decode cX0_put 44 = .ok (.bipush (-13), 2) := dk_16 243 (dk_at dksX0_put_1 21 rfl rfl)
theorem dX0_put_46 : decode cX0_put 46 = .ok (.ireturn, 1) := dk_172 (dk_at dksX0_put_1 23 rfl rfl)
abbrev cX0_element : ByteArray := prog_1_method_97_code
def yX0_element : MethodName := ⟨RX0, "element", "(II)J"⟩
def dkwX0_element_1 : List UInt8 := [173, 78, 20, 2, 16, 173, 78, 20, 2, 16, 173, 78, 20, 2, 16, 173]
abbrev dktX0_element_1 : List UInt8 := dkwX0_element_1 ++ []
def dkwX0_element_0 : List UInt8 := [27, 184, 0, 121, 154, 0, 7, 20, 2, 16, 173, 42, 180, 0, 85, 27, 50, 192, 2, 8, 28, 182, 2, 18]
abbrev dktX0_element_0 : List UInt8 := dkwX0_element_0 ++ dktX0_element_1
theorem dksX0_element_0 : cX0_element.data.toList.drop 0 = dktX0_element_0 := by decide +kernel
theorem dksX0_element_1 : cX0_element.data.toList.drop 24 = dktX0_element_1 := dk_seg dksX0_element_0 24 rfl rfl
theorem dX0_element_0 : decode cX0_element 0 = .ok (.iload_n 1, 1) := dk_27 (dk_at dksX0_element_0 0 rfl rfl)
theorem dX0_element_1 : decode cX0_element 1 = .ok (.invokestatic 121, 3) := dk_184 0 121 (dk_at dksX0_element_0 1 rfl rfl)
theorem dX0_element_4 : decode cX0_element 4 = .ok (.ifCond .ne 7, 3) := dk_154 0 7 (dk_at dksX0_element_0 4 rfl rfl)
theorem dX0_element_7 : decode cX0_element 7 = .ok (.ldc2_w 528, 3) := dk_20 2 16 (dk_at dksX0_element_0 7 rfl rfl)
theorem dX0_element_10 : decode cX0_element 10 = .ok (.lreturn, 1) := dk_173 (dk_at dksX0_element_0 10 rfl rfl)
theorem dX0_element_11 : decode cX0_element 11 = .ok (.aload_n 0, 1) := dk_42 (dk_at dksX0_element_0 11 rfl rfl)
theorem dX0_element_12 : decode cX0_element 12 = .ok (.getfield 85, 3) := dk_180 0 85 (dk_at dksX0_element_0 12 rfl rfl)
theorem dX0_element_15 : decode cX0_element 15 = .ok (.iload_n 1, 1) := dk_27 (dk_at dksX0_element_0 15 rfl rfl)
theorem dX0_element_16 : decode cX0_element 16 = .ok (.aaload, 1) := dk_50 (dk_at dksX0_element_0 16 rfl rfl)
theorem dX0_element_17 : decode cX0_element 17 = .ok (.checkcast 520, 3) := dk_192 2 8 (dk_at dksX0_element_0 17 rfl rfl)
theorem dX0_element_20 : decode cX0_element 20 = .ok (.iload_n 2, 1) := dk_28 (dk_at dksX0_element_0 20 rfl rfl)
theorem dX0_element_21 : decode cX0_element 21 = .ok (.invokevirtual 530, 3) := dk_182 2 18 (dk_at dksX0_element_0 21 rfl rfl)
theorem dX0_element_24 : decode cX0_element 24 = .ok (.lreturn, 1) := dk_173 (dk_at dksX0_element_1 0 rfl rfl)
theorem dX0_element_25 : decode cX0_element 25 = .ok (.astore_n 3, 1) := dk_78 (dk_at dksX0_element_1 1 rfl rfl)
theorem dX0_element_26 : decode cX0_element 26 = .ok (.ldc2_w 528, 3) := dk_20 2 16 (dk_at dksX0_element_1 2 rfl rfl)
theorem dX0_element_29 : decode cX0_element 29 = .ok (.lreturn, 1) := dk_173 (dk_at dksX0_element_1 5 rfl rfl)
theorem dX0_element_30 : decode cX0_element 30 = .ok (.astore_n 3, 1) := dk_78 (dk_at dksX0_element_1 6 rfl rfl)
theorem dX0_element_31 : decode cX0_element 31 = .ok (.ldc2_w 528, 3) := dk_20 2 16 (dk_at dksX0_element_1 7 rfl rfl)
theorem dX0_element_34 : decode cX0_element 34 = .ok (.lreturn, 1) := dk_173 (dk_at dksX0_element_1 10 rfl rfl)
theorem dX0_element_35 : decode cX0_element 35 = .ok (.astore_n 3, 1) := dk_78 (dk_at dksX0_element_1 11 rfl rfl)
theorem dX0_element_36 : decode cX0_element 36 = .ok (.ldc2_w 528, 3) := dk_20 2 16 (dk_at dksX0_element_1 12 rfl rfl)
theorem dX0_element_39 : decode cX0_element 39 = .ok (.lreturn, 1) := dk_173 (dk_at dksX0_element_1 15 rfl rfl)
abbrev cX0_shift : ByteArray := prog_1_method_98_code
def yX0_shift : MethodName := ⟨RX0, "shift", "(IIIII)I"⟩
def dkwX0_shift_3 : List UInt8 := [172, 58, 6, 16, 243, 172, 21, 5, 172]
abbrev dktX0_shift_3 : List UInt8 := dkwX0_shift_3 ++ []
def dkwX0_shift_2 : List UInt8 := [28, 42, 180, 0, 85, 29, 50, 192, 2, 8, 21, 4, 21, 5, 182, 2, 19, 167, 0, 13, 58, 6, 16, 244]
abbrev dktX0_shift_2 : List UInt8 := dkwX0_shift_2 ++ dktX0_shift_3
def dkwX0_shift_1 : List UInt8 := [198, 0, 12, 42, 180, 0, 85, 29, 50, 199, 0, 6, 16, 245, 172, 42, 180, 0, 85, 27, 50, 192, 2, 8]
abbrev dktX0_shift_1 : List UInt8 := dkwX0_shift_1 ++ dktX0_shift_2
def dkwX0_shift_0 : List UInt8 := [27, 184, 0, 121, 153, 0, 10, 29, 184, 0, 121, 154, 0, 5, 2, 172, 42, 180, 0, 85, 27, 50]
abbrev dktX0_shift_0 : List UInt8 := dkwX0_shift_0 ++ dktX0_shift_1
theorem dksX0_shift_0 : cX0_shift.data.toList.drop 0 = dktX0_shift_0 := by decide +kernel
theorem dksX0_shift_1 : cX0_shift.data.toList.drop 22 = dktX0_shift_1 := dk_seg dksX0_shift_0 22 rfl rfl
theorem dksX0_shift_2 : cX0_shift.data.toList.drop 46 = dktX0_shift_2 := dk_seg dksX0_shift_1 24 rfl rfl
theorem dksX0_shift_3 : cX0_shift.data.toList.drop 70 = dktX0_shift_3 := dk_seg dksX0_shift_2 24 rfl rfl
theorem dX0_shift_0 : decode cX0_shift 0 = .ok (.iload_n 1, 1) := dk_27 (dk_at dksX0_shift_0 0 rfl rfl)
theorem dX0_shift_1 : decode cX0_shift 1 = .ok (.invokestatic 121, 3) := dk_184 0 121 (dk_at dksX0_shift_0 1 rfl rfl)
theorem dX0_shift_4 : decode cX0_shift 4 = .ok (.ifCond .eq 10, 3) := dk_153 0 10 (dk_at dksX0_shift_0 4 rfl rfl)
theorem dX0_shift_7 : decode cX0_shift 7 = .ok (.iload_n 3, 1) := dk_29 (dk_at dksX0_shift_0 7 rfl rfl)
theorem dX0_shift_8 : decode cX0_shift 8 = .ok (.invokestatic 121, 3) := dk_184 0 121 (dk_at dksX0_shift_0 8 rfl rfl)
theorem dX0_shift_11 : decode cX0_shift 11 = .ok (.ifCond .ne 5, 3) := dk_154 0 5 (dk_at dksX0_shift_0 11 rfl rfl)
theorem dX0_shift_14 : decode cX0_shift 14 = .ok (.iconst (-1), 1) := dk_2 (dk_at dksX0_shift_0 14 rfl rfl)
theorem dX0_shift_15 : decode cX0_shift 15 = .ok (.ireturn, 1) := dk_172 (dk_at dksX0_shift_0 15 rfl rfl)
theorem dX0_shift_16 : decode cX0_shift 16 = .ok (.aload_n 0, 1) := dk_42 (dk_at dksX0_shift_0 16 rfl rfl)
theorem dX0_shift_17 : decode cX0_shift 17 = .ok (.getfield 85, 3) := dk_180 0 85 (dk_at dksX0_shift_0 17 rfl rfl)
theorem dX0_shift_20 : decode cX0_shift 20 = .ok (.iload_n 1, 1) := dk_27 (dk_at dksX0_shift_0 20 rfl rfl)
theorem dX0_shift_21 : decode cX0_shift 21 = .ok (.aaload, 1) := dk_50 (dk_at dksX0_shift_0 21 rfl rfl)
theorem dX0_shift_22 : decode cX0_shift 22 = .ok (.ifnull 12, 3) := dk_198 0 12 (dk_at dksX0_shift_1 0 rfl rfl)
theorem dX0_shift_25 : decode cX0_shift 25 = .ok (.aload_n 0, 1) := dk_42 (dk_at dksX0_shift_1 3 rfl rfl)
theorem dX0_shift_26 : decode cX0_shift 26 = .ok (.getfield 85, 3) := dk_180 0 85 (dk_at dksX0_shift_1 4 rfl rfl)
theorem dX0_shift_29 : decode cX0_shift 29 = .ok (.iload_n 3, 1) := dk_29 (dk_at dksX0_shift_1 7 rfl rfl)
theorem dX0_shift_30 : decode cX0_shift 30 = .ok (.aaload, 1) := dk_50 (dk_at dksX0_shift_1 8 rfl rfl)
theorem dX0_shift_31 : decode cX0_shift 31 = .ok (.ifnonnull 6, 3) := dk_199 0 6 (dk_at dksX0_shift_1 9 rfl rfl)
theorem dX0_shift_34 : decode cX0_shift 34 = .ok (.bipush (-11), 2) := dk_16 245 (dk_at dksX0_shift_1 12 rfl rfl)
theorem dX0_shift_36 : decode cX0_shift 36 = .ok (.ireturn, 1) := dk_172 (dk_at dksX0_shift_1 14 rfl rfl)
theorem dX0_shift_37 : decode cX0_shift 37 = .ok (.aload_n 0, 1) := dk_42 (dk_at dksX0_shift_1 15 rfl rfl)
theorem dX0_shift_38 : decode cX0_shift 38 = .ok (.getfield 85, 3) := dk_180 0 85 (dk_at dksX0_shift_1 16 rfl rfl)
theorem dX0_shift_41 : decode cX0_shift 41 = .ok (.iload_n 1, 1) := dk_27 (dk_at dksX0_shift_1 19 rfl rfl)
theorem dX0_shift_42 : decode cX0_shift 42 = .ok (.aaload, 1) := dk_50 (dk_at dksX0_shift_1 20 rfl rfl)
theorem dX0_shift_43 : decode cX0_shift 43 = .ok (.checkcast 520, 3) := dk_192 2 8 (dk_at dksX0_shift_1 21 rfl rfl)
theorem dX0_shift_46 : decode cX0_shift 46 = .ok (.iload_n 2, 1) := dk_28 (dk_at dksX0_shift_2 0 rfl rfl)
theorem dX0_shift_47 : decode cX0_shift 47 = .ok (.aload_n 0, 1) := dk_42 (dk_at dksX0_shift_2 1 rfl rfl)
theorem dX0_shift_48 : decode cX0_shift 48 = .ok (.getfield 85, 3) := dk_180 0 85 (dk_at dksX0_shift_2 2 rfl rfl)
theorem dX0_shift_51 : decode cX0_shift 51 = .ok (.iload_n 3, 1) := dk_29 (dk_at dksX0_shift_2 5 rfl rfl)
theorem dX0_shift_52 : decode cX0_shift 52 = .ok (.aaload, 1) := dk_50 (dk_at dksX0_shift_2 6 rfl rfl)
theorem dX0_shift_53 : decode cX0_shift 53 = .ok (.checkcast 520, 3) := dk_192 2 8 (dk_at dksX0_shift_2 7 rfl rfl)
theorem dX0_shift_56 : decode cX0_shift 56 = .ok (.iload 4, 2) := dk_21 4 (dk_at dksX0_shift_2 10 rfl rfl)
theorem dX0_shift_58 : decode cX0_shift 58 = .ok (.iload 5, 2) := dk_21 5 (dk_at dksX0_shift_2 12 rfl rfl)
theorem dX0_shift_60 : decode cX0_shift 60 = .ok (.invokevirtual 531, 3) := dk_182 2 19 (dk_at dksX0_shift_2 14 rfl rfl)
theorem dX0_shift_63 : decode cX0_shift 63 = .ok (.goto 13, 3) := dk_167 0 13 (dk_at dksX0_shift_2 17 rfl rfl)
theorem dX0_shift_66 : decode cX0_shift 66 = .ok (.astore 6, 2) := dk_58 6 (dk_at dksX0_shift_2 20 rfl rfl)
theorem dX0_shift_68 : decode cX0_shift 68 = .ok (.bipush (-12), 2) := dk_16 244 (dk_at dksX0_shift_2 22 rfl rfl)
theorem dX0_shift_70 : decode cX0_shift 70 = .ok (.ireturn, 1) := dk_172 (dk_at dksX0_shift_3 0 rfl rfl)
theorem dX0_shift_71 : decode cX0_shift 71 = .ok (.astore 6, 2) := dk_58 6 (dk_at dksX0_shift_3 1 rfl rfl)
theorem dX0_shift_73 : decode cX0_shift 73 = .ok (.bipush (-13), 2) := dk_16 243 (dk_at dksX0_shift_3 3 rfl rfl)
theorem dX0_shift_75 : decode cX0_shift 75 = .ok (.ireturn, 1) := dk_172 (dk_at dksX0_shift_3 5 rfl rfl)
theorem dX0_shift_76 : decode cX0_shift 76 = .ok (.iload 5, 2) := dk_21 5 (dk_at dksX0_shift_3 6 rfl rfl)
theorem dX0_shift_78 : decode cX0_shift 78 = .ok (.ireturn, 1) := dk_172 (dk_at dksX0_shift_3 8 rfl rfl)
abbrev cX0_taken : ByteArray := prog_1_method_99_code
def yX0_taken : MethodName := ⟨RX0, "taken", "(II)I"⟩
def dkwX0_taken_2 : List UInt8 := [16, 245, 172, 78, 16, 244, 172]
abbrev dktX0_taken_2 : List UInt8 := dkwX0_taken_2 ++ []
def dkwX0_taken_1 : List UInt8 := [50, 192, 0, 77, 78, 45, 28, 182, 2, 23, 153, 0, 10, 45, 182, 2, 26, 167, 0, 5, 16, 244, 172, 78]
abbrev dktX0_taken_1 : List UInt8 := dkwX0_taken_1 ++ dktX0_taken_2
def dkwX0_taken_0 : List UInt8 := [27, 184, 0, 121, 153, 0, 13, 28, 3, 16, 7, 184, 0, 89, 154, 0, 5, 2, 172, 42, 180, 0, 85, 27]
abbrev dktX0_taken_0 : List UInt8 := dkwX0_taken_0 ++ dktX0_taken_1
theorem dksX0_taken_0 : cX0_taken.data.toList.drop 0 = dktX0_taken_0 := by decide +kernel
theorem dksX0_taken_1 : cX0_taken.data.toList.drop 24 = dktX0_taken_1 := dk_seg dksX0_taken_0 24 rfl rfl
theorem dksX0_taken_2 : cX0_taken.data.toList.drop 48 = dktX0_taken_2 := dk_seg dksX0_taken_1 24 rfl rfl
theorem dX0_taken_0 : decode cX0_taken 0 = .ok (.iload_n 1, 1) := dk_27 (dk_at dksX0_taken_0 0 rfl rfl)
theorem dX0_taken_1 : decode cX0_taken 1 = .ok (.invokestatic 121, 3) := dk_184 0 121 (dk_at dksX0_taken_0 1 rfl rfl)
theorem dX0_taken_4 : decode cX0_taken 4 = .ok (.ifCond .eq 13, 3) := dk_153 0 13 (dk_at dksX0_taken_0 4 rfl rfl)
theorem dX0_taken_7 : decode cX0_taken 7 = .ok (.iload_n 2, 1) := dk_28 (dk_at dksX0_taken_0 7 rfl rfl)
theorem dX0_taken_8 : decode cX0_taken 8 = .ok (.iconst 0, 1) := dk_3 (dk_at dksX0_taken_0 8 rfl rfl)
theorem dX0_taken_9 : decode cX0_taken 9 = .ok (.bipush 7, 2) := dk_16 7 (dk_at dksX0_taken_0 9 rfl rfl)
theorem dX0_taken_11 : decode cX0_taken 11 = .ok (.invokestatic 89, 3) := dk_184 0 89 (dk_at dksX0_taken_0 11 rfl rfl)
theorem dX0_taken_14 : decode cX0_taken 14 = .ok (.ifCond .ne 5, 3) := dk_154 0 5 (dk_at dksX0_taken_0 14 rfl rfl)
theorem dX0_taken_17 : decode cX0_taken 17 = .ok (.iconst (-1), 1) := dk_2 (dk_at dksX0_taken_0 17 rfl rfl)
theorem dX0_taken_18 : decode cX0_taken 18 = .ok (.ireturn, 1) := dk_172 (dk_at dksX0_taken_0 18 rfl rfl)
theorem dX0_taken_19 : decode cX0_taken 19 = .ok (.aload_n 0, 1) := dk_42 (dk_at dksX0_taken_0 19 rfl rfl)
theorem dX0_taken_20 : decode cX0_taken 20 = .ok (.getfield 85, 3) := dk_180 0 85 (dk_at dksX0_taken_0 20 rfl rfl)
theorem dX0_taken_23 : decode cX0_taken 23 = .ok (.iload_n 1, 1) := dk_27 (dk_at dksX0_taken_0 23 rfl rfl)
theorem dX0_taken_24 : decode cX0_taken 24 = .ok (.aaload, 1) := dk_50 (dk_at dksX0_taken_1 0 rfl rfl)
theorem dX0_taken_25 : decode cX0_taken 25 = .ok (.checkcast 77, 3) := dk_192 0 77 (dk_at dksX0_taken_1 1 rfl rfl)
theorem dX0_taken_28 : decode cX0_taken 28 = .ok (.astore_n 3, 1) := dk_78 (dk_at dksX0_taken_1 4 rfl rfl)
theorem dX0_taken_29 : decode cX0_taken 29 = .ok (.aload_n 3, 1) := dk_45 (dk_at dksX0_taken_1 5 rfl rfl)
theorem dX0_taken_30 : decode cX0_taken 30 = .ok (.iload_n 2, 1) := dk_28 (dk_at dksX0_taken_1 6 rfl rfl)
theorem dX0_taken_31 : decode cX0_taken 31 = .ok (.invokevirtual 535, 3) := dk_182 2 23 (dk_at dksX0_taken_1 7 rfl rfl)
theorem dX0_taken_34 : decode cX0_taken 34 = .ok (.ifCond .eq 10, 3) := dk_153 0 10 (dk_at dksX0_taken_1 10 rfl rfl)
theorem dX0_taken_37 : decode cX0_taken 37 = .ok (.aload_n 3, 1) := dk_45 (dk_at dksX0_taken_1 13 rfl rfl)
theorem dX0_taken_38 : decode cX0_taken 38 = .ok (.invokevirtual 538, 3) := dk_182 2 26 (dk_at dksX0_taken_1 14 rfl rfl)
theorem dX0_taken_41 : decode cX0_taken 41 = .ok (.goto 5, 3) := dk_167 0 5 (dk_at dksX0_taken_1 17 rfl rfl)
theorem dX0_taken_44 : decode cX0_taken 44 = .ok (.bipush (-12), 2) := dk_16 244 (dk_at dksX0_taken_1 20 rfl rfl)
theorem dX0_taken_46 : decode cX0_taken 46 = .ok (.ireturn, 1) := dk_172 (dk_at dksX0_taken_1 22 rfl rfl)
theorem dX0_taken_47 : decode cX0_taken 47 = .ok (.astore_n 3, 1) := dk_78 (dk_at dksX0_taken_1 23 rfl rfl)
theorem dX0_taken_48 : decode cX0_taken 48 = .ok (.bipush (-11), 2) := dk_16 245 (dk_at dksX0_taken_2 0 rfl rfl)
theorem dX0_taken_50 : decode cX0_taken 50 = .ok (.ireturn, 1) := dk_172 (dk_at dksX0_taken_2 2 rfl rfl)
theorem dX0_taken_51 : decode cX0_taken 51 = .ok (.astore_n 3, 1) := dk_78 (dk_at dksX0_taken_2 3 rfl rfl)
theorem dX0_taken_52 : decode cX0_taken 52 = .ok (.bipush (-12), 2) := dk_16 244 (dk_at dksX0_taken_2 4 rfl rfl)
theorem dX0_taken_54 : decode cX0_taken 54 = .ok (.ireturn, 1) := dk_172 (dk_at dksX0_taken_2 6 rfl rfl)
abbrev cX0_count : ByteArray := prog_1_method_100_code
def yX0_count : MethodName := ⟨RX0, "count", "(I)I"⟩
def dkwX0_count_3 : List UInt8 := [172, 2, 172]
abbrev dktX0_count_3 : List UInt8 := dkwX0_count_3 ++ []
def dkwX0_count_2 : List UInt8 := [42, 180, 0, 93, 172, 42, 180, 0, 192, 172, 42, 180, 0, 151, 172, 42, 180, 1, 196, 172, 42, 180, 1, 193]
abbrev dktX0_count_2 : List UInt8 := dkwX0_count_2 ++ dktX0_count_3
def dkwX0_count_1 : List UInt8 := [170, 0, 0, 0, 0, 0, 60, 0, 0, 0, 0, 0, 0, 0, 4, 0, 0, 0, 35, 0, 0, 0, 40, 0, 0, 0, 45, 0, 0, 0, 50, 0, 0, 0, 55]
abbrev dktX0_count_1 : List UInt8 := dkwX0_count_1 ++ dktX0_count_2
def dkwX0_count_0 : List UInt8 := [27]
abbrev dktX0_count_0 : List UInt8 := dkwX0_count_0 ++ dktX0_count_1
theorem dksX0_count_0 : cX0_count.data.toList.drop 0 = dktX0_count_0 := by decide +kernel
theorem dksX0_count_1 : cX0_count.data.toList.drop 1 = dktX0_count_1 := dk_seg dksX0_count_0 1 rfl rfl
theorem dksX0_count_2 : cX0_count.data.toList.drop 36 = dktX0_count_2 := dk_seg dksX0_count_1 35 rfl rfl
theorem dksX0_count_3 : cX0_count.data.toList.drop 60 = dktX0_count_3 := dk_seg dksX0_count_2 24 rfl rfl
theorem dX0_count_0 : decode cX0_count 0 = .ok (.iload_n 1, 1) := dk_27 (dk_at dksX0_count_0 0 rfl rfl)
theorem dX0_count_1 : decode cX0_count 1 = .ok (.tableswitch 60 0 4 #[35, 40, 45, 50, 55], 35) := by decide +kernel
theorem dX0_count_36 : decode cX0_count 36 = .ok (.aload_n 0, 1) := dk_42 (dk_at dksX0_count_2 0 rfl rfl)
theorem dX0_count_37 : decode cX0_count 37 = .ok (.getfield 93, 3) := dk_180 0 93 (dk_at dksX0_count_2 1 rfl rfl)
theorem dX0_count_40 : decode cX0_count 40 = .ok (.ireturn, 1) := dk_172 (dk_at dksX0_count_2 4 rfl rfl)
theorem dX0_count_41 : decode cX0_count 41 = .ok (.aload_n 0, 1) := dk_42 (dk_at dksX0_count_2 5 rfl rfl)
theorem dX0_count_42 : decode cX0_count 42 = .ok (.getfield 192, 3) := dk_180 0 192 (dk_at dksX0_count_2 6 rfl rfl)
theorem dX0_count_45 : decode cX0_count 45 = .ok (.ireturn, 1) := dk_172 (dk_at dksX0_count_2 9 rfl rfl)
theorem dX0_count_46 : decode cX0_count 46 = .ok (.aload_n 0, 1) := dk_42 (dk_at dksX0_count_2 10 rfl rfl)
theorem dX0_count_47 : decode cX0_count 47 = .ok (.getfield 151, 3) := dk_180 0 151 (dk_at dksX0_count_2 11 rfl rfl)
theorem dX0_count_50 : decode cX0_count 50 = .ok (.ireturn, 1) := dk_172 (dk_at dksX0_count_2 14 rfl rfl)
theorem dX0_count_51 : decode cX0_count 51 = .ok (.aload_n 0, 1) := dk_42 (dk_at dksX0_count_2 15 rfl rfl)
theorem dX0_count_52 : decode cX0_count 52 = .ok (.getfield 452, 3) := dk_180 1 196 (dk_at dksX0_count_2 16 rfl rfl)
theorem dX0_count_55 : decode cX0_count 55 = .ok (.ireturn, 1) := dk_172 (dk_at dksX0_count_2 19 rfl rfl)
theorem dX0_count_56 : decode cX0_count 56 = .ok (.aload_n 0, 1) := dk_42 (dk_at dksX0_count_2 20 rfl rfl)
theorem dX0_count_57 : decode cX0_count 57 = .ok (.getfield 449, 3) := dk_180 1 193 (dk_at dksX0_count_2 21 rfl rfl)
theorem dX0_count_60 : decode cX0_count 60 = .ok (.ireturn, 1) := dk_172 (dk_at dksX0_count_3 0 rfl rfl)
theorem dX0_count_61 : decode cX0_count 61 = .ok (.iconst (-1), 1) := dk_2 (dk_at dksX0_count_3 1 rfl rfl)
theorem dX0_count_62 : decode cX0_count 62 = .ok (.ireturn, 1) := dk_172 (dk_at dksX0_count_3 2 rfl rfl)
theorem q113 : (Jvm.Cond.initialized "NineKeysRound") ∈ lw_all := lw_g (lw_at lw_m1 1 rfl) rfl
theorem q158 : (Jvm.Cond.instantiable "NineKeysRound" (49 : Nat)) ∈ lw_all := lw_g (lw_at lw_m1 46 rfl) rfl
theorem q160 : (Jvm.Cond.instanceMethod ({ cls := "NineKeysRound", name := "<init>", desc := "()V" } : Jvm.MethodName)) ∈ lw_all := lw_g (lw_at lw_m1 48 rfl) rfl
theorem q161 : (Jvm.Cond.code ({ cls := "NineKeysRound", name := "<init>", desc := "()V" } : Jvm.MethodName) prog_1_method_1_code (1 : Nat) (Option.none : Option Jvm.ClassFile.FieldType)) ∈ lw_all := lw_g (lw_at lw_m1 49 rfl) rfl
theorem q162 : (Jvm.Cond.methodLink "NineKeysRound" (1 : Nat) ({ cls := "java/lang/Object", name := "<init>", desc := "()V" } : Jvm.MethodName)) ∈ lw_all := lw_g (lw_at lw_m1 50 rfl) rfl
theorem q165 : (Jvm.Cond.classLink "NineKeysRound" (9 : Nat) "NineKeysRound$Post") ∈ lw_all := lw_g (lw_at lw_m1 53 rfl) rfl
theorem q167 : (Jvm.Cond.classLink "NineKeysRound" (22 : Nat) "NineKeysRound$Change") ∈ lw_all := lw_g (lw_at lw_m1 55 rfl) rfl
theorem q169 : (Jvm.Cond.classLink "NineKeysRound" (32 : Nat) "NineKeysRound$Facts") ∈ lw_all := lw_g (lw_at lw_m1 57 rfl) rfl
theorem q171 : (Jvm.Cond.methodLinkNest "NineKeysRound" (34 : Nat) ({ cls := "NineKeysRound$Facts", name := "<init>", desc := "()V" } : Jvm.MethodName) "NineKeysRound") ∈ lw_tbl := lw_at lw_m1 59 rfl
theorem q177 : (Jvm.Cond.fieldLinkNest "NineKeysRound" (282 : Nat) "NineKeysRound$Facts" "named" "[I" "NineKeysRound") ∈ lw_tbl := lw_at lw_m1 65 rfl
theorem q183 : (Jvm.Cond.classLink "NineKeysRound" (77 : Nat) "NineKeysRound$Key") ∈ lw_all := lw_g (lw_at lw_m1 71 rfl) rfl
theorem q185 : (Jvm.Cond.classLink "NineKeysRound" (83 : Nat) "NineKeysRound$Held") ∈ lw_all := lw_g (lw_at lw_m1 73 rfl) rfl
theorem q187 : (Jvm.Cond.fieldLink "NineKeysRound" (11 : Nat) "NineKeysRound" "posts" "[LNineKeysRound$Post;") ∈ lw_all := lw_g (lw_at lw_m1 75 rfl) rfl
theorem q188 : (Jvm.Cond.fieldLink "NineKeysRound" (93 : Nat) "NineKeysRound" "many" "I") ∈ lw_all := lw_g (lw_at lw_m1 76 rfl) rfl
theorem q189 : (Jvm.Cond.fieldLink "NineKeysRound" (100 : Nat) "NineKeysRound" "gateX" "I") ∈ lw_all := lw_g (lw_at lw_m1 77 rfl) rfl
theorem q190 : (Jvm.Cond.fieldLink "NineKeysRound" (103 : Nat) "NineKeysRound" "gateY" "I") ∈ lw_all := lw_g (lw_at lw_m1 78 rfl) rfl
theorem q191 : (Jvm.Cond.fieldLink "NineKeysRound" (15 : Nat) "NineKeysRound" "pace" "I") ∈ lw_all := lw_g (lw_at lw_m1 79 rfl) rfl
theorem q192 : (Jvm.Cond.fieldLink "NineKeysRound" (19 : Nat) "NineKeysRound" "stand" "I") ∈ lw_all := lw_g (lw_at lw_m1 80 rfl) rfl
theorem q193 : (Jvm.Cond.fieldLink "NineKeysRound" (24 : Nat) "NineKeysRound" "changes" "[LNineKeysRound$Change;") ∈ lw_all := lw_g (lw_at lw_m1 81 rfl) rfl
theorem q194 : (Jvm.Cond.fieldLink "NineKeysRound" (151 : Nat) "NineKeysRound" "doneMany" "I") ∈ lw_all := lw_g (lw_at lw_m1 82 rfl) rfl
theorem q195 : (Jvm.Cond.fieldLink "NineKeysRound" (148 : Nat) "NineKeysRound" "undoneMany" "I") ∈ lw_all := lw_g (lw_at lw_m1 83 rfl) rfl
theorem q196 : (Jvm.Cond.fieldLink "NineKeysRound" (28 : Nat) "NineKeysRound" "tape" "[B") ∈ lw_all := lw_g (lw_at lw_m1 84 rfl) rfl
theorem q199 : (Jvm.Cond.fieldLink "NineKeysRound" (192 : Nat) "NineKeysRound" "taped" "I") ∈ lw_all := lw_g (lw_at lw_m1 87 rfl) rfl
theorem q200 : (Jvm.Cond.fieldLink "NineKeysRound" (207 : Nat) "NineKeysRound" "law" "LNineKeysRound$Line;") ∈ lw_all := lw_g (lw_at lw_m1 88 rfl) rfl
theorem q201 : (Jvm.Cond.fieldLink "NineKeysRound" (35 : Nat) "NineKeysRound" "facts" "LNineKeysRound$Facts;") ∈ lw_all := lw_g (lw_at lw_m1 89 rfl) rfl
theorem q202 : (Jvm.Cond.fieldLink "NineKeysRound" (39 : Nat) "NineKeysRound" "goes" "[I") ∈ lw_all := lw_g (lw_at lw_m1 90 rfl) rfl
theorem q203 : (Jvm.Cond.fieldLink "NineKeysRound" (43 : Nat) "NineKeysRound" "dentPost" "[I") ∈ lw_all := lw_g (lw_at lw_m1 91 rfl) rfl
theorem q204 : (Jvm.Cond.fieldLink "NineKeysRound" (46 : Nat) "NineKeysRound" "dentAt" "[I") ∈ lw_all := lw_g (lw_at lw_m1 92 rfl) rfl
theorem q205 : (Jvm.Cond.fieldLink "NineKeysRound" (228 : Nat) "NineKeysRound" "long0" "I") ∈ lw_all := lw_g (lw_at lw_m1 93 rfl) rfl
theorem q206 : (Jvm.Cond.fieldLink "NineKeysRound" (235 : Nat) "NineKeysRound" "dentMany" "I") ∈ lw_all := lw_g (lw_at lw_m1 94 rfl) rfl
theorem q207 : (Jvm.Cond.fieldLink "NineKeysRound" (49 : Nat) "NineKeysRound" "order" "[I") ∈ lw_all := lw_g (lw_at lw_m1 95 rfl) rfl
theorem q208 : (Jvm.Cond.fieldLink "NineKeysRound" (52 : Nat) "NineKeysRound" "bestOrder" "[I") ∈ lw_all := lw_g (lw_at lw_m1 96 rfl) rfl
theorem q209 : (Jvm.Cond.fieldLink "NineKeysRound" (303 : Nat) "NineKeysRound" "bestMinutes" "I") ∈ lw_all := lw_g (lw_at lw_m1 97 rfl) rfl
theorem q210 : (Jvm.Cond.fieldLink "NineKeysRound" (55 : Nat) "NineKeysRound" "mine" "[I") ∈ lw_all := lw_g (lw_at lw_m1 98 rfl) rfl
theorem q211 : (Jvm.Cond.fieldLink "NineKeysRound" (329 : Nat) "NineKeysRound" "mineMany" "I") ∈ lw_all := lw_g (lw_at lw_m1 99 rfl) rfl
theorem q212 : (Jvm.Cond.fieldLink "NineKeysRound" (58 : Nat) "NineKeysRound" "seenForth" "[Z") ∈ lw_all := lw_g (lw_at lw_m1 100 rfl) rfl
theorem q213 : (Jvm.Cond.fieldLink "NineKeysRound" (62 : Nat) "NineKeysRound" "seenBack" "[Z") ∈ lw_all := lw_g (lw_at lw_m1 101 rfl) rfl
theorem q214 : (Jvm.Cond.fieldLink "NineKeysRound" (65 : Nat) "NineKeysRound" "told" "[I") ∈ lw_all := lw_g (lw_at lw_m1 102 rfl) rfl
theorem q215 : (Jvm.Cond.fieldLink "NineKeysRound" (362 : Nat) "NineKeysRound" "toldMany" "I") ∈ lw_all := lw_g (lw_at lw_m1 103 rfl) rfl
theorem q216 : (Jvm.Cond.fieldLink "NineKeysRound" (390 : Nat) "NineKeysRound" "fitMany" "I") ∈ lw_all := lw_g (lw_at lw_m1 104 rfl) rfl
theorem q217 : (Jvm.Cond.fieldLink "NineKeysRound" (402 : Nat) "NineKeysRound" "atPost" "I") ∈ lw_all := lw_g (lw_at lw_m1 105 rfl) rfl
theorem q218 : (Jvm.Cond.fieldLink "NineKeysRound" (68 : Nat) "NineKeysRound" "isAt" "I") ∈ lw_all := lw_g (lw_at lw_m1 106 rfl) rfl
theorem q219 : (Jvm.Cond.fieldLink "NineKeysRound" (409 : Nat) "NineKeysRound" "now" "I") ∈ lw_all := lw_g (lw_at lw_m1 107 rfl) rfl
theorem q220 : (Jvm.Cond.fieldLink "NineKeysRound" (412 : Nat) "NineKeysRound" "ledWalked" "I") ∈ lw_all := lw_g (lw_at lw_m1 108 rfl) rfl
theorem q221 : (Jvm.Cond.fieldLink "NineKeysRound" (415 : Nat) "NineKeysRound" "ledDents" "I") ∈ lw_all := lw_g (lw_at lw_m1 109 rfl) rfl
theorem q222 : (Jvm.Cond.fieldLink "NineKeysRound" (418 : Nat) "NineKeysRound" "ledStood" "I") ∈ lw_all := lw_g (lw_at lw_m1 110 rfl) rfl
theorem q223 : (Jvm.Cond.fieldLink "NineKeysRound" (421 : Nat) "NineKeysRound" "ledWaited" "I") ∈ lw_all := lw_g (lw_at lw_m1 111 rfl) rfl
theorem q224 : (Jvm.Cond.fieldLink "NineKeysRound" (424 : Nat) "NineKeysRound" "hasImage" "Z") ∈ lw_all := lw_g (lw_at lw_m1 112 rfl) rfl
theorem q225 : (Jvm.Cond.fieldLink "NineKeysRound" (71 : Nat) "NineKeysRound" "keptDents" "[I") ∈ lw_all := lw_g (lw_at lw_m1 113 rfl) rfl
theorem q226 : (Jvm.Cond.fieldLink "NineKeysRound" (428 : Nat) "NineKeysRound" "keptMany" "I") ∈ lw_all := lw_g (lw_at lw_m1 114 rfl) rfl
theorem q227 : (Jvm.Cond.fieldLink "NineKeysRound" (431 : Nat) "NineKeysRound" "keptAt" "I") ∈ lw_all := lw_g (lw_at lw_m1 115 rfl) rfl
theorem q228 : (Jvm.Cond.fieldLink "NineKeysRound" (434 : Nat) "NineKeysRound" "keptNow" "I") ∈ lw_all := lw_g (lw_at lw_m1 116 rfl) rfl
theorem q229 : (Jvm.Cond.fieldLink "NineKeysRound" (437 : Nat) "NineKeysRound" "keptWalked" "I") ∈ lw_all := lw_g (lw_at lw_m1 117 rfl) rfl
theorem q230 : (Jvm.Cond.fieldLink "NineKeysRound" (440 : Nat) "NineKeysRound" "keptLed" "I") ∈ lw_all := lw_g (lw_at lw_m1 118 rfl) rfl
theorem q231 : (Jvm.Cond.fieldLink "NineKeysRound" (443 : Nat) "NineKeysRound" "keptStood" "I") ∈ lw_all := lw_g (lw_at lw_m1 119 rfl) rfl
theorem q232 : (Jvm.Cond.fieldLink "NineKeysRound" (446 : Nat) "NineKeysRound" "keptWaited" "I") ∈ lw_all := lw_g (lw_at lw_m1 120 rfl) rfl
theorem q233 : (Jvm.Cond.fieldLink "NineKeysRound" (449 : Nat) "NineKeysRound" "traces" "I") ∈ lw_all := lw_g (lw_at lw_m1 121 rfl) rfl
theorem q234 : (Jvm.Cond.fieldLink "NineKeysRound" (74 : Nat) "NineKeysRound" "traced" "[B") ∈ lw_all := lw_g (lw_at lw_m1 122 rfl) rfl
theorem q235 : (Jvm.Cond.fieldLink "NineKeysRound" (79 : Nat) "NineKeysRound" "bodies" "[LNineKeysRound$Key;") ∈ lw_all := lw_g (lw_at lw_m1 123 rfl) rfl
theorem q236 : (Jvm.Cond.fieldLink "NineKeysRound" (452 : Nat) "NineKeysRound" "bodyMany" "I") ∈ lw_all := lw_g (lw_at lw_m1 124 rfl) rfl
theorem q237 : (Jvm.Cond.fieldLink "NineKeysRound" (85 : Nat) "NineKeysRound" "shelves" "[LNineKeysRound$Held;") ∈ lw_all := lw_g (lw_at lw_m1 125 rfl) rfl
theorem q238 : (Jvm.Cond.laysFinal "NineKeysRound" "NineKeysRound" "posts" "[LNineKeysRound$Post;") ∈ lw_all := lw_g (lw_at lw_m1 126 rfl) rfl
theorem q239 : (Jvm.Cond.soleField "NineKeysRound" "posts") ∈ lw_all := lw_g (lw_at lw_m1 127 rfl) rfl
theorem q240 : (Jvm.Cond.lays "NineKeysRound" "NineKeysRound" "many" "I") ∈ lw_all := lw_g (lw_at lw_m1 128 rfl) rfl
theorem q241 : (Jvm.Cond.soleField "NineKeysRound" "many") ∈ lw_all := lw_g (lw_at lw_m1 129 rfl) rfl
theorem q242 : (Jvm.Cond.lays "NineKeysRound" "NineKeysRound" "gateX" "I") ∈ lw_all := lw_g (lw_at lw_m1 130 rfl) rfl
theorem q243 : (Jvm.Cond.soleField "NineKeysRound" "gateX") ∈ lw_all := lw_g (lw_at lw_m1 131 rfl) rfl
theorem q244 : (Jvm.Cond.lays "NineKeysRound" "NineKeysRound" "gateY" "I") ∈ lw_all := lw_g (lw_at lw_m1 132 rfl) rfl
theorem q245 : (Jvm.Cond.soleField "NineKeysRound" "gateY") ∈ lw_all := lw_g (lw_at lw_m1 133 rfl) rfl
theorem q246 : (Jvm.Cond.lays "NineKeysRound" "NineKeysRound" "pace" "I") ∈ lw_all := lw_g (lw_at lw_m1 134 rfl) rfl
theorem q247 : (Jvm.Cond.soleField "NineKeysRound" "pace") ∈ lw_all := lw_g (lw_at lw_m1 135 rfl) rfl
theorem q248 : (Jvm.Cond.lays "NineKeysRound" "NineKeysRound" "stand" "I") ∈ lw_all := lw_g (lw_at lw_m1 136 rfl) rfl
theorem q249 : (Jvm.Cond.soleField "NineKeysRound" "stand") ∈ lw_all := lw_g (lw_at lw_m1 137 rfl) rfl
theorem q250 : (Jvm.Cond.laysFinal "NineKeysRound" "NineKeysRound" "changes" "[LNineKeysRound$Change;") ∈ lw_all := lw_g (lw_at lw_m1 138 rfl) rfl
theorem q251 : (Jvm.Cond.soleField "NineKeysRound" "changes") ∈ lw_all := lw_g (lw_at lw_m1 139 rfl) rfl
theorem q252 : (Jvm.Cond.lays "NineKeysRound" "NineKeysRound" "doneMany" "I") ∈ lw_all := lw_g (lw_at lw_m1 140 rfl) rfl
theorem q253 : (Jvm.Cond.soleField "NineKeysRound" "doneMany") ∈ lw_all := lw_g (lw_at lw_m1 141 rfl) rfl
theorem q254 : (Jvm.Cond.lays "NineKeysRound" "NineKeysRound" "undoneMany" "I") ∈ lw_all := lw_g (lw_at lw_m1 142 rfl) rfl
theorem q255 : (Jvm.Cond.soleField "NineKeysRound" "undoneMany") ∈ lw_all := lw_g (lw_at lw_m1 143 rfl) rfl
theorem q256 : (Jvm.Cond.laysFinal "NineKeysRound" "NineKeysRound" "tape" "[B") ∈ lw_all := lw_g (lw_at lw_m1 144 rfl) rfl
theorem q257 : (Jvm.Cond.soleField "NineKeysRound" "tape") ∈ lw_all := lw_g (lw_at lw_m1 145 rfl) rfl
theorem q258 : (Jvm.Cond.lays "NineKeysRound" "NineKeysRound" "taped" "I") ∈ lw_all := lw_g (lw_at lw_m1 146 rfl) rfl
theorem q259 : (Jvm.Cond.soleField "NineKeysRound" "taped") ∈ lw_all := lw_g (lw_at lw_m1 147 rfl) rfl
theorem q260 : (Jvm.Cond.lays "NineKeysRound" "NineKeysRound" "law" "LNineKeysRound$Line;") ∈ lw_all := lw_g (lw_at lw_m1 148 rfl) rfl
theorem q261 : (Jvm.Cond.soleField "NineKeysRound" "law") ∈ lw_all := lw_g (lw_at lw_m1 149 rfl) rfl
theorem q262 : (Jvm.Cond.laysFinal "NineKeysRound" "NineKeysRound" "facts" "LNineKeysRound$Facts;") ∈ lw_all := lw_g (lw_at lw_m1 150 rfl) rfl
theorem q263 : (Jvm.Cond.soleField "NineKeysRound" "facts") ∈ lw_all := lw_g (lw_at lw_m1 151 rfl) rfl
theorem q264 : (Jvm.Cond.laysFinal "NineKeysRound" "NineKeysRound" "goes" "[I") ∈ lw_all := lw_g (lw_at lw_m1 152 rfl) rfl
theorem q265 : (Jvm.Cond.soleField "NineKeysRound" "goes") ∈ lw_all := lw_g (lw_at lw_m1 153 rfl) rfl
theorem q266 : (Jvm.Cond.laysFinal "NineKeysRound" "NineKeysRound" "dentPost" "[I") ∈ lw_all := lw_g (lw_at lw_m1 154 rfl) rfl
theorem q267 : (Jvm.Cond.soleField "NineKeysRound" "dentPost") ∈ lw_all := lw_g (lw_at lw_m1 155 rfl) rfl
theorem q268 : (Jvm.Cond.laysFinal "NineKeysRound" "NineKeysRound" "dentAt" "[I") ∈ lw_all := lw_g (lw_at lw_m1 156 rfl) rfl
theorem q269 : (Jvm.Cond.soleField "NineKeysRound" "dentAt") ∈ lw_all := lw_g (lw_at lw_m1 157 rfl) rfl
theorem q270 : (Jvm.Cond.lays "NineKeysRound" "NineKeysRound" "long0" "I") ∈ lw_all := lw_g (lw_at lw_m1 158 rfl) rfl
theorem q271 : (Jvm.Cond.soleField "NineKeysRound" "long0") ∈ lw_all := lw_g (lw_at lw_m1 159 rfl) rfl
theorem q272 : (Jvm.Cond.lays "NineKeysRound" "NineKeysRound" "dentMany" "I") ∈ lw_all := lw_g (lw_at lw_m1 160 rfl) rfl
theorem q273 : (Jvm.Cond.soleField "NineKeysRound" "dentMany") ∈ lw_all := lw_g (lw_at lw_m1 161 rfl) rfl
theorem q274 : (Jvm.Cond.laysFinal "NineKeysRound" "NineKeysRound" "order" "[I") ∈ lw_all := lw_g (lw_at lw_m1 162 rfl) rfl
theorem q275 : (Jvm.Cond.soleField "NineKeysRound" "order") ∈ lw_all := lw_g (lw_at lw_m1 163 rfl) rfl
theorem q276 : (Jvm.Cond.laysFinal "NineKeysRound" "NineKeysRound" "bestOrder" "[I") ∈ lw_all := lw_g (lw_at lw_m1 164 rfl) rfl
theorem q277 : (Jvm.Cond.soleField "NineKeysRound" "bestOrder") ∈ lw_all := lw_g (lw_at lw_m1 165 rfl) rfl
theorem q278 : (Jvm.Cond.lays "NineKeysRound" "NineKeysRound" "bestMinutes" "I") ∈ lw_all := lw_g (lw_at lw_m1 166 rfl) rfl
theorem q279 : (Jvm.Cond.soleField "NineKeysRound" "bestMinutes") ∈ lw_all := lw_g (lw_at lw_m1 167 rfl) rfl
theorem q280 : (Jvm.Cond.laysFinal "NineKeysRound" "NineKeysRound" "mine" "[I") ∈ lw_all := lw_g (lw_at lw_m1 168 rfl) rfl
theorem q281 : (Jvm.Cond.soleField "NineKeysRound" "mine") ∈ lw_all := lw_g (lw_at lw_m1 169 rfl) rfl
theorem q282 : (Jvm.Cond.lays "NineKeysRound" "NineKeysRound" "mineMany" "I") ∈ lw_all := lw_g (lw_at lw_m1 170 rfl) rfl
theorem q283 : (Jvm.Cond.soleField "NineKeysRound" "mineMany") ∈ lw_all := lw_g (lw_at lw_m1 171 rfl) rfl
theorem q284 : (Jvm.Cond.laysFinal "NineKeysRound" "NineKeysRound" "seenForth" "[Z") ∈ lw_all := lw_g (lw_at lw_m1 172 rfl) rfl
theorem q285 : (Jvm.Cond.soleField "NineKeysRound" "seenForth") ∈ lw_all := lw_g (lw_at lw_m1 173 rfl) rfl
theorem q286 : (Jvm.Cond.laysFinal "NineKeysRound" "NineKeysRound" "seenBack" "[Z") ∈ lw_all := lw_g (lw_at lw_m1 174 rfl) rfl
theorem q287 : (Jvm.Cond.soleField "NineKeysRound" "seenBack") ∈ lw_all := lw_g (lw_at lw_m1 175 rfl) rfl
theorem q288 : (Jvm.Cond.laysFinal "NineKeysRound" "NineKeysRound" "told" "[I") ∈ lw_all := lw_g (lw_at lw_m1 176 rfl) rfl
theorem q289 : (Jvm.Cond.soleField "NineKeysRound" "told") ∈ lw_all := lw_g (lw_at lw_m1 177 rfl) rfl
theorem q290 : (Jvm.Cond.lays "NineKeysRound" "NineKeysRound" "toldMany" "I") ∈ lw_all := lw_g (lw_at lw_m1 178 rfl) rfl
theorem q291 : (Jvm.Cond.soleField "NineKeysRound" "toldMany") ∈ lw_all := lw_g (lw_at lw_m1 179 rfl) rfl
theorem q292 : (Jvm.Cond.lays "NineKeysRound" "NineKeysRound" "fitMany" "I") ∈ lw_all := lw_g (lw_at lw_m1 180 rfl) rfl
theorem q293 : (Jvm.Cond.soleField "NineKeysRound" "fitMany") ∈ lw_all := lw_g (lw_at lw_m1 181 rfl) rfl
theorem q294 : (Jvm.Cond.lays "NineKeysRound" "NineKeysRound" "atPost" "I") ∈ lw_all := lw_g (lw_at lw_m1 182 rfl) rfl
theorem q295 : (Jvm.Cond.soleField "NineKeysRound" "atPost") ∈ lw_all := lw_g (lw_at lw_m1 183 rfl) rfl
theorem q296 : (Jvm.Cond.lays "NineKeysRound" "NineKeysRound" "isAt" "I") ∈ lw_all := lw_g (lw_at lw_m1 184 rfl) rfl
theorem q297 : (Jvm.Cond.soleField "NineKeysRound" "isAt") ∈ lw_all := lw_g (lw_at lw_m1 185 rfl) rfl
theorem q298 : (Jvm.Cond.lays "NineKeysRound" "NineKeysRound" "now" "I") ∈ lw_all := lw_g (lw_at lw_m1 186 rfl) rfl
theorem q299 : (Jvm.Cond.soleField "NineKeysRound" "now") ∈ lw_all := lw_g (lw_at lw_m1 187 rfl) rfl
theorem q300 : (Jvm.Cond.lays "NineKeysRound" "NineKeysRound" "ledWalked" "I") ∈ lw_all := lw_g (lw_at lw_m1 188 rfl) rfl
theorem q301 : (Jvm.Cond.soleField "NineKeysRound" "ledWalked") ∈ lw_all := lw_g (lw_at lw_m1 189 rfl) rfl
theorem q302 : (Jvm.Cond.lays "NineKeysRound" "NineKeysRound" "ledDents" "I") ∈ lw_all := lw_g (lw_at lw_m1 190 rfl) rfl
theorem q303 : (Jvm.Cond.soleField "NineKeysRound" "ledDents") ∈ lw_all := lw_g (lw_at lw_m1 191 rfl) rfl
theorem q304 : (Jvm.Cond.lays "NineKeysRound" "NineKeysRound" "ledStood" "I") ∈ lw_all := lw_g (lw_at lw_m1 192 rfl) rfl
theorem q305 : (Jvm.Cond.soleField "NineKeysRound" "ledStood") ∈ lw_all := lw_g (lw_at lw_m1 193 rfl) rfl
theorem q306 : (Jvm.Cond.lays "NineKeysRound" "NineKeysRound" "ledWaited" "I") ∈ lw_all := lw_g (lw_at lw_m1 194 rfl) rfl
theorem q307 : (Jvm.Cond.soleField "NineKeysRound" "ledWaited") ∈ lw_all := lw_g (lw_at lw_m1 195 rfl) rfl
theorem q308 : (Jvm.Cond.lays "NineKeysRound" "NineKeysRound" "hasImage" "Z") ∈ lw_all := lw_g (lw_at lw_m1 196 rfl) rfl
theorem q309 : (Jvm.Cond.soleField "NineKeysRound" "hasImage") ∈ lw_all := lw_g (lw_at lw_m1 197 rfl) rfl
theorem q310 : (Jvm.Cond.laysFinal "NineKeysRound" "NineKeysRound" "keptDents" "[I") ∈ lw_all := lw_g (lw_at lw_m1 198 rfl) rfl
theorem q311 : (Jvm.Cond.soleField "NineKeysRound" "keptDents") ∈ lw_all := lw_g (lw_at lw_m1 199 rfl) rfl
theorem q312 : (Jvm.Cond.lays "NineKeysRound" "NineKeysRound" "keptMany" "I") ∈ lw_all := lw_g (lw_at lw_m1 200 rfl) rfl
theorem q313 : (Jvm.Cond.soleField "NineKeysRound" "keptMany") ∈ lw_all := lw_g (lw_at lw_m1 201 rfl) rfl
theorem q314 : (Jvm.Cond.lays "NineKeysRound" "NineKeysRound" "keptAt" "I") ∈ lw_all := lw_g (lw_at lw_m1 202 rfl) rfl
theorem q315 : (Jvm.Cond.soleField "NineKeysRound" "keptAt") ∈ lw_all := lw_g (lw_at lw_m1 203 rfl) rfl
theorem q316 : (Jvm.Cond.lays "NineKeysRound" "NineKeysRound" "keptNow" "I") ∈ lw_all := lw_g (lw_at lw_m1 204 rfl) rfl
theorem q317 : (Jvm.Cond.soleField "NineKeysRound" "keptNow") ∈ lw_all := lw_g (lw_at lw_m1 205 rfl) rfl
theorem q318 : (Jvm.Cond.lays "NineKeysRound" "NineKeysRound" "keptWalked" "I") ∈ lw_all := lw_g (lw_at lw_m1 206 rfl) rfl
theorem q319 : (Jvm.Cond.soleField "NineKeysRound" "keptWalked") ∈ lw_all := lw_g (lw_at lw_m1 207 rfl) rfl
theorem q320 : (Jvm.Cond.lays "NineKeysRound" "NineKeysRound" "keptLed" "I") ∈ lw_all := lw_g (lw_at lw_m1 208 rfl) rfl
theorem q321 : (Jvm.Cond.soleField "NineKeysRound" "keptLed") ∈ lw_all := lw_g (lw_at lw_m1 209 rfl) rfl
theorem q322 : (Jvm.Cond.lays "NineKeysRound" "NineKeysRound" "keptStood" "I") ∈ lw_all := lw_g (lw_at lw_m1 210 rfl) rfl
theorem q323 : (Jvm.Cond.soleField "NineKeysRound" "keptStood") ∈ lw_all := lw_g (lw_at lw_m1 211 rfl) rfl
theorem q324 : (Jvm.Cond.lays "NineKeysRound" "NineKeysRound" "keptWaited" "I") ∈ lw_all := lw_g (lw_at lw_m1 212 rfl) rfl
theorem q325 : (Jvm.Cond.soleField "NineKeysRound" "keptWaited") ∈ lw_all := lw_g (lw_at lw_m1 213 rfl) rfl
theorem q326 : (Jvm.Cond.lays "NineKeysRound" "NineKeysRound" "traces" "I") ∈ lw_all := lw_g (lw_at lw_m1 214 rfl) rfl
theorem q327 : (Jvm.Cond.soleField "NineKeysRound" "traces") ∈ lw_all := lw_g (lw_at lw_m1 215 rfl) rfl
theorem q328 : (Jvm.Cond.laysFinal "NineKeysRound" "NineKeysRound" "traced" "[B") ∈ lw_all := lw_g (lw_at lw_m1 216 rfl) rfl
theorem q329 : (Jvm.Cond.soleField "NineKeysRound" "traced") ∈ lw_all := lw_g (lw_at lw_m1 217 rfl) rfl
theorem q330 : (Jvm.Cond.laysFinal "NineKeysRound" "NineKeysRound" "bodies" "[LNineKeysRound$Key;") ∈ lw_all := lw_g (lw_at lw_m1 218 rfl) rfl
theorem q331 : (Jvm.Cond.soleField "NineKeysRound" "bodies") ∈ lw_all := lw_g (lw_at lw_m1 219 rfl) rfl
theorem q332 : (Jvm.Cond.lays "NineKeysRound" "NineKeysRound" "bodyMany" "I") ∈ lw_all := lw_g (lw_at lw_m1 220 rfl) rfl
theorem q333 : (Jvm.Cond.soleField "NineKeysRound" "bodyMany") ∈ lw_all := lw_g (lw_at lw_m1 221 rfl) rfl
theorem q334 : (Jvm.Cond.laysFinal "NineKeysRound" "NineKeysRound" "shelves" "[LNineKeysRound$Held;") ∈ lw_all := lw_g (lw_at lw_m1 222 rfl) rfl
theorem q335 : (Jvm.Cond.soleField "NineKeysRound" "shelves") ∈ lw_all := lw_g (lw_at lw_m1 223 rfl) rfl
theorem q336 : (Jvm.Cond.superclass "NineKeysRound" "java/lang/Object") ∈ lw_all := lw_g (lw_at lw_m1 224 rfl) rfl
theorem q339 : (Jvm.Cond.instanceMethod ({ cls := "NineKeysRound", name := "post", desc := "(I)I" } : Jvm.MethodName)) ∈ lw_all := lw_g (lw_at lw_m1 227 rfl) rfl
theorem q340 : (Jvm.Cond.selects "NineKeysRound" ({ cls := "NineKeysRound", name := "post", desc := "(I)I" } : Jvm.MethodName) ({ cls := "NineKeysRound", name := "post", desc := "(I)I" } : Jvm.MethodName)) ∈ lw_all := lw_g (lw_at lw_m1 228 rfl) rfl
theorem q341 : (Jvm.Cond.code ({ cls := "NineKeysRound", name := "post", desc := "(I)I" } : Jvm.MethodName) prog_1_method_11_code (2 : Nat) (Option.some Jvm.ClassFile.FieldType.int)) ∈ lw_all := lw_g (lw_at lw_m1 229 rfl) rfl
theorem q342 : (Jvm.Cond.methodLink "NineKeysRound" (113 : Nat) ({ cls := "NineKeysRound", name := "isCell", desc := "(I)Z" } : Jvm.MethodName)) ∈ lw_all := lw_g (lw_at lw_m1 230 rfl) rfl
theorem q343 : (Jvm.Cond.static ({ cls := "NineKeysRound", name := "isCell", desc := "(I)Z" } : Jvm.MethodName)) ∈ lw_all := lw_g (lw_at lw_m1 231 rfl) rfl
theorem q344 : (Jvm.Cond.code ({ cls := "NineKeysRound", name := "isCell", desc := "(I)Z" } : Jvm.MethodName) prog_1_method_4_code (1 : Nat) (Option.some Jvm.ClassFile.FieldType.boolean)) ∈ lw_all := lw_g (lw_at lw_m1 232 rfl) rfl
theorem q345 : (Jvm.Cond.methodLink "NineKeysRound" (89 : Nat) ({ cls := "NineKeysRound", name := "in", desc := "(III)Z" } : Jvm.MethodName)) ∈ lw_all := lw_g (lw_at lw_m1 233 rfl) rfl
theorem q346 : (Jvm.Cond.static ({ cls := "NineKeysRound", name := "in", desc := "(III)Z" } : Jvm.MethodName)) ∈ lw_all := lw_g (lw_at lw_m1 234 rfl) rfl
theorem q347 : (Jvm.Cond.code ({ cls := "NineKeysRound", name := "in", desc := "(III)Z" } : Jvm.MethodName) prog_1_method_2_code (3 : Nat) (Option.some Jvm.ClassFile.FieldType.boolean)) ∈ lw_all := lw_g (lw_at lw_m1 235 rfl) rfl
theorem q348 : (Jvm.Cond.methodLink "NineKeysRound" (117 : Nat) ({ cls := "NineKeysRound", name := "addPost", desc := "(II)LNineKeysRound$Post;" } : Jvm.MethodName)) ∈ lw_all := lw_g (lw_at lw_m1 236 rfl) rfl
theorem q349 : (Jvm.Cond.privateMethod ({ cls := "NineKeysRound", name := "addPost", desc := "(II)LNineKeysRound$Post;" } : Jvm.MethodName)) ∈ lw_tbl := lw_at lw_m1 237 rfl
theorem q350 : (Jvm.Cond.instanceMethod ({ cls := "NineKeysRound", name := "addPost", desc := "(II)LNineKeysRound$Post;" } : Jvm.MethodName)) ∈ lw_all := lw_g (lw_at lw_m1 238 rfl) rfl
theorem q351 : (Jvm.Cond.code ({ cls := "NineKeysRound", name := "addPost", desc := "(II)LNineKeysRound$Post;" } : Jvm.MethodName) prog_1_method_10_code (3 : Nat) (Option.some (Jvm.ClassFile.FieldType.object "NineKeysRound$Post"))) ∈ lw_all := lw_g (lw_at lw_m1 239 rfl) rfl
theorem q353 : (Jvm.Cond.methodLink "NineKeysRound" (110 : Nat) ({ cls := "NineKeysRound$Post", name := "<init>", desc := "(II)V" } : Jvm.MethodName)) ∈ lw_all := lw_g (lw_at lw_m2 1 rfl) rfl
theorem q358 : (Jvm.Cond.fieldLinkNest "NineKeysRound" (139 : Nat) "NineKeysRound$Post" "x" "I" "NineKeysRound") ∈ lw_tbl := lw_at lw_m2 6 rfl
theorem q360 : (Jvm.Cond.fieldLinkNest "NineKeysRound" (142 : Nat) "NineKeysRound$Post" "y" "I" "NineKeysRound") ∈ lw_tbl := lw_at lw_m2 8 rfl
theorem q362 : (Jvm.Cond.fieldLinkNest "NineKeysRound" (130 : Nat) "NineKeysRound$Post" "value" "I" "NineKeysRound") ∈ lw_tbl := lw_at lw_m2 10 rfl
theorem q364 : (Jvm.Cond.fieldLinkNest "NineKeysRound" (145 : Nat) "NineKeysRound$Post" "due" "I" "NineKeysRound") ∈ lw_tbl := lw_at lw_m2 12 rfl
theorem q365 : (Jvm.Cond.fieldLinkNest "NineKeysRound" (189 : Nat) "NineKeysRound$Post" "dents" "I" "NineKeysRound") ∈ lw_tbl := lw_at lw_m2 13 rfl
theorem q378 : (Jvm.Cond.instanceMethod ({ cls := "NineKeysRound", name := "posts", desc := "(III)I" } : Jvm.MethodName)) ∈ lw_all := lw_g (lw_at lw_m2 26 rfl) rfl
theorem q379 : (Jvm.Cond.selects "NineKeysRound" ({ cls := "NineKeysRound", name := "posts", desc := "(III)I" } : Jvm.MethodName) ({ cls := "NineKeysRound", name := "posts", desc := "(III)I" } : Jvm.MethodName)) ∈ lw_all := lw_g (lw_at lw_m2 27 rfl) rfl
theorem q380 : (Jvm.Cond.codeWith ({ cls := "NineKeysRound", name := "posts", desc := "(III)I" } : Jvm.MethodName) prog_1_method_12_code (10 : Nat) (Option.some Jvm.ClassFile.FieldType.int) [((22 : Nat), (126 : Nat), (152 : Nat), (133 : Nat)), ((127 : Nat), (149 : Nat), (152 : Nat), (133 : Nat)), ((22 : Nat), (126 : Nat), (157 : Nat), (135 : Nat)), ((127 : Nat), (149 : Nat), (157 : Nat), (135 : Nat)), ((22 : Nat), (126 : Nat), (162 : Nat), (137 : Nat)), ((127 : Nat), (149 : Nat), (162 : Nat), (137 : Nat))]) ∈ lw_all := lw_g (lw_at lw_m2 28 rfl) rfl
theorem q381 : (Jvm.Cond.classLink "NineKeysRound" (133 : Nat) "java/lang/ClassCastException") ∈ lw_all := lw_g (lw_at lw_m2 29 rfl) rfl
theorem q465 : (Jvm.Cond.classLink "NineKeysRound" (135 : Nat) "java/lang/NullPointerException") ∈ lw_all := lw_g (lw_at lw_m2 113 rfl) rfl
theorem q490 : (Jvm.Cond.classLink "NineKeysRound" (137 : Nat) "java/lang/IndexOutOfBoundsException") ∈ lw_all := lw_g (lw_at lw_m2 138 rfl) rfl
theorem q509 : (Jvm.Cond.methodLink "NineKeysRound" (121 : Nat) ({ cls := "NineKeysRound", name := "isShelf", desc := "(I)Z" } : Jvm.MethodName)) ∈ lw_all := lw_g (lw_at lw_m2 157 rfl) rfl
theorem q510 : (Jvm.Cond.static ({ cls := "NineKeysRound", name := "isShelf", desc := "(I)Z" } : Jvm.MethodName)) ∈ lw_all := lw_g (lw_at lw_m2 158 rfl) rfl
theorem q511 : (Jvm.Cond.code ({ cls := "NineKeysRound", name := "isShelf", desc := "(I)Z" } : Jvm.MethodName) prog_1_method_90_code (1 : Nat) (Option.some Jvm.ClassFile.FieldType.boolean)) ∈ lw_all := lw_g (lw_at lw_m2 159 rfl) rfl
theorem q512 : (Jvm.Cond.classLink "NineKeysRound" (124 : Nat) "NineKeysRound$ByteRow") ∈ lw_all := lw_g (lw_at lw_m2 160 rfl) rfl
theorem q513 : (Jvm.Cond.methodLink "NineKeysRound" (126 : Nat) ({ cls := "NineKeysRound$ByteRow", name := "at", desc := "(I)J" } : Jvm.MethodName)) ∈ lw_all := lw_g (lw_at lw_m2 161 rfl) rfl
theorem q518 : (Jvm.Cond.instanceMethod ({ cls := "NineKeysRound", name := "undo", desc := "()I" } : Jvm.MethodName)) ∈ lw_all := lw_g (lw_at lw_m2 166 rfl) rfl
theorem q519 : (Jvm.Cond.selects "NineKeysRound" ({ cls := "NineKeysRound", name := "undo", desc := "()I" } : Jvm.MethodName) ({ cls := "NineKeysRound", name := "undo", desc := "()I" } : Jvm.MethodName)) ∈ lw_all := lw_g (lw_at lw_m2 167 rfl) rfl
theorem q520 : (Jvm.Cond.code ({ cls := "NineKeysRound", name := "undo", desc := "()I" } : Jvm.MethodName) prog_1_method_15_code (1 : Nat) (Option.some Jvm.ClassFile.FieldType.int)) ∈ lw_all := lw_g (lw_at lw_m2 168 rfl) rfl
theorem q521 : (Jvm.Cond.methodLink "NineKeysRound" (157 : Nat) ({ cls := "NineKeysRound", name := "setTo", desc := "(III)V" } : Jvm.MethodName)) ∈ lw_all := lw_g (lw_at lw_m2 169 rfl) rfl
theorem q522 : (Jvm.Cond.privateMethod ({ cls := "NineKeysRound", name := "setTo", desc := "(III)V" } : Jvm.MethodName)) ∈ lw_tbl := lw_at lw_m2 170 rfl
theorem q523 : (Jvm.Cond.instanceMethod ({ cls := "NineKeysRound", name := "setTo", desc := "(III)V" } : Jvm.MethodName)) ∈ lw_all := lw_g (lw_at lw_m2 171 rfl) rfl
theorem q524 : (Jvm.Cond.code ({ cls := "NineKeysRound", name := "setTo", desc := "(III)V" } : Jvm.MethodName) prog_1_method_13_code (4 : Nat) (Option.none : Option Jvm.ClassFile.FieldType)) ∈ lw_all := lw_g (lw_at lw_m2 172 rfl) rfl
theorem q526 : (Jvm.Cond.instanceMethod ({ cls := "NineKeysRound", name := "redo", desc := "()I" } : Jvm.MethodName)) ∈ lw_all := lw_g (lw_at lw_m2 174 rfl) rfl
theorem q527 : (Jvm.Cond.selects "NineKeysRound" ({ cls := "NineKeysRound", name := "redo", desc := "()I" } : Jvm.MethodName) ({ cls := "NineKeysRound", name := "redo", desc := "()I" } : Jvm.MethodName)) ∈ lw_all := lw_g (lw_at lw_m2 175 rfl) rfl
theorem q528 : (Jvm.Cond.code ({ cls := "NineKeysRound", name := "redo", desc := "()I" } : Jvm.MethodName) prog_1_method_16_code (1 : Nat) (Option.some Jvm.ClassFile.FieldType.int)) ∈ lw_all := lw_g (lw_at lw_m2 176 rfl) rfl
theorem q530 : (Jvm.Cond.instanceMethod ({ cls := "NineKeysRound", name := "mend", desc := "(III)I" } : Jvm.MethodName)) ∈ lw_all := lw_g (lw_at lw_m2 178 rfl) rfl
theorem q531 : (Jvm.Cond.selects "NineKeysRound" ({ cls := "NineKeysRound", name := "mend", desc := "(III)I" } : Jvm.MethodName) ({ cls := "NineKeysRound", name := "mend", desc := "(III)I" } : Jvm.MethodName)) ∈ lw_all := lw_g (lw_at lw_m2 179 rfl) rfl
theorem q532 : (Jvm.Cond.code ({ cls := "NineKeysRound", name := "mend", desc := "(III)I" } : Jvm.MethodName) prog_1_method_20_code (4 : Nat) (Option.some Jvm.ClassFile.FieldType.int)) ∈ lw_all := lw_g (lw_at lw_m2 180 rfl) rfl
theorem q533 : (Jvm.Cond.methodLink "NineKeysRound" (175 : Nat) ({ cls := "NineKeysRound", name := "isOf", desc := "(II)Z" } : Jvm.MethodName)) ∈ lw_all := lw_g (lw_at lw_m2 181 rfl) rfl
theorem q534 : (Jvm.Cond.privateMethod ({ cls := "NineKeysRound", name := "isOf", desc := "(II)Z" } : Jvm.MethodName)) ∈ lw_tbl := lw_at lw_m2 182 rfl
theorem q535 : (Jvm.Cond.instanceMethod ({ cls := "NineKeysRound", name := "isOf", desc := "(II)Z" } : Jvm.MethodName)) ∈ lw_all := lw_g (lw_at lw_m2 183 rfl) rfl
theorem q536 : (Jvm.Cond.code ({ cls := "NineKeysRound", name := "isOf", desc := "(II)Z" } : Jvm.MethodName) prog_1_method_17_code (3 : Nat) (Option.some Jvm.ClassFile.FieldType.boolean)) ∈ lw_all := lw_g (lw_at lw_m2 184 rfl) rfl
theorem q537 : (Jvm.Cond.methodLink "NineKeysRound" (172 : Nat) ({ cls := "NineKeysRound", name := "isPost", desc := "(I)Z" } : Jvm.MethodName)) ∈ lw_all := lw_g (lw_at lw_m2 185 rfl) rfl
theorem q538 : (Jvm.Cond.privateMethod ({ cls := "NineKeysRound", name := "isPost", desc := "(I)Z" } : Jvm.MethodName)) ∈ lw_tbl := lw_at lw_m2 186 rfl
theorem q539 : (Jvm.Cond.instanceMethod ({ cls := "NineKeysRound", name := "isPost", desc := "(I)Z" } : Jvm.MethodName)) ∈ lw_all := lw_g (lw_at lw_m2 187 rfl) rfl
theorem q540 : (Jvm.Cond.code ({ cls := "NineKeysRound", name := "isPost", desc := "(I)Z" } : Jvm.MethodName) prog_1_method_5_code (2 : Nat) (Option.some Jvm.ClassFile.FieldType.boolean)) ∈ lw_all := lw_g (lw_at lw_m2 188 rfl) rfl
theorem q541 : (Jvm.Cond.methodLink "NineKeysRound" (179 : Nat) ({ cls := "NineKeysRound", name := "mayBe", desc := "(II)Z" } : Jvm.MethodName)) ∈ lw_all := lw_g (lw_at lw_m2 189 rfl) rfl
theorem q542 : (Jvm.Cond.static ({ cls := "NineKeysRound", name := "mayBe", desc := "(II)Z" } : Jvm.MethodName)) ∈ lw_all := lw_g (lw_at lw_m2 190 rfl) rfl
theorem q543 : (Jvm.Cond.code ({ cls := "NineKeysRound", name := "mayBe", desc := "(II)Z" } : Jvm.MethodName) prog_1_method_19_code (2 : Nat) (Option.some Jvm.ClassFile.FieldType.boolean)) ∈ lw_all := lw_g (lw_at lw_m2 191 rfl) rfl
theorem q544 : (Jvm.Cond.methodLink "NineKeysRound" (182 : Nat) ({ cls := "NineKeysRound", name := "valueOf", desc := "(II)I" } : Jvm.MethodName)) ∈ lw_all := lw_g (lw_at lw_m2 192 rfl) rfl
theorem q545 : (Jvm.Cond.privateMethod ({ cls := "NineKeysRound", name := "valueOf", desc := "(II)I" } : Jvm.MethodName)) ∈ lw_tbl := lw_at lw_m2 193 rfl
theorem q546 : (Jvm.Cond.instanceMethod ({ cls := "NineKeysRound", name := "valueOf", desc := "(II)I" } : Jvm.MethodName)) ∈ lw_all := lw_g (lw_at lw_m2 194 rfl) rfl
theorem q547 : (Jvm.Cond.code ({ cls := "NineKeysRound", name := "valueOf", desc := "(II)I" } : Jvm.MethodName) prog_1_method_18_code (3 : Nat) (Option.some Jvm.ClassFile.FieldType.int)) ∈ lw_all := lw_g (lw_at lw_m2 195 rfl) rfl
theorem q548 : (Jvm.Cond.methodLink "NineKeysRound" (185 : Nat) ({ cls := "NineKeysRound", name := "become", desc := "(IIII)I" } : Jvm.MethodName)) ∈ lw_all := lw_g (lw_at lw_m2 196 rfl) rfl
theorem q549 : (Jvm.Cond.privateMethod ({ cls := "NineKeysRound", name := "become", desc := "(IIII)I" } : Jvm.MethodName)) ∈ lw_tbl := lw_at lw_m2 197 rfl
theorem q550 : (Jvm.Cond.instanceMethod ({ cls := "NineKeysRound", name := "become", desc := "(IIII)I" } : Jvm.MethodName)) ∈ lw_all := lw_g (lw_at lw_m2 198 rfl) rfl
theorem q551 : (Jvm.Cond.code ({ cls := "NineKeysRound", name := "become", desc := "(IIII)I" } : Jvm.MethodName) prog_1_method_14_code (6 : Nat) (Option.some Jvm.ClassFile.FieldType.int)) ∈ lw_all := lw_g (lw_at lw_m2 199 rfl) rfl
theorem q553 : (Jvm.Cond.methodLink "NineKeysRound" (154 : Nat) ({ cls := "NineKeysRound$Change", name := "<init>", desc := "(IIII)V" } : Jvm.MethodName)) ∈ lw_all := lw_g (lw_at lw_m2 201 rfl) rfl
theorem q558 : (Jvm.Cond.fieldLinkNest "NineKeysRound" (161 : Nat) "NineKeysRound$Change" "of" "I" "NineKeysRound") ∈ lw_tbl := lw_at lw_m2 206 rfl
theorem q560 : (Jvm.Cond.fieldLinkNest "NineKeysRound" (164 : Nat) "NineKeysRound$Change" "at" "I" "NineKeysRound") ∈ lw_tbl := lw_at lw_m2 208 rfl
theorem q562 : (Jvm.Cond.fieldLinkNest "NineKeysRound" (166 : Nat) "NineKeysRound$Change" "before" "I" "NineKeysRound") ∈ lw_tbl := lw_at lw_m2 210 rfl
theorem q564 : (Jvm.Cond.fieldLinkNest "NineKeysRound" (169 : Nat) "NineKeysRound$Change" "behind" "I" "NineKeysRound") ∈ lw_tbl := lw_at lw_m2 212 rfl
theorem q575 : (Jvm.Cond.instanceMethod ({ cls := "NineKeysRound", name := "of", desc := "(II)I" } : Jvm.MethodName)) ∈ lw_all := lw_g (lw_at lw_m2 223 rfl) rfl
theorem q576 : (Jvm.Cond.selects "NineKeysRound" ({ cls := "NineKeysRound", name := "of", desc := "(II)I" } : Jvm.MethodName) ({ cls := "NineKeysRound", name := "of", desc := "(II)I" } : Jvm.MethodName)) ∈ lw_all := lw_g (lw_at lw_m2 224 rfl) rfl
theorem q577 : (Jvm.Cond.code ({ cls := "NineKeysRound", name := "of", desc := "(II)I" } : Jvm.MethodName) prog_1_method_21_code (3 : Nat) (Option.some Jvm.ClassFile.FieldType.int)) ∈ lw_all := lw_g (lw_at lw_m2 225 rfl) rfl
theorem q579 : (Jvm.Cond.instanceMethod ({ cls := "NineKeysRound", name := "feed", desc := "(I)I" } : Jvm.MethodName)) ∈ lw_all := lw_g (lw_at lw_m2 227 rfl) rfl
theorem q580 : (Jvm.Cond.selects "NineKeysRound" ({ cls := "NineKeysRound", name := "feed", desc := "(I)I" } : Jvm.MethodName) ({ cls := "NineKeysRound", name := "feed", desc := "(I)I" } : Jvm.MethodName)) ∈ lw_all := lw_g (lw_at lw_m2 228 rfl) rfl
theorem q581 : (Jvm.Cond.code ({ cls := "NineKeysRound", name := "feed", desc := "(I)I" } : Jvm.MethodName) prog_1_method_22_code (2 : Nat) (Option.some Jvm.ClassFile.FieldType.int)) ∈ lw_all := lw_g (lw_at lw_m2 229 rfl) rfl
theorem q583 : (Jvm.Cond.instanceMethod ({ cls := "NineKeysRound", name := "law", desc := "()I" } : Jvm.MethodName)) ∈ lw_all := lw_g (lw_at lw_m2 231 rfl) rfl
theorem q584 : (Jvm.Cond.selects "NineKeysRound" ({ cls := "NineKeysRound", name := "law", desc := "()I" } : Jvm.MethodName) ({ cls := "NineKeysRound", name := "law", desc := "()I" } : Jvm.MethodName)) ∈ lw_all := lw_g (lw_at lw_m2 232 rfl) rfl
theorem q585 : (Jvm.Cond.code ({ cls := "NineKeysRound", name := "law", desc := "()I" } : Jvm.MethodName) prog_1_method_23_code (3 : Nat) (Option.some Jvm.ClassFile.FieldType.int)) ∈ lw_all := lw_g (lw_at lw_m2 233 rfl) rfl
theorem q586 : (Jvm.Cond.classLink "NineKeysRound" (195 : Nat) "NineKeysRound$Reader") ∈ lw_all := lw_g (lw_at lw_m2 234 rfl) rfl
theorem q588 : (Jvm.Cond.methodLinkNest "NineKeysRound" (197 : Nat) ({ cls := "NineKeysRound$Reader", name := "<init>", desc := "(LNineKeysRound;)V" } : Jvm.MethodName) "NineKeysRound") ∈ lw_tbl := lw_at lw_m2 236 rfl
theorem q594 : (Jvm.Cond.fieldLinkNest "NineKeysRound" (204 : Nat) "NineKeysRound$Reader" "fault" "I" "NineKeysRound") ∈ lw_tbl := lw_at lw_m3 2 rfl
theorem q606 : (Jvm.Cond.methodLink "NineKeysRound" (200 : Nat) ({ cls := "NineKeysRound$Reader", name := "lines", desc := "()LNineKeysRound$Line;" } : Jvm.MethodName)) ∈ lw_all := lw_g (lw_at lw_m3 14 rfl) rfl
theorem q621 : (Jvm.Cond.fieldLinkNest "NineKeysRound" (211 : Nat) "NineKeysRound$Line" "test" "LNineKeysRound$Node;" "NineKeysRound") ∈ lw_tbl := lw_at lw_m3 29 rfl
theorem q623 : (Jvm.Cond.fieldLinkNest "NineKeysRound" (222 : Nat) "NineKeysRound$Line" "gives" "LNineKeysRound$Node;" "NineKeysRound") ∈ lw_tbl := lw_at lw_m3 31 rfl
theorem q625 : (Jvm.Cond.fieldLinkNest "NineKeysRound" (225 : Nat) "NineKeysRound$Line" "next" "LNineKeysRound$Line;" "NineKeysRound") ∈ lw_tbl := lw_at lw_m3 33 rfl
theorem q828 : (Jvm.Cond.instanceMethod ({ cls := "NineKeysRound", name := "round", desc := "(II)I" } : Jvm.MethodName)) ∈ lw_all := lw_g (lw_at lw_m3 236 rfl) rfl
theorem q829 : (Jvm.Cond.selects "NineKeysRound" ({ cls := "NineKeysRound", name := "round", desc := "(II)I" } : Jvm.MethodName) ({ cls := "NineKeysRound", name := "round", desc := "(II)I" } : Jvm.MethodName)) ∈ lw_all := lw_g (lw_at lw_m3 237 rfl) rfl
theorem q830 : (Jvm.Cond.code ({ cls := "NineKeysRound", name := "round", desc := "(II)I" } : Jvm.MethodName) prog_1_method_30_code (4 : Nat) (Option.some Jvm.ClassFile.FieldType.int)) ∈ lw_all := lw_g (lw_at lw_m3 238 rfl) rfl
theorem q831 : (Jvm.Cond.methodLink "NineKeysRound" (249 : Nat) ({ cls := "NineKeysRound", name := "layRound", desc := "(I)I" } : Jvm.MethodName)) ∈ lw_all := lw_g (lw_at lw_m3 239 rfl) rfl
theorem q832 : (Jvm.Cond.privateMethod ({ cls := "NineKeysRound", name := "layRound", desc := "(I)I" } : Jvm.MethodName)) ∈ lw_tbl := lw_at lw_m4 0 rfl
theorem q833 : (Jvm.Cond.instanceMethod ({ cls := "NineKeysRound", name := "layRound", desc := "(I)I" } : Jvm.MethodName)) ∈ lw_all := lw_g (lw_at lw_m4 1 rfl) rfl
theorem q834 : (Jvm.Cond.codeWith ({ cls := "NineKeysRound", name := "layRound", desc := "(I)I" } : Jvm.MethodName) prog_1_method_25_code (5 : Nat) (Option.some Jvm.ClassFile.FieldType.int) [((5 : Nat), (49 : Nat), (77 : Nat), (133 : Nat)), ((50 : Nat), (74 : Nat), (77 : Nat), (133 : Nat)), ((5 : Nat), (49 : Nat), (81 : Nat), (135 : Nat)), ((50 : Nat), (74 : Nat), (81 : Nat), (135 : Nat))]) ∈ lw_all := lw_g (lw_at lw_m4 2 rfl) rfl
theorem q835 : (Jvm.Cond.methodLink "NineKeysRound" (231 : Nat) ({ cls := "NineKeysRound$ByteRow", name := "size", desc := "()I" } : Jvm.MethodName)) ∈ lw_all := lw_g (lw_at lw_m4 3 rfl) rfl
theorem q839 : (Jvm.Cond.methodLink "NineKeysRound" (256 : Nat) ({ cls := "NineKeysRound", name := "roundLong", desc := "()I" } : Jvm.MethodName)) ∈ lw_all := lw_g (lw_at lw_m4 7 rfl) rfl
theorem q840 : (Jvm.Cond.privateMethod ({ cls := "NineKeysRound", name := "roundLong", desc := "()I" } : Jvm.MethodName)) ∈ lw_tbl := lw_at lw_m4 8 rfl
theorem q841 : (Jvm.Cond.instanceMethod ({ cls := "NineKeysRound", name := "roundLong", desc := "()I" } : Jvm.MethodName)) ∈ lw_all := lw_g (lw_at lw_m4 9 rfl) rfl
theorem q842 : (Jvm.Cond.code ({ cls := "NineKeysRound", name := "roundLong", desc := "()I" } : Jvm.MethodName) prog_1_method_28_code (3 : Nat) (Option.some Jvm.ClassFile.FieldType.int)) ∈ lw_all := lw_g (lw_at lw_m4 10 rfl) rfl
theorem q843 : (Jvm.Cond.methodLink "NineKeysRound" (238 : Nat) ({ cls := "NineKeysRound", name := "goesTo", desc := "(IZ)I" } : Jvm.MethodName)) ∈ lw_all := lw_g (lw_at lw_m4 11 rfl) rfl
theorem q844 : (Jvm.Cond.privateMethod ({ cls := "NineKeysRound", name := "goesTo", desc := "(IZ)I" } : Jvm.MethodName)) ∈ lw_tbl := lw_at lw_m4 12 rfl
theorem q845 : (Jvm.Cond.instanceMethod ({ cls := "NineKeysRound", name := "goesTo", desc := "(IZ)I" } : Jvm.MethodName)) ∈ lw_all := lw_g (lw_at lw_m4 13 rfl) rfl
theorem q846 : (Jvm.Cond.code ({ cls := "NineKeysRound", name := "goesTo", desc := "(IZ)I" } : Jvm.MethodName) prog_1_method_26_code (3 : Nat) (Option.some Jvm.ClassFile.FieldType.int)) ∈ lw_all := lw_g (lw_at lw_m4 14 rfl) rfl
theorem q847 : (Jvm.Cond.methodLink "NineKeysRound" (246 : Nat) ({ cls := "NineKeysRound", name := "between", desc := "(II)I" } : Jvm.MethodName)) ∈ lw_all := lw_g (lw_at lw_m4 15 rfl) rfl
theorem q848 : (Jvm.Cond.privateMethod ({ cls := "NineKeysRound", name := "between", desc := "(II)I" } : Jvm.MethodName)) ∈ lw_tbl := lw_at lw_m4 16 rfl
theorem q849 : (Jvm.Cond.instanceMethod ({ cls := "NineKeysRound", name := "between", desc := "(II)I" } : Jvm.MethodName)) ∈ lw_all := lw_g (lw_at lw_m4 17 rfl) rfl
theorem q850 : (Jvm.Cond.code ({ cls := "NineKeysRound", name := "between", desc := "(II)I" } : Jvm.MethodName) prog_1_method_8_code (3 : Nat) (Option.some Jvm.ClassFile.FieldType.int)) ∈ lw_all := lw_g (lw_at lw_m4 18 rfl) rfl
theorem q851 : (Jvm.Cond.methodLink "NineKeysRound" (96 : Nat) ({ cls := "NineKeysRound$Post", name := "fromPost", desc := "(LNineKeysRound$Post;)I" } : Jvm.MethodName)) ∈ lw_all := lw_g (lw_at lw_m4 19 rfl) rfl
theorem q863 : (Jvm.Cond.instanceMethod ({ cls := "NineKeysRound", name := "first", desc := "(II)I" } : Jvm.MethodName)) ∈ lw_all := lw_g (lw_at lw_m4 31 rfl) rfl
theorem q864 : (Jvm.Cond.selects "NineKeysRound" ({ cls := "NineKeysRound", name := "first", desc := "(II)I" } : Jvm.MethodName) ({ cls := "NineKeysRound", name := "first", desc := "(II)I" } : Jvm.MethodName)) ∈ lw_all := lw_g (lw_at lw_m4 32 rfl) rfl
theorem q865 : (Jvm.Cond.code ({ cls := "NineKeysRound", name := "first", desc := "(II)I" } : Jvm.MethodName) prog_1_method_32_code (4 : Nat) (Option.some Jvm.ClassFile.FieldType.int)) ∈ lw_all := lw_g (lw_at lw_m4 33 rfl) rfl
theorem q866 : (Jvm.Cond.methodLink "NineKeysRound" (259 : Nat) ({ cls := "NineKeysRound", name := "layForth", desc := "(I)I" } : Jvm.MethodName)) ∈ lw_all := lw_g (lw_at lw_m4 34 rfl) rfl
theorem q867 : (Jvm.Cond.privateMethod ({ cls := "NineKeysRound", name := "layForth", desc := "(I)I" } : Jvm.MethodName)) ∈ lw_tbl := lw_at lw_m4 35 rfl
theorem q868 : (Jvm.Cond.instanceMethod ({ cls := "NineKeysRound", name := "layForth", desc := "(I)I" } : Jvm.MethodName)) ∈ lw_all := lw_g (lw_at lw_m4 36 rfl) rfl
theorem q869 : (Jvm.Cond.code ({ cls := "NineKeysRound", name := "layForth", desc := "(I)I" } : Jvm.MethodName) prog_1_method_29_code (3 : Nat) (Option.some Jvm.ClassFile.FieldType.int)) ∈ lw_all := lw_g (lw_at lw_m4 37 rfl) rfl
theorem q870 : (Jvm.Cond.methodLink "NineKeysRound" (252 : Nat) ({ cls := "NineKeysRound", name := "layDents", desc := "(Z)V" } : Jvm.MethodName)) ∈ lw_all := lw_g (lw_at lw_m4 38 rfl) rfl
theorem q871 : (Jvm.Cond.privateMethod ({ cls := "NineKeysRound", name := "layDents", desc := "(Z)V" } : Jvm.MethodName)) ∈ lw_tbl := lw_at lw_m4 39 rfl
theorem q872 : (Jvm.Cond.instanceMethod ({ cls := "NineKeysRound", name := "layDents", desc := "(Z)V" } : Jvm.MethodName)) ∈ lw_all := lw_g (lw_at lw_m4 40 rfl) rfl
theorem q873 : (Jvm.Cond.code ({ cls := "NineKeysRound", name := "layDents", desc := "(Z)V" } : Jvm.MethodName) prog_1_method_27_code (3 : Nat) (Option.none : Option Jvm.ClassFile.FieldType)) ∈ lw_all := lw_g (lw_at lw_m4 41 rfl) rfl
theorem q874 : (Jvm.Cond.methodLink "NineKeysRound" (242 : Nat) ({ cls := "NineKeysRound", name := "fromGate", desc := "(I)I" } : Jvm.MethodName)) ∈ lw_all := lw_g (lw_at lw_m4 42 rfl) rfl
theorem q875 : (Jvm.Cond.privateMethod ({ cls := "NineKeysRound", name := "fromGate", desc := "(I)I" } : Jvm.MethodName)) ∈ lw_tbl := lw_at lw_m4 43 rfl
theorem q876 : (Jvm.Cond.instanceMethod ({ cls := "NineKeysRound", name := "fromGate", desc := "(I)I" } : Jvm.MethodName)) ∈ lw_all := lw_g (lw_at lw_m4 44 rfl) rfl
theorem q877 : (Jvm.Cond.code ({ cls := "NineKeysRound", name := "fromGate", desc := "(I)I" } : Jvm.MethodName) prog_1_method_9_code (2 : Nat) (Option.some Jvm.ClassFile.FieldType.int)) ∈ lw_all := lw_g (lw_at lw_m4 45 rfl) rfl
theorem q878 : (Jvm.Cond.methodLink "NineKeysRound" (106 : Nat) ({ cls := "NineKeysRound$Post", name := "farFrom", desc := "(II)I" } : Jvm.MethodName)) ∈ lw_all := lw_g (lw_at lw_m4 46 rfl) rfl
theorem q879 : (Jvm.Cond.methodLink "NineKeysRound" (262 : Nat) ({ cls := "NineKeysRound", name := "firstOf", desc := "(I)I" } : Jvm.MethodName)) ∈ lw_all := lw_g (lw_at lw_m4 47 rfl) rfl
theorem q880 : (Jvm.Cond.privateMethod ({ cls := "NineKeysRound", name := "firstOf", desc := "(I)I" } : Jvm.MethodName)) ∈ lw_tbl := lw_at lw_m4 48 rfl
theorem q881 : (Jvm.Cond.instanceMethod ({ cls := "NineKeysRound", name := "firstOf", desc := "(I)I" } : Jvm.MethodName)) ∈ lw_all := lw_g (lw_at lw_m4 49 rfl) rfl
theorem q882 : (Jvm.Cond.code ({ cls := "NineKeysRound", name := "firstOf", desc := "(I)I" } : Jvm.MethodName) prog_1_method_31_code (3 : Nat) (Option.some Jvm.ClassFile.FieldType.int)) ∈ lw_all := lw_g (lw_at lw_m4 50 rfl) rfl
theorem q884 : (Jvm.Cond.instanceMethod ({ cls := "NineKeysRound", name := "by", desc := "(III)I" } : Jvm.MethodName)) ∈ lw_all := lw_g (lw_at lw_m4 52 rfl) rfl
theorem q885 : (Jvm.Cond.selects "NineKeysRound" ({ cls := "NineKeysRound", name := "by", desc := "(III)I" } : Jvm.MethodName) ({ cls := "NineKeysRound", name := "by", desc := "(III)I" } : Jvm.MethodName)) ∈ lw_all := lw_g (lw_at lw_m4 53 rfl) rfl
theorem q886 : (Jvm.Cond.code ({ cls := "NineKeysRound", name := "by", desc := "(III)I" } : Jvm.MethodName) prog_1_method_33_code (6 : Nat) (Option.some Jvm.ClassFile.FieldType.int)) ∈ lw_all := lw_g (lw_at lw_m4 54 rfl) rfl
theorem q887 : (Jvm.Cond.methodLink "NineKeysRound" (265 : Nat) ({ cls := "NineKeysRound", name := "isMinute", desc := "(I)Z" } : Jvm.MethodName)) ∈ lw_all := lw_g (lw_at lw_m4 55 rfl) rfl
theorem q888 : (Jvm.Cond.static ({ cls := "NineKeysRound", name := "isMinute", desc := "(I)Z" } : Jvm.MethodName)) ∈ lw_all := lw_g (lw_at lw_m4 56 rfl) rfl
theorem q889 : (Jvm.Cond.code ({ cls := "NineKeysRound", name := "isMinute", desc := "(I)Z" } : Jvm.MethodName) prog_1_method_6_code (1 : Nat) (Option.some Jvm.ClassFile.FieldType.boolean)) ∈ lw_all := lw_g (lw_at lw_m4 57 rfl) rfl
theorem q891 : (Jvm.Cond.instanceMethod ({ cls := "NineKeysRound", name := "unseen", desc := "(IIII)I" } : Jvm.MethodName)) ∈ lw_all := lw_g (lw_at lw_m4 59 rfl) rfl
theorem q892 : (Jvm.Cond.selects "NineKeysRound" ({ cls := "NineKeysRound", name := "unseen", desc := "(IIII)I" } : Jvm.MethodName) ({ cls := "NineKeysRound", name := "unseen", desc := "(IIII)I" } : Jvm.MethodName)) ∈ lw_all := lw_g (lw_at lw_m4 60 rfl) rfl
theorem q893 : (Jvm.Cond.code ({ cls := "NineKeysRound", name := "unseen", desc := "(IIII)I" } : Jvm.MethodName) prog_1_method_36_code (6 : Nat) (Option.some Jvm.ClassFile.FieldType.int)) ∈ lw_all := lw_g (lw_at lw_m4 61 rfl) rfl
theorem q894 : (Jvm.Cond.methodLink "NineKeysRound" (273 : Nat) ({ cls := "NineKeysRound", name := "unseenIn", desc := "(II)I" } : Jvm.MethodName)) ∈ lw_all := lw_g (lw_at lw_m4 62 rfl) rfl
theorem q895 : (Jvm.Cond.privateMethod ({ cls := "NineKeysRound", name := "unseenIn", desc := "(II)I" } : Jvm.MethodName)) ∈ lw_tbl := lw_at lw_m4 63 rfl
theorem q896 : (Jvm.Cond.instanceMethod ({ cls := "NineKeysRound", name := "unseenIn", desc := "(II)I" } : Jvm.MethodName)) ∈ lw_all := lw_g (lw_at lw_m4 64 rfl) rfl
theorem q897 : (Jvm.Cond.code ({ cls := "NineKeysRound", name := "unseenIn", desc := "(II)I" } : Jvm.MethodName) prog_1_method_34_code (5 : Nat) (Option.some Jvm.ClassFile.FieldType.int)) ∈ lw_all := lw_g (lw_at lw_m4 65 rfl) rfl
theorem q898 : (Jvm.Cond.methodLink "NineKeysRound" (276 : Nat) ({ cls := "NineKeysRound", name := "isSeen", desc := "(II)Z" } : Jvm.MethodName)) ∈ lw_all := lw_g (lw_at lw_m4 66 rfl) rfl
theorem q899 : (Jvm.Cond.privateMethod ({ cls := "NineKeysRound", name := "isSeen", desc := "(II)Z" } : Jvm.MethodName)) ∈ lw_tbl := lw_at lw_m4 67 rfl
theorem q900 : (Jvm.Cond.instanceMethod ({ cls := "NineKeysRound", name := "isSeen", desc := "(II)Z" } : Jvm.MethodName)) ∈ lw_all := lw_g (lw_at lw_m4 68 rfl) rfl
theorem q901 : (Jvm.Cond.code ({ cls := "NineKeysRound", name := "isSeen", desc := "(II)Z" } : Jvm.MethodName) prog_1_method_35_code (5 : Nat) (Option.some Jvm.ClassFile.FieldType.boolean)) ∈ lw_all := lw_g (lw_at lw_m4 69 rfl) rfl
theorem q902 : (Jvm.Cond.methodLink "NineKeysRound" (268 : Nat) ({ cls := "java/lang/Math", name := "max", desc := "(II)I" } : Jvm.MethodName)) ∈ lw_all := lw_g (lw_at lw_m4 70 rfl) rfl
theorem q904 : (Jvm.Cond.instanceMethod ({ cls := "NineKeysRound", name := "lost", desc := "(IIII)I" } : Jvm.MethodName)) ∈ lw_all := lw_g (lw_at lw_m4 72 rfl) rfl
theorem q905 : (Jvm.Cond.selects "NineKeysRound" ({ cls := "NineKeysRound", name := "lost", desc := "(IIII)I" } : Jvm.MethodName) ({ cls := "NineKeysRound", name := "lost", desc := "(IIII)I" } : Jvm.MethodName)) ∈ lw_all := lw_g (lw_at lw_m4 73 rfl) rfl
theorem q906 : (Jvm.Cond.code ({ cls := "NineKeysRound", name := "lost", desc := "(IIII)I" } : Jvm.MethodName) prog_1_method_39_code (8 : Nat) (Option.some Jvm.ClassFile.FieldType.int)) ∈ lw_all := lw_g (lw_at lw_m4 74 rfl) rfl
theorem q907 : (Jvm.Cond.methodLink "NineKeysRound" (294 : Nat) ({ cls := "NineKeysRound", name := "lostAt", desc := "(III)I" } : Jvm.MethodName)) ∈ lw_all := lw_g (lw_at lw_m4 75 rfl) rfl
theorem q908 : (Jvm.Cond.privateMethod ({ cls := "NineKeysRound", name := "lostAt", desc := "(III)I" } : Jvm.MethodName)) ∈ lw_tbl := lw_at lw_m4 76 rfl
theorem q909 : (Jvm.Cond.instanceMethod ({ cls := "NineKeysRound", name := "lostAt", desc := "(III)I" } : Jvm.MethodName)) ∈ lw_all := lw_g (lw_at lw_m4 77 rfl) rfl
theorem q910 : (Jvm.Cond.code ({ cls := "NineKeysRound", name := "lostAt", desc := "(III)I" } : Jvm.MethodName) prog_1_method_38_code (10 : Nat) (Option.some Jvm.ClassFile.FieldType.int)) ∈ lw_all := lw_g (lw_at lw_m4 78 rfl) rfl
theorem q911 : (Jvm.Cond.methodLink "NineKeysRound" (290 : Nat) ({ cls := "NineKeysRound", name := "lostIn", desc := "(III)I" } : Jvm.MethodName)) ∈ lw_all := lw_g (lw_at lw_m4 79 rfl) rfl
theorem q912 : (Jvm.Cond.privateMethod ({ cls := "NineKeysRound", name := "lostIn", desc := "(III)I" } : Jvm.MethodName)) ∈ lw_tbl := lw_at lw_m4 80 rfl
theorem q913 : (Jvm.Cond.instanceMethod ({ cls := "NineKeysRound", name := "lostIn", desc := "(III)I" } : Jvm.MethodName)) ∈ lw_all := lw_g (lw_at lw_m4 81 rfl) rfl
theorem q914 : (Jvm.Cond.code ({ cls := "NineKeysRound", name := "lostIn", desc := "(III)I" } : Jvm.MethodName) prog_1_method_37_code (6 : Nat) (Option.some Jvm.ClassFile.FieldType.int)) ∈ lw_all := lw_g (lw_at lw_m4 82 rfl) rfl
theorem q915 : (Jvm.Cond.methodLink "NineKeysRound" (279 : Nat) ({ cls := "NineKeysRound$Facts", name := "clear", desc := "()V" } : Jvm.MethodName)) ∈ lw_all := lw_g (lw_at lw_m4 83 rfl) rfl
theorem q919 : (Jvm.Cond.methodLink "NineKeysRound" (285 : Nat) ({ cls := "NineKeysRound", name := "gives", desc := "()I" } : Jvm.MethodName)) ∈ lw_all := lw_g (lw_at lw_m4 87 rfl) rfl
theorem q920 : (Jvm.Cond.privateMethod ({ cls := "NineKeysRound", name := "gives", desc := "()I" } : Jvm.MethodName)) ∈ lw_tbl := lw_at lw_m4 88 rfl
theorem q921 : (Jvm.Cond.instanceMethod ({ cls := "NineKeysRound", name := "gives", desc := "()I" } : Jvm.MethodName)) ∈ lw_all := lw_g (lw_at lw_m4 89 rfl) rfl
theorem q922 : (Jvm.Cond.code ({ cls := "NineKeysRound", name := "gives", desc := "()I" } : Jvm.MethodName) prog_1_method_24_code (2 : Nat) (Option.some Jvm.ClassFile.FieldType.int)) ∈ lw_all := lw_g (lw_at lw_m4 90 rfl) rfl
theorem q923 : (Jvm.Cond.methodLink "NineKeysRound" (217 : Nat) ({ cls := "NineKeysRound$Node", name := "value", desc := "(LNineKeysRound$Facts;)I" } : Jvm.MethodName)) ∈ lw_all := lw_g (lw_at lw_m4 91 rfl) rfl
theorem q947 : (Jvm.Cond.methodLink "NineKeysRound" (287 : Nat) ({ cls := "java/lang/Math", name := "min", desc := "(II)I" } : Jvm.MethodName)) ∈ lw_all := lw_g (lw_at lw_m4 115 rfl) rfl
theorem q949 : (Jvm.Cond.instanceMethod ({ cls := "NineKeysRound", name := "red", desc := "(II)I" } : Jvm.MethodName)) ∈ lw_all := lw_g (lw_at lw_m4 117 rfl) rfl
theorem q950 : (Jvm.Cond.selects "NineKeysRound" ({ cls := "NineKeysRound", name := "red", desc := "(II)I" } : Jvm.MethodName) ({ cls := "NineKeysRound", name := "red", desc := "(II)I" } : Jvm.MethodName)) ∈ lw_all := lw_g (lw_at lw_m4 118 rfl) rfl
theorem q951 : (Jvm.Cond.code ({ cls := "NineKeysRound", name := "red", desc := "(II)I" } : Jvm.MethodName) prog_1_method_40_code (6 : Nat) (Option.some Jvm.ClassFile.FieldType.int)) ∈ lw_all := lw_g (lw_at lw_m4 119 rfl) rfl
theorem q953 : (Jvm.Cond.instanceMethod ({ cls := "NineKeysRound", name := "gap", desc := "(II)I" } : Jvm.MethodName)) ∈ lw_all := lw_g (lw_at lw_m4 121 rfl) rfl
theorem q954 : (Jvm.Cond.selects "NineKeysRound" ({ cls := "NineKeysRound", name := "gap", desc := "(II)I" } : Jvm.MethodName) ({ cls := "NineKeysRound", name := "gap", desc := "(II)I" } : Jvm.MethodName)) ∈ lw_all := lw_g (lw_at lw_m4 122 rfl) rfl
theorem q955 : (Jvm.Cond.code ({ cls := "NineKeysRound", name := "gap", desc := "(II)I" } : Jvm.MethodName) prog_1_method_43_code (4 : Nat) (Option.some Jvm.ClassFile.FieldType.int)) ∈ lw_all := lw_g (lw_at lw_m4 123 rfl) rfl
theorem q956 : (Jvm.Cond.methodLink "NineKeysRound" (300 : Nat) ({ cls := "NineKeysRound", name := "gapIn", desc := "(I)I" } : Jvm.MethodName)) ∈ lw_all := lw_g (lw_at lw_m4 124 rfl) rfl
theorem q957 : (Jvm.Cond.privateMethod ({ cls := "NineKeysRound", name := "gapIn", desc := "(I)I" } : Jvm.MethodName)) ∈ lw_tbl := lw_at lw_m4 125 rfl
theorem q958 : (Jvm.Cond.instanceMethod ({ cls := "NineKeysRound", name := "gapIn", desc := "(I)I" } : Jvm.MethodName)) ∈ lw_all := lw_g (lw_at lw_m4 126 rfl) rfl
theorem q959 : (Jvm.Cond.code ({ cls := "NineKeysRound", name := "gapIn", desc := "(I)I" } : Jvm.MethodName) prog_1_method_42_code (2 : Nat) (Option.some Jvm.ClassFile.FieldType.int)) ∈ lw_all := lw_g (lw_at lw_m4 127 rfl) rfl
theorem q960 : (Jvm.Cond.methodLink "NineKeysRound" (297 : Nat) ({ cls := "NineKeysRound", name := "gapOf", desc := "(I)I" } : Jvm.MethodName)) ∈ lw_all := lw_g (lw_at lw_m4 128 rfl) rfl
theorem q961 : (Jvm.Cond.privateMethod ({ cls := "NineKeysRound", name := "gapOf", desc := "(I)I" } : Jvm.MethodName)) ∈ lw_tbl := lw_at lw_m4 129 rfl
theorem q962 : (Jvm.Cond.instanceMethod ({ cls := "NineKeysRound", name := "gapOf", desc := "(I)I" } : Jvm.MethodName)) ∈ lw_all := lw_g (lw_at lw_m4 130 rfl) rfl
theorem q963 : (Jvm.Cond.code ({ cls := "NineKeysRound", name := "gapOf", desc := "(I)I" } : Jvm.MethodName) prog_1_method_41_code (6 : Nat) (Option.some Jvm.ClassFile.FieldType.int)) ∈ lw_all := lw_g (lw_at lw_m4 131 rfl) rfl
theorem q965 : (Jvm.Cond.instanceMethod ({ cls := "NineKeysRound", name := "late", desc := "(I)I" } : Jvm.MethodName)) ∈ lw_all := lw_g (lw_at lw_m4 133 rfl) rfl
theorem q966 : (Jvm.Cond.selects "NineKeysRound" ({ cls := "NineKeysRound", name := "late", desc := "(I)I" } : Jvm.MethodName) ({ cls := "NineKeysRound", name := "late", desc := "(I)I" } : Jvm.MethodName)) ∈ lw_all := lw_g (lw_at lw_m4 134 rfl) rfl
theorem q967 : (Jvm.Cond.code ({ cls := "NineKeysRound", name := "late", desc := "(I)I" } : Jvm.MethodName) prog_1_method_44_code (5 : Nat) (Option.some Jvm.ClassFile.FieldType.int)) ∈ lw_all := lw_g (lw_at lw_m4 135 rfl) rfl
theorem q969 : (Jvm.Cond.instanceMethod ({ cls := "NineKeysRound", name := "shortest", desc := "(II)I" } : Jvm.MethodName)) ∈ lw_all := lw_g (lw_at lw_m4 137 rfl) rfl
theorem q970 : (Jvm.Cond.selects "NineKeysRound" ({ cls := "NineKeysRound", name := "shortest", desc := "(II)I" } : Jvm.MethodName) ({ cls := "NineKeysRound", name := "shortest", desc := "(II)I" } : Jvm.MethodName)) ∈ lw_all := lw_g (lw_at lw_m4 138 rfl) rfl
theorem q971 : (Jvm.Cond.code ({ cls := "NineKeysRound", name := "shortest", desc := "(II)I" } : Jvm.MethodName) prog_1_method_48_code (4 : Nat) (Option.some Jvm.ClassFile.FieldType.int)) ∈ lw_all := lw_g (lw_at lw_m4 139 rfl) rfl
theorem q972 : (Jvm.Cond.methodLink "NineKeysRound" (312 : Nat) ({ cls := "NineKeysRound", name := "arePosts", desc := "(I)Z" } : Jvm.MethodName)) ∈ lw_all := lw_g (lw_at lw_m4 140 rfl) rfl
theorem q973 : (Jvm.Cond.privateMethod ({ cls := "NineKeysRound", name := "arePosts", desc := "(I)Z" } : Jvm.MethodName)) ∈ lw_tbl := lw_at lw_m4 141 rfl
theorem q974 : (Jvm.Cond.instanceMethod ({ cls := "NineKeysRound", name := "arePosts", desc := "(I)Z" } : Jvm.MethodName)) ∈ lw_all := lw_g (lw_at lw_m4 142 rfl) rfl
theorem q975 : (Jvm.Cond.code ({ cls := "NineKeysRound", name := "arePosts", desc := "(I)Z" } : Jvm.MethodName) prog_1_method_47_code (2 : Nat) (Option.some Jvm.ClassFile.FieldType.boolean)) ∈ lw_all := lw_g (lw_at lw_m4 143 rfl) rfl
theorem q976 : (Jvm.Cond.methodLink "NineKeysRound" (315 : Nat) ({ cls := "java/lang/Integer", name := "bitCount", desc := "(I)I" } : Jvm.MethodName)) ∈ lw_all := lw_g (lw_at lw_m4 144 rfl) rfl
theorem q982 : (Jvm.Cond.methodLink "NineKeysRound" (320 : Nat) ({ cls := "NineKeysRound", name := "shortestOf", desc := "(I)I" } : Jvm.MethodName)) ∈ lw_all := lw_g (lw_at lw_m4 150 rfl) rfl
theorem q983 : (Jvm.Cond.privateMethod ({ cls := "NineKeysRound", name := "shortestOf", desc := "(I)I" } : Jvm.MethodName)) ∈ lw_tbl := lw_at lw_m4 151 rfl
theorem q984 : (Jvm.Cond.instanceMethod ({ cls := "NineKeysRound", name := "shortestOf", desc := "(I)I" } : Jvm.MethodName)) ∈ lw_all := lw_g (lw_at lw_m4 152 rfl) rfl
theorem q985 : (Jvm.Cond.code ({ cls := "NineKeysRound", name := "shortestOf", desc := "(I)I" } : Jvm.MethodName) prog_1_method_46_code (2 : Nat) (Option.some Jvm.ClassFile.FieldType.int)) ∈ lw_all := lw_g (lw_at lw_m4 153 rfl) rfl
theorem q986 : (Jvm.Cond.methodLink "NineKeysRound" (309 : Nat) ({ cls := "NineKeysRound", name := "goShortest", desc := "(IIII)V" } : Jvm.MethodName)) ∈ lw_all := lw_g (lw_at lw_m4 154 rfl) rfl
theorem q987 : (Jvm.Cond.privateMethod ({ cls := "NineKeysRound", name := "goShortest", desc := "(IIII)V" } : Jvm.MethodName)) ∈ lw_tbl := lw_at lw_m4 155 rfl
theorem q988 : (Jvm.Cond.instanceMethod ({ cls := "NineKeysRound", name := "goShortest", desc := "(IIII)V" } : Jvm.MethodName)) ∈ lw_all := lw_g (lw_at lw_m4 156 rfl) rfl
theorem q989 : (Jvm.Cond.code ({ cls := "NineKeysRound", name := "goShortest", desc := "(IIII)V" } : Jvm.MethodName) prog_1_method_45_code (7 : Nat) (Option.none : Option Jvm.ClassFile.FieldType)) ∈ lw_all := lw_g (lw_at lw_m4 157 rfl) rfl
theorem q990 : (Jvm.Cond.methodLink "NineKeysRound" (306 : Nat) ({ cls := "NineKeysRound", name := "has", desc := "(II)Z" } : Jvm.MethodName)) ∈ lw_all := lw_g (lw_at lw_m4 158 rfl) rfl
theorem q991 : (Jvm.Cond.static ({ cls := "NineKeysRound", name := "has", desc := "(II)Z" } : Jvm.MethodName)) ∈ lw_all := lw_g (lw_at lw_m4 159 rfl) rfl
theorem q992 : (Jvm.Cond.code ({ cls := "NineKeysRound", name := "has", desc := "(II)Z" } : Jvm.MethodName) prog_1_method_3_code (2 : Nat) (Option.some Jvm.ClassFile.FieldType.boolean)) ∈ lw_all := lw_g (lw_at lw_m4 160 rfl) rfl
theorem q994 : (Jvm.Cond.instanceMethod ({ cls := "NineKeysRound", name := "leftOut", desc := "(II)I" } : Jvm.MethodName)) ∈ lw_all := lw_g (lw_at lw_m4 162 rfl) rfl
theorem q995 : (Jvm.Cond.selects "NineKeysRound" ({ cls := "NineKeysRound", name := "leftOut", desc := "(II)I" } : Jvm.MethodName) ({ cls := "NineKeysRound", name := "leftOut", desc := "(II)I" } : Jvm.MethodName)) ∈ lw_all := lw_g (lw_at lw_m4 163 rfl) rfl
theorem q996 : (Jvm.Cond.code ({ cls := "NineKeysRound", name := "leftOut", desc := "(II)I" } : Jvm.MethodName) prog_1_method_49_code (7 : Nat) (Option.some Jvm.ClassFile.FieldType.int)) ∈ lw_all := lw_g (lw_at lw_m4 164 rfl) rfl
theorem q998 : (Jvm.Cond.instanceMethod ({ cls := "NineKeysRound", name := "thief", desc := "(IIII)I" } : Jvm.MethodName)) ∈ lw_all := lw_g (lw_at lw_m4 166 rfl) rfl
theorem q999 : (Jvm.Cond.selects "NineKeysRound" ({ cls := "NineKeysRound", name := "thief", desc := "(IIII)I" } : Jvm.MethodName) ({ cls := "NineKeysRound", name := "thief", desc := "(IIII)I" } : Jvm.MethodName)) ∈ lw_all := lw_g (lw_at lw_m4 167 rfl) rfl
theorem q1000 : (Jvm.Cond.code ({ cls := "NineKeysRound", name := "thief", desc := "(IIII)I" } : Jvm.MethodName) prog_1_method_51_code (6 : Nat) (Option.some Jvm.ClassFile.FieldType.int)) ∈ lw_all := lw_g (lw_at lw_m4 168 rfl) rfl
theorem q1001 : (Jvm.Cond.methodLink "NineKeysRound" (323 : Nat) ({ cls := "NineKeysRound", name := "areNeeded", desc := "(I)Z" } : Jvm.MethodName)) ∈ lw_all := lw_g (lw_at lw_m4 169 rfl) rfl
theorem q1002 : (Jvm.Cond.static ({ cls := "NineKeysRound", name := "areNeeded", desc := "(I)Z" } : Jvm.MethodName)) ∈ lw_all := lw_g (lw_at lw_m4 170 rfl) rfl
theorem q1003 : (Jvm.Cond.code ({ cls := "NineKeysRound", name := "areNeeded", desc := "(I)Z" } : Jvm.MethodName) prog_1_method_7_code (1 : Nat) (Option.some Jvm.ClassFile.FieldType.boolean)) ∈ lw_all := lw_g (lw_at lw_m4 171 rfl) rfl
theorem q1004 : (Jvm.Cond.methodLink "NineKeysRound" (326 : Nat) ({ cls := "NineKeysRound", name := "timeFrom", desc := "(IIII)I" } : Jvm.MethodName)) ∈ lw_all := lw_g (lw_at lw_m4 172 rfl) rfl
theorem q1005 : (Jvm.Cond.privateMethod ({ cls := "NineKeysRound", name := "timeFrom", desc := "(IIII)I" } : Jvm.MethodName)) ∈ lw_tbl := lw_at lw_m4 173 rfl
theorem q1006 : (Jvm.Cond.instanceMethod ({ cls := "NineKeysRound", name := "timeFrom", desc := "(IIII)I" } : Jvm.MethodName)) ∈ lw_all := lw_g (lw_at lw_m4 174 rfl) rfl
theorem q1007 : (Jvm.Cond.code ({ cls := "NineKeysRound", name := "timeFrom", desc := "(IIII)I" } : Jvm.MethodName) prog_1_method_50_code (8 : Nat) (Option.some Jvm.ClassFile.FieldType.int)) ∈ lw_all := lw_g (lw_at lw_m4 175 rfl) rfl
theorem q1009 : (Jvm.Cond.instanceMethod ({ cls := "NineKeysRound", name := "safe", desc := "(II)I" } : Jvm.MethodName)) ∈ lw_all := lw_g (lw_at lw_m4 177 rfl) rfl
theorem q1010 : (Jvm.Cond.selects "NineKeysRound" ({ cls := "NineKeysRound", name := "safe", desc := "(II)I" } : Jvm.MethodName) ({ cls := "NineKeysRound", name := "safe", desc := "(II)I" } : Jvm.MethodName)) ∈ lw_all := lw_g (lw_at lw_m4 178 rfl) rfl
theorem q1011 : (Jvm.Cond.code ({ cls := "NineKeysRound", name := "safe", desc := "(II)I" } : Jvm.MethodName) prog_1_method_52_code (6 : Nat) (Option.some Jvm.ClassFile.FieldType.int)) ∈ lw_all := lw_g (lw_at lw_m4 179 rfl) rfl
theorem q1013 : (Jvm.Cond.instanceMethod ({ cls := "NineKeysRound", name := "two", desc := "(III)I" } : Jvm.MethodName)) ∈ lw_all := lw_g (lw_at lw_m4 181 rfl) rfl
theorem q1014 : (Jvm.Cond.selects "NineKeysRound" ({ cls := "NineKeysRound", name := "two", desc := "(III)I" } : Jvm.MethodName) ({ cls := "NineKeysRound", name := "two", desc := "(III)I" } : Jvm.MethodName)) ∈ lw_all := lw_g (lw_at lw_m4 182 rfl) rfl
theorem q1015 : (Jvm.Cond.code ({ cls := "NineKeysRound", name := "two", desc := "(III)I" } : Jvm.MethodName) prog_1_method_56_code (5 : Nat) (Option.some Jvm.ClassFile.FieldType.int)) ∈ lw_all := lw_g (lw_at lw_m4 183 rfl) rfl
theorem q1016 : (Jvm.Cond.methodLink "NineKeysRound" (339 : Nat) ({ cls := "NineKeysRound", name := "bestLater", desc := "()I" } : Jvm.MethodName)) ∈ lw_all := lw_g (lw_at lw_m4 184 rfl) rfl
theorem q1017 : (Jvm.Cond.privateMethod ({ cls := "NineKeysRound", name := "bestLater", desc := "()I" } : Jvm.MethodName)) ∈ lw_tbl := lw_at lw_m4 185 rfl
theorem q1018 : (Jvm.Cond.instanceMethod ({ cls := "NineKeysRound", name := "bestLater", desc := "()I" } : Jvm.MethodName)) ∈ lw_all := lw_g (lw_at lw_m4 186 rfl) rfl
theorem q1019 : (Jvm.Cond.code ({ cls := "NineKeysRound", name := "bestLater", desc := "()I" } : Jvm.MethodName) prog_1_method_55_code (6 : Nat) (Option.some Jvm.ClassFile.FieldType.int)) ∈ lw_all := lw_g (lw_at lw_m4 187 rfl) rfl
theorem q1020 : (Jvm.Cond.methodLink "NineKeysRound" (336 : Nat) ({ cls := "NineKeysRound", name := "gapOfTwo", desc := "(II)I" } : Jvm.MethodName)) ∈ lw_all := lw_g (lw_at lw_m4 188 rfl) rfl
theorem q1021 : (Jvm.Cond.privateMethod ({ cls := "NineKeysRound", name := "gapOfTwo", desc := "(II)I" } : Jvm.MethodName)) ∈ lw_tbl := lw_at lw_m4 189 rfl
theorem q1022 : (Jvm.Cond.instanceMethod ({ cls := "NineKeysRound", name := "gapOfTwo", desc := "(II)I" } : Jvm.MethodName)) ∈ lw_all := lw_g (lw_at lw_m4 190 rfl) rfl
theorem q1023 : (Jvm.Cond.code ({ cls := "NineKeysRound", name := "gapOfTwo", desc := "(II)I" } : Jvm.MethodName) prog_1_method_54_code (9 : Nat) (Option.some Jvm.ClassFile.FieldType.int)) ∈ lw_all := lw_g (lw_at lw_m4 191 rfl) rfl
theorem q1024 : (Jvm.Cond.methodLink "NineKeysRound" (332 : Nat) ({ cls := "NineKeysRound", name := "layMine", desc := "(I)V" } : Jvm.MethodName)) ∈ lw_all := lw_g (lw_at lw_m4 192 rfl) rfl
theorem q1025 : (Jvm.Cond.privateMethod ({ cls := "NineKeysRound", name := "layMine", desc := "(I)V" } : Jvm.MethodName)) ∈ lw_tbl := lw_at lw_m4 193 rfl
theorem q1026 : (Jvm.Cond.instanceMethod ({ cls := "NineKeysRound", name := "layMine", desc := "(I)V" } : Jvm.MethodName)) ∈ lw_all := lw_g (lw_at lw_m4 194 rfl) rfl
theorem q1027 : (Jvm.Cond.code ({ cls := "NineKeysRound", name := "layMine", desc := "(I)V" } : Jvm.MethodName) prog_1_method_53_code (3 : Nat) (Option.none : Option Jvm.ClassFile.FieldType)) ∈ lw_all := lw_g (lw_at lw_m4 195 rfl) rfl
theorem q1029 : (Jvm.Cond.instanceMethod ({ cls := "NineKeysRound", name := "success", desc := "(IIII)I" } : Jvm.MethodName)) ∈ lw_all := lw_g (lw_at lw_m4 197 rfl) rfl
theorem q1030 : (Jvm.Cond.selects "NineKeysRound" ({ cls := "NineKeysRound", name := "success", desc := "(IIII)I" } : Jvm.MethodName) ({ cls := "NineKeysRound", name := "success", desc := "(IIII)I" } : Jvm.MethodName)) ∈ lw_all := lw_g (lw_at lw_m4 198 rfl) rfl
theorem q1031 : (Jvm.Cond.code ({ cls := "NineKeysRound", name := "success", desc := "(IIII)I" } : Jvm.MethodName) prog_1_method_62_code (6 : Nat) (Option.some Jvm.ClassFile.FieldType.int)) ∈ lw_all := lw_g (lw_at lw_m4 199 rfl) rfl
theorem q1032 : (Jvm.Cond.methodLink "NineKeysRound" (350 : Nat) ({ cls := "NineKeysRound", name := "arePn", desc := "(I)Z" } : Jvm.MethodName)) ∈ lw_all := lw_g (lw_at lw_m4 200 rfl) rfl
theorem q1033 : (Jvm.Cond.static ({ cls := "NineKeysRound", name := "arePn", desc := "(I)Z" } : Jvm.MethodName)) ∈ lw_all := lw_g (lw_at lw_m4 201 rfl) rfl
theorem q1034 : (Jvm.Cond.code ({ cls := "NineKeysRound", name := "arePn", desc := "(I)Z" } : Jvm.MethodName) prog_1_method_61_code (1 : Nat) (Option.some Jvm.ClassFile.FieldType.boolean)) ∈ lw_all := lw_g (lw_at lw_m4 202 rfl) rfl
theorem q1035 : (Jvm.Cond.methodLink "NineKeysRound" (353 : Nat) ({ cls := "NineKeysRound", name := "laySeenBoth", desc := "(II)I" } : Jvm.MethodName)) ∈ lw_all := lw_g (lw_at lw_m4 203 rfl) rfl
theorem q1036 : (Jvm.Cond.privateMethod ({ cls := "NineKeysRound", name := "laySeenBoth", desc := "(II)I" } : Jvm.MethodName)) ∈ lw_tbl := lw_at lw_m4 204 rfl
theorem q1037 : (Jvm.Cond.instanceMethod ({ cls := "NineKeysRound", name := "laySeenBoth", desc := "(II)I" } : Jvm.MethodName)) ∈ lw_all := lw_g (lw_at lw_m4 205 rfl) rfl
theorem q1038 : (Jvm.Cond.code ({ cls := "NineKeysRound", name := "laySeenBoth", desc := "(II)I" } : Jvm.MethodName) prog_1_method_58_code (4 : Nat) (Option.some Jvm.ClassFile.FieldType.int)) ∈ lw_all := lw_g (lw_at lw_m4 206 rfl) rfl
theorem q1039 : (Jvm.Cond.methodLink "NineKeysRound" (342 : Nat) ({ cls := "NineKeysRound", name := "laySeen", desc := "(IZ[Z)V" } : Jvm.MethodName)) ∈ lw_all := lw_g (lw_at lw_m4 207 rfl) rfl
theorem q1040 : (Jvm.Cond.privateMethod ({ cls := "NineKeysRound", name := "laySeen", desc := "(IZ[Z)V" } : Jvm.MethodName)) ∈ lw_tbl := lw_at lw_m4 208 rfl
theorem q1041 : (Jvm.Cond.instanceMethod ({ cls := "NineKeysRound", name := "laySeen", desc := "(IZ[Z)V" } : Jvm.MethodName)) ∈ lw_all := lw_g (lw_at lw_m4 209 rfl) rfl
theorem q1042 : (Jvm.Cond.code ({ cls := "NineKeysRound", name := "laySeen", desc := "(IZ[Z)V" } : Jvm.MethodName) prog_1_method_57_code (7 : Nat) (Option.none : Option Jvm.ClassFile.FieldType)) ∈ lw_all := lw_g (lw_at lw_m4 210 rfl) rfl
theorem q1043 : (Jvm.Cond.methodLink "NineKeysRound" (356 : Nat) ({ cls := "NineKeysRound", name := "successAt", desc := "(III)I" } : Jvm.MethodName)) ∈ lw_all := lw_g (lw_at lw_m4 211 rfl) rfl
theorem q1044 : (Jvm.Cond.privateMethod ({ cls := "NineKeysRound", name := "successAt", desc := "(III)I" } : Jvm.MethodName)) ∈ lw_tbl := lw_at lw_m4 212 rfl
theorem q1045 : (Jvm.Cond.instanceMethod ({ cls := "NineKeysRound", name := "successAt", desc := "(III)I" } : Jvm.MethodName)) ∈ lw_all := lw_g (lw_at lw_m4 213 rfl) rfl
theorem q1046 : (Jvm.Cond.code ({ cls := "NineKeysRound", name := "successAt", desc := "(III)I" } : Jvm.MethodName) prog_1_method_60_code (4 : Nat) (Option.some Jvm.ClassFile.FieldType.int)) ∈ lw_all := lw_g (lw_at lw_m4 214 rfl) rfl
theorem q1047 : (Jvm.Cond.methodLink "NineKeysRound" (346 : Nat) ({ cls := "NineKeysRound", name := "isQuiet", desc := "([ZII)Z" } : Jvm.MethodName)) ∈ lw_all := lw_g (lw_at lw_m4 215 rfl) rfl
theorem q1048 : (Jvm.Cond.static ({ cls := "NineKeysRound", name := "isQuiet", desc := "([ZII)Z" } : Jvm.MethodName)) ∈ lw_all := lw_g (lw_at lw_m4 216 rfl) rfl
theorem q1049 : (Jvm.Cond.code ({ cls := "NineKeysRound", name := "isQuiet", desc := "([ZII)Z" } : Jvm.MethodName) prog_1_method_59_code (4 : Nat) (Option.some Jvm.ClassFile.FieldType.boolean)) ∈ lw_all := lw_g (lw_at lw_m4 217 rfl) rfl
theorem q1051 : (Jvm.Cond.instanceMethod ({ cls := "NineKeysRound", name := "bestMinute", desc := "(IIII)I" } : Jvm.MethodName)) ∈ lw_all := lw_g (lw_at lw_m4 219 rfl) rfl
theorem q1052 : (Jvm.Cond.selects "NineKeysRound" ({ cls := "NineKeysRound", name := "bestMinute", desc := "(IIII)I" } : Jvm.MethodName) ({ cls := "NineKeysRound", name := "bestMinute", desc := "(IIII)I" } : Jvm.MethodName)) ∈ lw_all := lw_g (lw_at lw_m4 220 rfl) rfl
theorem q1053 : (Jvm.Cond.code ({ cls := "NineKeysRound", name := "bestMinute", desc := "(IIII)I" } : Jvm.MethodName) prog_1_method_64_code (7 : Nat) (Option.some Jvm.ClassFile.FieldType.int)) ∈ lw_all := lw_g (lw_at lw_m4 221 rfl) rfl
theorem q1054 : (Jvm.Cond.methodLink "NineKeysRound" (359 : Nat) ({ cls := "NineKeysRound", name := "bestTime", desc := "(II)I" } : Jvm.MethodName)) ∈ lw_all := lw_g (lw_at lw_m4 222 rfl) rfl
theorem q1055 : (Jvm.Cond.privateMethod ({ cls := "NineKeysRound", name := "bestTime", desc := "(II)I" } : Jvm.MethodName)) ∈ lw_tbl := lw_at lw_m4 223 rfl
theorem q1056 : (Jvm.Cond.instanceMethod ({ cls := "NineKeysRound", name := "bestTime", desc := "(II)I" } : Jvm.MethodName)) ∈ lw_all := lw_g (lw_at lw_m4 224 rfl) rfl
theorem q1057 : (Jvm.Cond.code ({ cls := "NineKeysRound", name := "bestTime", desc := "(II)I" } : Jvm.MethodName) prog_1_method_63_code (5 : Nat) (Option.some Jvm.ClassFile.FieldType.int)) ∈ lw_all := lw_g (lw_at lw_m4 225 rfl) rfl
theorem q1059 : (Jvm.Cond.instanceMethod ({ cls := "NineKeysRound", name := "mix", desc := "(III)I" } : Jvm.MethodName)) ∈ lw_all := lw_g (lw_at lw_m4 227 rfl) rfl
theorem q1060 : (Jvm.Cond.selects "NineKeysRound" ({ cls := "NineKeysRound", name := "mix", desc := "(III)I" } : Jvm.MethodName) ({ cls := "NineKeysRound", name := "mix", desc := "(III)I" } : Jvm.MethodName)) ∈ lw_all := lw_g (lw_at lw_m4 228 rfl) rfl
theorem q1061 : (Jvm.Cond.code ({ cls := "NineKeysRound", name := "mix", desc := "(III)I" } : Jvm.MethodName) prog_1_method_65_code (9 : Nat) (Option.some Jvm.ClassFile.FieldType.int)) ∈ lw_all := lw_g (lw_at lw_m4 229 rfl) rfl
theorem q1063 : (Jvm.Cond.instanceMethod ({ cls := "NineKeysRound", name := "paper", desc := "(II)I" } : Jvm.MethodName)) ∈ lw_all := lw_g (lw_at lw_m4 231 rfl) rfl
theorem q1064 : (Jvm.Cond.selects "NineKeysRound" ({ cls := "NineKeysRound", name := "paper", desc := "(II)I" } : Jvm.MethodName) ({ cls := "NineKeysRound", name := "paper", desc := "(II)I" } : Jvm.MethodName)) ∈ lw_all := lw_g (lw_at lw_m4 232 rfl) rfl
theorem q1065 : (Jvm.Cond.code ({ cls := "NineKeysRound", name := "paper", desc := "(II)I" } : Jvm.MethodName) prog_1_method_71_code (4 : Nat) (Option.some Jvm.ClassFile.FieldType.int)) ∈ lw_all := lw_g (lw_at lw_m4 233 rfl) rfl
theorem q1066 : (Jvm.Cond.methodLink "NineKeysRound" (376 : Nat) ({ cls := "NineKeysRound", name := "layPaper", desc := "(I)I" } : Jvm.MethodName)) ∈ lw_all := lw_g (lw_at lw_m4 234 rfl) rfl
theorem q1067 : (Jvm.Cond.privateMethod ({ cls := "NineKeysRound", name := "layPaper", desc := "(I)I" } : Jvm.MethodName)) ∈ lw_tbl := lw_at lw_m4 235 rfl
theorem q1068 : (Jvm.Cond.instanceMethod ({ cls := "NineKeysRound", name := "layPaper", desc := "(I)I" } : Jvm.MethodName)) ∈ lw_all := lw_g (lw_at lw_m4 236 rfl) rfl
theorem q1069 : (Jvm.Cond.codeWith ({ cls := "NineKeysRound", name := "layPaper", desc := "(I)I" } : Jvm.MethodName) prog_1_method_66_code (4 : Nat) (Option.some Jvm.ClassFile.FieldType.int) [((5 : Nat), (53 : Nat), (56 : Nat), (133 : Nat)), ((5 : Nat), (53 : Nat), (60 : Nat), (135 : Nat))]) ∈ lw_all := lw_g (lw_at lw_m4 237 rfl) rfl
theorem q1070 : (Jvm.Cond.classLink "NineKeysRound" (365 : Nat) "NineKeysRound$ShortRow") ∈ lw_all := lw_g (lw_at lw_m4 238 rfl) rfl
theorem q1071 : (Jvm.Cond.methodLink "NineKeysRound" (367 : Nat) ({ cls := "NineKeysRound$ShortRow", name := "size", desc := "()I" } : Jvm.MethodName)) ∈ lw_all := lw_g (lw_at lw_m4 239 rfl) rfl
theorem q1075 : (Jvm.Cond.methodLink "NineKeysRound" (368 : Nat) ({ cls := "NineKeysRound$ShortRow", name := "at", desc := "(I)J" } : Jvm.MethodName)) ∈ lw_all := lw_g (lw_at lw_m5 3 rfl) rfl
theorem q1079 : (Jvm.Cond.methodLink "NineKeysRound" (373 : Nat) ({ cls := "NineKeysRound", name := "wrongDent", desc := "()I" } : Jvm.MethodName)) ∈ lw_all := lw_g (lw_at lw_m5 7 rfl) rfl
theorem q1080 : (Jvm.Cond.privateMethod ({ cls := "NineKeysRound", name := "wrongDent", desc := "()I" } : Jvm.MethodName)) ∈ lw_tbl := lw_at lw_m5 8 rfl
theorem q1081 : (Jvm.Cond.instanceMethod ({ cls := "NineKeysRound", name := "wrongDent", desc := "()I" } : Jvm.MethodName)) ∈ lw_all := lw_g (lw_at lw_m5 9 rfl) rfl
theorem q1082 : (Jvm.Cond.code ({ cls := "NineKeysRound", name := "wrongDent", desc := "()I" } : Jvm.MethodName) prog_1_method_68_code (2 : Nat) (Option.some Jvm.ClassFile.FieldType.int)) ∈ lw_all := lw_g (lw_at lw_m5 10 rfl) rfl
theorem q1083 : (Jvm.Cond.methodLink "NineKeysRound" (370 : Nat) ({ cls := "NineKeysRound", name := "laterThan", desc := "(I)I" } : Jvm.MethodName)) ∈ lw_all := lw_g (lw_at lw_m5 11 rfl) rfl
theorem q1084 : (Jvm.Cond.privateMethod ({ cls := "NineKeysRound", name := "laterThan", desc := "(I)I" } : Jvm.MethodName)) ∈ lw_tbl := lw_at lw_m5 12 rfl
theorem q1085 : (Jvm.Cond.instanceMethod ({ cls := "NineKeysRound", name := "laterThan", desc := "(I)I" } : Jvm.MethodName)) ∈ lw_all := lw_g (lw_at lw_m5 13 rfl) rfl
theorem q1086 : (Jvm.Cond.code ({ cls := "NineKeysRound", name := "laterThan", desc := "(I)I" } : Jvm.MethodName) prog_1_method_67_code (2 : Nat) (Option.some Jvm.ClassFile.FieldType.int)) ∈ lw_all := lw_g (lw_at lw_m5 14 rfl) rfl
theorem q1087 : (Jvm.Cond.constant "NineKeysRound" (369 : Nat) (-2000000000 : Int32)) ∈ lw_all := lw_g (lw_at lw_m5 15 rfl) rfl
theorem q1088 : (Jvm.Cond.methodLink "NineKeysRound" (379 : Nat) ({ cls := "NineKeysRound", name := "forged", desc := "()I" } : Jvm.MethodName)) ∈ lw_all := lw_g (lw_at lw_m5 16 rfl) rfl
theorem q1089 : (Jvm.Cond.privateMethod ({ cls := "NineKeysRound", name := "forged", desc := "()I" } : Jvm.MethodName)) ∈ lw_tbl := lw_at lw_m5 17 rfl
theorem q1090 : (Jvm.Cond.instanceMethod ({ cls := "NineKeysRound", name := "forged", desc := "()I" } : Jvm.MethodName)) ∈ lw_all := lw_g (lw_at lw_m5 18 rfl) rfl
theorem q1091 : (Jvm.Cond.code ({ cls := "NineKeysRound", name := "forged", desc := "()I" } : Jvm.MethodName) prog_1_method_70_code (3 : Nat) (Option.some Jvm.ClassFile.FieldType.int)) ∈ lw_all := lw_g (lw_at lw_m5 19 rfl) rfl
theorem q1092 : (Jvm.Cond.methodLink "NineKeysRound" (382 : Nat) ({ cls := "NineKeysRound", name := "slept", desc := "(Z)I" } : Jvm.MethodName)) ∈ lw_all := lw_g (lw_at lw_m5 20 rfl) rfl
theorem q1093 : (Jvm.Cond.privateMethod ({ cls := "NineKeysRound", name := "slept", desc := "(Z)I" } : Jvm.MethodName)) ∈ lw_tbl := lw_at lw_m5 21 rfl
theorem q1094 : (Jvm.Cond.instanceMethod ({ cls := "NineKeysRound", name := "slept", desc := "(Z)I" } : Jvm.MethodName)) ∈ lw_all := lw_g (lw_at lw_m5 22 rfl) rfl
theorem q1095 : (Jvm.Cond.code ({ cls := "NineKeysRound", name := "slept", desc := "(Z)I" } : Jvm.MethodName) prog_1_method_69_code (8 : Nat) (Option.some Jvm.ClassFile.FieldType.int)) ∈ lw_all := lw_g (lw_at lw_m5 23 rfl) rfl
theorem q1097 : (Jvm.Cond.instanceMethod ({ cls := "NineKeysRound", name := "which", desc := "(I)I" } : Jvm.MethodName)) ∈ lw_all := lw_g (lw_at lw_m5 25 rfl) rfl
theorem q1098 : (Jvm.Cond.selects "NineKeysRound" ({ cls := "NineKeysRound", name := "which", desc := "(I)I" } : Jvm.MethodName) ({ cls := "NineKeysRound", name := "which", desc := "(I)I" } : Jvm.MethodName)) ∈ lw_all := lw_g (lw_at lw_m5 26 rfl) rfl
theorem q1099 : (Jvm.Cond.code ({ cls := "NineKeysRound", name := "which", desc := "(I)I" } : Jvm.MethodName) prog_1_method_73_code (5 : Nat) (Option.some Jvm.ClassFile.FieldType.int)) ∈ lw_all := lw_g (lw_at lw_m5 27 rfl) rfl
theorem q1100 : (Jvm.Cond.methodLink "NineKeysRound" (386 : Nat) ({ cls := "NineKeysRound", name := "isPaper", desc := "()Z" } : Jvm.MethodName)) ∈ lw_all := lw_g (lw_at lw_m5 28 rfl) rfl
theorem q1101 : (Jvm.Cond.privateMethod ({ cls := "NineKeysRound", name := "isPaper", desc := "()Z" } : Jvm.MethodName)) ∈ lw_tbl := lw_at lw_m5 29 rfl
theorem q1102 : (Jvm.Cond.instanceMethod ({ cls := "NineKeysRound", name := "isPaper", desc := "()Z" } : Jvm.MethodName)) ∈ lw_all := lw_g (lw_at lw_m5 30 rfl) rfl
theorem q1103 : (Jvm.Cond.code ({ cls := "NineKeysRound", name := "isPaper", desc := "()Z" } : Jvm.MethodName) prog_1_method_72_code (2 : Nat) (Option.some Jvm.ClassFile.FieldType.boolean)) ∈ lw_all := lw_g (lw_at lw_m5 31 rfl) rfl
theorem q1105 : (Jvm.Cond.instanceMethod ({ cls := "NineKeysRound", name := "fit", desc := "(II)I" } : Jvm.MethodName)) ∈ lw_all := lw_g (lw_at lw_m5 33 rfl) rfl
theorem q1106 : (Jvm.Cond.selects "NineKeysRound" ({ cls := "NineKeysRound", name := "fit", desc := "(II)I" } : Jvm.MethodName) ({ cls := "NineKeysRound", name := "fit", desc := "(II)I" } : Jvm.MethodName)) ∈ lw_all := lw_g (lw_at lw_m5 34 rfl) rfl
theorem q1107 : (Jvm.Cond.code ({ cls := "NineKeysRound", name := "fit", desc := "(II)I" } : Jvm.MethodName) prog_1_method_75_code (4 : Nat) (Option.some Jvm.ClassFile.FieldType.int)) ∈ lw_all := lw_g (lw_at lw_m5 35 rfl) rfl
theorem q1108 : (Jvm.Cond.methodLink "NineKeysRound" (393 : Nat) ({ cls := "NineKeysRound", name := "goFits", desc := "(II)V" } : Jvm.MethodName)) ∈ lw_all := lw_g (lw_at lw_m5 36 rfl) rfl
theorem q1109 : (Jvm.Cond.privateMethod ({ cls := "NineKeysRound", name := "goFits", desc := "(II)V" } : Jvm.MethodName)) ∈ lw_tbl := lw_at lw_m5 37 rfl
theorem q1110 : (Jvm.Cond.instanceMethod ({ cls := "NineKeysRound", name := "goFits", desc := "(II)V" } : Jvm.MethodName)) ∈ lw_all := lw_g (lw_at lw_m5 38 rfl) rfl
theorem q1111 : (Jvm.Cond.code ({ cls := "NineKeysRound", name := "goFits", desc := "(II)V" } : Jvm.MethodName) prog_1_method_74_code (4 : Nat) (Option.none : Option Jvm.ClassFile.FieldType)) ∈ lw_all := lw_g (lw_at lw_m5 39 rfl) rfl
theorem q1113 : (Jvm.Cond.instanceMethod ({ cls := "NineKeysRound", name := "hang", desc := "(II)I" } : Jvm.MethodName)) ∈ lw_all := lw_g (lw_at lw_m5 41 rfl) rfl
theorem q1114 : (Jvm.Cond.selects "NineKeysRound" ({ cls := "NineKeysRound", name := "hang", desc := "(II)I" } : Jvm.MethodName) ({ cls := "NineKeysRound", name := "hang", desc := "(II)I" } : Jvm.MethodName)) ∈ lw_all := lw_g (lw_at lw_m5 42 rfl) rfl
theorem q1115 : (Jvm.Cond.code ({ cls := "NineKeysRound", name := "hang", desc := "(II)I" } : Jvm.MethodName) prog_1_method_77_code (9 : Nat) (Option.some Jvm.ClassFile.FieldType.int)) ∈ lw_all := lw_g (lw_at lw_m5 43 rfl) rfl
theorem q1116 : (Jvm.Cond.methodLink "NineKeysRound" (396 : Nat) ({ cls := "java/lang/Math", name := "abs", desc := "(I)I" } : Jvm.MethodName)) ∈ lw_all := lw_g (lw_at lw_m5 44 rfl) rfl
theorem q1117 : (Jvm.Cond.methodLink "NineKeysRound" (399 : Nat) ({ cls := "NineKeysRound", name := "nearestPost", desc := "(II)I" } : Jvm.MethodName)) ∈ lw_all := lw_g (lw_at lw_m5 45 rfl) rfl
theorem q1118 : (Jvm.Cond.privateMethod ({ cls := "NineKeysRound", name := "nearestPost", desc := "(II)I" } : Jvm.MethodName)) ∈ lw_tbl := lw_at lw_m5 46 rfl
theorem q1119 : (Jvm.Cond.instanceMethod ({ cls := "NineKeysRound", name := "nearestPost", desc := "(II)I" } : Jvm.MethodName)) ∈ lw_all := lw_g (lw_at lw_m5 47 rfl) rfl
theorem q1120 : (Jvm.Cond.code ({ cls := "NineKeysRound", name := "nearestPost", desc := "(II)I" } : Jvm.MethodName) prog_1_method_76_code (5 : Nat) (Option.some Jvm.ClassFile.FieldType.int)) ∈ lw_all := lw_g (lw_at lw_m5 48 rfl) rfl
theorem q1122 : (Jvm.Cond.instanceMethod ({ cls := "NineKeysRound", name := "drawn", desc := "(III)I" } : Jvm.MethodName)) ∈ lw_all := lw_g (lw_at lw_m5 50 rfl) rfl
theorem q1123 : (Jvm.Cond.selects "NineKeysRound" ({ cls := "NineKeysRound", name := "drawn", desc := "(III)I" } : Jvm.MethodName) ({ cls := "NineKeysRound", name := "drawn", desc := "(III)I" } : Jvm.MethodName)) ∈ lw_all := lw_g (lw_at lw_m5 51 rfl) rfl
theorem q1124 : (Jvm.Cond.code ({ cls := "NineKeysRound", name := "drawn", desc := "(III)I" } : Jvm.MethodName) prog_1_method_79_code (10 : Nat) (Option.some Jvm.ClassFile.FieldType.int)) ∈ lw_all := lw_g (lw_at lw_m5 52 rfl) rfl
theorem q1125 : (Jvm.Cond.constant "NineKeysRound" (405 : Nat) (1103515245 : Int32)) ∈ lw_all := lw_g (lw_at lw_m5 53 rfl) rfl
theorem q1126 : (Jvm.Cond.methodLink "NineKeysRound" (406 : Nat) ({ cls := "NineKeysRound", name := "roundFrom", desc := "(IZ)I" } : Jvm.MethodName)) ∈ lw_all := lw_g (lw_at lw_m5 54 rfl) rfl
theorem q1127 : (Jvm.Cond.privateMethod ({ cls := "NineKeysRound", name := "roundFrom", desc := "(IZ)I" } : Jvm.MethodName)) ∈ lw_tbl := lw_at lw_m5 55 rfl
theorem q1128 : (Jvm.Cond.instanceMethod ({ cls := "NineKeysRound", name := "roundFrom", desc := "(IZ)I" } : Jvm.MethodName)) ∈ lw_all := lw_g (lw_at lw_m5 56 rfl) rfl
theorem q1129 : (Jvm.Cond.code ({ cls := "NineKeysRound", name := "roundFrom", desc := "(IZ)I" } : Jvm.MethodName) prog_1_method_78_code (6 : Nat) (Option.some Jvm.ClassFile.FieldType.int)) ∈ lw_all := lw_g (lw_at lw_m5 57 rfl) rfl
theorem q1131 : (Jvm.Cond.instanceMethod ({ cls := "NineKeysRound", name := "walk", desc := "(I)I" } : Jvm.MethodName)) ∈ lw_all := lw_g (lw_at lw_m5 59 rfl) rfl
theorem q1132 : (Jvm.Cond.selects "NineKeysRound" ({ cls := "NineKeysRound", name := "walk", desc := "(I)I" } : Jvm.MethodName) ({ cls := "NineKeysRound", name := "walk", desc := "(I)I" } : Jvm.MethodName)) ∈ lw_all := lw_g (lw_at lw_m5 60 rfl) rfl
theorem q1133 : (Jvm.Cond.code ({ cls := "NineKeysRound", name := "walk", desc := "(I)I" } : Jvm.MethodName) prog_1_method_80_code (3 : Nat) (Option.some Jvm.ClassFile.FieldType.int)) ∈ lw_all := lw_g (lw_at lw_m5 61 rfl) rfl
theorem q1135 : (Jvm.Cond.instanceMethod ({ cls := "NineKeysRound", name := "waits", desc := "(I)I" } : Jvm.MethodName)) ∈ lw_all := lw_g (lw_at lw_m5 63 rfl) rfl
theorem q1136 : (Jvm.Cond.selects "NineKeysRound" ({ cls := "NineKeysRound", name := "waits", desc := "(I)I" } : Jvm.MethodName) ({ cls := "NineKeysRound", name := "waits", desc := "(I)I" } : Jvm.MethodName)) ∈ lw_all := lw_g (lw_at lw_m5 64 rfl) rfl
theorem q1137 : (Jvm.Cond.code ({ cls := "NineKeysRound", name := "waits", desc := "(I)I" } : Jvm.MethodName) prog_1_method_81_code (2 : Nat) (Option.some Jvm.ClassFile.FieldType.int)) ∈ lw_all := lw_g (lw_at lw_m5 65 rfl) rfl
theorem q1139 : (Jvm.Cond.instanceMethod ({ cls := "NineKeysRound", name := "home", desc := "()I" } : Jvm.MethodName)) ∈ lw_all := lw_g (lw_at lw_m5 67 rfl) rfl
theorem q1140 : (Jvm.Cond.selects "NineKeysRound" ({ cls := "NineKeysRound", name := "home", desc := "()I" } : Jvm.MethodName) ({ cls := "NineKeysRound", name := "home", desc := "()I" } : Jvm.MethodName)) ∈ lw_all := lw_g (lw_at lw_m5 68 rfl) rfl
theorem q1141 : (Jvm.Cond.code ({ cls := "NineKeysRound", name := "home", desc := "()I" } : Jvm.MethodName) prog_1_method_82_code (2 : Nat) (Option.some Jvm.ClassFile.FieldType.int)) ∈ lw_all := lw_g (lw_at lw_m5 69 rfl) rfl
theorem q1143 : (Jvm.Cond.instanceMethod ({ cls := "NineKeysRound", name := "led", desc := "(I)I" } : Jvm.MethodName)) ∈ lw_all := lw_g (lw_at lw_m5 71 rfl) rfl
theorem q1144 : (Jvm.Cond.selects "NineKeysRound" ({ cls := "NineKeysRound", name := "led", desc := "(I)I" } : Jvm.MethodName) ({ cls := "NineKeysRound", name := "led", desc := "(I)I" } : Jvm.MethodName)) ∈ lw_all := lw_g (lw_at lw_m5 72 rfl) rfl
theorem q1145 : (Jvm.Cond.code ({ cls := "NineKeysRound", name := "led", desc := "(I)I" } : Jvm.MethodName) prog_1_method_83_code (2 : Nat) (Option.some Jvm.ClassFile.FieldType.int)) ∈ lw_all := lw_g (lw_at lw_m5 73 rfl) rfl
theorem q1147 : (Jvm.Cond.instanceMethod ({ cls := "NineKeysRound", name := "image", desc := "()I" } : Jvm.MethodName)) ∈ lw_all := lw_g (lw_at lw_m5 75 rfl) rfl
theorem q1148 : (Jvm.Cond.selects "NineKeysRound" ({ cls := "NineKeysRound", name := "image", desc := "()I" } : Jvm.MethodName) ({ cls := "NineKeysRound", name := "image", desc := "()I" } : Jvm.MethodName)) ∈ lw_all := lw_g (lw_at lw_m5 76 rfl) rfl
theorem q1149 : (Jvm.Cond.code ({ cls := "NineKeysRound", name := "image", desc := "()I" } : Jvm.MethodName) prog_1_method_84_code (2 : Nat) (Option.some Jvm.ClassFile.FieldType.int)) ∈ lw_all := lw_g (lw_at lw_m5 77 rfl) rfl
theorem q1151 : (Jvm.Cond.instanceMethod ({ cls := "NineKeysRound", name := "back", desc := "()I" } : Jvm.MethodName)) ∈ lw_all := lw_g (lw_at lw_m5 79 rfl) rfl
theorem q1152 : (Jvm.Cond.selects "NineKeysRound" ({ cls := "NineKeysRound", name := "back", desc := "()I" } : Jvm.MethodName) ({ cls := "NineKeysRound", name := "back", desc := "()I" } : Jvm.MethodName)) ∈ lw_all := lw_g (lw_at lw_m5 80 rfl) rfl
theorem q1153 : (Jvm.Cond.code ({ cls := "NineKeysRound", name := "back", desc := "()I" } : Jvm.MethodName) prog_1_method_85_code (2 : Nat) (Option.some Jvm.ClassFile.FieldType.int)) ∈ lw_all := lw_g (lw_at lw_m5 81 rfl) rfl
theorem q1155 : (Jvm.Cond.instanceMethod ({ cls := "NineKeysRound", name := "body", desc := "(I)I" } : Jvm.MethodName)) ∈ lw_all := lw_g (lw_at lw_m5 83 rfl) rfl
theorem q1156 : (Jvm.Cond.selects "NineKeysRound" ({ cls := "NineKeysRound", name := "body", desc := "(I)I" } : Jvm.MethodName) ({ cls := "NineKeysRound", name := "body", desc := "(I)I" } : Jvm.MethodName)) ∈ lw_all := lw_g (lw_at lw_m5 84 rfl) rfl
theorem q1157 : (Jvm.Cond.code ({ cls := "NineKeysRound", name := "body", desc := "(I)I" } : Jvm.MethodName) prog_1_method_89_code (2 : Nat) (Option.some Jvm.ClassFile.FieldType.int)) ∈ lw_all := lw_g (lw_at lw_m5 85 rfl) rfl
theorem q1158 : (Jvm.Cond.methodLink "NineKeysRound" (479 : Nat) ({ cls := "NineKeysRound", name := "made", desc := "(I)LNineKeysRound$Key;" } : Jvm.MethodName)) ∈ lw_all := lw_g (lw_at lw_m5 86 rfl) rfl
theorem q1159 : (Jvm.Cond.privateMethod ({ cls := "NineKeysRound", name := "made", desc := "(I)LNineKeysRound$Key;" } : Jvm.MethodName)) ∈ lw_tbl := lw_at lw_m5 87 rfl
theorem q1160 : (Jvm.Cond.instanceMethod ({ cls := "NineKeysRound", name := "made", desc := "(I)LNineKeysRound$Key;" } : Jvm.MethodName)) ∈ lw_all := lw_g (lw_at lw_m5 88 rfl) rfl
theorem q1161 : (Jvm.Cond.code ({ cls := "NineKeysRound", name := "made", desc := "(I)LNineKeysRound$Key;" } : Jvm.MethodName) prog_1_method_88_code (2 : Nat) (Option.some (Jvm.ClassFile.FieldType.object "NineKeysRound$Key"))) ∈ lw_all := lw_g (lw_at lw_m5 89 rfl) rfl
theorem q1162 : (Jvm.Cond.classLink "NineKeysRound" (455 : Nat) "NineKeysRound$Dent") ∈ lw_all := lw_g (lw_at lw_m5 90 rfl) rfl
theorem q1164 : (Jvm.Cond.methodLink "NineKeysRound" (457 : Nat) ({ cls := "NineKeysRound$Dent", name := "<init>", desc := "(LNineKeysRound;I)V" } : Jvm.MethodName)) ∈ lw_all := lw_g (lw_at lw_m5 92 rfl) rfl
theorem q1184 : (Jvm.Cond.classLink "NineKeysRound" (460 : Nat) "NineKeysRound$Lamp") ∈ lw_all := lw_g (lw_at lw_m5 112 rfl) rfl
theorem q1186 : (Jvm.Cond.methodLink "NineKeysRound" (462 : Nat) ({ cls := "NineKeysRound$Lamp", name := "<init>", desc := "(LNineKeysRound;I)V" } : Jvm.MethodName)) ∈ lw_all := lw_g (lw_at lw_m5 114 rfl) rfl
theorem q1196 : (Jvm.Cond.classLink "NineKeysRound" (463 : Nat) "NineKeysRound$Dog") ∈ lw_all := lw_g (lw_at lw_m5 124 rfl) rfl
theorem q1198 : (Jvm.Cond.methodLink "NineKeysRound" (465 : Nat) ({ cls := "NineKeysRound$Dog", name := "<init>", desc := "(LNineKeysRound;I)V" } : Jvm.MethodName)) ∈ lw_all := lw_g (lw_at lw_m5 126 rfl) rfl
theorem q1209 : (Jvm.Cond.classLink "NineKeysRound" (466 : Nat) "NineKeysRound$Paper") ∈ lw_all := lw_g (lw_at lw_m5 137 rfl) rfl
theorem q1211 : (Jvm.Cond.methodLink "NineKeysRound" (468 : Nat) ({ cls := "NineKeysRound$Paper", name := "<init>", desc := "(LNineKeysRound;I)V" } : Jvm.MethodName)) ∈ lw_all := lw_g (lw_at lw_m5 139 rfl) rfl
theorem q1222 : (Jvm.Cond.classLink "NineKeysRound" (469 : Nat) "NineKeysRound$Thief") ∈ lw_all := lw_g (lw_at lw_m5 150 rfl) rfl
theorem q1224 : (Jvm.Cond.methodLink "NineKeysRound" (471 : Nat) ({ cls := "NineKeysRound$Thief", name := "<init>", desc := "(LNineKeysRound;I)V" } : Jvm.MethodName)) ∈ lw_all := lw_g (lw_at lw_m5 152 rfl) rfl
theorem q1236 : (Jvm.Cond.classLink "NineKeysRound" (472 : Nat) "NineKeysRound$Dice") ∈ lw_all := lw_g (lw_at lw_m5 164 rfl) rfl
theorem q1238 : (Jvm.Cond.methodLink "NineKeysRound" (474 : Nat) ({ cls := "NineKeysRound$Dice", name := "<init>", desc := "(LNineKeysRound;I)V" } : Jvm.MethodName)) ∈ lw_all := lw_g (lw_at lw_m5 166 rfl) rfl
theorem q1248 : (Jvm.Cond.classLink "NineKeysRound" (475 : Nat) "NineKeysRound$Sleep") ∈ lw_all := lw_g (lw_at lw_m5 176 rfl) rfl
theorem q1250 : (Jvm.Cond.methodLink "NineKeysRound" (477 : Nat) ({ cls := "NineKeysRound$Sleep", name := "<init>", desc := "(LNineKeysRound;I)V" } : Jvm.MethodName)) ∈ lw_all := lw_g (lw_at lw_m5 178 rfl) rfl
theorem q1263 : (Jvm.Cond.methodLink "NineKeysRound" (478 : Nat) ({ cls := "NineKeysRound$Key", name := "<init>", desc := "(LNineKeysRound;I)V" } : Jvm.MethodName)) ∈ lw_all := lw_g (lw_at lw_m5 191 rfl) rfl
theorem q1268 : (Jvm.Cond.instanceMethod ({ cls := "NineKeysRound", name := "act", desc := "(III)I" } : Jvm.MethodName)) ∈ lw_all := lw_g (lw_at lw_m5 196 rfl) rfl
theorem q1269 : (Jvm.Cond.selects "NineKeysRound" ({ cls := "NineKeysRound", name := "act", desc := "(III)I" } : Jvm.MethodName) ({ cls := "NineKeysRound", name := "act", desc := "(III)I" } : Jvm.MethodName)) ∈ lw_all := lw_g (lw_at lw_m5 197 rfl) rfl
theorem q1270 : (Jvm.Cond.code ({ cls := "NineKeysRound", name := "act", desc := "(III)I" } : Jvm.MethodName) prog_1_method_91_code (6 : Nat) (Option.some Jvm.ClassFile.FieldType.int)) ∈ lw_all := lw_g (lw_at lw_m5 198 rfl) rfl
theorem q1271 : (Jvm.Cond.methodLink "NineKeysRound" (483 : Nat) ({ cls := "NineKeysRound", name := "isBody", desc := "(I)Z" } : Jvm.MethodName)) ∈ lw_all := lw_g (lw_at lw_m5 199 rfl) rfl
theorem q1272 : (Jvm.Cond.privateMethod ({ cls := "NineKeysRound", name := "isBody", desc := "(I)Z" } : Jvm.MethodName)) ∈ lw_tbl := lw_at lw_m5 200 rfl
theorem q1273 : (Jvm.Cond.instanceMethod ({ cls := "NineKeysRound", name := "isBody", desc := "(I)Z" } : Jvm.MethodName)) ∈ lw_all := lw_g (lw_at lw_m5 201 rfl) rfl
theorem q1274 : (Jvm.Cond.code ({ cls := "NineKeysRound", name := "isBody", desc := "(I)Z" } : Jvm.MethodName) prog_1_method_87_code (2 : Nat) (Option.some Jvm.ClassFile.FieldType.boolean)) ∈ lw_all := lw_g (lw_at lw_m5 202 rfl) rfl
theorem q1275 : (Jvm.Cond.interfaceEntry "NineKeysRound" (486 : Nat)) ∈ lw_tbl := lw_at lw_m5 203 rfl
theorem q1276 : (Jvm.Cond.methodLink "NineKeysRound" (486 : Nat) ({ cls := "NineKeysRound$Turns", name := "turnsIn", desc := "(I)I" } : Jvm.MethodName)) ∈ lw_all := lw_g (lw_at lw_m5 204 rfl) rfl
theorem q1286 : (Jvm.Cond.privateMethod ({ cls := "NineKeysRound", name := "ran", desc := "(I)V" } : Jvm.MethodName)) ∈ lw_tbl := lw_at lw_m5 214 rfl
theorem q1287 : (Jvm.Cond.instanceMethod ({ cls := "NineKeysRound", name := "ran", desc := "(I)V" } : Jvm.MethodName)) ∈ lw_all := lw_g (lw_at lw_m5 215 rfl) rfl
theorem q1288 : (Jvm.Cond.code ({ cls := "NineKeysRound", name := "ran", desc := "(I)V" } : Jvm.MethodName) prog_1_method_86_code (2 : Nat) (Option.none : Option Jvm.ClassFile.FieldType)) ∈ lw_all := lw_g (lw_at lw_m5 216 rfl) rfl
theorem q1320 : (Jvm.Cond.interfaceEntry "NineKeysRound" (491 : Nat)) ∈ lw_tbl := lw_at lw_m6 8 rfl
theorem q1321 : (Jvm.Cond.methodLink "NineKeysRound" (491 : Nat) ({ cls := "NineKeysRound$Tells", name := "tells", desc := "(I)I" } : Jvm.MethodName)) ∈ lw_all := lw_g (lw_at lw_m6 9 rfl) rfl
theorem q1412 : (Jvm.Cond.methodLink "NineKeysRound" (496 : Nat) ({ cls := "NineKeysRound$Key", name := "sees", desc := "(I)I" } : Jvm.MethodName)) ∈ lw_all := lw_g (lw_at lw_m6 100 rfl) rfl
theorem q1413 : (Jvm.Cond.methodLink "NineKeysRound" (499 : Nat) ({ cls := "NineKeysRound$Key", name := "fears", desc := "(I)I" } : Jvm.MethodName)) ∈ lw_all := lw_g (lw_at lw_m6 101 rfl) rfl
theorem q1415 : (Jvm.Cond.instanceMethod ({ cls := "NineKeysRound", name := "trace", desc := "(I)I" } : Jvm.MethodName)) ∈ lw_all := lw_g (lw_at lw_m6 103 rfl) rfl
theorem q1416 : (Jvm.Cond.selects "NineKeysRound" ({ cls := "NineKeysRound", name := "trace", desc := "(I)I" } : Jvm.MethodName) ({ cls := "NineKeysRound", name := "trace", desc := "(I)I" } : Jvm.MethodName)) ∈ lw_all := lw_g (lw_at lw_m6 104 rfl) rfl
theorem q1417 : (Jvm.Cond.code ({ cls := "NineKeysRound", name := "trace", desc := "(I)I" } : Jvm.MethodName) prog_1_method_92_code (2 : Nat) (Option.some Jvm.ClassFile.FieldType.int)) ∈ lw_all := lw_g (lw_at lw_m6 105 rfl) rfl
theorem q1419 : (Jvm.Cond.instanceMethod ({ cls := "NineKeysRound", name := "keep", desc := "(II)I" } : Jvm.MethodName)) ∈ lw_all := lw_g (lw_at lw_m6 107 rfl) rfl
theorem q1420 : (Jvm.Cond.selects "NineKeysRound" ({ cls := "NineKeysRound", name := "keep", desc := "(II)I" } : Jvm.MethodName) ({ cls := "NineKeysRound", name := "keep", desc := "(II)I" } : Jvm.MethodName)) ∈ lw_all := lw_g (lw_at lw_m6 108 rfl) rfl
theorem q1421 : (Jvm.Cond.code ({ cls := "NineKeysRound", name := "keep", desc := "(II)I" } : Jvm.MethodName) prog_1_method_93_code (3 : Nat) (Option.some Jvm.ClassFile.FieldType.int)) ∈ lw_all := lw_g (lw_at lw_m6 109 rfl) rfl
theorem q1423 : (Jvm.Cond.instanceMethod ({ cls := "NineKeysRound", name := "row", desc := "(III)I" } : Jvm.MethodName)) ∈ lw_all := lw_g (lw_at lw_m6 111 rfl) rfl
theorem q1424 : (Jvm.Cond.selects "NineKeysRound" ({ cls := "NineKeysRound", name := "row", desc := "(III)I" } : Jvm.MethodName) ({ cls := "NineKeysRound", name := "row", desc := "(III)I" } : Jvm.MethodName)) ∈ lw_all := lw_g (lw_at lw_m6 112 rfl) rfl
theorem q1425 : (Jvm.Cond.codeWith ({ cls := "NineKeysRound", name := "row", desc := "(III)I" } : Jvm.MethodName) prog_1_method_95_code (5 : Nat) (Option.some Jvm.ClassFile.FieldType.int) [((24 : Nat), (35 : Nat), (38 : Nat), (518 : Nat))]) ∈ lw_all := lw_g (lw_at lw_m6 113 rfl) rfl
theorem q1426 : (Jvm.Cond.classLink "NineKeysRound" (518 : Nat) "java/lang/NegativeArraySizeException") ∈ lw_all := lw_g (lw_at lw_m6 114 rfl) rfl
theorem q1440 : (Jvm.Cond.methodLink "NineKeysRound" (514 : Nat) ({ cls := "NineKeysRound", name := "newRow", desc := "(II)LNineKeysRound$Row;" } : Jvm.MethodName)) ∈ lw_all := lw_g (lw_at lw_m6 128 rfl) rfl
theorem q1441 : (Jvm.Cond.static ({ cls := "NineKeysRound", name := "newRow", desc := "(II)LNineKeysRound$Row;" } : Jvm.MethodName)) ∈ lw_all := lw_g (lw_at lw_m6 129 rfl) rfl
theorem q1442 : (Jvm.Cond.code ({ cls := "NineKeysRound", name := "newRow", desc := "(II)LNineKeysRound$Row;" } : Jvm.MethodName) prog_1_method_94_code (2 : Nat) (Option.some (Jvm.ClassFile.FieldType.object "NineKeysRound$Row"))) ∈ lw_all := lw_g (lw_at lw_m6 130 rfl) rfl
theorem q1444 : (Jvm.Cond.methodLink "NineKeysRound" (502 : Nat) ({ cls := "NineKeysRound$ByteRow", name := "<init>", desc := "(I)V" } : Jvm.MethodName)) ∈ lw_all := lw_g (lw_at lw_m6 132 rfl) rfl
theorem q1456 : (Jvm.Cond.methodLink "NineKeysRound" (504 : Nat) ({ cls := "NineKeysRound$ShortRow", name := "<init>", desc := "(I)V" } : Jvm.MethodName)) ∈ lw_all := lw_g (lw_at lw_m6 144 rfl) rfl
theorem q1465 : (Jvm.Cond.classLink "NineKeysRound" (505 : Nat) "NineKeysRound$IntRow") ∈ lw_all := lw_g (lw_at lw_m6 153 rfl) rfl
theorem q1467 : (Jvm.Cond.methodLink "NineKeysRound" (507 : Nat) ({ cls := "NineKeysRound$IntRow", name := "<init>", desc := "(I)V" } : Jvm.MethodName)) ∈ lw_all := lw_g (lw_at lw_m6 155 rfl) rfl
theorem q1475 : (Jvm.Cond.classLink "NineKeysRound" (508 : Nat) "NineKeysRound$LongRow") ∈ lw_all := lw_g (lw_at lw_m6 163 rfl) rfl
theorem q1477 : (Jvm.Cond.methodLink "NineKeysRound" (510 : Nat) ({ cls := "NineKeysRound$LongRow", name := "<init>", desc := "(I)V" } : Jvm.MethodName)) ∈ lw_all := lw_g (lw_at lw_m6 165 rfl) rfl
theorem q1486 : (Jvm.Cond.classLink "NineKeysRound" (511 : Nat) "NineKeysRound$BooleanRow") ∈ lw_all := lw_g (lw_at lw_m6 174 rfl) rfl
theorem q1488 : (Jvm.Cond.methodLink "NineKeysRound" (513 : Nat) ({ cls := "NineKeysRound$BooleanRow", name := "<init>", desc := "(I)V" } : Jvm.MethodName)) ∈ lw_all := lw_g (lw_at lw_m6 176 rfl) rfl
theorem q1497 : (Jvm.Cond.instanceMethod ({ cls := "NineKeysRound", name := "put", desc := "(IIJ)I" } : Jvm.MethodName)) ∈ lw_all := lw_g (lw_at lw_m6 185 rfl) rfl
theorem q1498 : (Jvm.Cond.selects "NineKeysRound" ({ cls := "NineKeysRound", name := "put", desc := "(IIJ)I" } : Jvm.MethodName) ({ cls := "NineKeysRound", name := "put", desc := "(IIJ)I" } : Jvm.MethodName)) ∈ lw_all := lw_g (lw_at lw_m6 186 rfl) rfl
theorem q1499 : (Jvm.Cond.codeWith ({ cls := "NineKeysRound", name := "put", desc := "(IIJ)I" } : Jvm.MethodName) prog_1_method_96_code (6 : Nat) (Option.some Jvm.ClassFile.FieldType.int) [((9 : Nat), (31 : Nat), (32 : Nat), (135 : Nat)), ((9 : Nat), (31 : Nat), (37 : Nat), (133 : Nat)), ((9 : Nat), (31 : Nat), (42 : Nat), (137 : Nat))]) ∈ lw_all := lw_g (lw_at lw_m6 187 rfl) rfl
theorem q1500 : (Jvm.Cond.classLink "NineKeysRound" (520 : Nat) "NineKeysRound$Row") ∈ lw_all := lw_g (lw_at lw_m6 188 rfl) rfl
theorem q1501 : (Jvm.Cond.methodLink "NineKeysRound" (522 : Nat) ({ cls := "NineKeysRound$Row", name := "put", desc := "(IJ)Z" } : Jvm.MethodName)) ∈ lw_all := lw_g (lw_at lw_m6 189 rfl) rfl
theorem q1520 : (Jvm.Cond.instanceMethod ({ cls := "NineKeysRound", name := "element", desc := "(II)J" } : Jvm.MethodName)) ∈ lw_all := lw_g (lw_at lw_m6 208 rfl) rfl
theorem q1521 : (Jvm.Cond.selects "NineKeysRound" ({ cls := "NineKeysRound", name := "element", desc := "(II)J" } : Jvm.MethodName) ({ cls := "NineKeysRound", name := "element", desc := "(II)J" } : Jvm.MethodName)) ∈ lw_all := lw_g (lw_at lw_m6 209 rfl) rfl
theorem q1522 : (Jvm.Cond.codeWith ({ cls := "NineKeysRound", name := "element", desc := "(II)J" } : Jvm.MethodName) prog_1_method_97_code (4 : Nat) (Option.some Jvm.ClassFile.FieldType.long) [((11 : Nat), (24 : Nat), (25 : Nat), (135 : Nat)), ((11 : Nat), (24 : Nat), (30 : Nat), (133 : Nat)), ((11 : Nat), (24 : Nat), (35 : Nat), (137 : Nat))]) ∈ lw_all := lw_g (lw_at lw_m6 210 rfl) rfl
theorem q1523 : (Jvm.Cond.constantLong "NineKeysRound" (528 : Nat) (-9223372036854775808 : Int64)) ∈ lw_all := lw_g (lw_at lw_m6 211 rfl) rfl
theorem q1524 : (Jvm.Cond.methodLink "NineKeysRound" (530 : Nat) ({ cls := "NineKeysRound$Row", name := "at", desc := "(I)J" } : Jvm.MethodName)) ∈ lw_all := lw_g (lw_at lw_m6 212 rfl) rfl
theorem q1539 : (Jvm.Cond.instanceMethod ({ cls := "NineKeysRound", name := "shift", desc := "(IIIII)I" } : Jvm.MethodName)) ∈ lw_all := lw_g (lw_at lw_m6 227 rfl) rfl
theorem q1540 : (Jvm.Cond.selects "NineKeysRound" ({ cls := "NineKeysRound", name := "shift", desc := "(IIIII)I" } : Jvm.MethodName) ({ cls := "NineKeysRound", name := "shift", desc := "(IIIII)I" } : Jvm.MethodName)) ∈ lw_all := lw_g (lw_at lw_m6 228 rfl) rfl
theorem q1541 : (Jvm.Cond.codeWith ({ cls := "NineKeysRound", name := "shift", desc := "(IIIII)I" } : Jvm.MethodName) prog_1_method_98_code (7 : Nat) (Option.some Jvm.ClassFile.FieldType.int) [((37 : Nat), (63 : Nat), (66 : Nat), (133 : Nat)), ((37 : Nat), (63 : Nat), (71 : Nat), (137 : Nat))]) ∈ lw_all := lw_g (lw_at lw_m6 229 rfl) rfl
theorem q1542 : (Jvm.Cond.methodLink "NineKeysRound" (531 : Nat) ({ cls := "NineKeysRound$Row", name := "copy", desc := "(ILNineKeysRound$Row;II)V" } : Jvm.MethodName)) ∈ lw_all := lw_g (lw_at lw_m6 230 rfl) rfl
theorem q1573 : (Jvm.Cond.instanceMethod ({ cls := "NineKeysRound", name := "taken", desc := "(II)I" } : Jvm.MethodName)) ∈ lw_all := lw_g (lw_at lw_m7 21 rfl) rfl
theorem q1574 : (Jvm.Cond.selects "NineKeysRound" ({ cls := "NineKeysRound", name := "taken", desc := "(II)I" } : Jvm.MethodName) ({ cls := "NineKeysRound", name := "taken", desc := "(II)I" } : Jvm.MethodName)) ∈ lw_all := lw_g (lw_at lw_m7 22 rfl) rfl
theorem q1575 : (Jvm.Cond.codeWith ({ cls := "NineKeysRound", name := "taken", desc := "(II)I" } : Jvm.MethodName) prog_1_method_99_code (4 : Nat) (Option.some Jvm.ClassFile.FieldType.int) [((19 : Nat), (46 : Nat), (47 : Nat), (135 : Nat)), ((19 : Nat), (46 : Nat), (51 : Nat), (133 : Nat))]) ∈ lw_all := lw_g (lw_at lw_m7 23 rfl) rfl
theorem q1576 : (Jvm.Cond.methodLink "NineKeysRound" (535 : Nat) ({ cls := "NineKeysRound$Key", name := "isUnder", desc := "(I)Z" } : Jvm.MethodName)) ∈ lw_all := lw_g (lw_at lw_m7 24 rfl) rfl
theorem q1626 : (Jvm.Cond.methodLink "NineKeysRound" (538 : Nat) ({ cls := "NineKeysRound$Key", name := "kind", desc := "()I" } : Jvm.MethodName)) ∈ lw_all := lw_g (lw_at lw_m7 74 rfl) rfl
theorem q1628 : (Jvm.Cond.instanceMethod ({ cls := "NineKeysRound", name := "count", desc := "(I)I" } : Jvm.MethodName)) ∈ lw_all := lw_g (lw_at lw_m7 76 rfl) rfl
theorem q1629 : (Jvm.Cond.selects "NineKeysRound" ({ cls := "NineKeysRound", name := "count", desc := "(I)I" } : Jvm.MethodName) ({ cls := "NineKeysRound", name := "count", desc := "(I)I" } : Jvm.MethodName)) ∈ lw_all := lw_g (lw_at lw_m7 77 rfl) rfl
theorem q1630 : (Jvm.Cond.code ({ cls := "NineKeysRound", name := "count", desc := "(I)I" } : Jvm.MethodName) prog_1_method_100_code (2 : Nat) (Option.some Jvm.ClassFile.FieldType.int)) ∈ lw_all := lw_g (lw_at lw_m7 78 rfl) rfl
theorem in_X0 : ∀ w ∈ wsX00, w ∈ lw_all := lw_in wsX00 [238, 240, 242, 244, 246, 248, 250, 252, 254, 256, 258, 260, 262, 264, 266, 268, 270, 272, 274, 276, 278, 280, 282, 284, 286, 288, 290, 292, 294, 296, 298, 300, 302, 304, 306, 308, 310, 312, 314, 316, 318, 320, 322, 324, 326, 328, 330, 332, 334] (by decide +kernel) (by decide +kernel)
