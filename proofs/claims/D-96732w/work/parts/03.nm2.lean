/-! NineKeysRoundModel -/
set_option maxRecDepth 100000
def RX2 : String := "NineKeysRoundModel"
def TX2 : u_T := fun k => match k with
  | 0 => ("NineKeysRoundModel", "many", "I", false)
  | 1 => ("NineKeysRoundModel", "placeX", "[I", true)
  | 2 => ("NineKeysRoundModel", "placeY", "[I", true)
  | 3 => ("NineKeysRoundModel", "worth", "[I", true)
  | 4 => ("NineKeysRoundModel", "due", "[I", true)
  | 5 => ("NineKeysRoundModel", "ways", "[I", true)
  | 6 => ("NineKeysRoundModel", "taped", "I", false)
  | 7 => ("NineKeysRoundModel", "tape", "[I", true)
  | 8 => ("NineKeysRoundModel", "isTold", "Z", false)
  | 9 => ("NineKeysRoundModel", "lines", "I", false)
  | 10 => ("NineKeysRoundModel", "asks", "[I", true)
  | 11 => ("NineKeysRoundModel", "says", "[I", true)
  | 12 => ("NineKeysRoundModel", "ends", "[I", true)
  | 13 => ("NineKeysRoundModel", "code", "[I", true)
  | 14 => ("NineKeysRoundModel", "at", "I", false)
  | 15 => ("NineKeysRoundModel", "open", "I", false)
  | 16 => ("NineKeysRoundModel", "coded", "I", false)
  | 17 => ("NineKeysRoundModel", "newLines", "I", false)
  | 18 => ("NineKeysRoundModel", "newAsks", "[I", true)
  | 19 => ("NineKeysRoundModel", "newSays", "[I", true)
  | 20 => ("NineKeysRoundModel", "newEnds", "[I", true)
  | 21 => ("NineKeysRoundModel", "newCode", "[I", true)
  | 22 => ("NineKeysRoundModel", "stack", "[I", true)
  | 23 => ("NineKeysRoundModel", "names", "[I", true)
  | 24 => ("NineKeysRoundModel", "stands", "I", false)
  | 25 => ("NineKeysRoundModel", "now", "I", false)
  | 26 => ("NineKeysRoundModel", "dents", "[I", true)
  | 27 => ("NineKeysRoundModel", "led", "[I", true)
  | 28 => ("NineKeysRoundModel", "imaged", "Z", false)
  | 29 => ("NineKeysRoundModel", "oldMany", "I", false)
  | 30 => ("NineKeysRoundModel", "oldStands", "I", false)
  | 31 => ("NineKeysRoundModel", "oldNow", "I", false)
  | 32 => ("NineKeysRoundModel", "oldDents", "[I", true)
  | 33 => ("NineKeysRoundModel", "oldLed", "[I", true)
  | 34 => ("NineKeysRoundModel", "changes", "I", false)
  | 35 => ("NineKeysRoundModel", "done", "I", false)
  | 36 => ("NineKeysRoundModel", "changed", "[I", true)
  | 37 => ("NineKeysRoundModel", "bodies", "I", false)
  | 38 => ("NineKeysRoundModel", "kind", "[I", true)
  | 39 => ("NineKeysRoundModel", "traced", "I", false)
  | 40 => ("NineKeysRoundModel", "traces", "[I", true)
  | 41 => ("NineKeysRoundModel", "holding", "[I", true)
  | 42 => ("NineKeysRoundModel", "rowLength", "[I", true)
  | 43 => ("NineKeysRoundModel", "rowOf", "[J", true)
  | 44 => ("NineKeysRoundModel", "stops", "I", false)
  | 45 => ("NineKeysRoundModel", "stop", "[I", true)
  | 46 => ("NineKeysRoundModel", "dented", "I", false)
  | 47 => ("NineKeysRoundModel", "dentAt", "[I", true)
  | 48 => ("NineKeysRoundModel", "dentPost", "[I", true)
  | 49 => ("NineKeysRoundModel", "last", "[I", true)
  | 50 => ("NineKeysRoundModel", "seen", "[Z", true)
  | 51 => ("NineKeysRoundModel", "marks", "[I", true)
  | 52 => ("NineKeysRoundModel", "order", "[I", true)
  | _ => ("NineKeysRoundModel", "best", "[I", true)
def tyX2 : Nat → FieldType := fun k => match k with
  | 0 => .int
  | 1 => .array .int
  | 2 => .array .int
  | 3 => .array .int
  | 4 => .array .int
  | 5 => .array .int
  | 6 => .int
  | 7 => .array .int
  | 8 => .boolean
  | 9 => .int
  | 10 => .array .int
  | 11 => .array .int
  | 12 => .array .int
  | 13 => .array .int
  | 14 => .int
  | 15 => .int
  | 16 => .int
  | 17 => .int
  | 18 => .array .int
  | 19 => .array .int
  | 20 => .array .int
  | 21 => .array .int
  | 22 => .array .int
  | 23 => .array .int
  | 24 => .int
  | 25 => .int
  | 26 => .array .int
  | 27 => .array .int
  | 28 => .boolean
  | 29 => .int
  | 30 => .int
  | 31 => .int
  | 32 => .array .int
  | 33 => .array .int
  | 34 => .int
  | 35 => .int
  | 36 => .array .int
  | 37 => .int
  | 38 => .array .int
  | 39 => .int
  | 40 => .array .int
  | 41 => .array .int
  | 42 => .array .int
  | 43 => .array .long
  | 44 => .int
  | 45 => .array .int
  | 46 => .int
  | 47 => .array .int
  | 48 => .array .int
  | 49 => .array .int
  | 50 => .array .boolean
  | 51 => .array .int
  | 52 => .array .int
  | _ => .array .int
abbrev wsX20 : List Cond := u_ws RX2 TX2 54
set_option maxRecDepth 100000 in
theorem nmX2 : ∀ a, a < 54 → ∀ b, b < 54 → a ≠ b → (TX2 a).2.1 ≠ (TX2 b).2.1 := by decide +kernel
set_option maxRecDepth 100000 in
theorem tyX2_ok : ∀ k, k < 54 → parseFieldDescriptor (TX2 k).2.2.1 = some (tyX2 k) := by decide +kernel
abbrev cX2_init : ByteArray := prog_31_method_1_code
def yX2_init : MethodName := ⟨RX2, "<init>", "()V"⟩
def dkwX2_init_14 : List UInt8 := [167, 255, 240, 177]
abbrev dktX2_init_14 : List UInt8 := dkwX2_init_14 ++ []
def dkwX2_init_13 : List UInt8 := [79, 42, 2, 181, 0, 116, 3, 60, 27, 16, 6, 162, 0, 16, 42, 180, 0, 81, 27, 2, 79, 132, 1, 1]
abbrev dktX2_init_13 : List UInt8 := dkwX2_init_13 ++ dktX2_init_14
def dkwX2_init_12 : List UInt8 := [181, 0, 110, 42, 16, 9, 188, 10, 181, 0, 113, 42, 180, 0, 24, 5, 4, 79, 42, 180, 0, 24, 6, 4]
abbrev dktX2_init_12 : List UInt8 := dkwX2_init_12 ++ dktX2_init_13
def dkwX2_init_11 : List UInt8 := [17, 15, 160, 188, 4, 181, 0, 103, 42, 17, 3, 232, 188, 10, 181, 0, 107, 42, 16, 9, 188, 10]
abbrev dktX2_init_11 : List UInt8 := dkwX2_init_11 ++ dktX2_init_12
def dkwX2_init_10 : List UInt8 := [181, 0, 94, 42, 17, 15, 160, 188, 10, 181, 0, 97, 42, 17, 70, 80, 188, 10, 181, 0, 100, 42]
abbrev dktX2_init_10 : List UInt8 := dkwX2_init_10 ++ dktX2_init_11
def dkwX2_init_9 : List UInt8 := [17, 1, 104, 188, 11, 181, 0, 87, 42, 16, 20, 188, 10, 181, 0, 91, 42, 17, 15, 160, 188, 10]
abbrev dktX2_init_9 : List UInt8 := dkwX2_init_9 ++ dktX2_init_10
def dkwX2_init_8 : List UInt8 := [188, 10, 181, 0, 78, 42, 16, 6, 188, 10, 181, 0, 81, 42, 16, 6, 188, 10, 181, 0, 84, 42]
abbrev dktX2_init_8 : List UInt8 := dkwX2_init_8 ++ dktX2_init_9
def dkwX2_init_7 : List UInt8 := [181, 0, 69, 42, 17, 0, 160, 188, 10, 181, 0, 72, 42, 16, 50, 188, 10, 181, 0, 75, 42, 16, 24]
abbrev dktX2_init_7 : List UInt8 := dkwX2_init_7 ++ dktX2_init_8
def dkwX2_init_6 : List UInt8 := [181, 0, 60, 42, 7, 188, 10, 181, 0, 63, 42, 16, 9, 188, 10, 181, 0, 66, 42, 7, 188, 10]
abbrev dktX2_init_6 : List UInt8 := dkwX2_init_6 ++ dktX2_init_7
def dkwX2_init_5 : List UInt8 := [42, 17, 0, 200, 188, 10, 181, 0, 54, 42, 16, 6, 188, 10, 181, 0, 57, 42, 16, 9, 188, 10]
abbrev dktX2_init_5 : List UInt8 := dkwX2_init_5 ++ dktX2_init_6
def dkwX2_init_4 : List UInt8 := [16, 61, 188, 10, 181, 0, 45, 42, 16, 61, 188, 10, 181, 0, 48, 42, 17, 0, 200, 188, 10, 181, 0, 51]
abbrev dktX2_init_4 : List UInt8 := dkwX2_init_4 ++ dktX2_init_5
def dkwX2_init_3 : List UInt8 := [188, 10, 181, 0, 36, 42, 17, 0, 200, 188, 10, 181, 0, 39, 42, 16, 61, 188, 10, 181, 0, 42, 42]
abbrev dktX2_init_3 : List UInt8 := dkwX2_init_3 ++ dktX2_init_4
def dkwX2_init_2 : List UInt8 := [188, 10, 181, 0, 27, 42, 16, 60, 188, 10, 181, 0, 30, 42, 16, 60, 188, 10, 181, 0, 33, 42, 16, 60]
abbrev dktX2_init_2 : List UInt8 := dkwX2_init_2 ++ dktX2_init_3
def dkwX2_init_1 : List UInt8 := [188, 10, 181, 0, 18, 42, 16, 9, 188, 10, 181, 0, 21, 42, 7, 188, 10, 181, 0, 24, 42, 16, 120]
abbrev dktX2_init_1 : List UInt8 := dkwX2_init_1 ++ dktX2_init_2
def dkwX2_init_0 : List UInt8 := [42, 183, 0, 3, 42, 16, 9, 188, 10, 181, 0, 9, 42, 16, 9, 188, 10, 181, 0, 15, 42, 16, 9]
abbrev dktX2_init_0 : List UInt8 := dkwX2_init_0 ++ dktX2_init_1
theorem dksX2_init_0 : cX2_init.data.toList.drop 0 = dktX2_init_0 := by decide +kernel
theorem dksX2_init_1 : cX2_init.data.toList.drop 23 = dktX2_init_1 := dk_seg dksX2_init_0 23 rfl rfl
theorem dksX2_init_2 : cX2_init.data.toList.drop 46 = dktX2_init_2 := dk_seg dksX2_init_1 23 rfl rfl
theorem dksX2_init_3 : cX2_init.data.toList.drop 70 = dktX2_init_3 := dk_seg dksX2_init_2 24 rfl rfl
theorem dksX2_init_4 : cX2_init.data.toList.drop 93 = dktX2_init_4 := dk_seg dksX2_init_3 23 rfl rfl
theorem dksX2_init_5 : cX2_init.data.toList.drop 117 = dktX2_init_5 := dk_seg dksX2_init_4 24 rfl rfl
theorem dksX2_init_6 : cX2_init.data.toList.drop 139 = dktX2_init_6 := dk_seg dksX2_init_5 22 rfl rfl
theorem dksX2_init_7 : cX2_init.data.toList.drop 161 = dktX2_init_7 := dk_seg dksX2_init_6 22 rfl rfl
theorem dksX2_init_8 : cX2_init.data.toList.drop 184 = dktX2_init_8 := dk_seg dksX2_init_7 23 rfl rfl
theorem dksX2_init_9 : cX2_init.data.toList.drop 206 = dktX2_init_9 := dk_seg dksX2_init_8 22 rfl rfl
theorem dksX2_init_10 : cX2_init.data.toList.drop 228 = dktX2_init_10 := dk_seg dksX2_init_9 22 rfl rfl
theorem dksX2_init_11 : cX2_init.data.toList.drop 250 = dktX2_init_11 := dk_seg dksX2_init_10 22 rfl rfl
theorem dksX2_init_12 : cX2_init.data.toList.drop 272 = dktX2_init_12 := dk_seg dksX2_init_11 22 rfl rfl
theorem dksX2_init_13 : cX2_init.data.toList.drop 296 = dktX2_init_13 := dk_seg dksX2_init_12 24 rfl rfl
theorem dksX2_init_14 : cX2_init.data.toList.drop 320 = dktX2_init_14 := dk_seg dksX2_init_13 24 rfl rfl
theorem dX2_init_0 : decode cX2_init 0 = .ok (.aload_n 0, 1) := dk_42 (dk_at dksX2_init_0 0 rfl rfl)
theorem dX2_init_1 : decode cX2_init 1 = .ok (.invokespecial 3, 3) := dk_183 0 3 (dk_at dksX2_init_0 1 rfl rfl)
theorem dX2_init_4 : decode cX2_init 4 = .ok (.aload_n 0, 1) := dk_42 (dk_at dksX2_init_0 4 rfl rfl)
theorem dX2_init_5 : decode cX2_init 5 = .ok (.bipush 9, 2) := dk_16 9 (dk_at dksX2_init_0 5 rfl rfl)
theorem dX2_init_7 : decode cX2_init 7 = .ok (.newarray .int, 2) := dk_188_10 (dk_at dksX2_init_0 7 rfl rfl)
theorem dX2_init_9 : decode cX2_init 9 = .ok (.putfield 9, 3) := dk_181 0 9 (dk_at dksX2_init_0 9 rfl rfl)
theorem dX2_init_12 : decode cX2_init 12 = .ok (.aload_n 0, 1) := dk_42 (dk_at dksX2_init_0 12 rfl rfl)
theorem dX2_init_13 : decode cX2_init 13 = .ok (.bipush 9, 2) := dk_16 9 (dk_at dksX2_init_0 13 rfl rfl)
theorem dX2_init_15 : decode cX2_init 15 = .ok (.newarray .int, 2) := dk_188_10 (dk_at dksX2_init_0 15 rfl rfl)
theorem dX2_init_17 : decode cX2_init 17 = .ok (.putfield 15, 3) := dk_181 0 15 (dk_at dksX2_init_0 17 rfl rfl)
theorem dX2_init_20 : decode cX2_init 20 = .ok (.aload_n 0, 1) := dk_42 (dk_at dksX2_init_0 20 rfl rfl)
theorem dX2_init_21 : decode cX2_init 21 = .ok (.bipush 9, 2) := dk_16 9 (dk_at dksX2_init_0 21 rfl rfl)
theorem dX2_init_23 : decode cX2_init 23 = .ok (.newarray .int, 2) := dk_188_10 (dk_at dksX2_init_1 0 rfl rfl)
theorem dX2_init_25 : decode cX2_init 25 = .ok (.putfield 18, 3) := dk_181 0 18 (dk_at dksX2_init_1 2 rfl rfl)
theorem dX2_init_28 : decode cX2_init 28 = .ok (.aload_n 0, 1) := dk_42 (dk_at dksX2_init_1 5 rfl rfl)
theorem dX2_init_29 : decode cX2_init 29 = .ok (.bipush 9, 2) := dk_16 9 (dk_at dksX2_init_1 6 rfl rfl)
theorem dX2_init_31 : decode cX2_init 31 = .ok (.newarray .int, 2) := dk_188_10 (dk_at dksX2_init_1 8 rfl rfl)
theorem dX2_init_33 : decode cX2_init 33 = .ok (.putfield 21, 3) := dk_181 0 21 (dk_at dksX2_init_1 10 rfl rfl)
theorem dX2_init_36 : decode cX2_init 36 = .ok (.aload_n 0, 1) := dk_42 (dk_at dksX2_init_1 13 rfl rfl)
theorem dX2_init_37 : decode cX2_init 37 = .ok (.iconst 4, 1) := dk_7 (dk_at dksX2_init_1 14 rfl rfl)
theorem dX2_init_38 : decode cX2_init 38 = .ok (.newarray .int, 2) := dk_188_10 (dk_at dksX2_init_1 15 rfl rfl)
theorem dX2_init_40 : decode cX2_init 40 = .ok (.putfield 24, 3) := dk_181 0 24 (dk_at dksX2_init_1 17 rfl rfl)
theorem dX2_init_43 : decode cX2_init 43 = .ok (.aload_n 0, 1) := dk_42 (dk_at dksX2_init_1 20 rfl rfl)
theorem dX2_init_44 : decode cX2_init 44 = .ok (.bipush 120, 2) := dk_16 120 (dk_at dksX2_init_1 21 rfl rfl)
theorem dX2_init_46 : decode cX2_init 46 = .ok (.newarray .int, 2) := dk_188_10 (dk_at dksX2_init_2 0 rfl rfl)
theorem dX2_init_48 : decode cX2_init 48 = .ok (.putfield 27, 3) := dk_181 0 27 (dk_at dksX2_init_2 2 rfl rfl)
theorem dX2_init_51 : decode cX2_init 51 = .ok (.aload_n 0, 1) := dk_42 (dk_at dksX2_init_2 5 rfl rfl)
theorem dX2_init_52 : decode cX2_init 52 = .ok (.bipush 60, 2) := dk_16 60 (dk_at dksX2_init_2 6 rfl rfl)
theorem dX2_init_54 : decode cX2_init 54 = .ok (.newarray .int, 2) := dk_188_10 (dk_at dksX2_init_2 8 rfl rfl)
theorem dX2_init_56 : decode cX2_init 56 = .ok (.putfield 30, 3) := dk_181 0 30 (dk_at dksX2_init_2 10 rfl rfl)
theorem dX2_init_59 : decode cX2_init 59 = .ok (.aload_n 0, 1) := dk_42 (dk_at dksX2_init_2 13 rfl rfl)
theorem dX2_init_60 : decode cX2_init 60 = .ok (.bipush 60, 2) := dk_16 60 (dk_at dksX2_init_2 14 rfl rfl)
theorem dX2_init_62 : decode cX2_init 62 = .ok (.newarray .int, 2) := dk_188_10 (dk_at dksX2_init_2 16 rfl rfl)
theorem dX2_init_64 : decode cX2_init 64 = .ok (.putfield 33, 3) := dk_181 0 33 (dk_at dksX2_init_2 18 rfl rfl)
theorem dX2_init_67 : decode cX2_init 67 = .ok (.aload_n 0, 1) := dk_42 (dk_at dksX2_init_2 21 rfl rfl)
theorem dX2_init_68 : decode cX2_init 68 = .ok (.bipush 60, 2) := dk_16 60 (dk_at dksX2_init_2 22 rfl rfl)
theorem dX2_init_70 : decode cX2_init 70 = .ok (.newarray .int, 2) := dk_188_10 (dk_at dksX2_init_3 0 rfl rfl)
theorem dX2_init_72 : decode cX2_init 72 = .ok (.putfield 36, 3) := dk_181 0 36 (dk_at dksX2_init_3 2 rfl rfl)
theorem dX2_init_75 : decode cX2_init 75 = .ok (.aload_n 0, 1) := dk_42 (dk_at dksX2_init_3 5 rfl rfl)
theorem dX2_init_76 : decode cX2_init 76 = .ok (.sipush 200, 3) := dk_17 0 200 (dk_at dksX2_init_3 6 rfl rfl)
theorem dX2_init_79 : decode cX2_init 79 = .ok (.newarray .int, 2) := dk_188_10 (dk_at dksX2_init_3 9 rfl rfl)
theorem dX2_init_81 : decode cX2_init 81 = .ok (.putfield 39, 3) := dk_181 0 39 (dk_at dksX2_init_3 11 rfl rfl)
theorem dX2_init_84 : decode cX2_init 84 = .ok (.aload_n 0, 1) := dk_42 (dk_at dksX2_init_3 14 rfl rfl)
theorem dX2_init_85 : decode cX2_init 85 = .ok (.bipush 61, 2) := dk_16 61 (dk_at dksX2_init_3 15 rfl rfl)
theorem dX2_init_87 : decode cX2_init 87 = .ok (.newarray .int, 2) := dk_188_10 (dk_at dksX2_init_3 17 rfl rfl)
theorem dX2_init_89 : decode cX2_init 89 = .ok (.putfield 42, 3) := dk_181 0 42 (dk_at dksX2_init_3 19 rfl rfl)
theorem dX2_init_92 : decode cX2_init 92 = .ok (.aload_n 0, 1) := dk_42 (dk_at dksX2_init_3 22 rfl rfl)
theorem dX2_init_93 : decode cX2_init 93 = .ok (.bipush 61, 2) := dk_16 61 (dk_at dksX2_init_4 0 rfl rfl)
theorem dX2_init_95 : decode cX2_init 95 = .ok (.newarray .int, 2) := dk_188_10 (dk_at dksX2_init_4 2 rfl rfl)
theorem dX2_init_97 : decode cX2_init 97 = .ok (.putfield 45, 3) := dk_181 0 45 (dk_at dksX2_init_4 4 rfl rfl)
theorem dX2_init_100 : decode cX2_init 100 = .ok (.aload_n 0, 1) := dk_42 (dk_at dksX2_init_4 7 rfl rfl)
theorem dX2_init_101 : decode cX2_init 101 = .ok (.bipush 61, 2) := dk_16 61 (dk_at dksX2_init_4 8 rfl rfl)
theorem dX2_init_103 : decode cX2_init 103 = .ok (.newarray .int, 2) := dk_188_10 (dk_at dksX2_init_4 10 rfl rfl)
theorem dX2_init_105 : decode cX2_init 105 = .ok (.putfield 48, 3) := dk_181 0 48 (dk_at dksX2_init_4 12 rfl rfl)
theorem dX2_init_108 : decode cX2_init 108 = .ok (.aload_n 0, 1) := dk_42 (dk_at dksX2_init_4 15 rfl rfl)
theorem dX2_init_109 : decode cX2_init 109 = .ok (.sipush 200, 3) := dk_17 0 200 (dk_at dksX2_init_4 16 rfl rfl)
theorem dX2_init_112 : decode cX2_init 112 = .ok (.newarray .int, 2) := dk_188_10 (dk_at dksX2_init_4 19 rfl rfl)
theorem dX2_init_114 : decode cX2_init 114 = .ok (.putfield 51, 3) := dk_181 0 51 (dk_at dksX2_init_4 21 rfl rfl)
theorem dX2_init_117 : decode cX2_init 117 = .ok (.aload_n 0, 1) := dk_42 (dk_at dksX2_init_5 0 rfl rfl)
theorem dX2_init_118 : decode cX2_init 118 = .ok (.sipush 200, 3) := dk_17 0 200 (dk_at dksX2_init_5 1 rfl rfl)
theorem dX2_init_121 : decode cX2_init 121 = .ok (.newarray .int, 2) := dk_188_10 (dk_at dksX2_init_5 4 rfl rfl)
theorem dX2_init_123 : decode cX2_init 123 = .ok (.putfield 54, 3) := dk_181 0 54 (dk_at dksX2_init_5 6 rfl rfl)
theorem dX2_init_126 : decode cX2_init 126 = .ok (.aload_n 0, 1) := dk_42 (dk_at dksX2_init_5 9 rfl rfl)
theorem dX2_init_127 : decode cX2_init 127 = .ok (.bipush 6, 2) := dk_16 6 (dk_at dksX2_init_5 10 rfl rfl)
theorem dX2_init_129 : decode cX2_init 129 = .ok (.newarray .int, 2) := dk_188_10 (dk_at dksX2_init_5 12 rfl rfl)
theorem dX2_init_131 : decode cX2_init 131 = .ok (.putfield 57, 3) := dk_181 0 57 (dk_at dksX2_init_5 14 rfl rfl)
theorem dX2_init_134 : decode cX2_init 134 = .ok (.aload_n 0, 1) := dk_42 (dk_at dksX2_init_5 17 rfl rfl)
theorem dX2_init_135 : decode cX2_init 135 = .ok (.bipush 9, 2) := dk_16 9 (dk_at dksX2_init_5 18 rfl rfl)
theorem dX2_init_137 : decode cX2_init 137 = .ok (.newarray .int, 2) := dk_188_10 (dk_at dksX2_init_5 20 rfl rfl)
theorem dX2_init_139 : decode cX2_init 139 = .ok (.putfield 60, 3) := dk_181 0 60 (dk_at dksX2_init_6 0 rfl rfl)
theorem dX2_init_142 : decode cX2_init 142 = .ok (.aload_n 0, 1) := dk_42 (dk_at dksX2_init_6 3 rfl rfl)
theorem dX2_init_143 : decode cX2_init 143 = .ok (.iconst 4, 1) := dk_7 (dk_at dksX2_init_6 4 rfl rfl)
theorem dX2_init_144 : decode cX2_init 144 = .ok (.newarray .int, 2) := dk_188_10 (dk_at dksX2_init_6 5 rfl rfl)
theorem dX2_init_146 : decode cX2_init 146 = .ok (.putfield 63, 3) := dk_181 0 63 (dk_at dksX2_init_6 7 rfl rfl)
theorem dX2_init_149 : decode cX2_init 149 = .ok (.aload_n 0, 1) := dk_42 (dk_at dksX2_init_6 10 rfl rfl)
theorem dX2_init_150 : decode cX2_init 150 = .ok (.bipush 9, 2) := dk_16 9 (dk_at dksX2_init_6 11 rfl rfl)
theorem dX2_init_152 : decode cX2_init 152 = .ok (.newarray .int, 2) := dk_188_10 (dk_at dksX2_init_6 13 rfl rfl)
theorem dX2_init_154 : decode cX2_init 154 = .ok (.putfield 66, 3) := dk_181 0 66 (dk_at dksX2_init_6 15 rfl rfl)
theorem dX2_init_157 : decode cX2_init 157 = .ok (.aload_n 0, 1) := dk_42 (dk_at dksX2_init_6 18 rfl rfl)
theorem dX2_init_158 : decode cX2_init 158 = .ok (.iconst 4, 1) := dk_7 (dk_at dksX2_init_6 19 rfl rfl)
theorem dX2_init_159 : decode cX2_init 159 = .ok (.newarray .int, 2) := dk_188_10 (dk_at dksX2_init_6 20 rfl rfl)
theorem dX2_init_161 : decode cX2_init 161 = .ok (.putfield 69, 3) := dk_181 0 69 (dk_at dksX2_init_7 0 rfl rfl)
theorem dX2_init_164 : decode cX2_init 164 = .ok (.aload_n 0, 1) := dk_42 (dk_at dksX2_init_7 3 rfl rfl)
theorem dX2_init_165 : decode cX2_init 165 = .ok (.sipush 160, 3) := dk_17 0 160 (dk_at dksX2_init_7 4 rfl rfl)
theorem dX2_init_168 : decode cX2_init 168 = .ok (.newarray .int, 2) := dk_188_10 (dk_at dksX2_init_7 7 rfl rfl)
theorem dX2_init_170 : decode cX2_init 170 = .ok (.putfield 72, 3) := dk_181 0 72 (dk_at dksX2_init_7 9 rfl rfl)
theorem dX2_init_173 : decode cX2_init 173 = .ok (.aload_n 0, 1) := dk_42 (dk_at dksX2_init_7 12 rfl rfl)
theorem dX2_init_174 : decode cX2_init 174 = .ok (.bipush 50, 2) := dk_16 50 (dk_at dksX2_init_7 13 rfl rfl)
theorem dX2_init_176 : decode cX2_init 176 = .ok (.newarray .int, 2) := dk_188_10 (dk_at dksX2_init_7 15 rfl rfl)
theorem dX2_init_178 : decode cX2_init 178 = .ok (.putfield 75, 3) := dk_181 0 75 (dk_at dksX2_init_7 17 rfl rfl)
theorem dX2_init_181 : decode cX2_init 181 = .ok (.aload_n 0, 1) := dk_42 (dk_at dksX2_init_7 20 rfl rfl)
theorem dX2_init_182 : decode cX2_init 182 = .ok (.bipush 24, 2) := dk_16 24 (dk_at dksX2_init_7 21 rfl rfl)
theorem dX2_init_184 : decode cX2_init 184 = .ok (.newarray .int, 2) := dk_188_10 (dk_at dksX2_init_8 0 rfl rfl)
theorem dX2_init_186 : decode cX2_init 186 = .ok (.putfield 78, 3) := dk_181 0 78 (dk_at dksX2_init_8 2 rfl rfl)
theorem dX2_init_189 : decode cX2_init 189 = .ok (.aload_n 0, 1) := dk_42 (dk_at dksX2_init_8 5 rfl rfl)
theorem dX2_init_190 : decode cX2_init 190 = .ok (.bipush 6, 2) := dk_16 6 (dk_at dksX2_init_8 6 rfl rfl)
theorem dX2_init_192 : decode cX2_init 192 = .ok (.newarray .int, 2) := dk_188_10 (dk_at dksX2_init_8 8 rfl rfl)
theorem dX2_init_194 : decode cX2_init 194 = .ok (.putfield 81, 3) := dk_181 0 81 (dk_at dksX2_init_8 10 rfl rfl)
theorem dX2_init_197 : decode cX2_init 197 = .ok (.aload_n 0, 1) := dk_42 (dk_at dksX2_init_8 13 rfl rfl)
theorem dX2_init_198 : decode cX2_init 198 = .ok (.bipush 6, 2) := dk_16 6 (dk_at dksX2_init_8 14 rfl rfl)
theorem dX2_init_200 : decode cX2_init 200 = .ok (.newarray .int, 2) := dk_188_10 (dk_at dksX2_init_8 16 rfl rfl)
theorem dX2_init_202 : decode cX2_init 202 = .ok (.putfield 84, 3) := dk_181 0 84 (dk_at dksX2_init_8 18 rfl rfl)
theorem dX2_init_205 : decode cX2_init 205 = .ok (.aload_n 0, 1) := dk_42 (dk_at dksX2_init_8 21 rfl rfl)
theorem dX2_init_206 : decode cX2_init 206 = .ok (.sipush 360, 3) := dk_17 1 104 (dk_at dksX2_init_9 0 rfl rfl)
theorem dX2_init_209 : decode cX2_init 209 = .ok (.newarray .long, 2) := dk_188_11 (dk_at dksX2_init_9 3 rfl rfl)
theorem dX2_init_211 : decode cX2_init 211 = .ok (.putfield 87, 3) := dk_181 0 87 (dk_at dksX2_init_9 5 rfl rfl)
theorem dX2_init_214 : decode cX2_init 214 = .ok (.aload_n 0, 1) := dk_42 (dk_at dksX2_init_9 8 rfl rfl)
theorem dX2_init_215 : decode cX2_init 215 = .ok (.bipush 20, 2) := dk_16 20 (dk_at dksX2_init_9 9 rfl rfl)
theorem dX2_init_217 : decode cX2_init 217 = .ok (.newarray .int, 2) := dk_188_10 (dk_at dksX2_init_9 11 rfl rfl)
theorem dX2_init_219 : decode cX2_init 219 = .ok (.putfield 91, 3) := dk_181 0 91 (dk_at dksX2_init_9 13 rfl rfl)
theorem dX2_init_222 : decode cX2_init 222 = .ok (.aload_n 0, 1) := dk_42 (dk_at dksX2_init_9 16 rfl rfl)
theorem dX2_init_223 : decode cX2_init 223 = .ok (.sipush 4000, 3) := dk_17 15 160 (dk_at dksX2_init_9 17 rfl rfl)
theorem dX2_init_226 : decode cX2_init 226 = .ok (.newarray .int, 2) := dk_188_10 (dk_at dksX2_init_9 20 rfl rfl)
theorem dX2_init_228 : decode cX2_init 228 = .ok (.putfield 94, 3) := dk_181 0 94 (dk_at dksX2_init_10 0 rfl rfl)
theorem dX2_init_231 : decode cX2_init 231 = .ok (.aload_n 0, 1) := dk_42 (dk_at dksX2_init_10 3 rfl rfl)
theorem dX2_init_232 : decode cX2_init 232 = .ok (.sipush 4000, 3) := dk_17 15 160 (dk_at dksX2_init_10 4 rfl rfl)
theorem dX2_init_235 : decode cX2_init 235 = .ok (.newarray .int, 2) := dk_188_10 (dk_at dksX2_init_10 7 rfl rfl)
theorem dX2_init_237 : decode cX2_init 237 = .ok (.putfield 97, 3) := dk_181 0 97 (dk_at dksX2_init_10 9 rfl rfl)
theorem dX2_init_240 : decode cX2_init 240 = .ok (.aload_n 0, 1) := dk_42 (dk_at dksX2_init_10 12 rfl rfl)
theorem dX2_init_241 : decode cX2_init 241 = .ok (.sipush 18000, 3) := dk_17 70 80 (dk_at dksX2_init_10 13 rfl rfl)
theorem dX2_init_244 : decode cX2_init 244 = .ok (.newarray .int, 2) := dk_188_10 (dk_at dksX2_init_10 16 rfl rfl)
theorem dX2_init_246 : decode cX2_init 246 = .ok (.putfield 100, 3) := dk_181 0 100 (dk_at dksX2_init_10 18 rfl rfl)
theorem dX2_init_249 : decode cX2_init 249 = .ok (.aload_n 0, 1) := dk_42 (dk_at dksX2_init_10 21 rfl rfl)
theorem dX2_init_250 : decode cX2_init 250 = .ok (.sipush 4000, 3) := dk_17 15 160 (dk_at dksX2_init_11 0 rfl rfl)
theorem dX2_init_253 : decode cX2_init 253 = .ok (.newarray .boolean, 2) := dk_188_4 (dk_at dksX2_init_11 3 rfl rfl)
theorem dX2_init_255 : decode cX2_init 255 = .ok (.putfield 103, 3) := dk_181 0 103 (dk_at dksX2_init_11 5 rfl rfl)
theorem dX2_init_258 : decode cX2_init 258 = .ok (.aload_n 0, 1) := dk_42 (dk_at dksX2_init_11 8 rfl rfl)
theorem dX2_init_259 : decode cX2_init 259 = .ok (.sipush 1000, 3) := dk_17 3 232 (dk_at dksX2_init_11 9 rfl rfl)
theorem dX2_init_262 : decode cX2_init 262 = .ok (.newarray .int, 2) := dk_188_10 (dk_at dksX2_init_11 12 rfl rfl)
theorem dX2_init_264 : decode cX2_init 264 = .ok (.putfield 107, 3) := dk_181 0 107 (dk_at dksX2_init_11 14 rfl rfl)
theorem dX2_init_267 : decode cX2_init 267 = .ok (.aload_n 0, 1) := dk_42 (dk_at dksX2_init_11 17 rfl rfl)
theorem dX2_init_268 : decode cX2_init 268 = .ok (.bipush 9, 2) := dk_16 9 (dk_at dksX2_init_11 18 rfl rfl)
theorem dX2_init_270 : decode cX2_init 270 = .ok (.newarray .int, 2) := dk_188_10 (dk_at dksX2_init_11 20 rfl rfl)
theorem dX2_init_272 : decode cX2_init 272 = .ok (.putfield 110, 3) := dk_181 0 110 (dk_at dksX2_init_12 0 rfl rfl)
theorem dX2_init_275 : decode cX2_init 275 = .ok (.aload_n 0, 1) := dk_42 (dk_at dksX2_init_12 3 rfl rfl)
theorem dX2_init_276 : decode cX2_init 276 = .ok (.bipush 9, 2) := dk_16 9 (dk_at dksX2_init_12 4 rfl rfl)
theorem dX2_init_278 : decode cX2_init 278 = .ok (.newarray .int, 2) := dk_188_10 (dk_at dksX2_init_12 6 rfl rfl)
theorem dX2_init_280 : decode cX2_init 280 = .ok (.putfield 113, 3) := dk_181 0 113 (dk_at dksX2_init_12 8 rfl rfl)
theorem dX2_init_283 : decode cX2_init 283 = .ok (.aload_n 0, 1) := dk_42 (dk_at dksX2_init_12 11 rfl rfl)
theorem dX2_init_284 : decode cX2_init 284 = .ok (.getfield 24, 3) := dk_180 0 24 (dk_at dksX2_init_12 12 rfl rfl)
theorem dX2_init_287 : decode cX2_init 287 = .ok (.iconst 2, 1) := dk_5 (dk_at dksX2_init_12 15 rfl rfl)
theorem dX2_init_288 : decode cX2_init 288 = .ok (.iconst 1, 1) := dk_4 (dk_at dksX2_init_12 16 rfl rfl)
theorem dX2_init_289 : decode cX2_init 289 = .ok (.iastore, 1) := dk_79 (dk_at dksX2_init_12 17 rfl rfl)
theorem dX2_init_290 : decode cX2_init 290 = .ok (.aload_n 0, 1) := dk_42 (dk_at dksX2_init_12 18 rfl rfl)
theorem dX2_init_291 : decode cX2_init 291 = .ok (.getfield 24, 3) := dk_180 0 24 (dk_at dksX2_init_12 19 rfl rfl)
theorem dX2_init_294 : decode cX2_init 294 = .ok (.iconst 3, 1) := dk_6 (dk_at dksX2_init_12 22 rfl rfl)
theorem dX2_init_295 : decode cX2_init 295 = .ok (.iconst 1, 1) := dk_4 (dk_at dksX2_init_12 23 rfl rfl)
theorem dX2_init_296 : decode cX2_init 296 = .ok (.iastore, 1) := dk_79 (dk_at dksX2_init_13 0 rfl rfl)
theorem dX2_init_297 : decode cX2_init 297 = .ok (.aload_n 0, 1) := dk_42 (dk_at dksX2_init_13 1 rfl rfl)
theorem dX2_init_298 : decode cX2_init 298 = .ok (.iconst (-1), 1) := dk_2 (dk_at dksX2_init_13 2 rfl rfl)
theorem dX2_init_299 : decode cX2_init 299 = .ok (.putfield 116, 3) := dk_181 0 116 (dk_at dksX2_init_13 3 rfl rfl)
theorem dX2_init_302 : decode cX2_init 302 = .ok (.iconst 0, 1) := dk_3 (dk_at dksX2_init_13 6 rfl rfl)
theorem dX2_init_303 : decode cX2_init 303 = .ok (.istore_n 1, 1) := dk_60 (dk_at dksX2_init_13 7 rfl rfl)
theorem dX2_init_304 : decode cX2_init 304 = .ok (.iload_n 1, 1) := dk_27 (dk_at dksX2_init_13 8 rfl rfl)
theorem dX2_init_305 : decode cX2_init 305 = .ok (.bipush 6, 2) := dk_16 6 (dk_at dksX2_init_13 9 rfl rfl)
theorem dX2_init_307 : decode cX2_init 307 = .ok (.if_icmp .ge 16, 3) := dk_162 0 16 (dk_at dksX2_init_13 11 rfl rfl)
theorem dX2_init_310 : decode cX2_init 310 = .ok (.aload_n 0, 1) := dk_42 (dk_at dksX2_init_13 14 rfl rfl)
theorem dX2_init_311 : decode cX2_init 311 = .ok (.getfield 81, 3) := dk_180 0 81 (dk_at dksX2_init_13 15 rfl rfl)
theorem dX2_init_314 : decode cX2_init 314 = .ok (.iload_n 1, 1) := dk_27 (dk_at dksX2_init_13 18 rfl rfl)
theorem dX2_init_315 : decode cX2_init 315 = .ok (.iconst (-1), 1) := dk_2 (dk_at dksX2_init_13 19 rfl rfl)
theorem dX2_init_316 : decode cX2_init 316 = .ok (.iastore, 1) := dk_79 (dk_at dksX2_init_13 20 rfl rfl)
theorem dX2_init_317 : decode cX2_init 317 = .ok (.iinc 1 1, 3) := dk_132 1 1 (dk_at dksX2_init_13 21 rfl rfl)
theorem dX2_init_320 : decode cX2_init 320 = .ok (.goto (-16), 3) := dk_167 255 240 (dk_at dksX2_init_14 0 rfl rfl)
theorem dX2_init_323 : decode cX2_init 323 = .ok (.return_, 1) := dk_177 (dk_at dksX2_init_14 3 rfl rfl)
abbrev cX2_post : ByteArray := prog_31_method_7_code
def yX2_post : MethodName := ⟨RX2, "post", "(I)I"⟩
def dkwX2_post_2 : List UInt8 := [182, 0, 127, 172]
abbrev dktX2_post_2 : List UInt8 := dkwX2_post_2 ++ []
def dkwX2_post_1 : List UInt8 := [42, 180, 0, 120, 16, 9, 160, 0, 8, 16, 253, 167, 0, 16, 42, 27, 16, 100, 112, 27, 16, 100, 108, 4]
abbrev dktX2_post_1 : List UInt8 := dkwX2_post_1 ++ dktX2_post_2
def dkwX2_post_0 : List UInt8 := [27, 155, 0, 21, 27, 16, 100, 108, 16, 15, 163, 0, 12, 27, 16, 100, 112, 16, 15, 164, 0, 5, 2, 172]
abbrev dktX2_post_0 : List UInt8 := dkwX2_post_0 ++ dktX2_post_1
theorem dksX2_post_0 : cX2_post.data.toList.drop 0 = dktX2_post_0 := by decide +kernel
theorem dksX2_post_1 : cX2_post.data.toList.drop 24 = dktX2_post_1 := dk_seg dksX2_post_0 24 rfl rfl
theorem dksX2_post_2 : cX2_post.data.toList.drop 48 = dktX2_post_2 := dk_seg dksX2_post_1 24 rfl rfl
theorem dX2_post_0 : decode cX2_post 0 = .ok (.iload_n 1, 1) := dk_27 (dk_at dksX2_post_0 0 rfl rfl)
theorem dX2_post_1 : decode cX2_post 1 = .ok (.ifCond .lt 21, 3) := dk_155 0 21 (dk_at dksX2_post_0 1 rfl rfl)
theorem dX2_post_4 : decode cX2_post 4 = .ok (.iload_n 1, 1) := dk_27 (dk_at dksX2_post_0 4 rfl rfl)
theorem dX2_post_5 : decode cX2_post 5 = .ok (.bipush 100, 2) := dk_16 100 (dk_at dksX2_post_0 5 rfl rfl)
theorem dX2_post_7 : decode cX2_post 7 = .ok (.idiv, 1) := dk_108 (dk_at dksX2_post_0 7 rfl rfl)
theorem dX2_post_8 : decode cX2_post 8 = .ok (.bipush 15, 2) := dk_16 15 (dk_at dksX2_post_0 8 rfl rfl)
theorem dX2_post_10 : decode cX2_post 10 = .ok (.if_icmp .gt 12, 3) := dk_163 0 12 (dk_at dksX2_post_0 10 rfl rfl)
theorem dX2_post_13 : decode cX2_post 13 = .ok (.iload_n 1, 1) := dk_27 (dk_at dksX2_post_0 13 rfl rfl)
theorem dX2_post_14 : decode cX2_post 14 = .ok (.bipush 100, 2) := dk_16 100 (dk_at dksX2_post_0 14 rfl rfl)
theorem dX2_post_16 : decode cX2_post 16 = .ok (.irem, 1) := dk_112 (dk_at dksX2_post_0 16 rfl rfl)
theorem dX2_post_17 : decode cX2_post 17 = .ok (.bipush 15, 2) := dk_16 15 (dk_at dksX2_post_0 17 rfl rfl)
theorem dX2_post_19 : decode cX2_post 19 = .ok (.if_icmp .le 5, 3) := dk_164 0 5 (dk_at dksX2_post_0 19 rfl rfl)
theorem dX2_post_22 : decode cX2_post 22 = .ok (.iconst (-1), 1) := dk_2 (dk_at dksX2_post_0 22 rfl rfl)
theorem dX2_post_23 : decode cX2_post 23 = .ok (.ireturn, 1) := dk_172 (dk_at dksX2_post_0 23 rfl rfl)
theorem dX2_post_24 : decode cX2_post 24 = .ok (.aload_n 0, 1) := dk_42 (dk_at dksX2_post_1 0 rfl rfl)
theorem dX2_post_25 : decode cX2_post 25 = .ok (.getfield 120, 3) := dk_180 0 120 (dk_at dksX2_post_1 1 rfl rfl)
theorem dX2_post_28 : decode cX2_post 28 = .ok (.bipush 9, 2) := dk_16 9 (dk_at dksX2_post_1 4 rfl rfl)
theorem dX2_post_30 : decode cX2_post 30 = .ok (.if_icmp .ne 8, 3) := dk_160 0 8 (dk_at dksX2_post_1 6 rfl rfl)
theorem dX2_post_33 : decode cX2_post 33 = .ok (.bipush (-3), 2) := dk_16 253 (dk_at dksX2_post_1 9 rfl rfl)
theorem dX2_post_35 : decode cX2_post 35 = .ok (.goto 16, 3) := dk_167 0 16 (dk_at dksX2_post_1 11 rfl rfl)
theorem dX2_post_38 : decode cX2_post 38 = .ok (.aload_n 0, 1) := dk_42 (dk_at dksX2_post_1 14 rfl rfl)
theorem dX2_post_39 : decode cX2_post 39 = .ok (.iload_n 1, 1) := dk_27 (dk_at dksX2_post_1 15 rfl rfl)
theorem dX2_post_40 : decode cX2_post 40 = .ok (.bipush 100, 2) := dk_16 100 (dk_at dksX2_post_1 16 rfl rfl)
theorem dX2_post_42 : decode cX2_post 42 = .ok (.irem, 1) := dk_112 (dk_at dksX2_post_1 18 rfl rfl)
theorem dX2_post_43 : decode cX2_post 43 = .ok (.iload_n 1, 1) := dk_27 (dk_at dksX2_post_1 19 rfl rfl)
theorem dX2_post_44 : decode cX2_post 44 = .ok (.bipush 100, 2) := dk_16 100 (dk_at dksX2_post_1 20 rfl rfl)
theorem dX2_post_46 : decode cX2_post 46 = .ok (.idiv, 1) := dk_108 (dk_at dksX2_post_1 22 rfl rfl)
theorem dX2_post_47 : decode cX2_post 47 = .ok (.iconst 1, 1) := dk_4 (dk_at dksX2_post_1 23 rfl rfl)
theorem dX2_post_48 : decode cX2_post 48 = .ok (.invokevirtual 127, 3) := dk_182 0 127 (dk_at dksX2_post_2 0 rfl rfl)
theorem dX2_post_51 : decode cX2_post 51 = .ok (.ireturn, 1) := dk_172 (dk_at dksX2_post_2 3 rfl rfl)
abbrev cX2_newPost : ByteArray := prog_31_method_6_code
def yX2_newPost : MethodName := ⟨RX2, "newPost", "(III)I"⟩
def dkwX2_newPost_2 : List UInt8 := [180, 0, 120, 3, 79, 42, 89, 180, 0, 120, 90, 4, 96, 181, 0, 120, 172]
abbrev dktX2_newPost_2 : List UInt8 := dkwX2_newPost_2 ++ []
def dkwX2_newPost_1 : List UInt8 := [42, 180, 0, 120, 29, 79, 42, 180, 0, 21, 42, 180, 0, 120, 16, 60, 79, 42, 180, 0, 60, 42]
abbrev dktX2_newPost_1 : List UInt8 := dkwX2_newPost_1 ++ dktX2_newPost_2
def dkwX2_newPost_0 : List UInt8 := [42, 180, 0, 9, 42, 180, 0, 120, 27, 79, 42, 180, 0, 15, 42, 180, 0, 120, 28, 79, 42, 180, 0, 18]
abbrev dktX2_newPost_0 : List UInt8 := dkwX2_newPost_0 ++ dktX2_newPost_1
theorem dksX2_newPost_0 : cX2_newPost.data.toList.drop 0 = dktX2_newPost_0 := by decide +kernel
theorem dksX2_newPost_1 : cX2_newPost.data.toList.drop 24 = dktX2_newPost_1 := dk_seg dksX2_newPost_0 24 rfl rfl
theorem dksX2_newPost_2 : cX2_newPost.data.toList.drop 46 = dktX2_newPost_2 := dk_seg dksX2_newPost_1 22 rfl rfl
theorem dX2_newPost_0 : decode cX2_newPost 0 = .ok (.aload_n 0, 1) := dk_42 (dk_at dksX2_newPost_0 0 rfl rfl)
theorem dX2_newPost_1 : decode cX2_newPost 1 = .ok (.getfield 9, 3) := dk_180 0 9 (dk_at dksX2_newPost_0 1 rfl rfl)
theorem dX2_newPost_4 : decode cX2_newPost 4 = .ok (.aload_n 0, 1) := dk_42 (dk_at dksX2_newPost_0 4 rfl rfl)
theorem dX2_newPost_5 : decode cX2_newPost 5 = .ok (.getfield 120, 3) := dk_180 0 120 (dk_at dksX2_newPost_0 5 rfl rfl)
theorem dX2_newPost_8 : decode cX2_newPost 8 = .ok (.iload_n 1, 1) := dk_27 (dk_at dksX2_newPost_0 8 rfl rfl)
theorem dX2_newPost_9 : decode cX2_newPost 9 = .ok (.iastore, 1) := dk_79 (dk_at dksX2_newPost_0 9 rfl rfl)
theorem dX2_newPost_10 : decode cX2_newPost 10 = .ok (.aload_n 0, 1) := dk_42 (dk_at dksX2_newPost_0 10 rfl rfl)
theorem dX2_newPost_11 : decode cX2_newPost 11 = .ok (.getfield 15, 3) := dk_180 0 15 (dk_at dksX2_newPost_0 11 rfl rfl)
theorem dX2_newPost_14 : decode cX2_newPost 14 = .ok (.aload_n 0, 1) := dk_42 (dk_at dksX2_newPost_0 14 rfl rfl)
theorem dX2_newPost_15 : decode cX2_newPost 15 = .ok (.getfield 120, 3) := dk_180 0 120 (dk_at dksX2_newPost_0 15 rfl rfl)
theorem dX2_newPost_18 : decode cX2_newPost 18 = .ok (.iload_n 2, 1) := dk_28 (dk_at dksX2_newPost_0 18 rfl rfl)
theorem dX2_newPost_19 : decode cX2_newPost 19 = .ok (.iastore, 1) := dk_79 (dk_at dksX2_newPost_0 19 rfl rfl)
theorem dX2_newPost_20 : decode cX2_newPost 20 = .ok (.aload_n 0, 1) := dk_42 (dk_at dksX2_newPost_0 20 rfl rfl)
theorem dX2_newPost_21 : decode cX2_newPost 21 = .ok (.getfield 18, 3) := dk_180 0 18 (dk_at dksX2_newPost_0 21 rfl rfl)
theorem dX2_newPost_24 : decode cX2_newPost 24 = .ok (.aload_n 0, 1) := dk_42 (dk_at dksX2_newPost_1 0 rfl rfl)
theorem dX2_newPost_25 : decode cX2_newPost 25 = .ok (.getfield 120, 3) := dk_180 0 120 (dk_at dksX2_newPost_1 1 rfl rfl)
theorem dX2_newPost_28 : decode cX2_newPost 28 = .ok (.iload_n 3, 1) := dk_29 (dk_at dksX2_newPost_1 4 rfl rfl)
theorem dX2_newPost_29 : decode cX2_newPost 29 = .ok (.iastore, 1) := dk_79 (dk_at dksX2_newPost_1 5 rfl rfl)
theorem dX2_newPost_30 : decode cX2_newPost 30 = .ok (.aload_n 0, 1) := dk_42 (dk_at dksX2_newPost_1 6 rfl rfl)
theorem dX2_newPost_31 : decode cX2_newPost 31 = .ok (.getfield 21, 3) := dk_180 0 21 (dk_at dksX2_newPost_1 7 rfl rfl)
theorem dX2_newPost_34 : decode cX2_newPost 34 = .ok (.aload_n 0, 1) := dk_42 (dk_at dksX2_newPost_1 10 rfl rfl)
theorem dX2_newPost_35 : decode cX2_newPost 35 = .ok (.getfield 120, 3) := dk_180 0 120 (dk_at dksX2_newPost_1 11 rfl rfl)
theorem dX2_newPost_38 : decode cX2_newPost 38 = .ok (.bipush 60, 2) := dk_16 60 (dk_at dksX2_newPost_1 14 rfl rfl)
theorem dX2_newPost_40 : decode cX2_newPost 40 = .ok (.iastore, 1) := dk_79 (dk_at dksX2_newPost_1 16 rfl rfl)
theorem dX2_newPost_41 : decode cX2_newPost 41 = .ok (.aload_n 0, 1) := dk_42 (dk_at dksX2_newPost_1 17 rfl rfl)
theorem dX2_newPost_42 : decode cX2_newPost 42 = .ok (.getfield 60, 3) := dk_180 0 60 (dk_at dksX2_newPost_1 18 rfl rfl)
theorem dX2_newPost_45 : decode cX2_newPost 45 = .ok (.aload_n 0, 1) := dk_42 (dk_at dksX2_newPost_1 21 rfl rfl)
theorem dX2_newPost_46 : decode cX2_newPost 46 = .ok (.getfield 120, 3) := dk_180 0 120 (dk_at dksX2_newPost_2 0 rfl rfl)
theorem dX2_newPost_49 : decode cX2_newPost 49 = .ok (.iconst 0, 1) := dk_3 (dk_at dksX2_newPost_2 3 rfl rfl)
theorem dX2_newPost_50 : decode cX2_newPost 50 = .ok (.iastore, 1) := dk_79 (dk_at dksX2_newPost_2 4 rfl rfl)
theorem dX2_newPost_51 : decode cX2_newPost 51 = .ok (.aload_n 0, 1) := dk_42 (dk_at dksX2_newPost_2 5 rfl rfl)
theorem dX2_newPost_52 : decode cX2_newPost 52 = .ok (.dup, 1) := dk_89 (dk_at dksX2_newPost_2 6 rfl rfl)
theorem dX2_newPost_53 : decode cX2_newPost 53 = .ok (.getfield 120, 3) := dk_180 0 120 (dk_at dksX2_newPost_2 7 rfl rfl)
theorem dX2_newPost_56 : decode cX2_newPost 56 = .ok (.dup_x1, 1) := dk_90 (dk_at dksX2_newPost_2 10 rfl rfl)
theorem dX2_newPost_57 : decode cX2_newPost 57 = .ok (.iconst 1, 1) := dk_4 (dk_at dksX2_newPost_2 11 rfl rfl)
theorem dX2_newPost_58 : decode cX2_newPost 58 = .ok (.iadd, 1) := dk_96 (dk_at dksX2_newPost_2 12 rfl rfl)
theorem dX2_newPost_59 : decode cX2_newPost 59 = .ok (.putfield 120, 3) := dk_181 0 120 (dk_at dksX2_newPost_2 13 rfl rfl)
theorem dX2_newPost_62 : decode cX2_newPost 62 = .ok (.ireturn, 1) := dk_172 (dk_at dksX2_newPost_2 16 rfl rfl)
abbrev cX2_posts : ByteArray := prog_31_method_8_code
def yX2_posts : MethodName := ⟨RX2, "posts", "(III)I"⟩
def dkwX2_posts_9 : List UInt8 := [21, 4, 172]
abbrev dktX2_posts_9 : List UInt8 := dkwX2_posts_9 ++ []
def dkwX2_posts_8 : List UInt8 := [136, 42, 180, 0, 87, 21, 8, 5, 96, 47, 136, 182, 0, 127, 87, 132, 4, 1, 132, 5, 1, 167, 255, 95]
abbrev dktX2_posts_8 : List UInt8 := dkwX2_posts_8 ++ dktX2_posts_9
def dkwX2_posts_7 : List UInt8 := [154, 0, 6, 21, 4, 172, 42, 42, 180, 0, 87, 21, 8, 47, 136, 42, 180, 0, 87, 21, 8, 4, 96, 47]
abbrev dktX2_posts_7 : List UInt8 := dkwX2_posts_7 ++ dktX2_posts_8
def dkwX2_posts_6 : List UInt8 := [184, 0, 123, 153, 0, 22, 42, 180, 0, 87, 21, 8, 5, 96, 47, 136, 3, 16, 9, 184, 0, 123]
abbrev dktX2_posts_6 : List UInt8 := dkwX2_posts_6 ++ dktX2_posts_7
def dkwX2_posts_5 : List UInt8 := [47, 136, 3, 16, 15, 184, 0, 123, 153, 0, 41, 42, 180, 0, 87, 21, 8, 4, 96, 47, 136, 3, 16, 15]
abbrev dktX2_posts_5 : List UInt8 := dkwX2_posts_5 ++ dktX2_posts_6
def dkwX2_posts_4 : List UInt8 := [16, 9, 160, 0, 6, 21, 4, 172, 16, 60, 27, 104, 22, 6, 136, 96, 54, 8, 42, 180, 0, 87, 21, 8]
abbrev dktX2_posts_4 : List UInt8 := dkwX2_posts_4 ++ dktX2_posts_5
def dkwX2_posts_3 : List UInt8 := [155, 0, 29, 22, 6, 20, 0, 135, 97, 42, 180, 0, 84, 27, 46, 133, 148, 157, 0, 12, 42, 180, 0, 120]
abbrev dktX2_posts_3 : List UInt8 := dkwX2_posts_3 ++ dktX2_posts_4
def dkwX2_posts_2 : List UInt8 := [54, 5, 21, 5, 29, 162, 0, 161, 28, 133, 20, 0, 135, 21, 5, 133, 105, 97, 55, 6, 22, 6, 9, 148]
abbrev dktX2_posts_2 : List UInt8 := dkwX2_posts_2 ++ dktX2_posts_3
def dkwX2_posts_1 : List UInt8 := [46, 2, 160, 0, 5, 3, 172, 42, 180, 0, 81, 27, 46, 153, 0, 6, 16, 244, 172, 3, 54, 4, 3]
abbrev dktX2_posts_1 : List UInt8 := dkwX2_posts_1 ++ dktX2_posts_2
def dkwX2_posts_0 : List UInt8 := [27, 184, 0, 131, 153, 0, 13, 29, 4, 16, 9, 184, 0, 123, 154, 0, 5, 2, 172, 42, 180, 0, 81, 27]
abbrev dktX2_posts_0 : List UInt8 := dkwX2_posts_0 ++ dktX2_posts_1
theorem dksX2_posts_0 : cX2_posts.data.toList.drop 0 = dktX2_posts_0 := by decide +kernel
theorem dksX2_posts_1 : cX2_posts.data.toList.drop 24 = dktX2_posts_1 := dk_seg dksX2_posts_0 24 rfl rfl
theorem dksX2_posts_2 : cX2_posts.data.toList.drop 47 = dktX2_posts_2 := dk_seg dksX2_posts_1 23 rfl rfl
theorem dksX2_posts_3 : cX2_posts.data.toList.drop 71 = dktX2_posts_3 := dk_seg dksX2_posts_2 24 rfl rfl
theorem dksX2_posts_4 : cX2_posts.data.toList.drop 95 = dktX2_posts_4 := dk_seg dksX2_posts_3 24 rfl rfl
theorem dksX2_posts_5 : cX2_posts.data.toList.drop 119 = dktX2_posts_5 := dk_seg dksX2_posts_4 24 rfl rfl
theorem dksX2_posts_6 : cX2_posts.data.toList.drop 143 = dktX2_posts_6 := dk_seg dksX2_posts_5 24 rfl rfl
theorem dksX2_posts_7 : cX2_posts.data.toList.drop 165 = dktX2_posts_7 := dk_seg dksX2_posts_6 22 rfl rfl
theorem dksX2_posts_8 : cX2_posts.data.toList.drop 189 = dktX2_posts_8 := dk_seg dksX2_posts_7 24 rfl rfl
theorem dksX2_posts_9 : cX2_posts.data.toList.drop 213 = dktX2_posts_9 := dk_seg dksX2_posts_8 24 rfl rfl
theorem dX2_posts_0 : decode cX2_posts 0 = .ok (.iload_n 1, 1) := dk_27 (dk_at dksX2_posts_0 0 rfl rfl)
theorem dX2_posts_1 : decode cX2_posts 1 = .ok (.invokestatic 131, 3) := dk_184 0 131 (dk_at dksX2_posts_0 1 rfl rfl)
theorem dX2_posts_4 : decode cX2_posts 4 = .ok (.ifCond .eq 13, 3) := dk_153 0 13 (dk_at dksX2_posts_0 4 rfl rfl)
theorem dX2_posts_7 : decode cX2_posts 7 = .ok (.iload_n 3, 1) := dk_29 (dk_at dksX2_posts_0 7 rfl rfl)
theorem dX2_posts_8 : decode cX2_posts 8 = .ok (.iconst 1, 1) := dk_4 (dk_at dksX2_posts_0 8 rfl rfl)
theorem dX2_posts_9 : decode cX2_posts 9 = .ok (.bipush 9, 2) := dk_16 9 (dk_at dksX2_posts_0 9 rfl rfl)
theorem dX2_posts_11 : decode cX2_posts 11 = .ok (.invokestatic 123, 3) := dk_184 0 123 (dk_at dksX2_posts_0 11 rfl rfl)
theorem dX2_posts_14 : decode cX2_posts 14 = .ok (.ifCond .ne 5, 3) := dk_154 0 5 (dk_at dksX2_posts_0 14 rfl rfl)
theorem dX2_posts_17 : decode cX2_posts 17 = .ok (.iconst (-1), 1) := dk_2 (dk_at dksX2_posts_0 17 rfl rfl)
theorem dX2_posts_18 : decode cX2_posts 18 = .ok (.ireturn, 1) := dk_172 (dk_at dksX2_posts_0 18 rfl rfl)
theorem dX2_posts_19 : decode cX2_posts 19 = .ok (.aload_n 0, 1) := dk_42 (dk_at dksX2_posts_0 19 rfl rfl)
theorem dX2_posts_20 : decode cX2_posts 20 = .ok (.getfield 81, 3) := dk_180 0 81 (dk_at dksX2_posts_0 20 rfl rfl)
theorem dX2_posts_23 : decode cX2_posts 23 = .ok (.iload_n 1, 1) := dk_27 (dk_at dksX2_posts_0 23 rfl rfl)
theorem dX2_posts_24 : decode cX2_posts 24 = .ok (.iaload, 1) := dk_46 (dk_at dksX2_posts_1 0 rfl rfl)
theorem dX2_posts_25 : decode cX2_posts 25 = .ok (.iconst (-1), 1) := dk_2 (dk_at dksX2_posts_1 1 rfl rfl)
theorem dX2_posts_26 : decode cX2_posts 26 = .ok (.if_icmp .ne 5, 3) := dk_160 0 5 (dk_at dksX2_posts_1 2 rfl rfl)
theorem dX2_posts_29 : decode cX2_posts 29 = .ok (.iconst 0, 1) := dk_3 (dk_at dksX2_posts_1 5 rfl rfl)
theorem dX2_posts_30 : decode cX2_posts 30 = .ok (.ireturn, 1) := dk_172 (dk_at dksX2_posts_1 6 rfl rfl)
theorem dX2_posts_31 : decode cX2_posts 31 = .ok (.aload_n 0, 1) := dk_42 (dk_at dksX2_posts_1 7 rfl rfl)
theorem dX2_posts_32 : decode cX2_posts 32 = .ok (.getfield 81, 3) := dk_180 0 81 (dk_at dksX2_posts_1 8 rfl rfl)
theorem dX2_posts_35 : decode cX2_posts 35 = .ok (.iload_n 1, 1) := dk_27 (dk_at dksX2_posts_1 11 rfl rfl)
theorem dX2_posts_36 : decode cX2_posts 36 = .ok (.iaload, 1) := dk_46 (dk_at dksX2_posts_1 12 rfl rfl)
theorem dX2_posts_37 : decode cX2_posts 37 = .ok (.ifCond .eq 6, 3) := dk_153 0 6 (dk_at dksX2_posts_1 13 rfl rfl)
theorem dX2_posts_40 : decode cX2_posts 40 = .ok (.bipush (-12), 2) := dk_16 244 (dk_at dksX2_posts_1 16 rfl rfl)
theorem dX2_posts_42 : decode cX2_posts 42 = .ok (.ireturn, 1) := dk_172 (dk_at dksX2_posts_1 18 rfl rfl)
theorem dX2_posts_43 : decode cX2_posts 43 = .ok (.iconst 0, 1) := dk_3 (dk_at dksX2_posts_1 19 rfl rfl)
theorem dX2_posts_44 : decode cX2_posts 44 = .ok (.istore 4, 2) := dk_54 4 (dk_at dksX2_posts_1 20 rfl rfl)
theorem dX2_posts_46 : decode cX2_posts 46 = .ok (.iconst 0, 1) := dk_3 (dk_at dksX2_posts_1 22 rfl rfl)
theorem dX2_posts_47 : decode cX2_posts 47 = .ok (.istore 5, 2) := dk_54 5 (dk_at dksX2_posts_2 0 rfl rfl)
theorem dX2_posts_49 : decode cX2_posts 49 = .ok (.iload 5, 2) := dk_21 5 (dk_at dksX2_posts_2 2 rfl rfl)
theorem dX2_posts_51 : decode cX2_posts 51 = .ok (.iload_n 3, 1) := dk_29 (dk_at dksX2_posts_2 4 rfl rfl)
theorem dX2_posts_52 : decode cX2_posts 52 = .ok (.if_icmp .ge 161, 3) := dk_162 0 161 (dk_at dksX2_posts_2 5 rfl rfl)
theorem dX2_posts_55 : decode cX2_posts 55 = .ok (.iload_n 2, 1) := dk_28 (dk_at dksX2_posts_2 8 rfl rfl)
theorem dX2_posts_56 : decode cX2_posts 56 = .ok (.i2l, 1) := dk_133 (dk_at dksX2_posts_2 9 rfl rfl)
theorem dX2_posts_57 : decode cX2_posts 57 = .ok (.ldc2_w 135, 3) := dk_20 0 135 (dk_at dksX2_posts_2 10 rfl rfl)
theorem dX2_posts_60 : decode cX2_posts 60 = .ok (.iload 5, 2) := dk_21 5 (dk_at dksX2_posts_2 13 rfl rfl)
theorem dX2_posts_62 : decode cX2_posts 62 = .ok (.i2l, 1) := dk_133 (dk_at dksX2_posts_2 15 rfl rfl)
theorem dX2_posts_63 : decode cX2_posts 63 = .ok (.lmul, 1) := dk_105 (dk_at dksX2_posts_2 16 rfl rfl)
theorem dX2_posts_64 : decode cX2_posts 64 = .ok (.ladd, 1) := dk_97 (dk_at dksX2_posts_2 17 rfl rfl)
theorem dX2_posts_65 : decode cX2_posts 65 = .ok (.lstore 6, 2) := dk_55 6 (dk_at dksX2_posts_2 18 rfl rfl)
theorem dX2_posts_67 : decode cX2_posts 67 = .ok (.lload 6, 2) := dk_22 6 (dk_at dksX2_posts_2 20 rfl rfl)
theorem dX2_posts_69 : decode cX2_posts 69 = .ok (.lconst 0, 1) := dk_9 (dk_at dksX2_posts_2 22 rfl rfl)
theorem dX2_posts_70 : decode cX2_posts 70 = .ok (.lcmp, 1) := dk_148 (dk_at dksX2_posts_2 23 rfl rfl)
theorem dX2_posts_71 : decode cX2_posts 71 = .ok (.ifCond .lt 29, 3) := dk_155 0 29 (dk_at dksX2_posts_3 0 rfl rfl)
theorem dX2_posts_74 : decode cX2_posts 74 = .ok (.lload 6, 2) := dk_22 6 (dk_at dksX2_posts_3 3 rfl rfl)
theorem dX2_posts_76 : decode cX2_posts 76 = .ok (.ldc2_w 135, 3) := dk_20 0 135 (dk_at dksX2_posts_3 5 rfl rfl)
theorem dX2_posts_79 : decode cX2_posts 79 = .ok (.ladd, 1) := dk_97 (dk_at dksX2_posts_3 8 rfl rfl)
theorem dX2_posts_80 : decode cX2_posts 80 = .ok (.aload_n 0, 1) := dk_42 (dk_at dksX2_posts_3 9 rfl rfl)
theorem dX2_posts_81 : decode cX2_posts 81 = .ok (.getfield 84, 3) := dk_180 0 84 (dk_at dksX2_posts_3 10 rfl rfl)
theorem dX2_posts_84 : decode cX2_posts 84 = .ok (.iload_n 1, 1) := dk_27 (dk_at dksX2_posts_3 13 rfl rfl)
theorem dX2_posts_85 : decode cX2_posts 85 = .ok (.iaload, 1) := dk_46 (dk_at dksX2_posts_3 14 rfl rfl)
theorem dX2_posts_86 : decode cX2_posts 86 = .ok (.i2l, 1) := dk_133 (dk_at dksX2_posts_3 15 rfl rfl)
theorem dX2_posts_87 : decode cX2_posts 87 = .ok (.lcmp, 1) := dk_148 (dk_at dksX2_posts_3 16 rfl rfl)
theorem dX2_posts_88 : decode cX2_posts 88 = .ok (.ifCond .gt 12, 3) := dk_157 0 12 (dk_at dksX2_posts_3 17 rfl rfl)
theorem dX2_posts_91 : decode cX2_posts 91 = .ok (.aload_n 0, 1) := dk_42 (dk_at dksX2_posts_3 20 rfl rfl)
theorem dX2_posts_92 : decode cX2_posts 92 = .ok (.getfield 120, 3) := dk_180 0 120 (dk_at dksX2_posts_3 21 rfl rfl)
theorem dX2_posts_95 : decode cX2_posts 95 = .ok (.bipush 9, 2) := dk_16 9 (dk_at dksX2_posts_4 0 rfl rfl)
theorem dX2_posts_97 : decode cX2_posts 97 = .ok (.if_icmp .ne 6, 3) := dk_160 0 6 (dk_at dksX2_posts_4 2 rfl rfl)
theorem dX2_posts_100 : decode cX2_posts 100 = .ok (.iload 4, 2) := dk_21 4 (dk_at dksX2_posts_4 5 rfl rfl)
theorem dX2_posts_102 : decode cX2_posts 102 = .ok (.ireturn, 1) := dk_172 (dk_at dksX2_posts_4 7 rfl rfl)
theorem dX2_posts_103 : decode cX2_posts 103 = .ok (.bipush 60, 2) := dk_16 60 (dk_at dksX2_posts_4 8 rfl rfl)
theorem dX2_posts_105 : decode cX2_posts 105 = .ok (.iload_n 1, 1) := dk_27 (dk_at dksX2_posts_4 10 rfl rfl)
theorem dX2_posts_106 : decode cX2_posts 106 = .ok (.imul, 1) := dk_104 (dk_at dksX2_posts_4 11 rfl rfl)
theorem dX2_posts_107 : decode cX2_posts 107 = .ok (.lload 6, 2) := dk_22 6 (dk_at dksX2_posts_4 12 rfl rfl)
theorem dX2_posts_109 : decode cX2_posts 109 = .ok (.l2i, 1) := dk_136 (dk_at dksX2_posts_4 14 rfl rfl)
theorem dX2_posts_110 : decode cX2_posts 110 = .ok (.iadd, 1) := dk_96 (dk_at dksX2_posts_4 15 rfl rfl)
theorem dX2_posts_111 : decode cX2_posts 111 = .ok (.istore 8, 2) := dk_54 8 (dk_at dksX2_posts_4 16 rfl rfl)
theorem dX2_posts_113 : decode cX2_posts 113 = .ok (.aload_n 0, 1) := dk_42 (dk_at dksX2_posts_4 18 rfl rfl)
theorem dX2_posts_114 : decode cX2_posts 114 = .ok (.getfield 87, 3) := dk_180 0 87 (dk_at dksX2_posts_4 19 rfl rfl)
theorem dX2_posts_117 : decode cX2_posts 117 = .ok (.iload 8, 2) := dk_21 8 (dk_at dksX2_posts_4 22 rfl rfl)
theorem dX2_posts_119 : decode cX2_posts 119 = .ok (.laload, 1) := dk_47 (dk_at dksX2_posts_5 0 rfl rfl)
theorem dX2_posts_120 : decode cX2_posts 120 = .ok (.l2i, 1) := dk_136 (dk_at dksX2_posts_5 1 rfl rfl)
theorem dX2_posts_121 : decode cX2_posts 121 = .ok (.iconst 0, 1) := dk_3 (dk_at dksX2_posts_5 2 rfl rfl)
theorem dX2_posts_122 : decode cX2_posts 122 = .ok (.bipush 15, 2) := dk_16 15 (dk_at dksX2_posts_5 3 rfl rfl)
theorem dX2_posts_124 : decode cX2_posts 124 = .ok (.invokestatic 123, 3) := dk_184 0 123 (dk_at dksX2_posts_5 5 rfl rfl)
theorem dX2_posts_127 : decode cX2_posts 127 = .ok (.ifCond .eq 41, 3) := dk_153 0 41 (dk_at dksX2_posts_5 8 rfl rfl)
theorem dX2_posts_130 : decode cX2_posts 130 = .ok (.aload_n 0, 1) := dk_42 (dk_at dksX2_posts_5 11 rfl rfl)
theorem dX2_posts_131 : decode cX2_posts 131 = .ok (.getfield 87, 3) := dk_180 0 87 (dk_at dksX2_posts_5 12 rfl rfl)
theorem dX2_posts_134 : decode cX2_posts 134 = .ok (.iload 8, 2) := dk_21 8 (dk_at dksX2_posts_5 15 rfl rfl)
theorem dX2_posts_136 : decode cX2_posts 136 = .ok (.iconst 1, 1) := dk_4 (dk_at dksX2_posts_5 17 rfl rfl)
theorem dX2_posts_137 : decode cX2_posts 137 = .ok (.iadd, 1) := dk_96 (dk_at dksX2_posts_5 18 rfl rfl)
theorem dX2_posts_138 : decode cX2_posts 138 = .ok (.laload, 1) := dk_47 (dk_at dksX2_posts_5 19 rfl rfl)
theorem dX2_posts_139 : decode cX2_posts 139 = .ok (.l2i, 1) := dk_136 (dk_at dksX2_posts_5 20 rfl rfl)
theorem dX2_posts_140 : decode cX2_posts 140 = .ok (.iconst 0, 1) := dk_3 (dk_at dksX2_posts_5 21 rfl rfl)
theorem dX2_posts_141 : decode cX2_posts 141 = .ok (.bipush 15, 2) := dk_16 15 (dk_at dksX2_posts_5 22 rfl rfl)
theorem dX2_posts_143 : decode cX2_posts 143 = .ok (.invokestatic 123, 3) := dk_184 0 123 (dk_at dksX2_posts_6 0 rfl rfl)
theorem dX2_posts_146 : decode cX2_posts 146 = .ok (.ifCond .eq 22, 3) := dk_153 0 22 (dk_at dksX2_posts_6 3 rfl rfl)
theorem dX2_posts_149 : decode cX2_posts 149 = .ok (.aload_n 0, 1) := dk_42 (dk_at dksX2_posts_6 6 rfl rfl)
theorem dX2_posts_150 : decode cX2_posts 150 = .ok (.getfield 87, 3) := dk_180 0 87 (dk_at dksX2_posts_6 7 rfl rfl)
theorem dX2_posts_153 : decode cX2_posts 153 = .ok (.iload 8, 2) := dk_21 8 (dk_at dksX2_posts_6 10 rfl rfl)
theorem dX2_posts_155 : decode cX2_posts 155 = .ok (.iconst 2, 1) := dk_5 (dk_at dksX2_posts_6 12 rfl rfl)
theorem dX2_posts_156 : decode cX2_posts 156 = .ok (.iadd, 1) := dk_96 (dk_at dksX2_posts_6 13 rfl rfl)
theorem dX2_posts_157 : decode cX2_posts 157 = .ok (.laload, 1) := dk_47 (dk_at dksX2_posts_6 14 rfl rfl)
theorem dX2_posts_158 : decode cX2_posts 158 = .ok (.l2i, 1) := dk_136 (dk_at dksX2_posts_6 15 rfl rfl)
theorem dX2_posts_159 : decode cX2_posts 159 = .ok (.iconst 0, 1) := dk_3 (dk_at dksX2_posts_6 16 rfl rfl)
theorem dX2_posts_160 : decode cX2_posts 160 = .ok (.bipush 9, 2) := dk_16 9 (dk_at dksX2_posts_6 17 rfl rfl)
theorem dX2_posts_162 : decode cX2_posts 162 = .ok (.invokestatic 123, 3) := dk_184 0 123 (dk_at dksX2_posts_6 19 rfl rfl)
theorem dX2_posts_165 : decode cX2_posts 165 = .ok (.ifCond .ne 6, 3) := dk_154 0 6 (dk_at dksX2_posts_7 0 rfl rfl)
theorem dX2_posts_168 : decode cX2_posts 168 = .ok (.iload 4, 2) := dk_21 4 (dk_at dksX2_posts_7 3 rfl rfl)
theorem dX2_posts_170 : decode cX2_posts 170 = .ok (.ireturn, 1) := dk_172 (dk_at dksX2_posts_7 5 rfl rfl)
theorem dX2_posts_171 : decode cX2_posts 171 = .ok (.aload_n 0, 1) := dk_42 (dk_at dksX2_posts_7 6 rfl rfl)
theorem dX2_posts_172 : decode cX2_posts 172 = .ok (.aload_n 0, 1) := dk_42 (dk_at dksX2_posts_7 7 rfl rfl)
theorem dX2_posts_173 : decode cX2_posts 173 = .ok (.getfield 87, 3) := dk_180 0 87 (dk_at dksX2_posts_7 8 rfl rfl)
theorem dX2_posts_176 : decode cX2_posts 176 = .ok (.iload 8, 2) := dk_21 8 (dk_at dksX2_posts_7 11 rfl rfl)
theorem dX2_posts_178 : decode cX2_posts 178 = .ok (.laload, 1) := dk_47 (dk_at dksX2_posts_7 13 rfl rfl)
theorem dX2_posts_179 : decode cX2_posts 179 = .ok (.l2i, 1) := dk_136 (dk_at dksX2_posts_7 14 rfl rfl)
theorem dX2_posts_180 : decode cX2_posts 180 = .ok (.aload_n 0, 1) := dk_42 (dk_at dksX2_posts_7 15 rfl rfl)
theorem dX2_posts_181 : decode cX2_posts 181 = .ok (.getfield 87, 3) := dk_180 0 87 (dk_at dksX2_posts_7 16 rfl rfl)
theorem dX2_posts_184 : decode cX2_posts 184 = .ok (.iload 8, 2) := dk_21 8 (dk_at dksX2_posts_7 19 rfl rfl)
theorem dX2_posts_186 : decode cX2_posts 186 = .ok (.iconst 1, 1) := dk_4 (dk_at dksX2_posts_7 21 rfl rfl)
theorem dX2_posts_187 : decode cX2_posts 187 = .ok (.iadd, 1) := dk_96 (dk_at dksX2_posts_7 22 rfl rfl)
theorem dX2_posts_188 : decode cX2_posts 188 = .ok (.laload, 1) := dk_47 (dk_at dksX2_posts_7 23 rfl rfl)
theorem dX2_posts_189 : decode cX2_posts 189 = .ok (.l2i, 1) := dk_136 (dk_at dksX2_posts_8 0 rfl rfl)
theorem dX2_posts_190 : decode cX2_posts 190 = .ok (.aload_n 0, 1) := dk_42 (dk_at dksX2_posts_8 1 rfl rfl)
theorem dX2_posts_191 : decode cX2_posts 191 = .ok (.getfield 87, 3) := dk_180 0 87 (dk_at dksX2_posts_8 2 rfl rfl)
theorem dX2_posts_194 : decode cX2_posts 194 = .ok (.iload 8, 2) := dk_21 8 (dk_at dksX2_posts_8 5 rfl rfl)
theorem dX2_posts_196 : decode cX2_posts 196 = .ok (.iconst 2, 1) := dk_5 (dk_at dksX2_posts_8 7 rfl rfl)
theorem dX2_posts_197 : decode cX2_posts 197 = .ok (.iadd, 1) := dk_96 (dk_at dksX2_posts_8 8 rfl rfl)
theorem dX2_posts_198 : decode cX2_posts 198 = .ok (.laload, 1) := dk_47 (dk_at dksX2_posts_8 9 rfl rfl)
theorem dX2_posts_199 : decode cX2_posts 199 = .ok (.l2i, 1) := dk_136 (dk_at dksX2_posts_8 10 rfl rfl)
theorem dX2_posts_200 : decode cX2_posts 200 = .ok (.invokevirtual 127, 3) := dk_182 0 127 (dk_at dksX2_posts_8 11 rfl rfl)
theorem dX2_posts_203 : decode cX2_posts 203 = .ok (.pop, 1) := dk_87 (dk_at dksX2_posts_8 14 rfl rfl)
theorem dX2_posts_204 : decode cX2_posts 204 = .ok (.iinc 4 1, 3) := dk_132 4 1 (dk_at dksX2_posts_8 15 rfl rfl)
theorem dX2_posts_207 : decode cX2_posts 207 = .ok (.iinc 5 1, 3) := dk_132 5 1 (dk_at dksX2_posts_8 18 rfl rfl)
theorem dX2_posts_210 : decode cX2_posts 210 = .ok (.goto (-161), 3) := dk_167 255 95 (dk_at dksX2_posts_8 21 rfl rfl)
theorem dX2_posts_213 : decode cX2_posts 213 = .ok (.iload 4, 2) := dk_21 4 (dk_at dksX2_posts_9 0 rfl rfl)
theorem dX2_posts_215 : decode cX2_posts 215 = .ok (.ireturn, 1) := dk_172 (dk_at dksX2_posts_9 2 rfl rfl)
abbrev cX2_isShelf : ByteArray := prog_31_method_5_code
def yX2_isShelf : MethodName := ⟨RX2, "isShelf", "(I)Z"⟩
def dkwX2_isShelf_0 : List UInt8 := [26, 3, 8, 184, 0, 123, 172]
abbrev dktX2_isShelf_0 : List UInt8 := dkwX2_isShelf_0 ++ []
theorem dksX2_isShelf_0 : cX2_isShelf.data.toList.drop 0 = dktX2_isShelf_0 := by decide +kernel
theorem dX2_isShelf_0 : decode cX2_isShelf 0 = .ok (.iload_n 0, 1) := dk_26 (dk_at dksX2_isShelf_0 0 rfl rfl)
theorem dX2_isShelf_1 : decode cX2_isShelf 1 = .ok (.iconst 0, 1) := dk_3 (dk_at dksX2_isShelf_0 1 rfl rfl)
theorem dX2_isShelf_2 : decode cX2_isShelf 2 = .ok (.iconst 5, 1) := dk_8 (dk_at dksX2_isShelf_0 2 rfl rfl)
theorem dX2_isShelf_3 : decode cX2_isShelf 3 = .ok (.invokestatic 123, 3) := dk_184 0 123 (dk_at dksX2_isShelf_0 3 rfl rfl)
theorem dX2_isShelf_6 : decode cX2_isShelf 6 = .ok (.ireturn, 1) := dk_172 (dk_at dksX2_isShelf_0 6 rfl rfl)
abbrev cX2_within : ByteArray := prog_31_method_2_code
def yX2_within : MethodName := ⟨RX2, "within", "(III)Z"⟩
def dkwX2_within_0 : List UInt8 := [26, 27, 161, 0, 12, 26, 28, 163, 0, 7, 4, 167, 0, 4, 3, 172]
abbrev dktX2_within_0 : List UInt8 := dkwX2_within_0 ++ []
theorem dksX2_within_0 : cX2_within.data.toList.drop 0 = dktX2_within_0 := by decide +kernel
theorem dX2_within_0 : decode cX2_within 0 = .ok (.iload_n 0, 1) := dk_26 (dk_at dksX2_within_0 0 rfl rfl)
theorem dX2_within_1 : decode cX2_within 1 = .ok (.iload_n 1, 1) := dk_27 (dk_at dksX2_within_0 1 rfl rfl)
theorem dX2_within_2 : decode cX2_within 2 = .ok (.if_icmp .lt 12, 3) := dk_161 0 12 (dk_at dksX2_within_0 2 rfl rfl)
theorem dX2_within_5 : decode cX2_within 5 = .ok (.iload_n 0, 1) := dk_26 (dk_at dksX2_within_0 5 rfl rfl)
theorem dX2_within_6 : decode cX2_within 6 = .ok (.iload_n 2, 1) := dk_28 (dk_at dksX2_within_0 6 rfl rfl)
theorem dX2_within_7 : decode cX2_within 7 = .ok (.if_icmp .gt 7, 3) := dk_163 0 7 (dk_at dksX2_within_0 7 rfl rfl)
theorem dX2_within_10 : decode cX2_within 10 = .ok (.iconst 1, 1) := dk_4 (dk_at dksX2_within_0 10 rfl rfl)
theorem dX2_within_11 : decode cX2_within 11 = .ok (.goto 4, 3) := dk_167 0 4 (dk_at dksX2_within_0 11 rfl rfl)
theorem dX2_within_14 : decode cX2_within 14 = .ok (.iconst 0, 1) := dk_3 (dk_at dksX2_within_0 14 rfl rfl)
theorem dX2_within_15 : decode cX2_within 15 = .ok (.ireturn, 1) := dk_172 (dk_at dksX2_within_0 15 rfl rfl)
abbrev cX2_mend : ByteArray := prog_31_method_13_code
def yX2_mend : MethodName := ⟨RX2, "mend", "(III)I"⟩
def dkwX2_mend_7 : List UInt8 := [42, 180, 0, 156, 181, 0, 159, 21, 4, 172]
abbrev dktX2_mend_7 : List UInt8 := dkwX2_mend_7 ++ []
def dkwX2_mend_6 : List UInt8 := [180, 0, 72, 7, 42, 180, 0, 156, 104, 6, 96, 29, 79, 42, 89, 180, 0, 156, 4, 96, 181, 0, 156, 42]
abbrev dktX2_mend_6 : List UInt8 := dkwX2_mend_6 ++ dktX2_mend_7
def dkwX2_mend_5 : List UInt8 := [180, 0, 156, 104, 4, 96, 28, 79, 42, 180, 0, 72, 7, 42, 180, 0, 156, 104, 5, 96, 21, 4, 79, 42]
abbrev dktX2_mend_5 : List UInt8 := dkwX2_mend_5 ++ dktX2_mend_6
def dkwX2_mend_4 : List UInt8 := [100, 181, 0, 156, 42, 180, 0, 72, 7, 42, 180, 0, 156, 104, 27, 79, 42, 180, 0, 72, 7, 42]
abbrev dktX2_mend_4 : List UInt8 := dkwX2_mend_4 ++ dktX2_mend_5
def dkwX2_mend_3 : List UInt8 := [21, 5, 42, 180, 0, 72, 21, 5, 7, 96, 46, 79, 132, 5, 1, 167, 255, 229, 42, 89, 180, 0, 156, 4]
abbrev dktX2_mend_3 : List UInt8 := dkwX2_mend_3 ++ dktX2_mend_4
def dkwX2_mend_2 : List UInt8 := [180, 0, 156, 16, 40, 160, 0, 46, 3, 54, 5, 21, 5, 17, 0, 156, 162, 0, 25, 42, 180, 0, 72]
abbrev dktX2_mend_2 : List UInt8 := dkwX2_mend_2 ++ dktX2_mend_3
def dkwX2_mend_1 : List UInt8 := [182, 0, 148, 54, 4, 21, 4, 29, 160, 0, 6, 21, 4, 172, 42, 27, 28, 29, 182, 0, 152, 42]
abbrev dktX2_mend_1 : List UInt8 := dkwX2_mend_1 ++ dktX2_mend_2
def dkwX2_mend_0 : List UInt8 := [42, 27, 28, 182, 0, 141, 153, 0, 11, 28, 29, 184, 0, 145, 154, 0, 5, 2, 172, 42, 27, 28]
abbrev dktX2_mend_0 : List UInt8 := dkwX2_mend_0 ++ dktX2_mend_1
theorem dksX2_mend_0 : cX2_mend.data.toList.drop 0 = dktX2_mend_0 := by decide +kernel
theorem dksX2_mend_1 : cX2_mend.data.toList.drop 22 = dktX2_mend_1 := dk_seg dksX2_mend_0 22 rfl rfl
theorem dksX2_mend_2 : cX2_mend.data.toList.drop 44 = dktX2_mend_2 := dk_seg dksX2_mend_1 22 rfl rfl
theorem dksX2_mend_3 : cX2_mend.data.toList.drop 67 = dktX2_mend_3 := dk_seg dksX2_mend_2 23 rfl rfl
theorem dksX2_mend_4 : cX2_mend.data.toList.drop 91 = dktX2_mend_4 := dk_seg dksX2_mend_3 24 rfl rfl
theorem dksX2_mend_5 : cX2_mend.data.toList.drop 113 = dktX2_mend_5 := dk_seg dksX2_mend_4 22 rfl rfl
theorem dksX2_mend_6 : cX2_mend.data.toList.drop 137 = dktX2_mend_6 := dk_seg dksX2_mend_5 24 rfl rfl
theorem dksX2_mend_7 : cX2_mend.data.toList.drop 161 = dktX2_mend_7 := dk_seg dksX2_mend_6 24 rfl rfl
theorem dX2_mend_0 : decode cX2_mend 0 = .ok (.aload_n 0, 1) := dk_42 (dk_at dksX2_mend_0 0 rfl rfl)
theorem dX2_mend_1 : decode cX2_mend 1 = .ok (.iload_n 1, 1) := dk_27 (dk_at dksX2_mend_0 1 rfl rfl)
theorem dX2_mend_2 : decode cX2_mend 2 = .ok (.iload_n 2, 1) := dk_28 (dk_at dksX2_mend_0 2 rfl rfl)
theorem dX2_mend_3 : decode cX2_mend 3 = .ok (.invokevirtual 141, 3) := dk_182 0 141 (dk_at dksX2_mend_0 3 rfl rfl)
theorem dX2_mend_6 : decode cX2_mend 6 = .ok (.ifCond .eq 11, 3) := dk_153 0 11 (dk_at dksX2_mend_0 6 rfl rfl)
theorem dX2_mend_9 : decode cX2_mend 9 = .ok (.iload_n 2, 1) := dk_28 (dk_at dksX2_mend_0 9 rfl rfl)
theorem dX2_mend_10 : decode cX2_mend 10 = .ok (.iload_n 3, 1) := dk_29 (dk_at dksX2_mend_0 10 rfl rfl)
theorem dX2_mend_11 : decode cX2_mend 11 = .ok (.invokestatic 145, 3) := dk_184 0 145 (dk_at dksX2_mend_0 11 rfl rfl)
theorem dX2_mend_14 : decode cX2_mend 14 = .ok (.ifCond .ne 5, 3) := dk_154 0 5 (dk_at dksX2_mend_0 14 rfl rfl)
theorem dX2_mend_17 : decode cX2_mend 17 = .ok (.iconst (-1), 1) := dk_2 (dk_at dksX2_mend_0 17 rfl rfl)
theorem dX2_mend_18 : decode cX2_mend 18 = .ok (.ireturn, 1) := dk_172 (dk_at dksX2_mend_0 18 rfl rfl)
theorem dX2_mend_19 : decode cX2_mend 19 = .ok (.aload_n 0, 1) := dk_42 (dk_at dksX2_mend_0 19 rfl rfl)
theorem dX2_mend_20 : decode cX2_mend 20 = .ok (.iload_n 1, 1) := dk_27 (dk_at dksX2_mend_0 20 rfl rfl)
theorem dX2_mend_21 : decode cX2_mend 21 = .ok (.iload_n 2, 1) := dk_28 (dk_at dksX2_mend_0 21 rfl rfl)
theorem dX2_mend_22 : decode cX2_mend 22 = .ok (.invokevirtual 148, 3) := dk_182 0 148 (dk_at dksX2_mend_1 0 rfl rfl)
theorem dX2_mend_25 : decode cX2_mend 25 = .ok (.istore 4, 2) := dk_54 4 (dk_at dksX2_mend_1 3 rfl rfl)
theorem dX2_mend_27 : decode cX2_mend 27 = .ok (.iload 4, 2) := dk_21 4 (dk_at dksX2_mend_1 5 rfl rfl)
theorem dX2_mend_29 : decode cX2_mend 29 = .ok (.iload_n 3, 1) := dk_29 (dk_at dksX2_mend_1 7 rfl rfl)
theorem dX2_mend_30 : decode cX2_mend 30 = .ok (.if_icmp .ne 6, 3) := dk_160 0 6 (dk_at dksX2_mend_1 8 rfl rfl)
theorem dX2_mend_33 : decode cX2_mend 33 = .ok (.iload 4, 2) := dk_21 4 (dk_at dksX2_mend_1 11 rfl rfl)
theorem dX2_mend_35 : decode cX2_mend 35 = .ok (.ireturn, 1) := dk_172 (dk_at dksX2_mend_1 13 rfl rfl)
theorem dX2_mend_36 : decode cX2_mend 36 = .ok (.aload_n 0, 1) := dk_42 (dk_at dksX2_mend_1 14 rfl rfl)
theorem dX2_mend_37 : decode cX2_mend 37 = .ok (.iload_n 1, 1) := dk_27 (dk_at dksX2_mend_1 15 rfl rfl)
theorem dX2_mend_38 : decode cX2_mend 38 = .ok (.iload_n 2, 1) := dk_28 (dk_at dksX2_mend_1 16 rfl rfl)
theorem dX2_mend_39 : decode cX2_mend 39 = .ok (.iload_n 3, 1) := dk_29 (dk_at dksX2_mend_1 17 rfl rfl)
theorem dX2_mend_40 : decode cX2_mend 40 = .ok (.invokevirtual 152, 3) := dk_182 0 152 (dk_at dksX2_mend_1 18 rfl rfl)
theorem dX2_mend_43 : decode cX2_mend 43 = .ok (.aload_n 0, 1) := dk_42 (dk_at dksX2_mend_1 21 rfl rfl)
theorem dX2_mend_44 : decode cX2_mend 44 = .ok (.getfield 156, 3) := dk_180 0 156 (dk_at dksX2_mend_2 0 rfl rfl)
theorem dX2_mend_47 : decode cX2_mend 47 = .ok (.bipush 40, 2) := dk_16 40 (dk_at dksX2_mend_2 3 rfl rfl)
theorem dX2_mend_49 : decode cX2_mend 49 = .ok (.if_icmp .ne 46, 3) := dk_160 0 46 (dk_at dksX2_mend_2 5 rfl rfl)
theorem dX2_mend_52 : decode cX2_mend 52 = .ok (.iconst 0, 1) := dk_3 (dk_at dksX2_mend_2 8 rfl rfl)
theorem dX2_mend_53 : decode cX2_mend 53 = .ok (.istore 5, 2) := dk_54 5 (dk_at dksX2_mend_2 9 rfl rfl)
theorem dX2_mend_55 : decode cX2_mend 55 = .ok (.iload 5, 2) := dk_21 5 (dk_at dksX2_mend_2 11 rfl rfl)
theorem dX2_mend_57 : decode cX2_mend 57 = .ok (.sipush 156, 3) := dk_17 0 156 (dk_at dksX2_mend_2 13 rfl rfl)
theorem dX2_mend_60 : decode cX2_mend 60 = .ok (.if_icmp .ge 25, 3) := dk_162 0 25 (dk_at dksX2_mend_2 16 rfl rfl)
theorem dX2_mend_63 : decode cX2_mend 63 = .ok (.aload_n 0, 1) := dk_42 (dk_at dksX2_mend_2 19 rfl rfl)
theorem dX2_mend_64 : decode cX2_mend 64 = .ok (.getfield 72, 3) := dk_180 0 72 (dk_at dksX2_mend_2 20 rfl rfl)
theorem dX2_mend_67 : decode cX2_mend 67 = .ok (.iload 5, 2) := dk_21 5 (dk_at dksX2_mend_3 0 rfl rfl)
theorem dX2_mend_69 : decode cX2_mend 69 = .ok (.aload_n 0, 1) := dk_42 (dk_at dksX2_mend_3 2 rfl rfl)
theorem dX2_mend_70 : decode cX2_mend 70 = .ok (.getfield 72, 3) := dk_180 0 72 (dk_at dksX2_mend_3 3 rfl rfl)
theorem dX2_mend_73 : decode cX2_mend 73 = .ok (.iload 5, 2) := dk_21 5 (dk_at dksX2_mend_3 6 rfl rfl)
theorem dX2_mend_75 : decode cX2_mend 75 = .ok (.iconst 4, 1) := dk_7 (dk_at dksX2_mend_3 8 rfl rfl)
theorem dX2_mend_76 : decode cX2_mend 76 = .ok (.iadd, 1) := dk_96 (dk_at dksX2_mend_3 9 rfl rfl)
theorem dX2_mend_77 : decode cX2_mend 77 = .ok (.iaload, 1) := dk_46 (dk_at dksX2_mend_3 10 rfl rfl)
theorem dX2_mend_78 : decode cX2_mend 78 = .ok (.iastore, 1) := dk_79 (dk_at dksX2_mend_3 11 rfl rfl)
theorem dX2_mend_79 : decode cX2_mend 79 = .ok (.iinc 5 1, 3) := dk_132 5 1 (dk_at dksX2_mend_3 12 rfl rfl)
theorem dX2_mend_82 : decode cX2_mend 82 = .ok (.goto (-27), 3) := dk_167 255 229 (dk_at dksX2_mend_3 15 rfl rfl)
theorem dX2_mend_85 : decode cX2_mend 85 = .ok (.aload_n 0, 1) := dk_42 (dk_at dksX2_mend_3 18 rfl rfl)
theorem dX2_mend_86 : decode cX2_mend 86 = .ok (.dup, 1) := dk_89 (dk_at dksX2_mend_3 19 rfl rfl)
theorem dX2_mend_87 : decode cX2_mend 87 = .ok (.getfield 156, 3) := dk_180 0 156 (dk_at dksX2_mend_3 20 rfl rfl)
theorem dX2_mend_90 : decode cX2_mend 90 = .ok (.iconst 1, 1) := dk_4 (dk_at dksX2_mend_3 23 rfl rfl)
theorem dX2_mend_91 : decode cX2_mend 91 = .ok (.isub, 1) := dk_100 (dk_at dksX2_mend_4 0 rfl rfl)
theorem dX2_mend_92 : decode cX2_mend 92 = .ok (.putfield 156, 3) := dk_181 0 156 (dk_at dksX2_mend_4 1 rfl rfl)
theorem dX2_mend_95 : decode cX2_mend 95 = .ok (.aload_n 0, 1) := dk_42 (dk_at dksX2_mend_4 4 rfl rfl)
theorem dX2_mend_96 : decode cX2_mend 96 = .ok (.getfield 72, 3) := dk_180 0 72 (dk_at dksX2_mend_4 5 rfl rfl)
theorem dX2_mend_99 : decode cX2_mend 99 = .ok (.iconst 4, 1) := dk_7 (dk_at dksX2_mend_4 8 rfl rfl)
theorem dX2_mend_100 : decode cX2_mend 100 = .ok (.aload_n 0, 1) := dk_42 (dk_at dksX2_mend_4 9 rfl rfl)
theorem dX2_mend_101 : decode cX2_mend 101 = .ok (.getfield 156, 3) := dk_180 0 156 (dk_at dksX2_mend_4 10 rfl rfl)
theorem dX2_mend_104 : decode cX2_mend 104 = .ok (.imul, 1) := dk_104 (dk_at dksX2_mend_4 13 rfl rfl)
theorem dX2_mend_105 : decode cX2_mend 105 = .ok (.iload_n 1, 1) := dk_27 (dk_at dksX2_mend_4 14 rfl rfl)
theorem dX2_mend_106 : decode cX2_mend 106 = .ok (.iastore, 1) := dk_79 (dk_at dksX2_mend_4 15 rfl rfl)
theorem dX2_mend_107 : decode cX2_mend 107 = .ok (.aload_n 0, 1) := dk_42 (dk_at dksX2_mend_4 16 rfl rfl)
theorem dX2_mend_108 : decode cX2_mend 108 = .ok (.getfield 72, 3) := dk_180 0 72 (dk_at dksX2_mend_4 17 rfl rfl)
theorem dX2_mend_111 : decode cX2_mend 111 = .ok (.iconst 4, 1) := dk_7 (dk_at dksX2_mend_4 20 rfl rfl)
theorem dX2_mend_112 : decode cX2_mend 112 = .ok (.aload_n 0, 1) := dk_42 (dk_at dksX2_mend_4 21 rfl rfl)
theorem dX2_mend_113 : decode cX2_mend 113 = .ok (.getfield 156, 3) := dk_180 0 156 (dk_at dksX2_mend_5 0 rfl rfl)
theorem dX2_mend_116 : decode cX2_mend 116 = .ok (.imul, 1) := dk_104 (dk_at dksX2_mend_5 3 rfl rfl)
theorem dX2_mend_117 : decode cX2_mend 117 = .ok (.iconst 1, 1) := dk_4 (dk_at dksX2_mend_5 4 rfl rfl)
theorem dX2_mend_118 : decode cX2_mend 118 = .ok (.iadd, 1) := dk_96 (dk_at dksX2_mend_5 5 rfl rfl)
theorem dX2_mend_119 : decode cX2_mend 119 = .ok (.iload_n 2, 1) := dk_28 (dk_at dksX2_mend_5 6 rfl rfl)
theorem dX2_mend_120 : decode cX2_mend 120 = .ok (.iastore, 1) := dk_79 (dk_at dksX2_mend_5 7 rfl rfl)
theorem dX2_mend_121 : decode cX2_mend 121 = .ok (.aload_n 0, 1) := dk_42 (dk_at dksX2_mend_5 8 rfl rfl)
theorem dX2_mend_122 : decode cX2_mend 122 = .ok (.getfield 72, 3) := dk_180 0 72 (dk_at dksX2_mend_5 9 rfl rfl)
theorem dX2_mend_125 : decode cX2_mend 125 = .ok (.iconst 4, 1) := dk_7 (dk_at dksX2_mend_5 12 rfl rfl)
theorem dX2_mend_126 : decode cX2_mend 126 = .ok (.aload_n 0, 1) := dk_42 (dk_at dksX2_mend_5 13 rfl rfl)
theorem dX2_mend_127 : decode cX2_mend 127 = .ok (.getfield 156, 3) := dk_180 0 156 (dk_at dksX2_mend_5 14 rfl rfl)
theorem dX2_mend_130 : decode cX2_mend 130 = .ok (.imul, 1) := dk_104 (dk_at dksX2_mend_5 17 rfl rfl)
theorem dX2_mend_131 : decode cX2_mend 131 = .ok (.iconst 2, 1) := dk_5 (dk_at dksX2_mend_5 18 rfl rfl)
theorem dX2_mend_132 : decode cX2_mend 132 = .ok (.iadd, 1) := dk_96 (dk_at dksX2_mend_5 19 rfl rfl)
theorem dX2_mend_133 : decode cX2_mend 133 = .ok (.iload 4, 2) := dk_21 4 (dk_at dksX2_mend_5 20 rfl rfl)
theorem dX2_mend_135 : decode cX2_mend 135 = .ok (.iastore, 1) := dk_79 (dk_at dksX2_mend_5 22 rfl rfl)
theorem dX2_mend_136 : decode cX2_mend 136 = .ok (.aload_n 0, 1) := dk_42 (dk_at dksX2_mend_5 23 rfl rfl)
theorem dX2_mend_137 : decode cX2_mend 137 = .ok (.getfield 72, 3) := dk_180 0 72 (dk_at dksX2_mend_6 0 rfl rfl)
theorem dX2_mend_140 : decode cX2_mend 140 = .ok (.iconst 4, 1) := dk_7 (dk_at dksX2_mend_6 3 rfl rfl)
theorem dX2_mend_141 : decode cX2_mend 141 = .ok (.aload_n 0, 1) := dk_42 (dk_at dksX2_mend_6 4 rfl rfl)
theorem dX2_mend_142 : decode cX2_mend 142 = .ok (.getfield 156, 3) := dk_180 0 156 (dk_at dksX2_mend_6 5 rfl rfl)
theorem dX2_mend_145 : decode cX2_mend 145 = .ok (.imul, 1) := dk_104 (dk_at dksX2_mend_6 8 rfl rfl)
theorem dX2_mend_146 : decode cX2_mend 146 = .ok (.iconst 3, 1) := dk_6 (dk_at dksX2_mend_6 9 rfl rfl)
theorem dX2_mend_147 : decode cX2_mend 147 = .ok (.iadd, 1) := dk_96 (dk_at dksX2_mend_6 10 rfl rfl)
theorem dX2_mend_148 : decode cX2_mend 148 = .ok (.iload_n 3, 1) := dk_29 (dk_at dksX2_mend_6 11 rfl rfl)
theorem dX2_mend_149 : decode cX2_mend 149 = .ok (.iastore, 1) := dk_79 (dk_at dksX2_mend_6 12 rfl rfl)
theorem dX2_mend_150 : decode cX2_mend 150 = .ok (.aload_n 0, 1) := dk_42 (dk_at dksX2_mend_6 13 rfl rfl)
theorem dX2_mend_151 : decode cX2_mend 151 = .ok (.dup, 1) := dk_89 (dk_at dksX2_mend_6 14 rfl rfl)
theorem dX2_mend_152 : decode cX2_mend 152 = .ok (.getfield 156, 3) := dk_180 0 156 (dk_at dksX2_mend_6 15 rfl rfl)
theorem dX2_mend_155 : decode cX2_mend 155 = .ok (.iconst 1, 1) := dk_4 (dk_at dksX2_mend_6 18 rfl rfl)
theorem dX2_mend_156 : decode cX2_mend 156 = .ok (.iadd, 1) := dk_96 (dk_at dksX2_mend_6 19 rfl rfl)
theorem dX2_mend_157 : decode cX2_mend 157 = .ok (.putfield 156, 3) := dk_181 0 156 (dk_at dksX2_mend_6 20 rfl rfl)
theorem dX2_mend_160 : decode cX2_mend 160 = .ok (.aload_n 0, 1) := dk_42 (dk_at dksX2_mend_6 23 rfl rfl)
theorem dX2_mend_161 : decode cX2_mend 161 = .ok (.aload_n 0, 1) := dk_42 (dk_at dksX2_mend_7 0 rfl rfl)
theorem dX2_mend_162 : decode cX2_mend 162 = .ok (.getfield 156, 3) := dk_180 0 156 (dk_at dksX2_mend_7 1 rfl rfl)
theorem dX2_mend_165 : decode cX2_mend 165 = .ok (.putfield 159, 3) := dk_181 0 159 (dk_at dksX2_mend_7 4 rfl rfl)
theorem dX2_mend_168 : decode cX2_mend 168 = .ok (.iload 4, 2) := dk_21 4 (dk_at dksX2_mend_7 7 rfl rfl)
theorem dX2_mend_170 : decode cX2_mend 170 = .ok (.ireturn, 1) := dk_172 (dk_at dksX2_mend_7 9 rfl rfl)
abbrev cX2_isOf : ByteArray := prog_31_method_9_code
def yX2_isOf : MethodName := ⟨RX2, "isOf", "(II)Z"⟩
def dkwX2_isOf_1 : List UInt8 := [184, 0, 123, 153, 0, 11, 27, 154, 0, 7, 4, 167, 0, 4, 3, 172]
abbrev dktX2_isOf_1 : List UInt8 := dkwX2_isOf_1 ++ []
def dkwX2_isOf_0 : List UInt8 := [28, 3, 6, 184, 0, 123, 153, 0, 12, 42, 27, 133, 182, 0, 137, 167, 0, 22, 28, 7, 16, 7]
abbrev dktX2_isOf_0 : List UInt8 := dkwX2_isOf_0 ++ dktX2_isOf_1
theorem dksX2_isOf_0 : cX2_isOf.data.toList.drop 0 = dktX2_isOf_0 := by decide +kernel
theorem dksX2_isOf_1 : cX2_isOf.data.toList.drop 22 = dktX2_isOf_1 := dk_seg dksX2_isOf_0 22 rfl rfl
theorem dX2_isOf_0 : decode cX2_isOf 0 = .ok (.iload_n 2, 1) := dk_28 (dk_at dksX2_isOf_0 0 rfl rfl)
theorem dX2_isOf_1 : decode cX2_isOf 1 = .ok (.iconst 0, 1) := dk_3 (dk_at dksX2_isOf_0 1 rfl rfl)
theorem dX2_isOf_2 : decode cX2_isOf 2 = .ok (.iconst 3, 1) := dk_6 (dk_at dksX2_isOf_0 2 rfl rfl)
theorem dX2_isOf_3 : decode cX2_isOf 3 = .ok (.invokestatic 123, 3) := dk_184 0 123 (dk_at dksX2_isOf_0 3 rfl rfl)
theorem dX2_isOf_6 : decode cX2_isOf 6 = .ok (.ifCond .eq 12, 3) := dk_153 0 12 (dk_at dksX2_isOf_0 6 rfl rfl)
theorem dX2_isOf_9 : decode cX2_isOf 9 = .ok (.aload_n 0, 1) := dk_42 (dk_at dksX2_isOf_0 9 rfl rfl)
theorem dX2_isOf_10 : decode cX2_isOf 10 = .ok (.iload_n 1, 1) := dk_27 (dk_at dksX2_isOf_0 10 rfl rfl)
theorem dX2_isOf_11 : decode cX2_isOf 11 = .ok (.i2l, 1) := dk_133 (dk_at dksX2_isOf_0 11 rfl rfl)
theorem dX2_isOf_12 : decode cX2_isOf 12 = .ok (.invokevirtual 137, 3) := dk_182 0 137 (dk_at dksX2_isOf_0 12 rfl rfl)
theorem dX2_isOf_15 : decode cX2_isOf 15 = .ok (.goto 22, 3) := dk_167 0 22 (dk_at dksX2_isOf_0 15 rfl rfl)
theorem dX2_isOf_18 : decode cX2_isOf 18 = .ok (.iload_n 2, 1) := dk_28 (dk_at dksX2_isOf_0 18 rfl rfl)
theorem dX2_isOf_19 : decode cX2_isOf 19 = .ok (.iconst 4, 1) := dk_7 (dk_at dksX2_isOf_0 19 rfl rfl)
theorem dX2_isOf_20 : decode cX2_isOf 20 = .ok (.bipush 7, 2) := dk_16 7 (dk_at dksX2_isOf_0 20 rfl rfl)
theorem dX2_isOf_22 : decode cX2_isOf 22 = .ok (.invokestatic 123, 3) := dk_184 0 123 (dk_at dksX2_isOf_1 0 rfl rfl)
theorem dX2_isOf_25 : decode cX2_isOf 25 = .ok (.ifCond .eq 11, 3) := dk_153 0 11 (dk_at dksX2_isOf_1 3 rfl rfl)
theorem dX2_isOf_28 : decode cX2_isOf 28 = .ok (.iload_n 1, 1) := dk_27 (dk_at dksX2_isOf_1 6 rfl rfl)
theorem dX2_isOf_29 : decode cX2_isOf 29 = .ok (.ifCond .ne 7, 3) := dk_154 0 7 (dk_at dksX2_isOf_1 7 rfl rfl)
theorem dX2_isOf_32 : decode cX2_isOf 32 = .ok (.iconst 1, 1) := dk_4 (dk_at dksX2_isOf_1 10 rfl rfl)
theorem dX2_isOf_33 : decode cX2_isOf 33 = .ok (.goto 4, 3) := dk_167 0 4 (dk_at dksX2_isOf_1 11 rfl rfl)
theorem dX2_isOf_36 : decode cX2_isOf 36 = .ok (.iconst 0, 1) := dk_3 (dk_at dksX2_isOf_1 14 rfl rfl)
theorem dX2_isOf_37 : decode cX2_isOf 37 = .ok (.ireturn, 1) := dk_172 (dk_at dksX2_isOf_1 15 rfl rfl)
abbrev cX2_isPost : ByteArray := prog_31_method_3_code
def yX2_isPost : MethodName := ⟨RX2, "isPost", "(J)Z"⟩
def dkwX2_isPost_0 : List UInt8 := [31, 9, 148, 155, 0, 17, 31, 42, 180, 0, 120, 133, 148, 156, 0, 7, 4, 167, 0, 4, 3, 172]
abbrev dktX2_isPost_0 : List UInt8 := dkwX2_isPost_0 ++ []
theorem dksX2_isPost_0 : cX2_isPost.data.toList.drop 0 = dktX2_isPost_0 := by decide +kernel
theorem dX2_isPost_0 : decode cX2_isPost 0 = .ok (.lload_n 1, 1) := dk_31 (dk_at dksX2_isPost_0 0 rfl rfl)
theorem dX2_isPost_1 : decode cX2_isPost 1 = .ok (.lconst 0, 1) := dk_9 (dk_at dksX2_isPost_0 1 rfl rfl)
theorem dX2_isPost_2 : decode cX2_isPost 2 = .ok (.lcmp, 1) := dk_148 (dk_at dksX2_isPost_0 2 rfl rfl)
theorem dX2_isPost_3 : decode cX2_isPost 3 = .ok (.ifCond .lt 17, 3) := dk_155 0 17 (dk_at dksX2_isPost_0 3 rfl rfl)
theorem dX2_isPost_6 : decode cX2_isPost 6 = .ok (.lload_n 1, 1) := dk_31 (dk_at dksX2_isPost_0 6 rfl rfl)
theorem dX2_isPost_7 : decode cX2_isPost 7 = .ok (.aload_n 0, 1) := dk_42 (dk_at dksX2_isPost_0 7 rfl rfl)
theorem dX2_isPost_8 : decode cX2_isPost 8 = .ok (.getfield 120, 3) := dk_180 0 120 (dk_at dksX2_isPost_0 8 rfl rfl)
theorem dX2_isPost_11 : decode cX2_isPost 11 = .ok (.i2l, 1) := dk_133 (dk_at dksX2_isPost_0 11 rfl rfl)
theorem dX2_isPost_12 : decode cX2_isPost 12 = .ok (.lcmp, 1) := dk_148 (dk_at dksX2_isPost_0 12 rfl rfl)
theorem dX2_isPost_13 : decode cX2_isPost 13 = .ok (.ifCond .ge 7, 3) := dk_156 0 7 (dk_at dksX2_isPost_0 13 rfl rfl)
theorem dX2_isPost_16 : decode cX2_isPost 16 = .ok (.iconst 1, 1) := dk_4 (dk_at dksX2_isPost_0 16 rfl rfl)
theorem dX2_isPost_17 : decode cX2_isPost 17 = .ok (.goto 4, 3) := dk_167 0 4 (dk_at dksX2_isPost_0 17 rfl rfl)
theorem dX2_isPost_20 : decode cX2_isPost 20 = .ok (.iconst 0, 1) := dk_3 (dk_at dksX2_isPost_0 20 rfl rfl)
theorem dX2_isPost_21 : decode cX2_isPost 21 = .ok (.ireturn, 1) := dk_172 (dk_at dksX2_isPost_0 21 rfl rfl)
abbrev cX2_isFit : ByteArray := prog_31_method_10_code
def yX2_isFit : MethodName := ⟨RX2, "isFit", "(II)Z"⟩
def dkwX2_isFit_3 : List UInt8 := [172, 27, 3, 16, 15, 184, 0, 123, 172]
abbrev dktX2_isFit_3 : List UInt8 := dkwX2_isFit_3 ++ []
def dkwX2_isFit_2 : List UInt8 := [27, 3, 16, 9, 184, 0, 123, 172, 27, 4, 17, 3, 231, 184, 0, 123, 172, 27, 4, 16, 9, 184, 0, 123]
abbrev dktX2_isFit_2 : List UInt8 := dkwX2_isFit_2 ++ dktX2_isFit_3
def dkwX2_isFit_1 : List UInt8 := [170, 0, 0, 0, 0, 0, 64, 0, 0, 0, 2, 0, 0, 0, 7, 0, 0, 0, 39, 0, 0, 0, 47, 0, 0, 0, 64, 0, 0, 0, 64, 0, 0, 0, 56, 0, 0, 0, 39]
abbrev dktX2_isFit_1 : List UInt8 := dkwX2_isFit_1 ++ dktX2_isFit_2
def dkwX2_isFit_0 : List UInt8 := [26]
abbrev dktX2_isFit_0 : List UInt8 := dkwX2_isFit_0 ++ dktX2_isFit_1
theorem dksX2_isFit_0 : cX2_isFit.data.toList.drop 0 = dktX2_isFit_0 := by decide +kernel
theorem dksX2_isFit_1 : cX2_isFit.data.toList.drop 1 = dktX2_isFit_1 := dk_seg dksX2_isFit_0 1 rfl rfl
theorem dksX2_isFit_2 : cX2_isFit.data.toList.drop 40 = dktX2_isFit_2 := dk_seg dksX2_isFit_1 39 rfl rfl
theorem dksX2_isFit_3 : cX2_isFit.data.toList.drop 64 = dktX2_isFit_3 := dk_seg dksX2_isFit_2 24 rfl rfl
theorem dX2_isFit_0 : decode cX2_isFit 0 = .ok (.iload_n 0, 1) := dk_26 (dk_at dksX2_isFit_0 0 rfl rfl)
theorem dX2_isFit_1 : decode cX2_isFit 1 = .ok (.tableswitch 64 2 7 #[39, 47, 64, 64, 56, 39], 39) := by decide +kernel
theorem dX2_isFit_40 : decode cX2_isFit 40 = .ok (.iload_n 1, 1) := dk_27 (dk_at dksX2_isFit_2 0 rfl rfl)
theorem dX2_isFit_41 : decode cX2_isFit 41 = .ok (.iconst 0, 1) := dk_3 (dk_at dksX2_isFit_2 1 rfl rfl)
theorem dX2_isFit_42 : decode cX2_isFit 42 = .ok (.bipush 9, 2) := dk_16 9 (dk_at dksX2_isFit_2 2 rfl rfl)
theorem dX2_isFit_44 : decode cX2_isFit 44 = .ok (.invokestatic 123, 3) := dk_184 0 123 (dk_at dksX2_isFit_2 4 rfl rfl)
theorem dX2_isFit_47 : decode cX2_isFit 47 = .ok (.ireturn, 1) := dk_172 (dk_at dksX2_isFit_2 7 rfl rfl)
theorem dX2_isFit_48 : decode cX2_isFit 48 = .ok (.iload_n 1, 1) := dk_27 (dk_at dksX2_isFit_2 8 rfl rfl)
theorem dX2_isFit_49 : decode cX2_isFit 49 = .ok (.iconst 1, 1) := dk_4 (dk_at dksX2_isFit_2 9 rfl rfl)
theorem dX2_isFit_50 : decode cX2_isFit 50 = .ok (.sipush 999, 3) := dk_17 3 231 (dk_at dksX2_isFit_2 10 rfl rfl)
theorem dX2_isFit_53 : decode cX2_isFit 53 = .ok (.invokestatic 123, 3) := dk_184 0 123 (dk_at dksX2_isFit_2 13 rfl rfl)
theorem dX2_isFit_56 : decode cX2_isFit 56 = .ok (.ireturn, 1) := dk_172 (dk_at dksX2_isFit_2 16 rfl rfl)
theorem dX2_isFit_57 : decode cX2_isFit 57 = .ok (.iload_n 1, 1) := dk_27 (dk_at dksX2_isFit_2 17 rfl rfl)
theorem dX2_isFit_58 : decode cX2_isFit 58 = .ok (.iconst 1, 1) := dk_4 (dk_at dksX2_isFit_2 18 rfl rfl)
theorem dX2_isFit_59 : decode cX2_isFit 59 = .ok (.bipush 9, 2) := dk_16 9 (dk_at dksX2_isFit_2 19 rfl rfl)
theorem dX2_isFit_61 : decode cX2_isFit 61 = .ok (.invokestatic 123, 3) := dk_184 0 123 (dk_at dksX2_isFit_2 21 rfl rfl)
theorem dX2_isFit_64 : decode cX2_isFit 64 = .ok (.ireturn, 1) := dk_172 (dk_at dksX2_isFit_3 0 rfl rfl)
theorem dX2_isFit_65 : decode cX2_isFit 65 = .ok (.iload_n 1, 1) := dk_27 (dk_at dksX2_isFit_3 1 rfl rfl)
theorem dX2_isFit_66 : decode cX2_isFit 66 = .ok (.iconst 0, 1) := dk_3 (dk_at dksX2_isFit_3 2 rfl rfl)
theorem dX2_isFit_67 : decode cX2_isFit 67 = .ok (.bipush 15, 2) := dk_16 15 (dk_at dksX2_isFit_3 3 rfl rfl)
theorem dX2_isFit_69 : decode cX2_isFit 69 = .ok (.invokestatic 123, 3) := dk_184 0 123 (dk_at dksX2_isFit_3 5 rfl rfl)
theorem dX2_isFit_72 : decode cX2_isFit 72 = .ok (.ireturn, 1) := dk_172 (dk_at dksX2_isFit_3 8 rfl rfl)
abbrev cX2_get : ByteArray := prog_31_method_11_code
def yX2_get : MethodName := ⟨RX2, "get", "(II)I"⟩
def dkwX2_get_3 : List UInt8 := [180, 0, 21, 27, 46, 172, 42, 180, 0, 24, 28, 7, 100, 46, 172]
abbrev dktX2_get_3 : List UInt8 := dkwX2_get_3 ++ []
def dkwX2_get_2 : List UInt8 := [42, 180, 0, 9, 27, 46, 172, 42, 180, 0, 15, 27, 46, 172, 42, 180, 0, 18, 27, 46, 172, 42]
abbrev dktX2_get_2 : List UInt8 := dkwX2_get_2 ++ dktX2_get_3
def dkwX2_get_1 : List UInt8 := [170, 0, 0, 0, 0, 0, 59, 0, 0, 0, 0, 0, 0, 0, 3, 0, 0, 0, 31, 0, 0, 0, 38, 0, 0, 0, 45, 0, 0, 0, 52]
abbrev dktX2_get_1 : List UInt8 := dkwX2_get_1 ++ dktX2_get_2
def dkwX2_get_0 : List UInt8 := [28]
abbrev dktX2_get_0 : List UInt8 := dkwX2_get_0 ++ dktX2_get_1
theorem dksX2_get_0 : cX2_get.data.toList.drop 0 = dktX2_get_0 := by decide +kernel
theorem dksX2_get_1 : cX2_get.data.toList.drop 1 = dktX2_get_1 := dk_seg dksX2_get_0 1 rfl rfl
theorem dksX2_get_2 : cX2_get.data.toList.drop 32 = dktX2_get_2 := dk_seg dksX2_get_1 31 rfl rfl
theorem dksX2_get_3 : cX2_get.data.toList.drop 54 = dktX2_get_3 := dk_seg dksX2_get_2 22 rfl rfl
theorem dX2_get_0 : decode cX2_get 0 = .ok (.iload_n 2, 1) := dk_28 (dk_at dksX2_get_0 0 rfl rfl)
theorem dX2_get_1 : decode cX2_get 1 = .ok (.tableswitch 59 0 3 #[31, 38, 45, 52], 31) := by decide +kernel
theorem dX2_get_32 : decode cX2_get 32 = .ok (.aload_n 0, 1) := dk_42 (dk_at dksX2_get_2 0 rfl rfl)
theorem dX2_get_33 : decode cX2_get 33 = .ok (.getfield 9, 3) := dk_180 0 9 (dk_at dksX2_get_2 1 rfl rfl)
theorem dX2_get_36 : decode cX2_get 36 = .ok (.iload_n 1, 1) := dk_27 (dk_at dksX2_get_2 4 rfl rfl)
theorem dX2_get_37 : decode cX2_get 37 = .ok (.iaload, 1) := dk_46 (dk_at dksX2_get_2 5 rfl rfl)
theorem dX2_get_38 : decode cX2_get 38 = .ok (.ireturn, 1) := dk_172 (dk_at dksX2_get_2 6 rfl rfl)
theorem dX2_get_39 : decode cX2_get 39 = .ok (.aload_n 0, 1) := dk_42 (dk_at dksX2_get_2 7 rfl rfl)
theorem dX2_get_40 : decode cX2_get 40 = .ok (.getfield 15, 3) := dk_180 0 15 (dk_at dksX2_get_2 8 rfl rfl)
theorem dX2_get_43 : decode cX2_get 43 = .ok (.iload_n 1, 1) := dk_27 (dk_at dksX2_get_2 11 rfl rfl)
theorem dX2_get_44 : decode cX2_get 44 = .ok (.iaload, 1) := dk_46 (dk_at dksX2_get_2 12 rfl rfl)
theorem dX2_get_45 : decode cX2_get 45 = .ok (.ireturn, 1) := dk_172 (dk_at dksX2_get_2 13 rfl rfl)
theorem dX2_get_46 : decode cX2_get 46 = .ok (.aload_n 0, 1) := dk_42 (dk_at dksX2_get_2 14 rfl rfl)
theorem dX2_get_47 : decode cX2_get 47 = .ok (.getfield 18, 3) := dk_180 0 18 (dk_at dksX2_get_2 15 rfl rfl)
theorem dX2_get_50 : decode cX2_get 50 = .ok (.iload_n 1, 1) := dk_27 (dk_at dksX2_get_2 18 rfl rfl)
theorem dX2_get_51 : decode cX2_get 51 = .ok (.iaload, 1) := dk_46 (dk_at dksX2_get_2 19 rfl rfl)
theorem dX2_get_52 : decode cX2_get 52 = .ok (.ireturn, 1) := dk_172 (dk_at dksX2_get_2 20 rfl rfl)
theorem dX2_get_53 : decode cX2_get 53 = .ok (.aload_n 0, 1) := dk_42 (dk_at dksX2_get_2 21 rfl rfl)
theorem dX2_get_54 : decode cX2_get 54 = .ok (.getfield 21, 3) := dk_180 0 21 (dk_at dksX2_get_3 0 rfl rfl)
theorem dX2_get_57 : decode cX2_get 57 = .ok (.iload_n 1, 1) := dk_27 (dk_at dksX2_get_3 3 rfl rfl)
theorem dX2_get_58 : decode cX2_get 58 = .ok (.iaload, 1) := dk_46 (dk_at dksX2_get_3 4 rfl rfl)
theorem dX2_get_59 : decode cX2_get 59 = .ok (.ireturn, 1) := dk_172 (dk_at dksX2_get_3 5 rfl rfl)
theorem dX2_get_60 : decode cX2_get 60 = .ok (.aload_n 0, 1) := dk_42 (dk_at dksX2_get_3 6 rfl rfl)
theorem dX2_get_61 : decode cX2_get 61 = .ok (.getfield 24, 3) := dk_180 0 24 (dk_at dksX2_get_3 7 rfl rfl)
theorem dX2_get_64 : decode cX2_get 64 = .ok (.iload_n 2, 1) := dk_28 (dk_at dksX2_get_3 10 rfl rfl)
theorem dX2_get_65 : decode cX2_get 65 = .ok (.iconst 4, 1) := dk_7 (dk_at dksX2_get_3 11 rfl rfl)
theorem dX2_get_66 : decode cX2_get 66 = .ok (.isub, 1) := dk_100 (dk_at dksX2_get_3 12 rfl rfl)
theorem dX2_get_67 : decode cX2_get 67 = .ok (.iaload, 1) := dk_46 (dk_at dksX2_get_3 13 rfl rfl)
theorem dX2_get_68 : decode cX2_get 68 = .ok (.ireturn, 1) := dk_172 (dk_at dksX2_get_3 14 rfl rfl)
abbrev cX2_becomes : ByteArray := prog_31_method_12_code
def yX2_becomes : MethodName := ⟨RX2, "becomes", "(III)V"⟩
def dkwX2_becomes_3 : List UInt8 := [42, 180, 0, 21, 27, 29, 79, 177, 42, 180, 0, 24, 28, 7, 100, 29, 79, 177]
abbrev dktX2_becomes_3 : List UInt8 := dkwX2_becomes_3 ++ []
def dkwX2_becomes_2 : List UInt8 := [42, 180, 0, 9, 27, 29, 79, 177, 42, 180, 0, 15, 27, 29, 79, 177, 42, 180, 0, 18, 27, 29, 79, 177]
abbrev dktX2_becomes_2 : List UInt8 := dkwX2_becomes_2 ++ dktX2_becomes_3
def dkwX2_becomes_1 : List UInt8 := [170, 0, 0, 0, 0, 0, 63, 0, 0, 0, 0, 0, 0, 0, 3, 0, 0, 0, 31, 0, 0, 0, 39, 0, 0, 0, 47, 0, 0, 0, 55]
abbrev dktX2_becomes_1 : List UInt8 := dkwX2_becomes_1 ++ dktX2_becomes_2
def dkwX2_becomes_0 : List UInt8 := [28]
abbrev dktX2_becomes_0 : List UInt8 := dkwX2_becomes_0 ++ dktX2_becomes_1
theorem dksX2_becomes_0 : cX2_becomes.data.toList.drop 0 = dktX2_becomes_0 := by decide +kernel
theorem dksX2_becomes_1 : cX2_becomes.data.toList.drop 1 = dktX2_becomes_1 := dk_seg dksX2_becomes_0 1 rfl rfl
theorem dksX2_becomes_2 : cX2_becomes.data.toList.drop 32 = dktX2_becomes_2 := dk_seg dksX2_becomes_1 31 rfl rfl
theorem dksX2_becomes_3 : cX2_becomes.data.toList.drop 56 = dktX2_becomes_3 := dk_seg dksX2_becomes_2 24 rfl rfl
theorem dX2_becomes_0 : decode cX2_becomes 0 = .ok (.iload_n 2, 1) := dk_28 (dk_at dksX2_becomes_0 0 rfl rfl)
theorem dX2_becomes_1 : decode cX2_becomes 1 = .ok (.tableswitch 63 0 3 #[31, 39, 47, 55], 31) := by decide +kernel
theorem dX2_becomes_32 : decode cX2_becomes 32 = .ok (.aload_n 0, 1) := dk_42 (dk_at dksX2_becomes_2 0 rfl rfl)
theorem dX2_becomes_33 : decode cX2_becomes 33 = .ok (.getfield 9, 3) := dk_180 0 9 (dk_at dksX2_becomes_2 1 rfl rfl)
theorem dX2_becomes_36 : decode cX2_becomes 36 = .ok (.iload_n 1, 1) := dk_27 (dk_at dksX2_becomes_2 4 rfl rfl)
theorem dX2_becomes_37 : decode cX2_becomes 37 = .ok (.iload_n 3, 1) := dk_29 (dk_at dksX2_becomes_2 5 rfl rfl)
theorem dX2_becomes_38 : decode cX2_becomes 38 = .ok (.iastore, 1) := dk_79 (dk_at dksX2_becomes_2 6 rfl rfl)
theorem dX2_becomes_39 : decode cX2_becomes 39 = .ok (.return_, 1) := dk_177 (dk_at dksX2_becomes_2 7 rfl rfl)
theorem dX2_becomes_40 : decode cX2_becomes 40 = .ok (.aload_n 0, 1) := dk_42 (dk_at dksX2_becomes_2 8 rfl rfl)
theorem dX2_becomes_41 : decode cX2_becomes 41 = .ok (.getfield 15, 3) := dk_180 0 15 (dk_at dksX2_becomes_2 9 rfl rfl)
theorem dX2_becomes_44 : decode cX2_becomes 44 = .ok (.iload_n 1, 1) := dk_27 (dk_at dksX2_becomes_2 12 rfl rfl)
theorem dX2_becomes_45 : decode cX2_becomes 45 = .ok (.iload_n 3, 1) := dk_29 (dk_at dksX2_becomes_2 13 rfl rfl)
theorem dX2_becomes_46 : decode cX2_becomes 46 = .ok (.iastore, 1) := dk_79 (dk_at dksX2_becomes_2 14 rfl rfl)
theorem dX2_becomes_47 : decode cX2_becomes 47 = .ok (.return_, 1) := dk_177 (dk_at dksX2_becomes_2 15 rfl rfl)
theorem dX2_becomes_48 : decode cX2_becomes 48 = .ok (.aload_n 0, 1) := dk_42 (dk_at dksX2_becomes_2 16 rfl rfl)
theorem dX2_becomes_49 : decode cX2_becomes 49 = .ok (.getfield 18, 3) := dk_180 0 18 (dk_at dksX2_becomes_2 17 rfl rfl)
theorem dX2_becomes_52 : decode cX2_becomes 52 = .ok (.iload_n 1, 1) := dk_27 (dk_at dksX2_becomes_2 20 rfl rfl)
theorem dX2_becomes_53 : decode cX2_becomes 53 = .ok (.iload_n 3, 1) := dk_29 (dk_at dksX2_becomes_2 21 rfl rfl)
theorem dX2_becomes_54 : decode cX2_becomes 54 = .ok (.iastore, 1) := dk_79 (dk_at dksX2_becomes_2 22 rfl rfl)
theorem dX2_becomes_55 : decode cX2_becomes 55 = .ok (.return_, 1) := dk_177 (dk_at dksX2_becomes_2 23 rfl rfl)
theorem dX2_becomes_56 : decode cX2_becomes 56 = .ok (.aload_n 0, 1) := dk_42 (dk_at dksX2_becomes_3 0 rfl rfl)
theorem dX2_becomes_57 : decode cX2_becomes 57 = .ok (.getfield 21, 3) := dk_180 0 21 (dk_at dksX2_becomes_3 1 rfl rfl)
theorem dX2_becomes_60 : decode cX2_becomes 60 = .ok (.iload_n 1, 1) := dk_27 (dk_at dksX2_becomes_3 4 rfl rfl)
theorem dX2_becomes_61 : decode cX2_becomes 61 = .ok (.iload_n 3, 1) := dk_29 (dk_at dksX2_becomes_3 5 rfl rfl)
theorem dX2_becomes_62 : decode cX2_becomes 62 = .ok (.iastore, 1) := dk_79 (dk_at dksX2_becomes_3 6 rfl rfl)
theorem dX2_becomes_63 : decode cX2_becomes 63 = .ok (.return_, 1) := dk_177 (dk_at dksX2_becomes_3 7 rfl rfl)
theorem dX2_becomes_64 : decode cX2_becomes 64 = .ok (.aload_n 0, 1) := dk_42 (dk_at dksX2_becomes_3 8 rfl rfl)
theorem dX2_becomes_65 : decode cX2_becomes 65 = .ok (.getfield 24, 3) := dk_180 0 24 (dk_at dksX2_becomes_3 9 rfl rfl)
theorem dX2_becomes_68 : decode cX2_becomes 68 = .ok (.iload_n 2, 1) := dk_28 (dk_at dksX2_becomes_3 12 rfl rfl)
theorem dX2_becomes_69 : decode cX2_becomes 69 = .ok (.iconst 4, 1) := dk_7 (dk_at dksX2_becomes_3 13 rfl rfl)
theorem dX2_becomes_70 : decode cX2_becomes 70 = .ok (.isub, 1) := dk_100 (dk_at dksX2_becomes_3 14 rfl rfl)
theorem dX2_becomes_71 : decode cX2_becomes 71 = .ok (.iload_n 3, 1) := dk_29 (dk_at dksX2_becomes_3 15 rfl rfl)
theorem dX2_becomes_72 : decode cX2_becomes 72 = .ok (.iastore, 1) := dk_79 (dk_at dksX2_becomes_3 16 rfl rfl)
theorem dX2_becomes_73 : decode cX2_becomes 73 = .ok (.return_, 1) := dk_177 (dk_at dksX2_becomes_3 17 rfl rfl)
abbrev cX2_of : ByteArray := prog_31_method_14_code
def yX2_of : MethodName := ⟨RX2, "of", "(II)I"⟩
def dkwX2_of_1 : List UInt8 := [2, 172, 42, 27, 28, 182, 0, 141, 153, 0, 12, 42, 27, 28, 182, 0, 148, 167, 0, 4, 2, 172]
abbrev dktX2_of_1 : List UInt8 := dkwX2_of_1 ++ []
def dkwX2_of_0 : List UInt8 := [28, 16, 8, 160, 0, 23, 42, 27, 133, 182, 0, 137, 153, 0, 12, 42, 180, 0, 60, 27, 46, 167, 0, 4]
abbrev dktX2_of_0 : List UInt8 := dkwX2_of_0 ++ dktX2_of_1
theorem dksX2_of_0 : cX2_of.data.toList.drop 0 = dktX2_of_0 := by decide +kernel
theorem dksX2_of_1 : cX2_of.data.toList.drop 24 = dktX2_of_1 := dk_seg dksX2_of_0 24 rfl rfl
theorem dX2_of_0 : decode cX2_of 0 = .ok (.iload_n 2, 1) := dk_28 (dk_at dksX2_of_0 0 rfl rfl)
theorem dX2_of_1 : decode cX2_of 1 = .ok (.bipush 8, 2) := dk_16 8 (dk_at dksX2_of_0 1 rfl rfl)
theorem dX2_of_3 : decode cX2_of 3 = .ok (.if_icmp .ne 23, 3) := dk_160 0 23 (dk_at dksX2_of_0 3 rfl rfl)
theorem dX2_of_6 : decode cX2_of 6 = .ok (.aload_n 0, 1) := dk_42 (dk_at dksX2_of_0 6 rfl rfl)
theorem dX2_of_7 : decode cX2_of 7 = .ok (.iload_n 1, 1) := dk_27 (dk_at dksX2_of_0 7 rfl rfl)
theorem dX2_of_8 : decode cX2_of 8 = .ok (.i2l, 1) := dk_133 (dk_at dksX2_of_0 8 rfl rfl)
theorem dX2_of_9 : decode cX2_of 9 = .ok (.invokevirtual 137, 3) := dk_182 0 137 (dk_at dksX2_of_0 9 rfl rfl)
theorem dX2_of_12 : decode cX2_of 12 = .ok (.ifCond .eq 12, 3) := dk_153 0 12 (dk_at dksX2_of_0 12 rfl rfl)
theorem dX2_of_15 : decode cX2_of 15 = .ok (.aload_n 0, 1) := dk_42 (dk_at dksX2_of_0 15 rfl rfl)
theorem dX2_of_16 : decode cX2_of 16 = .ok (.getfield 60, 3) := dk_180 0 60 (dk_at dksX2_of_0 16 rfl rfl)
theorem dX2_of_19 : decode cX2_of 19 = .ok (.iload_n 1, 1) := dk_27 (dk_at dksX2_of_0 19 rfl rfl)
theorem dX2_of_20 : decode cX2_of 20 = .ok (.iaload, 1) := dk_46 (dk_at dksX2_of_0 20 rfl rfl)
theorem dX2_of_21 : decode cX2_of 21 = .ok (.goto 4, 3) := dk_167 0 4 (dk_at dksX2_of_0 21 rfl rfl)
theorem dX2_of_24 : decode cX2_of 24 = .ok (.iconst (-1), 1) := dk_2 (dk_at dksX2_of_1 0 rfl rfl)
theorem dX2_of_25 : decode cX2_of 25 = .ok (.ireturn, 1) := dk_172 (dk_at dksX2_of_1 1 rfl rfl)
theorem dX2_of_26 : decode cX2_of 26 = .ok (.aload_n 0, 1) := dk_42 (dk_at dksX2_of_1 2 rfl rfl)
theorem dX2_of_27 : decode cX2_of 27 = .ok (.iload_n 1, 1) := dk_27 (dk_at dksX2_of_1 3 rfl rfl)
theorem dX2_of_28 : decode cX2_of 28 = .ok (.iload_n 2, 1) := dk_28 (dk_at dksX2_of_1 4 rfl rfl)
theorem dX2_of_29 : decode cX2_of 29 = .ok (.invokevirtual 141, 3) := dk_182 0 141 (dk_at dksX2_of_1 5 rfl rfl)
theorem dX2_of_32 : decode cX2_of 32 = .ok (.ifCond .eq 12, 3) := dk_153 0 12 (dk_at dksX2_of_1 8 rfl rfl)
theorem dX2_of_35 : decode cX2_of 35 = .ok (.aload_n 0, 1) := dk_42 (dk_at dksX2_of_1 11 rfl rfl)
theorem dX2_of_36 : decode cX2_of 36 = .ok (.iload_n 1, 1) := dk_27 (dk_at dksX2_of_1 12 rfl rfl)
theorem dX2_of_37 : decode cX2_of 37 = .ok (.iload_n 2, 1) := dk_28 (dk_at dksX2_of_1 13 rfl rfl)
theorem dX2_of_38 : decode cX2_of 38 = .ok (.invokevirtual 148, 3) := dk_182 0 148 (dk_at dksX2_of_1 14 rfl rfl)
theorem dX2_of_41 : decode cX2_of 41 = .ok (.goto 4, 3) := dk_167 0 4 (dk_at dksX2_of_1 17 rfl rfl)
theorem dX2_of_44 : decode cX2_of 44 = .ok (.iconst (-1), 1) := dk_2 (dk_at dksX2_of_1 20 rfl rfl)
theorem dX2_of_45 : decode cX2_of 45 = .ok (.ireturn, 1) := dk_172 (dk_at dksX2_of_1 21 rfl rfl)
abbrev cX2_undo : ByteArray := prog_31_method_15_code
def yX2_undo : MethodName := ⟨RX2, "undo", "()I"⟩
def dkwX2_undo_2 : List UInt8 := [180, 0, 72, 7, 42, 180, 0, 156, 104, 5, 96, 46, 182, 0, 152, 42, 180, 0, 156, 172]
abbrev dktX2_undo_2 : List UInt8 := dkwX2_undo_2 ++ []
def dkwX2_undo_1 : List UInt8 := [180, 0, 72, 7, 42, 180, 0, 156, 104, 46, 42, 180, 0, 72, 7, 42, 180, 0, 156, 104, 4, 96, 46, 42]
abbrev dktX2_undo_1 : List UInt8 := dkwX2_undo_1 ++ dktX2_undo_2
def dkwX2_undo_0 : List UInt8 := [42, 180, 0, 156, 154, 0, 6, 16, 251, 172, 42, 89, 180, 0, 156, 4, 100, 181, 0, 156, 42, 42]
abbrev dktX2_undo_0 : List UInt8 := dkwX2_undo_0 ++ dktX2_undo_1
theorem dksX2_undo_0 : cX2_undo.data.toList.drop 0 = dktX2_undo_0 := by decide +kernel
theorem dksX2_undo_1 : cX2_undo.data.toList.drop 22 = dktX2_undo_1 := dk_seg dksX2_undo_0 22 rfl rfl
theorem dksX2_undo_2 : cX2_undo.data.toList.drop 46 = dktX2_undo_2 := dk_seg dksX2_undo_1 24 rfl rfl
theorem dX2_undo_0 : decode cX2_undo 0 = .ok (.aload_n 0, 1) := dk_42 (dk_at dksX2_undo_0 0 rfl rfl)
theorem dX2_undo_1 : decode cX2_undo 1 = .ok (.getfield 156, 3) := dk_180 0 156 (dk_at dksX2_undo_0 1 rfl rfl)
theorem dX2_undo_4 : decode cX2_undo 4 = .ok (.ifCond .ne 6, 3) := dk_154 0 6 (dk_at dksX2_undo_0 4 rfl rfl)
theorem dX2_undo_7 : decode cX2_undo 7 = .ok (.bipush (-5), 2) := dk_16 251 (dk_at dksX2_undo_0 7 rfl rfl)
theorem dX2_undo_9 : decode cX2_undo 9 = .ok (.ireturn, 1) := dk_172 (dk_at dksX2_undo_0 9 rfl rfl)
theorem dX2_undo_10 : decode cX2_undo 10 = .ok (.aload_n 0, 1) := dk_42 (dk_at dksX2_undo_0 10 rfl rfl)
theorem dX2_undo_11 : decode cX2_undo 11 = .ok (.dup, 1) := dk_89 (dk_at dksX2_undo_0 11 rfl rfl)
theorem dX2_undo_12 : decode cX2_undo 12 = .ok (.getfield 156, 3) := dk_180 0 156 (dk_at dksX2_undo_0 12 rfl rfl)
theorem dX2_undo_15 : decode cX2_undo 15 = .ok (.iconst 1, 1) := dk_4 (dk_at dksX2_undo_0 15 rfl rfl)
theorem dX2_undo_16 : decode cX2_undo 16 = .ok (.isub, 1) := dk_100 (dk_at dksX2_undo_0 16 rfl rfl)
theorem dX2_undo_17 : decode cX2_undo 17 = .ok (.putfield 156, 3) := dk_181 0 156 (dk_at dksX2_undo_0 17 rfl rfl)
theorem dX2_undo_20 : decode cX2_undo 20 = .ok (.aload_n 0, 1) := dk_42 (dk_at dksX2_undo_0 20 rfl rfl)
theorem dX2_undo_21 : decode cX2_undo 21 = .ok (.aload_n 0, 1) := dk_42 (dk_at dksX2_undo_0 21 rfl rfl)
theorem dX2_undo_22 : decode cX2_undo 22 = .ok (.getfield 72, 3) := dk_180 0 72 (dk_at dksX2_undo_1 0 rfl rfl)
theorem dX2_undo_25 : decode cX2_undo 25 = .ok (.iconst 4, 1) := dk_7 (dk_at dksX2_undo_1 3 rfl rfl)
theorem dX2_undo_26 : decode cX2_undo 26 = .ok (.aload_n 0, 1) := dk_42 (dk_at dksX2_undo_1 4 rfl rfl)
theorem dX2_undo_27 : decode cX2_undo 27 = .ok (.getfield 156, 3) := dk_180 0 156 (dk_at dksX2_undo_1 5 rfl rfl)
theorem dX2_undo_30 : decode cX2_undo 30 = .ok (.imul, 1) := dk_104 (dk_at dksX2_undo_1 8 rfl rfl)
theorem dX2_undo_31 : decode cX2_undo 31 = .ok (.iaload, 1) := dk_46 (dk_at dksX2_undo_1 9 rfl rfl)
theorem dX2_undo_32 : decode cX2_undo 32 = .ok (.aload_n 0, 1) := dk_42 (dk_at dksX2_undo_1 10 rfl rfl)
theorem dX2_undo_33 : decode cX2_undo 33 = .ok (.getfield 72, 3) := dk_180 0 72 (dk_at dksX2_undo_1 11 rfl rfl)
theorem dX2_undo_36 : decode cX2_undo 36 = .ok (.iconst 4, 1) := dk_7 (dk_at dksX2_undo_1 14 rfl rfl)
theorem dX2_undo_37 : decode cX2_undo 37 = .ok (.aload_n 0, 1) := dk_42 (dk_at dksX2_undo_1 15 rfl rfl)
theorem dX2_undo_38 : decode cX2_undo 38 = .ok (.getfield 156, 3) := dk_180 0 156 (dk_at dksX2_undo_1 16 rfl rfl)
theorem dX2_undo_41 : decode cX2_undo 41 = .ok (.imul, 1) := dk_104 (dk_at dksX2_undo_1 19 rfl rfl)
theorem dX2_undo_42 : decode cX2_undo 42 = .ok (.iconst 1, 1) := dk_4 (dk_at dksX2_undo_1 20 rfl rfl)
theorem dX2_undo_43 : decode cX2_undo 43 = .ok (.iadd, 1) := dk_96 (dk_at dksX2_undo_1 21 rfl rfl)
theorem dX2_undo_44 : decode cX2_undo 44 = .ok (.iaload, 1) := dk_46 (dk_at dksX2_undo_1 22 rfl rfl)
theorem dX2_undo_45 : decode cX2_undo 45 = .ok (.aload_n 0, 1) := dk_42 (dk_at dksX2_undo_1 23 rfl rfl)
theorem dX2_undo_46 : decode cX2_undo 46 = .ok (.getfield 72, 3) := dk_180 0 72 (dk_at dksX2_undo_2 0 rfl rfl)
theorem dX2_undo_49 : decode cX2_undo 49 = .ok (.iconst 4, 1) := dk_7 (dk_at dksX2_undo_2 3 rfl rfl)
theorem dX2_undo_50 : decode cX2_undo 50 = .ok (.aload_n 0, 1) := dk_42 (dk_at dksX2_undo_2 4 rfl rfl)
theorem dX2_undo_51 : decode cX2_undo 51 = .ok (.getfield 156, 3) := dk_180 0 156 (dk_at dksX2_undo_2 5 rfl rfl)
theorem dX2_undo_54 : decode cX2_undo 54 = .ok (.imul, 1) := dk_104 (dk_at dksX2_undo_2 8 rfl rfl)
theorem dX2_undo_55 : decode cX2_undo 55 = .ok (.iconst 2, 1) := dk_5 (dk_at dksX2_undo_2 9 rfl rfl)
theorem dX2_undo_56 : decode cX2_undo 56 = .ok (.iadd, 1) := dk_96 (dk_at dksX2_undo_2 10 rfl rfl)
theorem dX2_undo_57 : decode cX2_undo 57 = .ok (.iaload, 1) := dk_46 (dk_at dksX2_undo_2 11 rfl rfl)
theorem dX2_undo_58 : decode cX2_undo 58 = .ok (.invokevirtual 152, 3) := dk_182 0 152 (dk_at dksX2_undo_2 12 rfl rfl)
theorem dX2_undo_61 : decode cX2_undo 61 = .ok (.aload_n 0, 1) := dk_42 (dk_at dksX2_undo_2 15 rfl rfl)
theorem dX2_undo_62 : decode cX2_undo 62 = .ok (.getfield 156, 3) := dk_180 0 156 (dk_at dksX2_undo_2 16 rfl rfl)
theorem dX2_undo_65 : decode cX2_undo 65 = .ok (.ireturn, 1) := dk_172 (dk_at dksX2_undo_2 19 rfl rfl)
abbrev cX2_redo : ByteArray := prog_31_method_16_code
def yX2_redo : MethodName := ⟨RX2, "redo", "()I"⟩
def dkwX2_redo_3 : List UInt8 := [180, 0, 156, 100, 172]
abbrev dktX2_redo_3 : List UInt8 := dkwX2_redo_3 ++ []
def dkwX2_redo_2 : List UInt8 := [104, 6, 96, 46, 182, 0, 152, 42, 89, 180, 0, 156, 4, 96, 181, 0, 156, 42, 180, 0, 159, 42]
abbrev dktX2_redo_2 : List UInt8 := dkwX2_redo_2 ++ dktX2_redo_3
def dkwX2_redo_1 : List UInt8 := [104, 46, 42, 180, 0, 72, 7, 42, 180, 0, 156, 104, 4, 96, 46, 42, 180, 0, 72, 7, 42, 180, 0, 156]
abbrev dktX2_redo_1 : List UInt8 := dkwX2_redo_1 ++ dktX2_redo_2
def dkwX2_redo_0 : List UInt8 := [42, 180, 0, 156, 42, 180, 0, 159, 160, 0, 6, 16, 251, 172, 42, 42, 180, 0, 72, 7, 42, 180, 0, 156]
abbrev dktX2_redo_0 : List UInt8 := dkwX2_redo_0 ++ dktX2_redo_1
theorem dksX2_redo_0 : cX2_redo.data.toList.drop 0 = dktX2_redo_0 := by decide +kernel
theorem dksX2_redo_1 : cX2_redo.data.toList.drop 24 = dktX2_redo_1 := dk_seg dksX2_redo_0 24 rfl rfl
theorem dksX2_redo_2 : cX2_redo.data.toList.drop 48 = dktX2_redo_2 := dk_seg dksX2_redo_1 24 rfl rfl
theorem dksX2_redo_3 : cX2_redo.data.toList.drop 70 = dktX2_redo_3 := dk_seg dksX2_redo_2 22 rfl rfl
theorem dX2_redo_0 : decode cX2_redo 0 = .ok (.aload_n 0, 1) := dk_42 (dk_at dksX2_redo_0 0 rfl rfl)
theorem dX2_redo_1 : decode cX2_redo 1 = .ok (.getfield 156, 3) := dk_180 0 156 (dk_at dksX2_redo_0 1 rfl rfl)
theorem dX2_redo_4 : decode cX2_redo 4 = .ok (.aload_n 0, 1) := dk_42 (dk_at dksX2_redo_0 4 rfl rfl)
theorem dX2_redo_5 : decode cX2_redo 5 = .ok (.getfield 159, 3) := dk_180 0 159 (dk_at dksX2_redo_0 5 rfl rfl)
theorem dX2_redo_8 : decode cX2_redo 8 = .ok (.if_icmp .ne 6, 3) := dk_160 0 6 (dk_at dksX2_redo_0 8 rfl rfl)
theorem dX2_redo_11 : decode cX2_redo 11 = .ok (.bipush (-5), 2) := dk_16 251 (dk_at dksX2_redo_0 11 rfl rfl)
theorem dX2_redo_13 : decode cX2_redo 13 = .ok (.ireturn, 1) := dk_172 (dk_at dksX2_redo_0 13 rfl rfl)
theorem dX2_redo_14 : decode cX2_redo 14 = .ok (.aload_n 0, 1) := dk_42 (dk_at dksX2_redo_0 14 rfl rfl)
theorem dX2_redo_15 : decode cX2_redo 15 = .ok (.aload_n 0, 1) := dk_42 (dk_at dksX2_redo_0 15 rfl rfl)
theorem dX2_redo_16 : decode cX2_redo 16 = .ok (.getfield 72, 3) := dk_180 0 72 (dk_at dksX2_redo_0 16 rfl rfl)
theorem dX2_redo_19 : decode cX2_redo 19 = .ok (.iconst 4, 1) := dk_7 (dk_at dksX2_redo_0 19 rfl rfl)
theorem dX2_redo_20 : decode cX2_redo 20 = .ok (.aload_n 0, 1) := dk_42 (dk_at dksX2_redo_0 20 rfl rfl)
theorem dX2_redo_21 : decode cX2_redo 21 = .ok (.getfield 156, 3) := dk_180 0 156 (dk_at dksX2_redo_0 21 rfl rfl)
theorem dX2_redo_24 : decode cX2_redo 24 = .ok (.imul, 1) := dk_104 (dk_at dksX2_redo_1 0 rfl rfl)
theorem dX2_redo_25 : decode cX2_redo 25 = .ok (.iaload, 1) := dk_46 (dk_at dksX2_redo_1 1 rfl rfl)
theorem dX2_redo_26 : decode cX2_redo 26 = .ok (.aload_n 0, 1) := dk_42 (dk_at dksX2_redo_1 2 rfl rfl)
theorem dX2_redo_27 : decode cX2_redo 27 = .ok (.getfield 72, 3) := dk_180 0 72 (dk_at dksX2_redo_1 3 rfl rfl)
theorem dX2_redo_30 : decode cX2_redo 30 = .ok (.iconst 4, 1) := dk_7 (dk_at dksX2_redo_1 6 rfl rfl)
theorem dX2_redo_31 : decode cX2_redo 31 = .ok (.aload_n 0, 1) := dk_42 (dk_at dksX2_redo_1 7 rfl rfl)
theorem dX2_redo_32 : decode cX2_redo 32 = .ok (.getfield 156, 3) := dk_180 0 156 (dk_at dksX2_redo_1 8 rfl rfl)
theorem dX2_redo_35 : decode cX2_redo 35 = .ok (.imul, 1) := dk_104 (dk_at dksX2_redo_1 11 rfl rfl)
theorem dX2_redo_36 : decode cX2_redo 36 = .ok (.iconst 1, 1) := dk_4 (dk_at dksX2_redo_1 12 rfl rfl)
theorem dX2_redo_37 : decode cX2_redo 37 = .ok (.iadd, 1) := dk_96 (dk_at dksX2_redo_1 13 rfl rfl)
theorem dX2_redo_38 : decode cX2_redo 38 = .ok (.iaload, 1) := dk_46 (dk_at dksX2_redo_1 14 rfl rfl)
theorem dX2_redo_39 : decode cX2_redo 39 = .ok (.aload_n 0, 1) := dk_42 (dk_at dksX2_redo_1 15 rfl rfl)
theorem dX2_redo_40 : decode cX2_redo 40 = .ok (.getfield 72, 3) := dk_180 0 72 (dk_at dksX2_redo_1 16 rfl rfl)
theorem dX2_redo_43 : decode cX2_redo 43 = .ok (.iconst 4, 1) := dk_7 (dk_at dksX2_redo_1 19 rfl rfl)
theorem dX2_redo_44 : decode cX2_redo 44 = .ok (.aload_n 0, 1) := dk_42 (dk_at dksX2_redo_1 20 rfl rfl)
theorem dX2_redo_45 : decode cX2_redo 45 = .ok (.getfield 156, 3) := dk_180 0 156 (dk_at dksX2_redo_1 21 rfl rfl)
theorem dX2_redo_48 : decode cX2_redo 48 = .ok (.imul, 1) := dk_104 (dk_at dksX2_redo_2 0 rfl rfl)
theorem dX2_redo_49 : decode cX2_redo 49 = .ok (.iconst 3, 1) := dk_6 (dk_at dksX2_redo_2 1 rfl rfl)
theorem dX2_redo_50 : decode cX2_redo 50 = .ok (.iadd, 1) := dk_96 (dk_at dksX2_redo_2 2 rfl rfl)
theorem dX2_redo_51 : decode cX2_redo 51 = .ok (.iaload, 1) := dk_46 (dk_at dksX2_redo_2 3 rfl rfl)
theorem dX2_redo_52 : decode cX2_redo 52 = .ok (.invokevirtual 152, 3) := dk_182 0 152 (dk_at dksX2_redo_2 4 rfl rfl)
theorem dX2_redo_55 : decode cX2_redo 55 = .ok (.aload_n 0, 1) := dk_42 (dk_at dksX2_redo_2 7 rfl rfl)
theorem dX2_redo_56 : decode cX2_redo 56 = .ok (.dup, 1) := dk_89 (dk_at dksX2_redo_2 8 rfl rfl)
theorem dX2_redo_57 : decode cX2_redo 57 = .ok (.getfield 156, 3) := dk_180 0 156 (dk_at dksX2_redo_2 9 rfl rfl)
theorem dX2_redo_60 : decode cX2_redo 60 = .ok (.iconst 1, 1) := dk_4 (dk_at dksX2_redo_2 12 rfl rfl)
theorem dX2_redo_61 : decode cX2_redo 61 = .ok (.iadd, 1) := dk_96 (dk_at dksX2_redo_2 13 rfl rfl)
theorem dX2_redo_62 : decode cX2_redo 62 = .ok (.putfield 156, 3) := dk_181 0 156 (dk_at dksX2_redo_2 14 rfl rfl)
theorem dX2_redo_65 : decode cX2_redo 65 = .ok (.aload_n 0, 1) := dk_42 (dk_at dksX2_redo_2 17 rfl rfl)
theorem dX2_redo_66 : decode cX2_redo 66 = .ok (.getfield 159, 3) := dk_180 0 159 (dk_at dksX2_redo_2 18 rfl rfl)
theorem dX2_redo_69 : decode cX2_redo 69 = .ok (.aload_n 0, 1) := dk_42 (dk_at dksX2_redo_2 21 rfl rfl)
theorem dX2_redo_70 : decode cX2_redo 70 = .ok (.getfield 156, 3) := dk_180 0 156 (dk_at dksX2_redo_3 0 rfl rfl)
theorem dX2_redo_73 : decode cX2_redo 73 = .ok (.isub, 1) := dk_100 (dk_at dksX2_redo_3 3 rfl rfl)
theorem dX2_redo_74 : decode cX2_redo 74 = .ok (.ireturn, 1) := dk_172 (dk_at dksX2_redo_3 4 rfl rfl)
abbrev cX2_feed : ByteArray := prog_31_method_17_code
def yX2_feed : MethodName := ⟨RX2, "feed", "(I)I"⟩
def dkwX2_feed_1 : List UInt8 := [172, 42, 180, 0, 27, 42, 89, 180, 0, 162, 90, 4, 96, 181, 0, 162, 27, 79, 42, 180, 0, 162, 172]
abbrev dktX2_feed_1 : List UInt8 := dkwX2_feed_1 ++ []
def dkwX2_feed_0 : List UInt8 := [27, 3, 17, 0, 255, 184, 0, 123, 154, 0, 5, 2, 172, 42, 180, 0, 162, 16, 120, 160, 0, 6, 16, 253]
abbrev dktX2_feed_0 : List UInt8 := dkwX2_feed_0 ++ dktX2_feed_1
theorem dksX2_feed_0 : cX2_feed.data.toList.drop 0 = dktX2_feed_0 := by decide +kernel
theorem dksX2_feed_1 : cX2_feed.data.toList.drop 24 = dktX2_feed_1 := dk_seg dksX2_feed_0 24 rfl rfl
theorem dX2_feed_0 : decode cX2_feed 0 = .ok (.iload_n 1, 1) := dk_27 (dk_at dksX2_feed_0 0 rfl rfl)
theorem dX2_feed_1 : decode cX2_feed 1 = .ok (.iconst 0, 1) := dk_3 (dk_at dksX2_feed_0 1 rfl rfl)
theorem dX2_feed_2 : decode cX2_feed 2 = .ok (.sipush 255, 3) := dk_17 0 255 (dk_at dksX2_feed_0 2 rfl rfl)
theorem dX2_feed_5 : decode cX2_feed 5 = .ok (.invokestatic 123, 3) := dk_184 0 123 (dk_at dksX2_feed_0 5 rfl rfl)
theorem dX2_feed_8 : decode cX2_feed 8 = .ok (.ifCond .ne 5, 3) := dk_154 0 5 (dk_at dksX2_feed_0 8 rfl rfl)
theorem dX2_feed_11 : decode cX2_feed 11 = .ok (.iconst (-1), 1) := dk_2 (dk_at dksX2_feed_0 11 rfl rfl)
theorem dX2_feed_12 : decode cX2_feed 12 = .ok (.ireturn, 1) := dk_172 (dk_at dksX2_feed_0 12 rfl rfl)
theorem dX2_feed_13 : decode cX2_feed 13 = .ok (.aload_n 0, 1) := dk_42 (dk_at dksX2_feed_0 13 rfl rfl)
theorem dX2_feed_14 : decode cX2_feed 14 = .ok (.getfield 162, 3) := dk_180 0 162 (dk_at dksX2_feed_0 14 rfl rfl)
theorem dX2_feed_17 : decode cX2_feed 17 = .ok (.bipush 120, 2) := dk_16 120 (dk_at dksX2_feed_0 17 rfl rfl)
theorem dX2_feed_19 : decode cX2_feed 19 = .ok (.if_icmp .ne 6, 3) := dk_160 0 6 (dk_at dksX2_feed_0 19 rfl rfl)
theorem dX2_feed_22 : decode cX2_feed 22 = .ok (.bipush (-3), 2) := dk_16 253 (dk_at dksX2_feed_0 22 rfl rfl)
theorem dX2_feed_24 : decode cX2_feed 24 = .ok (.ireturn, 1) := dk_172 (dk_at dksX2_feed_1 0 rfl rfl)
theorem dX2_feed_25 : decode cX2_feed 25 = .ok (.aload_n 0, 1) := dk_42 (dk_at dksX2_feed_1 1 rfl rfl)
theorem dX2_feed_26 : decode cX2_feed 26 = .ok (.getfield 27, 3) := dk_180 0 27 (dk_at dksX2_feed_1 2 rfl rfl)
theorem dX2_feed_29 : decode cX2_feed 29 = .ok (.aload_n 0, 1) := dk_42 (dk_at dksX2_feed_1 5 rfl rfl)
theorem dX2_feed_30 : decode cX2_feed 30 = .ok (.dup, 1) := dk_89 (dk_at dksX2_feed_1 6 rfl rfl)
theorem dX2_feed_31 : decode cX2_feed 31 = .ok (.getfield 162, 3) := dk_180 0 162 (dk_at dksX2_feed_1 7 rfl rfl)
theorem dX2_feed_34 : decode cX2_feed 34 = .ok (.dup_x1, 1) := dk_90 (dk_at dksX2_feed_1 10 rfl rfl)
theorem dX2_feed_35 : decode cX2_feed 35 = .ok (.iconst 1, 1) := dk_4 (dk_at dksX2_feed_1 11 rfl rfl)
theorem dX2_feed_36 : decode cX2_feed 36 = .ok (.iadd, 1) := dk_96 (dk_at dksX2_feed_1 12 rfl rfl)
theorem dX2_feed_37 : decode cX2_feed 37 = .ok (.putfield 162, 3) := dk_181 0 162 (dk_at dksX2_feed_1 13 rfl rfl)
theorem dX2_feed_40 : decode cX2_feed 40 = .ok (.iload_n 1, 1) := dk_27 (dk_at dksX2_feed_1 16 rfl rfl)
theorem dX2_feed_41 : decode cX2_feed 41 = .ok (.iastore, 1) := dk_79 (dk_at dksX2_feed_1 17 rfl rfl)
theorem dX2_feed_42 : decode cX2_feed 42 = .ok (.aload_n 0, 1) := dk_42 (dk_at dksX2_feed_1 18 rfl rfl)
theorem dX2_feed_43 : decode cX2_feed 43 = .ok (.getfield 162, 3) := dk_180 0 162 (dk_at dksX2_feed_1 19 rfl rfl)
theorem dX2_feed_46 : decode cX2_feed 46 = .ok (.ireturn, 1) := dk_172 (dk_at dksX2_feed_1 22 rfl rfl)
abbrev cX2_law : ByteArray := prog_31_method_30_code
def yX2_law : MethodName := ⟨RX2, "law", "()I"⟩
def dkwX2_law_7 : List UInt8 := [180, 0, 39, 29, 42, 180, 0, 51, 29, 46, 79, 132, 3, 1, 167, 255, 233, 4, 172]
abbrev dktX2_law_7 : List UInt8 := dkwX2_law_7 ++ []
def dkwX2_law_6 : List UInt8 := [180, 0, 48, 29, 46, 79, 132, 3, 1, 167, 255, 209, 3, 62, 29, 42, 180, 0, 172, 162, 0, 21, 42]
abbrev dktX2_law_6 : List UInt8 := dkwX2_law_6 ++ dktX2_law_7
def dkwX2_law_5 : List UInt8 := [180, 0, 42, 29, 46, 79, 42, 180, 0, 33, 29, 42, 180, 0, 45, 29, 46, 79, 42, 180, 0, 36, 29, 42]
abbrev dktX2_law_5 : List UInt8 := dkwX2_law_5 ++ dktX2_law_6
def dkwX2_law_4 : List UInt8 := [180, 0, 210, 181, 0, 220, 3, 62, 29, 42, 180, 0, 220, 162, 0, 45, 42, 180, 0, 30, 29, 42]
abbrev dktX2_law_4 : List UInt8 := dkwX2_law_4 ++ dktX2_law_5
def dkwX2_law_3 : List UInt8 := [181, 0, 162, 28, 154, 0, 11, 16, 156, 42, 180, 0, 165, 100, 172, 42, 4, 181, 0, 216, 42, 42]
abbrev dktX2_law_3 : List UInt8 := dkwX2_law_3 ++ dktX2_law_4
def dkwX2_law_2 : List UInt8 := [153, 0, 18, 42, 180, 0, 165, 42, 180, 0, 162, 160, 0, 7, 4, 167, 0, 4, 3, 61, 42, 3]
abbrev dktX2_law_2 : List UInt8 := dkwX2_law_2 ++ dktX2_law_3
def dkwX2_law_1 : List UInt8 := [60, 27, 153, 0, 20, 42, 16, 59, 182, 0, 189, 153, 0, 11, 42, 182, 0, 213, 60, 167, 255, 238, 27]
abbrev dktX2_law_1 : List UInt8 := dkwX2_law_1 ++ dktX2_law_2
def dkwX2_law_0 : List UInt8 := [42, 3, 181, 0, 165, 42, 3, 181, 0, 186, 42, 3, 181, 0, 172, 42, 3, 181, 0, 210, 42, 182, 0, 213]
abbrev dktX2_law_0 : List UInt8 := dkwX2_law_0 ++ dktX2_law_1
theorem dksX2_law_0 : cX2_law.data.toList.drop 0 = dktX2_law_0 := by decide +kernel
theorem dksX2_law_1 : cX2_law.data.toList.drop 24 = dktX2_law_1 := dk_seg dksX2_law_0 24 rfl rfl
theorem dksX2_law_2 : cX2_law.data.toList.drop 47 = dktX2_law_2 := dk_seg dksX2_law_1 23 rfl rfl
theorem dksX2_law_3 : cX2_law.data.toList.drop 69 = dktX2_law_3 := dk_seg dksX2_law_2 22 rfl rfl
theorem dksX2_law_4 : cX2_law.data.toList.drop 91 = dktX2_law_4 := dk_seg dksX2_law_3 22 rfl rfl
theorem dksX2_law_5 : cX2_law.data.toList.drop 113 = dktX2_law_5 := dk_seg dksX2_law_4 22 rfl rfl
theorem dksX2_law_6 : cX2_law.data.toList.drop 137 = dktX2_law_6 := dk_seg dksX2_law_5 24 rfl rfl
theorem dksX2_law_7 : cX2_law.data.toList.drop 160 = dktX2_law_7 := dk_seg dksX2_law_6 23 rfl rfl
theorem dX2_law_0 : decode cX2_law 0 = .ok (.aload_n 0, 1) := dk_42 (dk_at dksX2_law_0 0 rfl rfl)
theorem dX2_law_1 : decode cX2_law 1 = .ok (.iconst 0, 1) := dk_3 (dk_at dksX2_law_0 1 rfl rfl)
theorem dX2_law_2 : decode cX2_law 2 = .ok (.putfield 165, 3) := dk_181 0 165 (dk_at dksX2_law_0 2 rfl rfl)
theorem dX2_law_5 : decode cX2_law 5 = .ok (.aload_n 0, 1) := dk_42 (dk_at dksX2_law_0 5 rfl rfl)
theorem dX2_law_6 : decode cX2_law 6 = .ok (.iconst 0, 1) := dk_3 (dk_at dksX2_law_0 6 rfl rfl)
theorem dX2_law_7 : decode cX2_law 7 = .ok (.putfield 186, 3) := dk_181 0 186 (dk_at dksX2_law_0 7 rfl rfl)
theorem dX2_law_10 : decode cX2_law 10 = .ok (.aload_n 0, 1) := dk_42 (dk_at dksX2_law_0 10 rfl rfl)
theorem dX2_law_11 : decode cX2_law 11 = .ok (.iconst 0, 1) := dk_3 (dk_at dksX2_law_0 11 rfl rfl)
theorem dX2_law_12 : decode cX2_law 12 = .ok (.putfield 172, 3) := dk_181 0 172 (dk_at dksX2_law_0 12 rfl rfl)
theorem dX2_law_15 : decode cX2_law 15 = .ok (.aload_n 0, 1) := dk_42 (dk_at dksX2_law_0 15 rfl rfl)
theorem dX2_law_16 : decode cX2_law 16 = .ok (.iconst 0, 1) := dk_3 (dk_at dksX2_law_0 16 rfl rfl)
theorem dX2_law_17 : decode cX2_law 17 = .ok (.putfield 210, 3) := dk_181 0 210 (dk_at dksX2_law_0 17 rfl rfl)
theorem dX2_law_20 : decode cX2_law 20 = .ok (.aload_n 0, 1) := dk_42 (dk_at dksX2_law_0 20 rfl rfl)
theorem dX2_law_21 : decode cX2_law 21 = .ok (.invokevirtual 213, 3) := dk_182 0 213 (dk_at dksX2_law_0 21 rfl rfl)
theorem dX2_law_24 : decode cX2_law 24 = .ok (.istore_n 1, 1) := dk_60 (dk_at dksX2_law_1 0 rfl rfl)
theorem dX2_law_25 : decode cX2_law 25 = .ok (.iload_n 1, 1) := dk_27 (dk_at dksX2_law_1 1 rfl rfl)
theorem dX2_law_26 : decode cX2_law 26 = .ok (.ifCond .eq 20, 3) := dk_153 0 20 (dk_at dksX2_law_1 2 rfl rfl)
theorem dX2_law_29 : decode cX2_law 29 = .ok (.aload_n 0, 1) := dk_42 (dk_at dksX2_law_1 5 rfl rfl)
theorem dX2_law_30 : decode cX2_law 30 = .ok (.bipush 59, 2) := dk_16 59 (dk_at dksX2_law_1 6 rfl rfl)
theorem dX2_law_32 : decode cX2_law 32 = .ok (.invokevirtual 189, 3) := dk_182 0 189 (dk_at dksX2_law_1 8 rfl rfl)
theorem dX2_law_35 : decode cX2_law 35 = .ok (.ifCond .eq 11, 3) := dk_153 0 11 (dk_at dksX2_law_1 11 rfl rfl)
theorem dX2_law_38 : decode cX2_law 38 = .ok (.aload_n 0, 1) := dk_42 (dk_at dksX2_law_1 14 rfl rfl)
theorem dX2_law_39 : decode cX2_law 39 = .ok (.invokevirtual 213, 3) := dk_182 0 213 (dk_at dksX2_law_1 15 rfl rfl)
theorem dX2_law_42 : decode cX2_law 42 = .ok (.istore_n 1, 1) := dk_60 (dk_at dksX2_law_1 18 rfl rfl)
theorem dX2_law_43 : decode cX2_law 43 = .ok (.goto (-18), 3) := dk_167 255 238 (dk_at dksX2_law_1 19 rfl rfl)
theorem dX2_law_46 : decode cX2_law 46 = .ok (.iload_n 1, 1) := dk_27 (dk_at dksX2_law_1 22 rfl rfl)
theorem dX2_law_47 : decode cX2_law 47 = .ok (.ifCond .eq 18, 3) := dk_153 0 18 (dk_at dksX2_law_2 0 rfl rfl)
theorem dX2_law_50 : decode cX2_law 50 = .ok (.aload_n 0, 1) := dk_42 (dk_at dksX2_law_2 3 rfl rfl)
theorem dX2_law_51 : decode cX2_law 51 = .ok (.getfield 165, 3) := dk_180 0 165 (dk_at dksX2_law_2 4 rfl rfl)
theorem dX2_law_54 : decode cX2_law 54 = .ok (.aload_n 0, 1) := dk_42 (dk_at dksX2_law_2 7 rfl rfl)
theorem dX2_law_55 : decode cX2_law 55 = .ok (.getfield 162, 3) := dk_180 0 162 (dk_at dksX2_law_2 8 rfl rfl)
theorem dX2_law_58 : decode cX2_law 58 = .ok (.if_icmp .ne 7, 3) := dk_160 0 7 (dk_at dksX2_law_2 11 rfl rfl)
theorem dX2_law_61 : decode cX2_law 61 = .ok (.iconst 1, 1) := dk_4 (dk_at dksX2_law_2 14 rfl rfl)
theorem dX2_law_62 : decode cX2_law 62 = .ok (.goto 4, 3) := dk_167 0 4 (dk_at dksX2_law_2 15 rfl rfl)
theorem dX2_law_65 : decode cX2_law 65 = .ok (.iconst 0, 1) := dk_3 (dk_at dksX2_law_2 18 rfl rfl)
theorem dX2_law_66 : decode cX2_law 66 = .ok (.istore_n 2, 1) := dk_61 (dk_at dksX2_law_2 19 rfl rfl)
theorem dX2_law_67 : decode cX2_law 67 = .ok (.aload_n 0, 1) := dk_42 (dk_at dksX2_law_2 20 rfl rfl)
theorem dX2_law_68 : decode cX2_law 68 = .ok (.iconst 0, 1) := dk_3 (dk_at dksX2_law_2 21 rfl rfl)
theorem dX2_law_69 : decode cX2_law 69 = .ok (.putfield 162, 3) := dk_181 0 162 (dk_at dksX2_law_3 0 rfl rfl)
theorem dX2_law_72 : decode cX2_law 72 = .ok (.iload_n 2, 1) := dk_28 (dk_at dksX2_law_3 3 rfl rfl)
theorem dX2_law_73 : decode cX2_law 73 = .ok (.ifCond .ne 11, 3) := dk_154 0 11 (dk_at dksX2_law_3 4 rfl rfl)
theorem dX2_law_76 : decode cX2_law 76 = .ok (.bipush (-100), 2) := dk_16 156 (dk_at dksX2_law_3 7 rfl rfl)
theorem dX2_law_78 : decode cX2_law 78 = .ok (.aload_n 0, 1) := dk_42 (dk_at dksX2_law_3 9 rfl rfl)
theorem dX2_law_79 : decode cX2_law 79 = .ok (.getfield 165, 3) := dk_180 0 165 (dk_at dksX2_law_3 10 rfl rfl)
theorem dX2_law_82 : decode cX2_law 82 = .ok (.isub, 1) := dk_100 (dk_at dksX2_law_3 13 rfl rfl)
theorem dX2_law_83 : decode cX2_law 83 = .ok (.ireturn, 1) := dk_172 (dk_at dksX2_law_3 14 rfl rfl)
theorem dX2_law_84 : decode cX2_law 84 = .ok (.aload_n 0, 1) := dk_42 (dk_at dksX2_law_3 15 rfl rfl)
theorem dX2_law_85 : decode cX2_law 85 = .ok (.iconst 1, 1) := dk_4 (dk_at dksX2_law_3 16 rfl rfl)
theorem dX2_law_86 : decode cX2_law 86 = .ok (.putfield 216, 3) := dk_181 0 216 (dk_at dksX2_law_3 17 rfl rfl)
theorem dX2_law_89 : decode cX2_law 89 = .ok (.aload_n 0, 1) := dk_42 (dk_at dksX2_law_3 20 rfl rfl)
theorem dX2_law_90 : decode cX2_law 90 = .ok (.aload_n 0, 1) := dk_42 (dk_at dksX2_law_3 21 rfl rfl)
theorem dX2_law_91 : decode cX2_law 91 = .ok (.getfield 210, 3) := dk_180 0 210 (dk_at dksX2_law_4 0 rfl rfl)
theorem dX2_law_94 : decode cX2_law 94 = .ok (.putfield 220, 3) := dk_181 0 220 (dk_at dksX2_law_4 3 rfl rfl)
theorem dX2_law_97 : decode cX2_law 97 = .ok (.iconst 0, 1) := dk_3 (dk_at dksX2_law_4 6 rfl rfl)
theorem dX2_law_98 : decode cX2_law 98 = .ok (.istore_n 3, 1) := dk_62 (dk_at dksX2_law_4 7 rfl rfl)
theorem dX2_law_99 : decode cX2_law 99 = .ok (.iload_n 3, 1) := dk_29 (dk_at dksX2_law_4 8 rfl rfl)
theorem dX2_law_100 : decode cX2_law 100 = .ok (.aload_n 0, 1) := dk_42 (dk_at dksX2_law_4 9 rfl rfl)
theorem dX2_law_101 : decode cX2_law 101 = .ok (.getfield 220, 3) := dk_180 0 220 (dk_at dksX2_law_4 10 rfl rfl)
theorem dX2_law_104 : decode cX2_law 104 = .ok (.if_icmp .ge 45, 3) := dk_162 0 45 (dk_at dksX2_law_4 13 rfl rfl)
theorem dX2_law_107 : decode cX2_law 107 = .ok (.aload_n 0, 1) := dk_42 (dk_at dksX2_law_4 16 rfl rfl)
theorem dX2_law_108 : decode cX2_law 108 = .ok (.getfield 30, 3) := dk_180 0 30 (dk_at dksX2_law_4 17 rfl rfl)
theorem dX2_law_111 : decode cX2_law 111 = .ok (.iload_n 3, 1) := dk_29 (dk_at dksX2_law_4 20 rfl rfl)
theorem dX2_law_112 : decode cX2_law 112 = .ok (.aload_n 0, 1) := dk_42 (dk_at dksX2_law_4 21 rfl rfl)
theorem dX2_law_113 : decode cX2_law 113 = .ok (.getfield 42, 3) := dk_180 0 42 (dk_at dksX2_law_5 0 rfl rfl)
theorem dX2_law_116 : decode cX2_law 116 = .ok (.iload_n 3, 1) := dk_29 (dk_at dksX2_law_5 3 rfl rfl)
theorem dX2_law_117 : decode cX2_law 117 = .ok (.iaload, 1) := dk_46 (dk_at dksX2_law_5 4 rfl rfl)
theorem dX2_law_118 : decode cX2_law 118 = .ok (.iastore, 1) := dk_79 (dk_at dksX2_law_5 5 rfl rfl)
theorem dX2_law_119 : decode cX2_law 119 = .ok (.aload_n 0, 1) := dk_42 (dk_at dksX2_law_5 6 rfl rfl)
theorem dX2_law_120 : decode cX2_law 120 = .ok (.getfield 33, 3) := dk_180 0 33 (dk_at dksX2_law_5 7 rfl rfl)
theorem dX2_law_123 : decode cX2_law 123 = .ok (.iload_n 3, 1) := dk_29 (dk_at dksX2_law_5 10 rfl rfl)
theorem dX2_law_124 : decode cX2_law 124 = .ok (.aload_n 0, 1) := dk_42 (dk_at dksX2_law_5 11 rfl rfl)
theorem dX2_law_125 : decode cX2_law 125 = .ok (.getfield 45, 3) := dk_180 0 45 (dk_at dksX2_law_5 12 rfl rfl)
theorem dX2_law_128 : decode cX2_law 128 = .ok (.iload_n 3, 1) := dk_29 (dk_at dksX2_law_5 15 rfl rfl)
theorem dX2_law_129 : decode cX2_law 129 = .ok (.iaload, 1) := dk_46 (dk_at dksX2_law_5 16 rfl rfl)
theorem dX2_law_130 : decode cX2_law 130 = .ok (.iastore, 1) := dk_79 (dk_at dksX2_law_5 17 rfl rfl)
theorem dX2_law_131 : decode cX2_law 131 = .ok (.aload_n 0, 1) := dk_42 (dk_at dksX2_law_5 18 rfl rfl)
theorem dX2_law_132 : decode cX2_law 132 = .ok (.getfield 36, 3) := dk_180 0 36 (dk_at dksX2_law_5 19 rfl rfl)
theorem dX2_law_135 : decode cX2_law 135 = .ok (.iload_n 3, 1) := dk_29 (dk_at dksX2_law_5 22 rfl rfl)
theorem dX2_law_136 : decode cX2_law 136 = .ok (.aload_n 0, 1) := dk_42 (dk_at dksX2_law_5 23 rfl rfl)
theorem dX2_law_137 : decode cX2_law 137 = .ok (.getfield 48, 3) := dk_180 0 48 (dk_at dksX2_law_6 0 rfl rfl)
theorem dX2_law_140 : decode cX2_law 140 = .ok (.iload_n 3, 1) := dk_29 (dk_at dksX2_law_6 3 rfl rfl)
theorem dX2_law_141 : decode cX2_law 141 = .ok (.iaload, 1) := dk_46 (dk_at dksX2_law_6 4 rfl rfl)
theorem dX2_law_142 : decode cX2_law 142 = .ok (.iastore, 1) := dk_79 (dk_at dksX2_law_6 5 rfl rfl)
theorem dX2_law_143 : decode cX2_law 143 = .ok (.iinc 3 1, 3) := dk_132 3 1 (dk_at dksX2_law_6 6 rfl rfl)
theorem dX2_law_146 : decode cX2_law 146 = .ok (.goto (-47), 3) := dk_167 255 209 (dk_at dksX2_law_6 9 rfl rfl)
theorem dX2_law_149 : decode cX2_law 149 = .ok (.iconst 0, 1) := dk_3 (dk_at dksX2_law_6 12 rfl rfl)
theorem dX2_law_150 : decode cX2_law 150 = .ok (.istore_n 3, 1) := dk_62 (dk_at dksX2_law_6 13 rfl rfl)
theorem dX2_law_151 : decode cX2_law 151 = .ok (.iload_n 3, 1) := dk_29 (dk_at dksX2_law_6 14 rfl rfl)
theorem dX2_law_152 : decode cX2_law 152 = .ok (.aload_n 0, 1) := dk_42 (dk_at dksX2_law_6 15 rfl rfl)
theorem dX2_law_153 : decode cX2_law 153 = .ok (.getfield 172, 3) := dk_180 0 172 (dk_at dksX2_law_6 16 rfl rfl)
theorem dX2_law_156 : decode cX2_law 156 = .ok (.if_icmp .ge 21, 3) := dk_162 0 21 (dk_at dksX2_law_6 19 rfl rfl)
theorem dX2_law_159 : decode cX2_law 159 = .ok (.aload_n 0, 1) := dk_42 (dk_at dksX2_law_6 22 rfl rfl)
theorem dX2_law_160 : decode cX2_law 160 = .ok (.getfield 39, 3) := dk_180 0 39 (dk_at dksX2_law_7 0 rfl rfl)
theorem dX2_law_163 : decode cX2_law 163 = .ok (.iload_n 3, 1) := dk_29 (dk_at dksX2_law_7 3 rfl rfl)
theorem dX2_law_164 : decode cX2_law 164 = .ok (.aload_n 0, 1) := dk_42 (dk_at dksX2_law_7 4 rfl rfl)
theorem dX2_law_165 : decode cX2_law 165 = .ok (.getfield 51, 3) := dk_180 0 51 (dk_at dksX2_law_7 5 rfl rfl)
theorem dX2_law_168 : decode cX2_law 168 = .ok (.iload_n 3, 1) := dk_29 (dk_at dksX2_law_7 8 rfl rfl)
theorem dX2_law_169 : decode cX2_law 169 = .ok (.iaload, 1) := dk_46 (dk_at dksX2_law_7 9 rfl rfl)
theorem dX2_law_170 : decode cX2_law 170 = .ok (.iastore, 1) := dk_79 (dk_at dksX2_law_7 10 rfl rfl)
theorem dX2_law_171 : decode cX2_law 171 = .ok (.iinc 3 1, 3) := dk_132 3 1 (dk_at dksX2_law_7 11 rfl rfl)
theorem dX2_law_174 : decode cX2_law 174 = .ok (.goto (-23), 3) := dk_167 255 233 (dk_at dksX2_law_7 14 rfl rfl)
theorem dX2_law_177 : decode cX2_law 177 = .ok (.iconst 1, 1) := dk_4 (dk_at dksX2_law_7 17 rfl rfl)
theorem dX2_law_178 : decode cX2_law 178 = .ok (.ireturn, 1) := dk_172 (dk_at dksX2_law_7 18 rfl rfl)
abbrev cX2_isLine : ByteArray := prog_31_method_29_code
def yX2_isLine : MethodName := ⟨RX2, "isLine", "()Z"⟩
def dkwX2_isLine_3 : List UInt8 := [172, 42, 180, 0, 48, 42, 89, 180, 0, 210, 90, 4, 96, 181, 0, 210, 42, 180, 0, 172, 79, 4, 172]
abbrev dktX2_isLine_3 : List UInt8 := dkwX2_isLine_3 ++ []
def dkwX2_isLine_2 : List UInt8 := [153, 0, 25, 42, 180, 0, 45, 42, 180, 0, 210, 42, 180, 0, 172, 79, 42, 182, 0, 195, 154, 0, 5, 3]
abbrev dktX2_isLine_2 : List UInt8 := dkwX2_isLine_2 ++ dktX2_isLine_3
def dkwX2_isLine_1 : List UInt8 := [180, 0, 45, 42, 180, 0, 210, 42, 180, 0, 42, 42, 180, 0, 210, 46, 79, 42, 16, 63, 182, 0, 189]
abbrev dktX2_isLine_1 : List UInt8 := dkwX2_isLine_1 ++ dktX2_isLine_2
def dkwX2_isLine_0 : List UInt8 := [42, 180, 0, 42, 42, 180, 0, 210, 42, 180, 0, 172, 79, 42, 182, 0, 195, 154, 0, 5, 3, 172, 42]
abbrev dktX2_isLine_0 : List UInt8 := dkwX2_isLine_0 ++ dktX2_isLine_1
theorem dksX2_isLine_0 : cX2_isLine.data.toList.drop 0 = dktX2_isLine_0 := by decide +kernel
theorem dksX2_isLine_1 : cX2_isLine.data.toList.drop 23 = dktX2_isLine_1 := dk_seg dksX2_isLine_0 23 rfl rfl
theorem dksX2_isLine_2 : cX2_isLine.data.toList.drop 46 = dktX2_isLine_2 := dk_seg dksX2_isLine_1 23 rfl rfl
theorem dksX2_isLine_3 : cX2_isLine.data.toList.drop 70 = dktX2_isLine_3 := dk_seg dksX2_isLine_2 24 rfl rfl
theorem dX2_isLine_0 : decode cX2_isLine 0 = .ok (.aload_n 0, 1) := dk_42 (dk_at dksX2_isLine_0 0 rfl rfl)
theorem dX2_isLine_1 : decode cX2_isLine 1 = .ok (.getfield 42, 3) := dk_180 0 42 (dk_at dksX2_isLine_0 1 rfl rfl)
theorem dX2_isLine_4 : decode cX2_isLine 4 = .ok (.aload_n 0, 1) := dk_42 (dk_at dksX2_isLine_0 4 rfl rfl)
theorem dX2_isLine_5 : decode cX2_isLine 5 = .ok (.getfield 210, 3) := dk_180 0 210 (dk_at dksX2_isLine_0 5 rfl rfl)
theorem dX2_isLine_8 : decode cX2_isLine 8 = .ok (.aload_n 0, 1) := dk_42 (dk_at dksX2_isLine_0 8 rfl rfl)
theorem dX2_isLine_9 : decode cX2_isLine 9 = .ok (.getfield 172, 3) := dk_180 0 172 (dk_at dksX2_isLine_0 9 rfl rfl)
theorem dX2_isLine_12 : decode cX2_isLine 12 = .ok (.iastore, 1) := dk_79 (dk_at dksX2_isLine_0 12 rfl rfl)
theorem dX2_isLine_13 : decode cX2_isLine 13 = .ok (.aload_n 0, 1) := dk_42 (dk_at dksX2_isLine_0 13 rfl rfl)
theorem dX2_isLine_14 : decode cX2_isLine 14 = .ok (.invokevirtual 195, 3) := dk_182 0 195 (dk_at dksX2_isLine_0 14 rfl rfl)
theorem dX2_isLine_17 : decode cX2_isLine 17 = .ok (.ifCond .ne 5, 3) := dk_154 0 5 (dk_at dksX2_isLine_0 17 rfl rfl)
theorem dX2_isLine_20 : decode cX2_isLine 20 = .ok (.iconst 0, 1) := dk_3 (dk_at dksX2_isLine_0 20 rfl rfl)
theorem dX2_isLine_21 : decode cX2_isLine 21 = .ok (.ireturn, 1) := dk_172 (dk_at dksX2_isLine_0 21 rfl rfl)
theorem dX2_isLine_22 : decode cX2_isLine 22 = .ok (.aload_n 0, 1) := dk_42 (dk_at dksX2_isLine_0 22 rfl rfl)
theorem dX2_isLine_23 : decode cX2_isLine 23 = .ok (.getfield 45, 3) := dk_180 0 45 (dk_at dksX2_isLine_1 0 rfl rfl)
theorem dX2_isLine_26 : decode cX2_isLine 26 = .ok (.aload_n 0, 1) := dk_42 (dk_at dksX2_isLine_1 3 rfl rfl)
theorem dX2_isLine_27 : decode cX2_isLine 27 = .ok (.getfield 210, 3) := dk_180 0 210 (dk_at dksX2_isLine_1 4 rfl rfl)
theorem dX2_isLine_30 : decode cX2_isLine 30 = .ok (.aload_n 0, 1) := dk_42 (dk_at dksX2_isLine_1 7 rfl rfl)
theorem dX2_isLine_31 : decode cX2_isLine 31 = .ok (.getfield 42, 3) := dk_180 0 42 (dk_at dksX2_isLine_1 8 rfl rfl)
theorem dX2_isLine_34 : decode cX2_isLine 34 = .ok (.aload_n 0, 1) := dk_42 (dk_at dksX2_isLine_1 11 rfl rfl)
theorem dX2_isLine_35 : decode cX2_isLine 35 = .ok (.getfield 210, 3) := dk_180 0 210 (dk_at dksX2_isLine_1 12 rfl rfl)
theorem dX2_isLine_38 : decode cX2_isLine 38 = .ok (.iaload, 1) := dk_46 (dk_at dksX2_isLine_1 15 rfl rfl)
theorem dX2_isLine_39 : decode cX2_isLine 39 = .ok (.iastore, 1) := dk_79 (dk_at dksX2_isLine_1 16 rfl rfl)
theorem dX2_isLine_40 : decode cX2_isLine 40 = .ok (.aload_n 0, 1) := dk_42 (dk_at dksX2_isLine_1 17 rfl rfl)
theorem dX2_isLine_41 : decode cX2_isLine 41 = .ok (.bipush 63, 2) := dk_16 63 (dk_at dksX2_isLine_1 18 rfl rfl)
theorem dX2_isLine_43 : decode cX2_isLine 43 = .ok (.invokevirtual 189, 3) := dk_182 0 189 (dk_at dksX2_isLine_1 20 rfl rfl)
theorem dX2_isLine_46 : decode cX2_isLine 46 = .ok (.ifCond .eq 25, 3) := dk_153 0 25 (dk_at dksX2_isLine_2 0 rfl rfl)
theorem dX2_isLine_49 : decode cX2_isLine 49 = .ok (.aload_n 0, 1) := dk_42 (dk_at dksX2_isLine_2 3 rfl rfl)
theorem dX2_isLine_50 : decode cX2_isLine 50 = .ok (.getfield 45, 3) := dk_180 0 45 (dk_at dksX2_isLine_2 4 rfl rfl)
theorem dX2_isLine_53 : decode cX2_isLine 53 = .ok (.aload_n 0, 1) := dk_42 (dk_at dksX2_isLine_2 7 rfl rfl)
theorem dX2_isLine_54 : decode cX2_isLine 54 = .ok (.getfield 210, 3) := dk_180 0 210 (dk_at dksX2_isLine_2 8 rfl rfl)
theorem dX2_isLine_57 : decode cX2_isLine 57 = .ok (.aload_n 0, 1) := dk_42 (dk_at dksX2_isLine_2 11 rfl rfl)
theorem dX2_isLine_58 : decode cX2_isLine 58 = .ok (.getfield 172, 3) := dk_180 0 172 (dk_at dksX2_isLine_2 12 rfl rfl)
theorem dX2_isLine_61 : decode cX2_isLine 61 = .ok (.iastore, 1) := dk_79 (dk_at dksX2_isLine_2 15 rfl rfl)
theorem dX2_isLine_62 : decode cX2_isLine 62 = .ok (.aload_n 0, 1) := dk_42 (dk_at dksX2_isLine_2 16 rfl rfl)
theorem dX2_isLine_63 : decode cX2_isLine 63 = .ok (.invokevirtual 195, 3) := dk_182 0 195 (dk_at dksX2_isLine_2 17 rfl rfl)
theorem dX2_isLine_66 : decode cX2_isLine 66 = .ok (.ifCond .ne 5, 3) := dk_154 0 5 (dk_at dksX2_isLine_2 20 rfl rfl)
theorem dX2_isLine_69 : decode cX2_isLine 69 = .ok (.iconst 0, 1) := dk_3 (dk_at dksX2_isLine_2 23 rfl rfl)
theorem dX2_isLine_70 : decode cX2_isLine 70 = .ok (.ireturn, 1) := dk_172 (dk_at dksX2_isLine_3 0 rfl rfl)
theorem dX2_isLine_71 : decode cX2_isLine 71 = .ok (.aload_n 0, 1) := dk_42 (dk_at dksX2_isLine_3 1 rfl rfl)
theorem dX2_isLine_72 : decode cX2_isLine 72 = .ok (.getfield 48, 3) := dk_180 0 48 (dk_at dksX2_isLine_3 2 rfl rfl)
theorem dX2_isLine_75 : decode cX2_isLine 75 = .ok (.aload_n 0, 1) := dk_42 (dk_at dksX2_isLine_3 5 rfl rfl)
theorem dX2_isLine_76 : decode cX2_isLine 76 = .ok (.dup, 1) := dk_89 (dk_at dksX2_isLine_3 6 rfl rfl)
theorem dX2_isLine_77 : decode cX2_isLine 77 = .ok (.getfield 210, 3) := dk_180 0 210 (dk_at dksX2_isLine_3 7 rfl rfl)
theorem dX2_isLine_80 : decode cX2_isLine 80 = .ok (.dup_x1, 1) := dk_90 (dk_at dksX2_isLine_3 10 rfl rfl)
theorem dX2_isLine_81 : decode cX2_isLine 81 = .ok (.iconst 1, 1) := dk_4 (dk_at dksX2_isLine_3 11 rfl rfl)
theorem dX2_isLine_82 : decode cX2_isLine 82 = .ok (.iadd, 1) := dk_96 (dk_at dksX2_isLine_3 12 rfl rfl)
theorem dX2_isLine_83 : decode cX2_isLine 83 = .ok (.putfield 210, 3) := dk_181 0 210 (dk_at dksX2_isLine_3 13 rfl rfl)
theorem dX2_isLine_86 : decode cX2_isLine 86 = .ok (.aload_n 0, 1) := dk_42 (dk_at dksX2_isLine_3 16 rfl rfl)
theorem dX2_isLine_87 : decode cX2_isLine 87 = .ok (.getfield 172, 3) := dk_180 0 172 (dk_at dksX2_isLine_3 17 rfl rfl)
theorem dX2_isLine_90 : decode cX2_isLine 90 = .ok (.iastore, 1) := dk_79 (dk_at dksX2_isLine_3 20 rfl rfl)
theorem dX2_isLine_91 : decode cX2_isLine 91 = .ok (.iconst 1, 1) := dk_4 (dk_at dksX2_isLine_3 21 rfl rfl)
theorem dX2_isLine_92 : decode cX2_isLine 92 = .ok (.ireturn, 1) := dk_172 (dk_at dksX2_isLine_3 22 rfl rfl)
abbrev cX2_isE : ByteArray := prog_31_method_28_code
def yX2_isE : MethodName := ⟨RX2, "isE", "()Z"⟩
def dkwX2_isE_1 : List UInt8 := [154, 0, 5, 3, 172, 42, 16, 6, 182, 0, 179, 87, 167, 255, 231, 4, 172]
abbrev dktX2_isE_1 : List UInt8 := dkwX2_isE_1 ++ []
def dkwX2_isE_0 : List UInt8 := [42, 182, 0, 207, 154, 0, 5, 3, 172, 42, 16, 124, 182, 0, 189, 153, 0, 22, 42, 182, 0, 207]
abbrev dktX2_isE_0 : List UInt8 := dkwX2_isE_0 ++ dktX2_isE_1
theorem dksX2_isE_0 : cX2_isE.data.toList.drop 0 = dktX2_isE_0 := by decide +kernel
theorem dksX2_isE_1 : cX2_isE.data.toList.drop 22 = dktX2_isE_1 := dk_seg dksX2_isE_0 22 rfl rfl
theorem dX2_isE_0 : decode cX2_isE 0 = .ok (.aload_n 0, 1) := dk_42 (dk_at dksX2_isE_0 0 rfl rfl)
theorem dX2_isE_1 : decode cX2_isE 1 = .ok (.invokevirtual 207, 3) := dk_182 0 207 (dk_at dksX2_isE_0 1 rfl rfl)
theorem dX2_isE_4 : decode cX2_isE 4 = .ok (.ifCond .ne 5, 3) := dk_154 0 5 (dk_at dksX2_isE_0 4 rfl rfl)
theorem dX2_isE_7 : decode cX2_isE 7 = .ok (.iconst 0, 1) := dk_3 (dk_at dksX2_isE_0 7 rfl rfl)
theorem dX2_isE_8 : decode cX2_isE 8 = .ok (.ireturn, 1) := dk_172 (dk_at dksX2_isE_0 8 rfl rfl)
theorem dX2_isE_9 : decode cX2_isE 9 = .ok (.aload_n 0, 1) := dk_42 (dk_at dksX2_isE_0 9 rfl rfl)
theorem dX2_isE_10 : decode cX2_isE 10 = .ok (.bipush 124, 2) := dk_16 124 (dk_at dksX2_isE_0 10 rfl rfl)
theorem dX2_isE_12 : decode cX2_isE 12 = .ok (.invokevirtual 189, 3) := dk_182 0 189 (dk_at dksX2_isE_0 12 rfl rfl)
theorem dX2_isE_15 : decode cX2_isE 15 = .ok (.ifCond .eq 22, 3) := dk_153 0 22 (dk_at dksX2_isE_0 15 rfl rfl)
theorem dX2_isE_18 : decode cX2_isE 18 = .ok (.aload_n 0, 1) := dk_42 (dk_at dksX2_isE_0 18 rfl rfl)
theorem dX2_isE_19 : decode cX2_isE 19 = .ok (.invokevirtual 207, 3) := dk_182 0 207 (dk_at dksX2_isE_0 19 rfl rfl)
theorem dX2_isE_22 : decode cX2_isE 22 = .ok (.ifCond .ne 5, 3) := dk_154 0 5 (dk_at dksX2_isE_1 0 rfl rfl)
theorem dX2_isE_25 : decode cX2_isE 25 = .ok (.iconst 0, 1) := dk_3 (dk_at dksX2_isE_1 3 rfl rfl)
theorem dX2_isE_26 : decode cX2_isE 26 = .ok (.ireturn, 1) := dk_172 (dk_at dksX2_isE_1 4 rfl rfl)
theorem dX2_isE_27 : decode cX2_isE 27 = .ok (.aload_n 0, 1) := dk_42 (dk_at dksX2_isE_1 5 rfl rfl)
theorem dX2_isE_28 : decode cX2_isE 28 = .ok (.bipush 6, 2) := dk_16 6 (dk_at dksX2_isE_1 6 rfl rfl)
theorem dX2_isE_30 : decode cX2_isE 30 = .ok (.invokevirtual 179, 3) := dk_182 0 179 (dk_at dksX2_isE_1 8 rfl rfl)
theorem dX2_isE_33 : decode cX2_isE 33 = .ok (.pop, 1) := dk_87 (dk_at dksX2_isE_1 11 rfl rfl)
theorem dX2_isE_34 : decode cX2_isE 34 = .ok (.goto (-25), 3) := dk_167 255 231 (dk_at dksX2_isE_1 12 rfl rfl)
theorem dX2_isE_37 : decode cX2_isE 37 = .ok (.iconst 1, 1) := dk_4 (dk_at dksX2_isE_1 15 rfl rfl)
theorem dX2_isE_38 : decode cX2_isE 38 = .ok (.ireturn, 1) := dk_172 (dk_at dksX2_isE_1 16 rfl rfl)
abbrev cX2_isA : ByteArray := prog_31_method_27_code
def yX2_isA : MethodName := ⟨RX2, "isA", "()Z"⟩
def dkwX2_isA_1 : List UInt8 := [154, 0, 5, 3, 172, 42, 16, 7, 182, 0, 179, 87, 167, 255, 231, 4, 172]
abbrev dktX2_isA_1 : List UInt8 := dkwX2_isA_1 ++ []
def dkwX2_isA_0 : List UInt8 := [42, 182, 0, 204, 154, 0, 5, 3, 172, 42, 16, 38, 182, 0, 189, 153, 0, 22, 42, 182, 0, 204]
abbrev dktX2_isA_0 : List UInt8 := dkwX2_isA_0 ++ dktX2_isA_1
theorem dksX2_isA_0 : cX2_isA.data.toList.drop 0 = dktX2_isA_0 := by decide +kernel
theorem dksX2_isA_1 : cX2_isA.data.toList.drop 22 = dktX2_isA_1 := dk_seg dksX2_isA_0 22 rfl rfl
theorem dX2_isA_0 : decode cX2_isA 0 = .ok (.aload_n 0, 1) := dk_42 (dk_at dksX2_isA_0 0 rfl rfl)
theorem dX2_isA_1 : decode cX2_isA 1 = .ok (.invokevirtual 204, 3) := dk_182 0 204 (dk_at dksX2_isA_0 1 rfl rfl)
theorem dX2_isA_4 : decode cX2_isA 4 = .ok (.ifCond .ne 5, 3) := dk_154 0 5 (dk_at dksX2_isA_0 4 rfl rfl)
theorem dX2_isA_7 : decode cX2_isA 7 = .ok (.iconst 0, 1) := dk_3 (dk_at dksX2_isA_0 7 rfl rfl)
theorem dX2_isA_8 : decode cX2_isA 8 = .ok (.ireturn, 1) := dk_172 (dk_at dksX2_isA_0 8 rfl rfl)
theorem dX2_isA_9 : decode cX2_isA 9 = .ok (.aload_n 0, 1) := dk_42 (dk_at dksX2_isA_0 9 rfl rfl)
theorem dX2_isA_10 : decode cX2_isA 10 = .ok (.bipush 38, 2) := dk_16 38 (dk_at dksX2_isA_0 10 rfl rfl)
theorem dX2_isA_12 : decode cX2_isA 12 = .ok (.invokevirtual 189, 3) := dk_182 0 189 (dk_at dksX2_isA_0 12 rfl rfl)
theorem dX2_isA_15 : decode cX2_isA 15 = .ok (.ifCond .eq 22, 3) := dk_153 0 22 (dk_at dksX2_isA_0 15 rfl rfl)
theorem dX2_isA_18 : decode cX2_isA 18 = .ok (.aload_n 0, 1) := dk_42 (dk_at dksX2_isA_0 18 rfl rfl)
theorem dX2_isA_19 : decode cX2_isA 19 = .ok (.invokevirtual 204, 3) := dk_182 0 204 (dk_at dksX2_isA_0 19 rfl rfl)
theorem dX2_isA_22 : decode cX2_isA 22 = .ok (.ifCond .ne 5, 3) := dk_154 0 5 (dk_at dksX2_isA_1 0 rfl rfl)
theorem dX2_isA_25 : decode cX2_isA 25 = .ok (.iconst 0, 1) := dk_3 (dk_at dksX2_isA_1 3 rfl rfl)
theorem dX2_isA_26 : decode cX2_isA 26 = .ok (.ireturn, 1) := dk_172 (dk_at dksX2_isA_1 4 rfl rfl)
theorem dX2_isA_27 : decode cX2_isA 27 = .ok (.aload_n 0, 1) := dk_42 (dk_at dksX2_isA_1 5 rfl rfl)
theorem dX2_isA_28 : decode cX2_isA 28 = .ok (.bipush 7, 2) := dk_16 7 (dk_at dksX2_isA_1 6 rfl rfl)
theorem dX2_isA_30 : decode cX2_isA 30 = .ok (.invokevirtual 179, 3) := dk_182 0 179 (dk_at dksX2_isA_1 8 rfl rfl)
theorem dX2_isA_33 : decode cX2_isA 33 = .ok (.pop, 1) := dk_87 (dk_at dksX2_isA_1 11 rfl rfl)
theorem dX2_isA_34 : decode cX2_isA 34 = .ok (.goto (-25), 3) := dk_167 255 231 (dk_at dksX2_isA_1 12 rfl rfl)
theorem dX2_isA_37 : decode cX2_isA 37 = .ok (.iconst 1, 1) := dk_4 (dk_at dksX2_isA_1 15 rfl rfl)
theorem dX2_isA_38 : decode cX2_isA 38 = .ok (.ireturn, 1) := dk_172 (dk_at dksX2_isA_1 16 rfl rfl)
abbrev cX2_isB : ByteArray := prog_31_method_26_code
def yX2_isB : MethodName := ⟨RX2, "isB", "()Z"⟩
def dkwX2_isB_3 : List UInt8 := [182, 0, 201, 153, 0, 15, 42, 27, 182, 0, 179, 153, 0, 7, 4, 167, 0, 4, 3, 172]
abbrev dktX2_isB_3 : List UInt8 := dkwX2_isB_3 ++ []
def dkwX2_isB_2 : List UInt8 := [167, 0, 4, 2, 60, 27, 156, 0, 5, 4, 172, 42, 89, 180, 0, 165, 4, 96, 181, 0, 165, 42]
abbrev dktX2_isB_2 : List UInt8 := dkwX2_isB_2 ++ dktX2_isB_3
def dkwX2_isB_1 : List UInt8 := [182, 0, 168, 16, 61, 160, 0, 8, 16, 9, 167, 0, 18, 42, 182, 0, 168, 16, 62, 160, 0, 8, 16, 10]
abbrev dktX2_isB_1 : List UInt8 := dkwX2_isB_1 ++ dktX2_isB_2
def dkwX2_isB_0 : List UInt8 := [42, 182, 0, 201, 154, 0, 5, 3, 172, 42, 182, 0, 168, 16, 60, 160, 0, 8, 16, 8, 167, 0, 32, 42]
abbrev dktX2_isB_0 : List UInt8 := dkwX2_isB_0 ++ dktX2_isB_1
theorem dksX2_isB_0 : cX2_isB.data.toList.drop 0 = dktX2_isB_0 := by decide +kernel
theorem dksX2_isB_1 : cX2_isB.data.toList.drop 24 = dktX2_isB_1 := dk_seg dksX2_isB_0 24 rfl rfl
theorem dksX2_isB_2 : cX2_isB.data.toList.drop 48 = dktX2_isB_2 := dk_seg dksX2_isB_1 24 rfl rfl
theorem dksX2_isB_3 : cX2_isB.data.toList.drop 70 = dktX2_isB_3 := dk_seg dksX2_isB_2 22 rfl rfl
theorem dX2_isB_0 : decode cX2_isB 0 = .ok (.aload_n 0, 1) := dk_42 (dk_at dksX2_isB_0 0 rfl rfl)
theorem dX2_isB_1 : decode cX2_isB 1 = .ok (.invokevirtual 201, 3) := dk_182 0 201 (dk_at dksX2_isB_0 1 rfl rfl)
theorem dX2_isB_4 : decode cX2_isB 4 = .ok (.ifCond .ne 5, 3) := dk_154 0 5 (dk_at dksX2_isB_0 4 rfl rfl)
theorem dX2_isB_7 : decode cX2_isB 7 = .ok (.iconst 0, 1) := dk_3 (dk_at dksX2_isB_0 7 rfl rfl)
theorem dX2_isB_8 : decode cX2_isB 8 = .ok (.ireturn, 1) := dk_172 (dk_at dksX2_isB_0 8 rfl rfl)
theorem dX2_isB_9 : decode cX2_isB 9 = .ok (.aload_n 0, 1) := dk_42 (dk_at dksX2_isB_0 9 rfl rfl)
theorem dX2_isB_10 : decode cX2_isB 10 = .ok (.invokevirtual 168, 3) := dk_182 0 168 (dk_at dksX2_isB_0 10 rfl rfl)
theorem dX2_isB_13 : decode cX2_isB 13 = .ok (.bipush 60, 2) := dk_16 60 (dk_at dksX2_isB_0 13 rfl rfl)
theorem dX2_isB_15 : decode cX2_isB 15 = .ok (.if_icmp .ne 8, 3) := dk_160 0 8 (dk_at dksX2_isB_0 15 rfl rfl)
theorem dX2_isB_18 : decode cX2_isB 18 = .ok (.bipush 8, 2) := dk_16 8 (dk_at dksX2_isB_0 18 rfl rfl)
theorem dX2_isB_20 : decode cX2_isB 20 = .ok (.goto 32, 3) := dk_167 0 32 (dk_at dksX2_isB_0 20 rfl rfl)
theorem dX2_isB_23 : decode cX2_isB 23 = .ok (.aload_n 0, 1) := dk_42 (dk_at dksX2_isB_0 23 rfl rfl)
theorem dX2_isB_24 : decode cX2_isB 24 = .ok (.invokevirtual 168, 3) := dk_182 0 168 (dk_at dksX2_isB_1 0 rfl rfl)
theorem dX2_isB_27 : decode cX2_isB 27 = .ok (.bipush 61, 2) := dk_16 61 (dk_at dksX2_isB_1 3 rfl rfl)
theorem dX2_isB_29 : decode cX2_isB 29 = .ok (.if_icmp .ne 8, 3) := dk_160 0 8 (dk_at dksX2_isB_1 5 rfl rfl)
theorem dX2_isB_32 : decode cX2_isB 32 = .ok (.bipush 9, 2) := dk_16 9 (dk_at dksX2_isB_1 8 rfl rfl)
theorem dX2_isB_34 : decode cX2_isB 34 = .ok (.goto 18, 3) := dk_167 0 18 (dk_at dksX2_isB_1 10 rfl rfl)
theorem dX2_isB_37 : decode cX2_isB 37 = .ok (.aload_n 0, 1) := dk_42 (dk_at dksX2_isB_1 13 rfl rfl)
theorem dX2_isB_38 : decode cX2_isB 38 = .ok (.invokevirtual 168, 3) := dk_182 0 168 (dk_at dksX2_isB_1 14 rfl rfl)
theorem dX2_isB_41 : decode cX2_isB 41 = .ok (.bipush 62, 2) := dk_16 62 (dk_at dksX2_isB_1 17 rfl rfl)
theorem dX2_isB_43 : decode cX2_isB 43 = .ok (.if_icmp .ne 8, 3) := dk_160 0 8 (dk_at dksX2_isB_1 19 rfl rfl)
theorem dX2_isB_46 : decode cX2_isB 46 = .ok (.bipush 10, 2) := dk_16 10 (dk_at dksX2_isB_1 22 rfl rfl)
theorem dX2_isB_48 : decode cX2_isB 48 = .ok (.goto 4, 3) := dk_167 0 4 (dk_at dksX2_isB_2 0 rfl rfl)
theorem dX2_isB_51 : decode cX2_isB 51 = .ok (.iconst (-1), 1) := dk_2 (dk_at dksX2_isB_2 3 rfl rfl)
theorem dX2_isB_52 : decode cX2_isB 52 = .ok (.istore_n 1, 1) := dk_60 (dk_at dksX2_isB_2 4 rfl rfl)
theorem dX2_isB_53 : decode cX2_isB 53 = .ok (.iload_n 1, 1) := dk_27 (dk_at dksX2_isB_2 5 rfl rfl)
theorem dX2_isB_54 : decode cX2_isB 54 = .ok (.ifCond .ge 5, 3) := dk_156 0 5 (dk_at dksX2_isB_2 6 rfl rfl)
theorem dX2_isB_57 : decode cX2_isB 57 = .ok (.iconst 1, 1) := dk_4 (dk_at dksX2_isB_2 9 rfl rfl)
theorem dX2_isB_58 : decode cX2_isB 58 = .ok (.ireturn, 1) := dk_172 (dk_at dksX2_isB_2 10 rfl rfl)
theorem dX2_isB_59 : decode cX2_isB 59 = .ok (.aload_n 0, 1) := dk_42 (dk_at dksX2_isB_2 11 rfl rfl)
theorem dX2_isB_60 : decode cX2_isB 60 = .ok (.dup, 1) := dk_89 (dk_at dksX2_isB_2 12 rfl rfl)
theorem dX2_isB_61 : decode cX2_isB 61 = .ok (.getfield 165, 3) := dk_180 0 165 (dk_at dksX2_isB_2 13 rfl rfl)
theorem dX2_isB_64 : decode cX2_isB 64 = .ok (.iconst 1, 1) := dk_4 (dk_at dksX2_isB_2 16 rfl rfl)
theorem dX2_isB_65 : decode cX2_isB 65 = .ok (.iadd, 1) := dk_96 (dk_at dksX2_isB_2 17 rfl rfl)
theorem dX2_isB_66 : decode cX2_isB 66 = .ok (.putfield 165, 3) := dk_181 0 165 (dk_at dksX2_isB_2 18 rfl rfl)
theorem dX2_isB_69 : decode cX2_isB 69 = .ok (.aload_n 0, 1) := dk_42 (dk_at dksX2_isB_2 21 rfl rfl)
theorem dX2_isB_70 : decode cX2_isB 70 = .ok (.invokevirtual 201, 3) := dk_182 0 201 (dk_at dksX2_isB_3 0 rfl rfl)
theorem dX2_isB_73 : decode cX2_isB 73 = .ok (.ifCond .eq 15, 3) := dk_153 0 15 (dk_at dksX2_isB_3 3 rfl rfl)
theorem dX2_isB_76 : decode cX2_isB 76 = .ok (.aload_n 0, 1) := dk_42 (dk_at dksX2_isB_3 6 rfl rfl)
theorem dX2_isB_77 : decode cX2_isB 77 = .ok (.iload_n 1, 1) := dk_27 (dk_at dksX2_isB_3 7 rfl rfl)
theorem dX2_isB_78 : decode cX2_isB 78 = .ok (.invokevirtual 179, 3) := dk_182 0 179 (dk_at dksX2_isB_3 8 rfl rfl)
theorem dX2_isB_81 : decode cX2_isB 81 = .ok (.ifCond .eq 7, 3) := dk_153 0 7 (dk_at dksX2_isB_3 11 rfl rfl)
theorem dX2_isB_84 : decode cX2_isB 84 = .ok (.iconst 1, 1) := dk_4 (dk_at dksX2_isB_3 14 rfl rfl)
theorem dX2_isB_85 : decode cX2_isB 85 = .ok (.goto 4, 3) := dk_167 0 4 (dk_at dksX2_isB_3 15 rfl rfl)
theorem dX2_isB_88 : decode cX2_isB 88 = .ok (.iconst 0, 1) := dk_3 (dk_at dksX2_isB_3 18 rfl rfl)
theorem dX2_isB_89 : decode cX2_isB 89 = .ok (.ireturn, 1) := dk_172 (dk_at dksX2_isB_3 19 rfl rfl)
abbrev cX2_isS : ByteArray := prog_31_method_25_code
def yX2_isS : MethodName := ⟨RX2, "isS", "()Z"⟩
def dkwX2_isS_3 : List UInt8 := [167, 255, 195]
abbrev dktX2_isS_3 : List UInt8 := dkwX2_isS_3 ++ []
def dkwX2_isS_2 : List UInt8 := [180, 0, 165, 4, 96, 181, 0, 165, 42, 182, 0, 198, 154, 0, 5, 3, 172, 42, 27, 182, 0, 179, 87]
abbrev dktX2_isS_2 : List UInt8 := dkwX2_isS_2 ++ dktX2_isS_3
def dkwX2_isS_1 : List UInt8 := [182, 0, 168, 16, 45, 160, 0, 8, 16, 12, 167, 0, 4, 2, 60, 27, 156, 0, 5, 4, 172, 42, 89]
abbrev dktX2_isS_1 : List UInt8 := dkwX2_isS_1 ++ dktX2_isS_2
def dkwX2_isS_0 : List UInt8 := [42, 182, 0, 198, 154, 0, 5, 3, 172, 42, 182, 0, 168, 16, 43, 160, 0, 8, 16, 11, 167, 0, 18, 42]
abbrev dktX2_isS_0 : List UInt8 := dkwX2_isS_0 ++ dktX2_isS_1
theorem dksX2_isS_0 : cX2_isS.data.toList.drop 0 = dktX2_isS_0 := by decide +kernel
theorem dksX2_isS_1 : cX2_isS.data.toList.drop 24 = dktX2_isS_1 := dk_seg dksX2_isS_0 24 rfl rfl
theorem dksX2_isS_2 : cX2_isS.data.toList.drop 47 = dktX2_isS_2 := dk_seg dksX2_isS_1 23 rfl rfl
theorem dksX2_isS_3 : cX2_isS.data.toList.drop 70 = dktX2_isS_3 := dk_seg dksX2_isS_2 23 rfl rfl
theorem dX2_isS_0 : decode cX2_isS 0 = .ok (.aload_n 0, 1) := dk_42 (dk_at dksX2_isS_0 0 rfl rfl)
theorem dX2_isS_1 : decode cX2_isS 1 = .ok (.invokevirtual 198, 3) := dk_182 0 198 (dk_at dksX2_isS_0 1 rfl rfl)
theorem dX2_isS_4 : decode cX2_isS 4 = .ok (.ifCond .ne 5, 3) := dk_154 0 5 (dk_at dksX2_isS_0 4 rfl rfl)
theorem dX2_isS_7 : decode cX2_isS 7 = .ok (.iconst 0, 1) := dk_3 (dk_at dksX2_isS_0 7 rfl rfl)
theorem dX2_isS_8 : decode cX2_isS 8 = .ok (.ireturn, 1) := dk_172 (dk_at dksX2_isS_0 8 rfl rfl)
theorem dX2_isS_9 : decode cX2_isS 9 = .ok (.aload_n 0, 1) := dk_42 (dk_at dksX2_isS_0 9 rfl rfl)
theorem dX2_isS_10 : decode cX2_isS 10 = .ok (.invokevirtual 168, 3) := dk_182 0 168 (dk_at dksX2_isS_0 10 rfl rfl)
theorem dX2_isS_13 : decode cX2_isS 13 = .ok (.bipush 43, 2) := dk_16 43 (dk_at dksX2_isS_0 13 rfl rfl)
theorem dX2_isS_15 : decode cX2_isS 15 = .ok (.if_icmp .ne 8, 3) := dk_160 0 8 (dk_at dksX2_isS_0 15 rfl rfl)
theorem dX2_isS_18 : decode cX2_isS 18 = .ok (.bipush 11, 2) := dk_16 11 (dk_at dksX2_isS_0 18 rfl rfl)
theorem dX2_isS_20 : decode cX2_isS 20 = .ok (.goto 18, 3) := dk_167 0 18 (dk_at dksX2_isS_0 20 rfl rfl)
theorem dX2_isS_23 : decode cX2_isS 23 = .ok (.aload_n 0, 1) := dk_42 (dk_at dksX2_isS_0 23 rfl rfl)
theorem dX2_isS_24 : decode cX2_isS 24 = .ok (.invokevirtual 168, 3) := dk_182 0 168 (dk_at dksX2_isS_1 0 rfl rfl)
theorem dX2_isS_27 : decode cX2_isS 27 = .ok (.bipush 45, 2) := dk_16 45 (dk_at dksX2_isS_1 3 rfl rfl)
theorem dX2_isS_29 : decode cX2_isS 29 = .ok (.if_icmp .ne 8, 3) := dk_160 0 8 (dk_at dksX2_isS_1 5 rfl rfl)
theorem dX2_isS_32 : decode cX2_isS 32 = .ok (.bipush 12, 2) := dk_16 12 (dk_at dksX2_isS_1 8 rfl rfl)
theorem dX2_isS_34 : decode cX2_isS 34 = .ok (.goto 4, 3) := dk_167 0 4 (dk_at dksX2_isS_1 10 rfl rfl)
theorem dX2_isS_37 : decode cX2_isS 37 = .ok (.iconst (-1), 1) := dk_2 (dk_at dksX2_isS_1 13 rfl rfl)
theorem dX2_isS_38 : decode cX2_isS 38 = .ok (.istore_n 1, 1) := dk_60 (dk_at dksX2_isS_1 14 rfl rfl)
theorem dX2_isS_39 : decode cX2_isS 39 = .ok (.iload_n 1, 1) := dk_27 (dk_at dksX2_isS_1 15 rfl rfl)
theorem dX2_isS_40 : decode cX2_isS 40 = .ok (.ifCond .ge 5, 3) := dk_156 0 5 (dk_at dksX2_isS_1 16 rfl rfl)
theorem dX2_isS_43 : decode cX2_isS 43 = .ok (.iconst 1, 1) := dk_4 (dk_at dksX2_isS_1 19 rfl rfl)
theorem dX2_isS_44 : decode cX2_isS 44 = .ok (.ireturn, 1) := dk_172 (dk_at dksX2_isS_1 20 rfl rfl)
theorem dX2_isS_45 : decode cX2_isS 45 = .ok (.aload_n 0, 1) := dk_42 (dk_at dksX2_isS_1 21 rfl rfl)
theorem dX2_isS_46 : decode cX2_isS 46 = .ok (.dup, 1) := dk_89 (dk_at dksX2_isS_1 22 rfl rfl)
theorem dX2_isS_47 : decode cX2_isS 47 = .ok (.getfield 165, 3) := dk_180 0 165 (dk_at dksX2_isS_2 0 rfl rfl)
theorem dX2_isS_50 : decode cX2_isS 50 = .ok (.iconst 1, 1) := dk_4 (dk_at dksX2_isS_2 3 rfl rfl)
theorem dX2_isS_51 : decode cX2_isS 51 = .ok (.iadd, 1) := dk_96 (dk_at dksX2_isS_2 4 rfl rfl)
theorem dX2_isS_52 : decode cX2_isS 52 = .ok (.putfield 165, 3) := dk_181 0 165 (dk_at dksX2_isS_2 5 rfl rfl)
theorem dX2_isS_55 : decode cX2_isS 55 = .ok (.aload_n 0, 1) := dk_42 (dk_at dksX2_isS_2 8 rfl rfl)
theorem dX2_isS_56 : decode cX2_isS 56 = .ok (.invokevirtual 198, 3) := dk_182 0 198 (dk_at dksX2_isS_2 9 rfl rfl)
theorem dX2_isS_59 : decode cX2_isS 59 = .ok (.ifCond .ne 5, 3) := dk_154 0 5 (dk_at dksX2_isS_2 12 rfl rfl)
theorem dX2_isS_62 : decode cX2_isS 62 = .ok (.iconst 0, 1) := dk_3 (dk_at dksX2_isS_2 15 rfl rfl)
theorem dX2_isS_63 : decode cX2_isS 63 = .ok (.ireturn, 1) := dk_172 (dk_at dksX2_isS_2 16 rfl rfl)
theorem dX2_isS_64 : decode cX2_isS 64 = .ok (.aload_n 0, 1) := dk_42 (dk_at dksX2_isS_2 17 rfl rfl)
theorem dX2_isS_65 : decode cX2_isS 65 = .ok (.iload_n 1, 1) := dk_27 (dk_at dksX2_isS_2 18 rfl rfl)
theorem dX2_isS_66 : decode cX2_isS 66 = .ok (.invokevirtual 179, 3) := dk_182 0 179 (dk_at dksX2_isS_2 19 rfl rfl)
theorem dX2_isS_69 : decode cX2_isS 69 = .ok (.pop, 1) := dk_87 (dk_at dksX2_isS_2 22 rfl rfl)
theorem dX2_isS_70 : decode cX2_isS 70 = .ok (.goto (-61), 3) := dk_167 255 195 (dk_at dksX2_isS_3 0 rfl rfl)
abbrev cX2_isP : ByteArray := prog_31_method_24_code
def yX2_isP : MethodName := ⟨RX2, "isP", "()Z"⟩
def dkwX2_isP_3 : List UInt8 := [182, 0, 192, 154, 0, 5, 3, 172, 42, 27, 182, 0, 179, 87, 167, 255, 181]
abbrev dktX2_isP_3 : List UInt8 := dkwX2_isP_3 ++ []
def dkwX2_isP_2 : List UInt8 := [167, 0, 4, 2, 60, 27, 156, 0, 5, 4, 172, 42, 89, 180, 0, 165, 4, 96, 181, 0, 165, 42]
abbrev dktX2_isP_2 : List UInt8 := dkwX2_isP_2 ++ dktX2_isP_3
def dkwX2_isP_1 : List UInt8 := [182, 0, 168, 16, 47, 160, 0, 8, 16, 14, 167, 0, 18, 42, 182, 0, 168, 16, 37, 160, 0, 8, 16, 15]
abbrev dktX2_isP_1 : List UInt8 := dkwX2_isP_1 ++ dktX2_isP_2
def dkwX2_isP_0 : List UInt8 := [42, 182, 0, 192, 154, 0, 5, 3, 172, 42, 182, 0, 168, 16, 42, 160, 0, 8, 16, 13, 167, 0, 32, 42]
abbrev dktX2_isP_0 : List UInt8 := dkwX2_isP_0 ++ dktX2_isP_1
theorem dksX2_isP_0 : cX2_isP.data.toList.drop 0 = dktX2_isP_0 := by decide +kernel
theorem dksX2_isP_1 : cX2_isP.data.toList.drop 24 = dktX2_isP_1 := dk_seg dksX2_isP_0 24 rfl rfl
theorem dksX2_isP_2 : cX2_isP.data.toList.drop 48 = dktX2_isP_2 := dk_seg dksX2_isP_1 24 rfl rfl
theorem dksX2_isP_3 : cX2_isP.data.toList.drop 70 = dktX2_isP_3 := dk_seg dksX2_isP_2 22 rfl rfl
theorem dX2_isP_0 : decode cX2_isP 0 = .ok (.aload_n 0, 1) := dk_42 (dk_at dksX2_isP_0 0 rfl rfl)
theorem dX2_isP_1 : decode cX2_isP 1 = .ok (.invokevirtual 192, 3) := dk_182 0 192 (dk_at dksX2_isP_0 1 rfl rfl)
theorem dX2_isP_4 : decode cX2_isP 4 = .ok (.ifCond .ne 5, 3) := dk_154 0 5 (dk_at dksX2_isP_0 4 rfl rfl)
theorem dX2_isP_7 : decode cX2_isP 7 = .ok (.iconst 0, 1) := dk_3 (dk_at dksX2_isP_0 7 rfl rfl)
theorem dX2_isP_8 : decode cX2_isP 8 = .ok (.ireturn, 1) := dk_172 (dk_at dksX2_isP_0 8 rfl rfl)
theorem dX2_isP_9 : decode cX2_isP 9 = .ok (.aload_n 0, 1) := dk_42 (dk_at dksX2_isP_0 9 rfl rfl)
theorem dX2_isP_10 : decode cX2_isP 10 = .ok (.invokevirtual 168, 3) := dk_182 0 168 (dk_at dksX2_isP_0 10 rfl rfl)
theorem dX2_isP_13 : decode cX2_isP 13 = .ok (.bipush 42, 2) := dk_16 42 (dk_at dksX2_isP_0 13 rfl rfl)
theorem dX2_isP_15 : decode cX2_isP 15 = .ok (.if_icmp .ne 8, 3) := dk_160 0 8 (dk_at dksX2_isP_0 15 rfl rfl)
theorem dX2_isP_18 : decode cX2_isP 18 = .ok (.bipush 13, 2) := dk_16 13 (dk_at dksX2_isP_0 18 rfl rfl)
theorem dX2_isP_20 : decode cX2_isP 20 = .ok (.goto 32, 3) := dk_167 0 32 (dk_at dksX2_isP_0 20 rfl rfl)
theorem dX2_isP_23 : decode cX2_isP 23 = .ok (.aload_n 0, 1) := dk_42 (dk_at dksX2_isP_0 23 rfl rfl)
theorem dX2_isP_24 : decode cX2_isP 24 = .ok (.invokevirtual 168, 3) := dk_182 0 168 (dk_at dksX2_isP_1 0 rfl rfl)
theorem dX2_isP_27 : decode cX2_isP 27 = .ok (.bipush 47, 2) := dk_16 47 (dk_at dksX2_isP_1 3 rfl rfl)
theorem dX2_isP_29 : decode cX2_isP 29 = .ok (.if_icmp .ne 8, 3) := dk_160 0 8 (dk_at dksX2_isP_1 5 rfl rfl)
theorem dX2_isP_32 : decode cX2_isP 32 = .ok (.bipush 14, 2) := dk_16 14 (dk_at dksX2_isP_1 8 rfl rfl)
theorem dX2_isP_34 : decode cX2_isP 34 = .ok (.goto 18, 3) := dk_167 0 18 (dk_at dksX2_isP_1 10 rfl rfl)
theorem dX2_isP_37 : decode cX2_isP 37 = .ok (.aload_n 0, 1) := dk_42 (dk_at dksX2_isP_1 13 rfl rfl)
theorem dX2_isP_38 : decode cX2_isP 38 = .ok (.invokevirtual 168, 3) := dk_182 0 168 (dk_at dksX2_isP_1 14 rfl rfl)
theorem dX2_isP_41 : decode cX2_isP 41 = .ok (.bipush 37, 2) := dk_16 37 (dk_at dksX2_isP_1 17 rfl rfl)
theorem dX2_isP_43 : decode cX2_isP 43 = .ok (.if_icmp .ne 8, 3) := dk_160 0 8 (dk_at dksX2_isP_1 19 rfl rfl)
theorem dX2_isP_46 : decode cX2_isP 46 = .ok (.bipush 15, 2) := dk_16 15 (dk_at dksX2_isP_1 22 rfl rfl)
theorem dX2_isP_48 : decode cX2_isP 48 = .ok (.goto 4, 3) := dk_167 0 4 (dk_at dksX2_isP_2 0 rfl rfl)
theorem dX2_isP_51 : decode cX2_isP 51 = .ok (.iconst (-1), 1) := dk_2 (dk_at dksX2_isP_2 3 rfl rfl)
theorem dX2_isP_52 : decode cX2_isP 52 = .ok (.istore_n 1, 1) := dk_60 (dk_at dksX2_isP_2 4 rfl rfl)
theorem dX2_isP_53 : decode cX2_isP 53 = .ok (.iload_n 1, 1) := dk_27 (dk_at dksX2_isP_2 5 rfl rfl)
theorem dX2_isP_54 : decode cX2_isP 54 = .ok (.ifCond .ge 5, 3) := dk_156 0 5 (dk_at dksX2_isP_2 6 rfl rfl)
theorem dX2_isP_57 : decode cX2_isP 57 = .ok (.iconst 1, 1) := dk_4 (dk_at dksX2_isP_2 9 rfl rfl)
theorem dX2_isP_58 : decode cX2_isP 58 = .ok (.ireturn, 1) := dk_172 (dk_at dksX2_isP_2 10 rfl rfl)
theorem dX2_isP_59 : decode cX2_isP 59 = .ok (.aload_n 0, 1) := dk_42 (dk_at dksX2_isP_2 11 rfl rfl)
theorem dX2_isP_60 : decode cX2_isP 60 = .ok (.dup, 1) := dk_89 (dk_at dksX2_isP_2 12 rfl rfl)
theorem dX2_isP_61 : decode cX2_isP 61 = .ok (.getfield 165, 3) := dk_180 0 165 (dk_at dksX2_isP_2 13 rfl rfl)
theorem dX2_isP_64 : decode cX2_isP 64 = .ok (.iconst 1, 1) := dk_4 (dk_at dksX2_isP_2 16 rfl rfl)
theorem dX2_isP_65 : decode cX2_isP 65 = .ok (.iadd, 1) := dk_96 (dk_at dksX2_isP_2 17 rfl rfl)
theorem dX2_isP_66 : decode cX2_isP 66 = .ok (.putfield 165, 3) := dk_181 0 165 (dk_at dksX2_isP_2 18 rfl rfl)
theorem dX2_isP_69 : decode cX2_isP 69 = .ok (.aload_n 0, 1) := dk_42 (dk_at dksX2_isP_2 21 rfl rfl)
theorem dX2_isP_70 : decode cX2_isP 70 = .ok (.invokevirtual 192, 3) := dk_182 0 192 (dk_at dksX2_isP_3 0 rfl rfl)
theorem dX2_isP_73 : decode cX2_isP 73 = .ok (.ifCond .ne 5, 3) := dk_154 0 5 (dk_at dksX2_isP_3 3 rfl rfl)
theorem dX2_isP_76 : decode cX2_isP 76 = .ok (.iconst 0, 1) := dk_3 (dk_at dksX2_isP_3 6 rfl rfl)
theorem dX2_isP_77 : decode cX2_isP 77 = .ok (.ireturn, 1) := dk_172 (dk_at dksX2_isP_3 7 rfl rfl)
theorem dX2_isP_78 : decode cX2_isP 78 = .ok (.aload_n 0, 1) := dk_42 (dk_at dksX2_isP_3 8 rfl rfl)
theorem dX2_isP_79 : decode cX2_isP 79 = .ok (.iload_n 1, 1) := dk_27 (dk_at dksX2_isP_3 9 rfl rfl)
theorem dX2_isP_80 : decode cX2_isP 80 = .ok (.invokevirtual 179, 3) := dk_182 0 179 (dk_at dksX2_isP_3 10 rfl rfl)
theorem dX2_isP_83 : decode cX2_isP 83 = .ok (.pop, 1) := dk_87 (dk_at dksX2_isP_3 13 rfl rfl)
theorem dX2_isP_84 : decode cX2_isP 84 = .ok (.goto (-75), 3) := dk_167 255 181 (dk_at dksX2_isP_3 14 rfl rfl)
abbrev cX2_isO : ByteArray := prog_31_method_23_code
def yX2_isO : MethodName := ⟨RX2, "isO", "()Z"⟩
def dkwX2_isO_9 : List UInt8 := [61, 42, 89, 180, 0, 186, 4, 100, 181, 0, 186, 28, 172]
abbrev dktX2_isO_9 : List UInt8 := dkwX2_isO_9 ++ []
def dkwX2_isO_8 : List UInt8 := [153, 0, 23, 42, 182, 0, 195, 153, 0, 16, 42, 16, 41, 182, 0, 189, 153, 0, 7, 4, 167, 0, 4, 3]
abbrev dktX2_isO_8 : List UInt8 := dkwX2_isO_8 ++ dktX2_isO_9
def dkwX2_isO_7 : List UInt8 := [42, 16, 17, 182, 0, 179, 153, 0, 7, 4, 167, 0, 4, 3, 61, 167, 0, 34, 42, 16, 40, 182, 0, 189]
abbrev dktX2_isO_7 : List UInt8 := dkwX2_isO_7 ++ dktX2_isO_8
def dkwX2_isO_6 : List UInt8 := [167, 0, 4, 3, 61, 167, 0, 68, 42, 16, 45, 182, 0, 189, 153, 0, 28, 42, 182, 0, 192, 153, 0, 16]
abbrev dktX2_isO_6 : List UInt8 := dkwX2_isO_6 ++ dktX2_isO_7
def dkwX2_isO_5 : List UInt8 := [182, 0, 189, 153, 0, 28, 42, 182, 0, 192, 153, 0, 16, 42, 16, 16, 182, 0, 179, 153, 0, 7, 4]
abbrev dktX2_isO_5 : List UInt8 := dkwX2_isO_5 ++ dktX2_isO_6
def dkwX2_isO_4 : List UInt8 := [42, 180, 0, 186, 16, 6, 160, 0, 5, 3, 172, 42, 89, 180, 0, 186, 4, 96, 181, 0, 186, 42, 16, 33]
abbrev dktX2_isO_4 : List UInt8 := dkwX2_isO_4 ++ dktX2_isO_5
def dkwX2_isO_3 : List UInt8 := [184, 0, 182, 60, 27, 155, 0, 19, 42, 89, 180, 0, 165, 4, 96, 181, 0, 165, 42, 27, 182, 0, 179, 172]
abbrev dktX2_isO_3 : List UInt8 := dkwX2_isO_3 ++ dktX2_isO_4
def dkwX2_isO_2 : List UInt8 := [96, 181, 0, 165, 132, 2, 1, 167, 255, 213, 42, 16, 18, 27, 96, 182, 0, 179, 172, 42, 182, 0, 168]
abbrev dktX2_isO_2 : List UInt8 := dkwX2_isO_2 ++ dktX2_isO_3
def dkwX2_isO_1 : List UInt8 := [16, 10, 27, 104, 42, 180, 0, 27, 42, 180, 0, 165, 46, 96, 16, 48, 100, 60, 42, 89, 180, 0, 165, 4]
abbrev dktX2_isO_1 : List UInt8 := dkwX2_isO_1 ++ dktX2_isO_2
def dkwX2_isO_0 : List UInt8 := [42, 182, 0, 175, 153, 0, 62, 3, 60, 3, 61, 28, 7, 162, 0, 44, 42, 182, 0, 175, 153, 0, 37]
abbrev dktX2_isO_0 : List UInt8 := dkwX2_isO_0 ++ dktX2_isO_1
theorem dksX2_isO_0 : cX2_isO.data.toList.drop 0 = dktX2_isO_0 := by decide +kernel
theorem dksX2_isO_1 : cX2_isO.data.toList.drop 23 = dktX2_isO_1 := dk_seg dksX2_isO_0 23 rfl rfl
theorem dksX2_isO_2 : cX2_isO.data.toList.drop 47 = dktX2_isO_2 := dk_seg dksX2_isO_1 24 rfl rfl
theorem dksX2_isO_3 : cX2_isO.data.toList.drop 70 = dktX2_isO_3 := dk_seg dksX2_isO_2 23 rfl rfl
theorem dksX2_isO_4 : cX2_isO.data.toList.drop 94 = dktX2_isO_4 := dk_seg dksX2_isO_3 24 rfl rfl
theorem dksX2_isO_5 : cX2_isO.data.toList.drop 118 = dktX2_isO_5 := dk_seg dksX2_isO_4 24 rfl rfl
theorem dksX2_isO_6 : cX2_isO.data.toList.drop 141 = dktX2_isO_6 := dk_seg dksX2_isO_5 23 rfl rfl
theorem dksX2_isO_7 : cX2_isO.data.toList.drop 165 = dktX2_isO_7 := dk_seg dksX2_isO_6 24 rfl rfl
theorem dksX2_isO_8 : cX2_isO.data.toList.drop 189 = dktX2_isO_8 := dk_seg dksX2_isO_7 24 rfl rfl
theorem dksX2_isO_9 : cX2_isO.data.toList.drop 213 = dktX2_isO_9 := dk_seg dksX2_isO_8 24 rfl rfl
theorem dX2_isO_0 : decode cX2_isO 0 = .ok (.aload_n 0, 1) := dk_42 (dk_at dksX2_isO_0 0 rfl rfl)
theorem dX2_isO_1 : decode cX2_isO 1 = .ok (.invokevirtual 175, 3) := dk_182 0 175 (dk_at dksX2_isO_0 1 rfl rfl)
theorem dX2_isO_4 : decode cX2_isO 4 = .ok (.ifCond .eq 62, 3) := dk_153 0 62 (dk_at dksX2_isO_0 4 rfl rfl)
theorem dX2_isO_7 : decode cX2_isO 7 = .ok (.iconst 0, 1) := dk_3 (dk_at dksX2_isO_0 7 rfl rfl)
theorem dX2_isO_8 : decode cX2_isO 8 = .ok (.istore_n 1, 1) := dk_60 (dk_at dksX2_isO_0 8 rfl rfl)
theorem dX2_isO_9 : decode cX2_isO 9 = .ok (.iconst 0, 1) := dk_3 (dk_at dksX2_isO_0 9 rfl rfl)
theorem dX2_isO_10 : decode cX2_isO 10 = .ok (.istore_n 2, 1) := dk_61 (dk_at dksX2_isO_0 10 rfl rfl)
theorem dX2_isO_11 : decode cX2_isO 11 = .ok (.iload_n 2, 1) := dk_28 (dk_at dksX2_isO_0 11 rfl rfl)
theorem dX2_isO_12 : decode cX2_isO 12 = .ok (.iconst 4, 1) := dk_7 (dk_at dksX2_isO_0 12 rfl rfl)
theorem dX2_isO_13 : decode cX2_isO 13 = .ok (.if_icmp .ge 44, 3) := dk_162 0 44 (dk_at dksX2_isO_0 13 rfl rfl)
theorem dX2_isO_16 : decode cX2_isO 16 = .ok (.aload_n 0, 1) := dk_42 (dk_at dksX2_isO_0 16 rfl rfl)
theorem dX2_isO_17 : decode cX2_isO 17 = .ok (.invokevirtual 175, 3) := dk_182 0 175 (dk_at dksX2_isO_0 17 rfl rfl)
theorem dX2_isO_20 : decode cX2_isO 20 = .ok (.ifCond .eq 37, 3) := dk_153 0 37 (dk_at dksX2_isO_0 20 rfl rfl)
theorem dX2_isO_23 : decode cX2_isO 23 = .ok (.bipush 10, 2) := dk_16 10 (dk_at dksX2_isO_1 0 rfl rfl)
theorem dX2_isO_25 : decode cX2_isO 25 = .ok (.iload_n 1, 1) := dk_27 (dk_at dksX2_isO_1 2 rfl rfl)
theorem dX2_isO_26 : decode cX2_isO 26 = .ok (.imul, 1) := dk_104 (dk_at dksX2_isO_1 3 rfl rfl)
theorem dX2_isO_27 : decode cX2_isO 27 = .ok (.aload_n 0, 1) := dk_42 (dk_at dksX2_isO_1 4 rfl rfl)
theorem dX2_isO_28 : decode cX2_isO 28 = .ok (.getfield 27, 3) := dk_180 0 27 (dk_at dksX2_isO_1 5 rfl rfl)
theorem dX2_isO_31 : decode cX2_isO 31 = .ok (.aload_n 0, 1) := dk_42 (dk_at dksX2_isO_1 8 rfl rfl)
theorem dX2_isO_32 : decode cX2_isO 32 = .ok (.getfield 165, 3) := dk_180 0 165 (dk_at dksX2_isO_1 9 rfl rfl)
theorem dX2_isO_35 : decode cX2_isO 35 = .ok (.iaload, 1) := dk_46 (dk_at dksX2_isO_1 12 rfl rfl)
theorem dX2_isO_36 : decode cX2_isO 36 = .ok (.iadd, 1) := dk_96 (dk_at dksX2_isO_1 13 rfl rfl)
theorem dX2_isO_37 : decode cX2_isO 37 = .ok (.bipush 48, 2) := dk_16 48 (dk_at dksX2_isO_1 14 rfl rfl)
theorem dX2_isO_39 : decode cX2_isO 39 = .ok (.isub, 1) := dk_100 (dk_at dksX2_isO_1 16 rfl rfl)
theorem dX2_isO_40 : decode cX2_isO 40 = .ok (.istore_n 1, 1) := dk_60 (dk_at dksX2_isO_1 17 rfl rfl)
theorem dX2_isO_41 : decode cX2_isO 41 = .ok (.aload_n 0, 1) := dk_42 (dk_at dksX2_isO_1 18 rfl rfl)
theorem dX2_isO_42 : decode cX2_isO 42 = .ok (.dup, 1) := dk_89 (dk_at dksX2_isO_1 19 rfl rfl)
theorem dX2_isO_43 : decode cX2_isO 43 = .ok (.getfield 165, 3) := dk_180 0 165 (dk_at dksX2_isO_1 20 rfl rfl)
theorem dX2_isO_46 : decode cX2_isO 46 = .ok (.iconst 1, 1) := dk_4 (dk_at dksX2_isO_1 23 rfl rfl)
theorem dX2_isO_47 : decode cX2_isO 47 = .ok (.iadd, 1) := dk_96 (dk_at dksX2_isO_2 0 rfl rfl)
theorem dX2_isO_48 : decode cX2_isO 48 = .ok (.putfield 165, 3) := dk_181 0 165 (dk_at dksX2_isO_2 1 rfl rfl)
theorem dX2_isO_51 : decode cX2_isO 51 = .ok (.iinc 2 1, 3) := dk_132 2 1 (dk_at dksX2_isO_2 4 rfl rfl)
theorem dX2_isO_54 : decode cX2_isO 54 = .ok (.goto (-43), 3) := dk_167 255 213 (dk_at dksX2_isO_2 7 rfl rfl)
theorem dX2_isO_57 : decode cX2_isO 57 = .ok (.aload_n 0, 1) := dk_42 (dk_at dksX2_isO_2 10 rfl rfl)
theorem dX2_isO_58 : decode cX2_isO 58 = .ok (.bipush 18, 2) := dk_16 18 (dk_at dksX2_isO_2 11 rfl rfl)
theorem dX2_isO_60 : decode cX2_isO 60 = .ok (.iload_n 1, 1) := dk_27 (dk_at dksX2_isO_2 13 rfl rfl)
theorem dX2_isO_61 : decode cX2_isO 61 = .ok (.iadd, 1) := dk_96 (dk_at dksX2_isO_2 14 rfl rfl)
theorem dX2_isO_62 : decode cX2_isO 62 = .ok (.invokevirtual 179, 3) := dk_182 0 179 (dk_at dksX2_isO_2 15 rfl rfl)
theorem dX2_isO_65 : decode cX2_isO 65 = .ok (.ireturn, 1) := dk_172 (dk_at dksX2_isO_2 18 rfl rfl)
theorem dX2_isO_66 : decode cX2_isO 66 = .ok (.aload_n 0, 1) := dk_42 (dk_at dksX2_isO_2 19 rfl rfl)
theorem dX2_isO_67 : decode cX2_isO 67 = .ok (.invokevirtual 168, 3) := dk_182 0 168 (dk_at dksX2_isO_2 20 rfl rfl)
theorem dX2_isO_70 : decode cX2_isO 70 = .ok (.invokestatic 182, 3) := dk_184 0 182 (dk_at dksX2_isO_3 0 rfl rfl)
theorem dX2_isO_73 : decode cX2_isO 73 = .ok (.istore_n 1, 1) := dk_60 (dk_at dksX2_isO_3 3 rfl rfl)
theorem dX2_isO_74 : decode cX2_isO 74 = .ok (.iload_n 1, 1) := dk_27 (dk_at dksX2_isO_3 4 rfl rfl)
theorem dX2_isO_75 : decode cX2_isO 75 = .ok (.ifCond .lt 19, 3) := dk_155 0 19 (dk_at dksX2_isO_3 5 rfl rfl)
theorem dX2_isO_78 : decode cX2_isO 78 = .ok (.aload_n 0, 1) := dk_42 (dk_at dksX2_isO_3 8 rfl rfl)
theorem dX2_isO_79 : decode cX2_isO 79 = .ok (.dup, 1) := dk_89 (dk_at dksX2_isO_3 9 rfl rfl)
theorem dX2_isO_80 : decode cX2_isO 80 = .ok (.getfield 165, 3) := dk_180 0 165 (dk_at dksX2_isO_3 10 rfl rfl)
theorem dX2_isO_83 : decode cX2_isO 83 = .ok (.iconst 1, 1) := dk_4 (dk_at dksX2_isO_3 13 rfl rfl)
theorem dX2_isO_84 : decode cX2_isO 84 = .ok (.iadd, 1) := dk_96 (dk_at dksX2_isO_3 14 rfl rfl)
theorem dX2_isO_85 : decode cX2_isO 85 = .ok (.putfield 165, 3) := dk_181 0 165 (dk_at dksX2_isO_3 15 rfl rfl)
theorem dX2_isO_88 : decode cX2_isO 88 = .ok (.aload_n 0, 1) := dk_42 (dk_at dksX2_isO_3 18 rfl rfl)
theorem dX2_isO_89 : decode cX2_isO 89 = .ok (.iload_n 1, 1) := dk_27 (dk_at dksX2_isO_3 19 rfl rfl)
theorem dX2_isO_90 : decode cX2_isO 90 = .ok (.invokevirtual 179, 3) := dk_182 0 179 (dk_at dksX2_isO_3 20 rfl rfl)
theorem dX2_isO_93 : decode cX2_isO 93 = .ok (.ireturn, 1) := dk_172 (dk_at dksX2_isO_3 23 rfl rfl)
theorem dX2_isO_94 : decode cX2_isO 94 = .ok (.aload_n 0, 1) := dk_42 (dk_at dksX2_isO_4 0 rfl rfl)
theorem dX2_isO_95 : decode cX2_isO 95 = .ok (.getfield 186, 3) := dk_180 0 186 (dk_at dksX2_isO_4 1 rfl rfl)
theorem dX2_isO_98 : decode cX2_isO 98 = .ok (.bipush 6, 2) := dk_16 6 (dk_at dksX2_isO_4 4 rfl rfl)
theorem dX2_isO_100 : decode cX2_isO 100 = .ok (.if_icmp .ne 5, 3) := dk_160 0 5 (dk_at dksX2_isO_4 6 rfl rfl)
theorem dX2_isO_103 : decode cX2_isO 103 = .ok (.iconst 0, 1) := dk_3 (dk_at dksX2_isO_4 9 rfl rfl)
theorem dX2_isO_104 : decode cX2_isO 104 = .ok (.ireturn, 1) := dk_172 (dk_at dksX2_isO_4 10 rfl rfl)
theorem dX2_isO_105 : decode cX2_isO 105 = .ok (.aload_n 0, 1) := dk_42 (dk_at dksX2_isO_4 11 rfl rfl)
theorem dX2_isO_106 : decode cX2_isO 106 = .ok (.dup, 1) := dk_89 (dk_at dksX2_isO_4 12 rfl rfl)
theorem dX2_isO_107 : decode cX2_isO 107 = .ok (.getfield 186, 3) := dk_180 0 186 (dk_at dksX2_isO_4 13 rfl rfl)
theorem dX2_isO_110 : decode cX2_isO 110 = .ok (.iconst 1, 1) := dk_4 (dk_at dksX2_isO_4 16 rfl rfl)
theorem dX2_isO_111 : decode cX2_isO 111 = .ok (.iadd, 1) := dk_96 (dk_at dksX2_isO_4 17 rfl rfl)
theorem dX2_isO_112 : decode cX2_isO 112 = .ok (.putfield 186, 3) := dk_181 0 186 (dk_at dksX2_isO_4 18 rfl rfl)
theorem dX2_isO_115 : decode cX2_isO 115 = .ok (.aload_n 0, 1) := dk_42 (dk_at dksX2_isO_4 21 rfl rfl)
theorem dX2_isO_116 : decode cX2_isO 116 = .ok (.bipush 33, 2) := dk_16 33 (dk_at dksX2_isO_4 22 rfl rfl)
theorem dX2_isO_118 : decode cX2_isO 118 = .ok (.invokevirtual 189, 3) := dk_182 0 189 (dk_at dksX2_isO_5 0 rfl rfl)
theorem dX2_isO_121 : decode cX2_isO 121 = .ok (.ifCond .eq 28, 3) := dk_153 0 28 (dk_at dksX2_isO_5 3 rfl rfl)
theorem dX2_isO_124 : decode cX2_isO 124 = .ok (.aload_n 0, 1) := dk_42 (dk_at dksX2_isO_5 6 rfl rfl)
theorem dX2_isO_125 : decode cX2_isO 125 = .ok (.invokevirtual 192, 3) := dk_182 0 192 (dk_at dksX2_isO_5 7 rfl rfl)
theorem dX2_isO_128 : decode cX2_isO 128 = .ok (.ifCond .eq 16, 3) := dk_153 0 16 (dk_at dksX2_isO_5 10 rfl rfl)
theorem dX2_isO_131 : decode cX2_isO 131 = .ok (.aload_n 0, 1) := dk_42 (dk_at dksX2_isO_5 13 rfl rfl)
theorem dX2_isO_132 : decode cX2_isO 132 = .ok (.bipush 16, 2) := dk_16 16 (dk_at dksX2_isO_5 14 rfl rfl)
theorem dX2_isO_134 : decode cX2_isO 134 = .ok (.invokevirtual 179, 3) := dk_182 0 179 (dk_at dksX2_isO_5 16 rfl rfl)
theorem dX2_isO_137 : decode cX2_isO 137 = .ok (.ifCond .eq 7, 3) := dk_153 0 7 (dk_at dksX2_isO_5 19 rfl rfl)
theorem dX2_isO_140 : decode cX2_isO 140 = .ok (.iconst 1, 1) := dk_4 (dk_at dksX2_isO_5 22 rfl rfl)
theorem dX2_isO_141 : decode cX2_isO 141 = .ok (.goto 4, 3) := dk_167 0 4 (dk_at dksX2_isO_6 0 rfl rfl)
theorem dX2_isO_144 : decode cX2_isO 144 = .ok (.iconst 0, 1) := dk_3 (dk_at dksX2_isO_6 3 rfl rfl)
theorem dX2_isO_145 : decode cX2_isO 145 = .ok (.istore_n 2, 1) := dk_61 (dk_at dksX2_isO_6 4 rfl rfl)
theorem dX2_isO_146 : decode cX2_isO 146 = .ok (.goto 68, 3) := dk_167 0 68 (dk_at dksX2_isO_6 5 rfl rfl)
theorem dX2_isO_149 : decode cX2_isO 149 = .ok (.aload_n 0, 1) := dk_42 (dk_at dksX2_isO_6 8 rfl rfl)
theorem dX2_isO_150 : decode cX2_isO 150 = .ok (.bipush 45, 2) := dk_16 45 (dk_at dksX2_isO_6 9 rfl rfl)
theorem dX2_isO_152 : decode cX2_isO 152 = .ok (.invokevirtual 189, 3) := dk_182 0 189 (dk_at dksX2_isO_6 11 rfl rfl)
theorem dX2_isO_155 : decode cX2_isO 155 = .ok (.ifCond .eq 28, 3) := dk_153 0 28 (dk_at dksX2_isO_6 14 rfl rfl)
theorem dX2_isO_158 : decode cX2_isO 158 = .ok (.aload_n 0, 1) := dk_42 (dk_at dksX2_isO_6 17 rfl rfl)
theorem dX2_isO_159 : decode cX2_isO 159 = .ok (.invokevirtual 192, 3) := dk_182 0 192 (dk_at dksX2_isO_6 18 rfl rfl)
theorem dX2_isO_162 : decode cX2_isO 162 = .ok (.ifCond .eq 16, 3) := dk_153 0 16 (dk_at dksX2_isO_6 21 rfl rfl)
theorem dX2_isO_165 : decode cX2_isO 165 = .ok (.aload_n 0, 1) := dk_42 (dk_at dksX2_isO_7 0 rfl rfl)
theorem dX2_isO_166 : decode cX2_isO 166 = .ok (.bipush 17, 2) := dk_16 17 (dk_at dksX2_isO_7 1 rfl rfl)
theorem dX2_isO_168 : decode cX2_isO 168 = .ok (.invokevirtual 179, 3) := dk_182 0 179 (dk_at dksX2_isO_7 3 rfl rfl)
theorem dX2_isO_171 : decode cX2_isO 171 = .ok (.ifCond .eq 7, 3) := dk_153 0 7 (dk_at dksX2_isO_7 6 rfl rfl)
theorem dX2_isO_174 : decode cX2_isO 174 = .ok (.iconst 1, 1) := dk_4 (dk_at dksX2_isO_7 9 rfl rfl)
theorem dX2_isO_175 : decode cX2_isO 175 = .ok (.goto 4, 3) := dk_167 0 4 (dk_at dksX2_isO_7 10 rfl rfl)
theorem dX2_isO_178 : decode cX2_isO 178 = .ok (.iconst 0, 1) := dk_3 (dk_at dksX2_isO_7 13 rfl rfl)
theorem dX2_isO_179 : decode cX2_isO 179 = .ok (.istore_n 2, 1) := dk_61 (dk_at dksX2_isO_7 14 rfl rfl)
theorem dX2_isO_180 : decode cX2_isO 180 = .ok (.goto 34, 3) := dk_167 0 34 (dk_at dksX2_isO_7 15 rfl rfl)
theorem dX2_isO_183 : decode cX2_isO 183 = .ok (.aload_n 0, 1) := dk_42 (dk_at dksX2_isO_7 18 rfl rfl)
theorem dX2_isO_184 : decode cX2_isO 184 = .ok (.bipush 40, 2) := dk_16 40 (dk_at dksX2_isO_7 19 rfl rfl)
theorem dX2_isO_186 : decode cX2_isO 186 = .ok (.invokevirtual 189, 3) := dk_182 0 189 (dk_at dksX2_isO_7 21 rfl rfl)
theorem dX2_isO_189 : decode cX2_isO 189 = .ok (.ifCond .eq 23, 3) := dk_153 0 23 (dk_at dksX2_isO_8 0 rfl rfl)
theorem dX2_isO_192 : decode cX2_isO 192 = .ok (.aload_n 0, 1) := dk_42 (dk_at dksX2_isO_8 3 rfl rfl)
theorem dX2_isO_193 : decode cX2_isO 193 = .ok (.invokevirtual 195, 3) := dk_182 0 195 (dk_at dksX2_isO_8 4 rfl rfl)
theorem dX2_isO_196 : decode cX2_isO 196 = .ok (.ifCond .eq 16, 3) := dk_153 0 16 (dk_at dksX2_isO_8 7 rfl rfl)
theorem dX2_isO_199 : decode cX2_isO 199 = .ok (.aload_n 0, 1) := dk_42 (dk_at dksX2_isO_8 10 rfl rfl)
theorem dX2_isO_200 : decode cX2_isO 200 = .ok (.bipush 41, 2) := dk_16 41 (dk_at dksX2_isO_8 11 rfl rfl)
theorem dX2_isO_202 : decode cX2_isO 202 = .ok (.invokevirtual 189, 3) := dk_182 0 189 (dk_at dksX2_isO_8 13 rfl rfl)
theorem dX2_isO_205 : decode cX2_isO 205 = .ok (.ifCond .eq 7, 3) := dk_153 0 7 (dk_at dksX2_isO_8 16 rfl rfl)
theorem dX2_isO_208 : decode cX2_isO 208 = .ok (.iconst 1, 1) := dk_4 (dk_at dksX2_isO_8 19 rfl rfl)
theorem dX2_isO_209 : decode cX2_isO 209 = .ok (.goto 4, 3) := dk_167 0 4 (dk_at dksX2_isO_8 20 rfl rfl)
theorem dX2_isO_212 : decode cX2_isO 212 = .ok (.iconst 0, 1) := dk_3 (dk_at dksX2_isO_8 23 rfl rfl)
theorem dX2_isO_213 : decode cX2_isO 213 = .ok (.istore_n 2, 1) := dk_61 (dk_at dksX2_isO_9 0 rfl rfl)
theorem dX2_isO_214 : decode cX2_isO 214 = .ok (.aload_n 0, 1) := dk_42 (dk_at dksX2_isO_9 1 rfl rfl)
theorem dX2_isO_215 : decode cX2_isO 215 = .ok (.dup, 1) := dk_89 (dk_at dksX2_isO_9 2 rfl rfl)
theorem dX2_isO_216 : decode cX2_isO 216 = .ok (.getfield 186, 3) := dk_180 0 186 (dk_at dksX2_isO_9 3 rfl rfl)
theorem dX2_isO_219 : decode cX2_isO 219 = .ok (.iconst 1, 1) := dk_4 (dk_at dksX2_isO_9 6 rfl rfl)
theorem dX2_isO_220 : decode cX2_isO 220 = .ok (.isub, 1) := dk_100 (dk_at dksX2_isO_9 7 rfl rfl)
theorem dX2_isO_221 : decode cX2_isO 221 = .ok (.putfield 186, 3) := dk_181 0 186 (dk_at dksX2_isO_9 8 rfl rfl)
theorem dX2_isO_224 : decode cX2_isO 224 = .ok (.iload_n 2, 1) := dk_28 (dk_at dksX2_isO_9 11 rfl rfl)
theorem dX2_isO_225 : decode cX2_isO 225 = .ok (.ireturn, 1) := dk_172 (dk_at dksX2_isO_9 12 rfl rfl)
abbrev cX2_isDigit : ByteArray := prog_31_method_21_code
def yX2_isDigit : MethodName := ⟨RX2, "isDigit", "()Z"⟩
def dkwX2_isDigit_0 : List UInt8 := [42, 182, 0, 168, 16, 48, 161, 0, 16, 42, 182, 0, 168, 16, 57, 163, 0, 7, 4, 167, 0, 4, 3, 172]
abbrev dktX2_isDigit_0 : List UInt8 := dkwX2_isDigit_0 ++ []
theorem dksX2_isDigit_0 : cX2_isDigit.data.toList.drop 0 = dktX2_isDigit_0 := by decide +kernel
theorem dX2_isDigit_0 : decode cX2_isDigit 0 = .ok (.aload_n 0, 1) := dk_42 (dk_at dksX2_isDigit_0 0 rfl rfl)
theorem dX2_isDigit_1 : decode cX2_isDigit 1 = .ok (.invokevirtual 168, 3) := dk_182 0 168 (dk_at dksX2_isDigit_0 1 rfl rfl)
theorem dX2_isDigit_4 : decode cX2_isDigit 4 = .ok (.bipush 48, 2) := dk_16 48 (dk_at dksX2_isDigit_0 4 rfl rfl)
theorem dX2_isDigit_6 : decode cX2_isDigit 6 = .ok (.if_icmp .lt 16, 3) := dk_161 0 16 (dk_at dksX2_isDigit_0 6 rfl rfl)
theorem dX2_isDigit_9 : decode cX2_isDigit 9 = .ok (.aload_n 0, 1) := dk_42 (dk_at dksX2_isDigit_0 9 rfl rfl)
theorem dX2_isDigit_10 : decode cX2_isDigit 10 = .ok (.invokevirtual 168, 3) := dk_182 0 168 (dk_at dksX2_isDigit_0 10 rfl rfl)
theorem dX2_isDigit_13 : decode cX2_isDigit 13 = .ok (.bipush 57, 2) := dk_16 57 (dk_at dksX2_isDigit_0 13 rfl rfl)
theorem dX2_isDigit_15 : decode cX2_isDigit 15 = .ok (.if_icmp .gt 7, 3) := dk_163 0 7 (dk_at dksX2_isDigit_0 15 rfl rfl)
theorem dX2_isDigit_18 : decode cX2_isDigit 18 = .ok (.iconst 1, 1) := dk_4 (dk_at dksX2_isDigit_0 18 rfl rfl)
theorem dX2_isDigit_19 : decode cX2_isDigit 19 = .ok (.goto 4, 3) := dk_167 0 4 (dk_at dksX2_isDigit_0 19 rfl rfl)
theorem dX2_isDigit_22 : decode cX2_isDigit 22 = .ok (.iconst 0, 1) := dk_3 (dk_at dksX2_isDigit_0 22 rfl rfl)
theorem dX2_isDigit_23 : decode cX2_isDigit 23 = .ok (.ireturn, 1) := dk_172 (dk_at dksX2_isDigit_0 23 rfl rfl)
abbrev cX2_sign : ByteArray := prog_31_method_18_code
def yX2_sign : MethodName := ⟨RX2, "sign", "()I"⟩
def dkwX2_sign_1 : List UInt8 := [172]
abbrev dktX2_sign_1 : List UInt8 := dkwX2_sign_1 ++ []
def dkwX2_sign_0 : List UInt8 := [42, 180, 0, 165, 42, 180, 0, 162, 162, 0, 15, 42, 180, 0, 27, 42, 180, 0, 165, 46, 167, 0, 4, 2]
abbrev dktX2_sign_0 : List UInt8 := dkwX2_sign_0 ++ dktX2_sign_1
theorem dksX2_sign_0 : cX2_sign.data.toList.drop 0 = dktX2_sign_0 := by decide +kernel
theorem dksX2_sign_1 : cX2_sign.data.toList.drop 24 = dktX2_sign_1 := dk_seg dksX2_sign_0 24 rfl rfl
theorem dX2_sign_0 : decode cX2_sign 0 = .ok (.aload_n 0, 1) := dk_42 (dk_at dksX2_sign_0 0 rfl rfl)
theorem dX2_sign_1 : decode cX2_sign 1 = .ok (.getfield 165, 3) := dk_180 0 165 (dk_at dksX2_sign_0 1 rfl rfl)
theorem dX2_sign_4 : decode cX2_sign 4 = .ok (.aload_n 0, 1) := dk_42 (dk_at dksX2_sign_0 4 rfl rfl)
theorem dX2_sign_5 : decode cX2_sign 5 = .ok (.getfield 162, 3) := dk_180 0 162 (dk_at dksX2_sign_0 5 rfl rfl)
theorem dX2_sign_8 : decode cX2_sign 8 = .ok (.if_icmp .ge 15, 3) := dk_162 0 15 (dk_at dksX2_sign_0 8 rfl rfl)
theorem dX2_sign_11 : decode cX2_sign 11 = .ok (.aload_n 0, 1) := dk_42 (dk_at dksX2_sign_0 11 rfl rfl)
theorem dX2_sign_12 : decode cX2_sign 12 = .ok (.getfield 27, 3) := dk_180 0 27 (dk_at dksX2_sign_0 12 rfl rfl)
theorem dX2_sign_15 : decode cX2_sign 15 = .ok (.aload_n 0, 1) := dk_42 (dk_at dksX2_sign_0 15 rfl rfl)
theorem dX2_sign_16 : decode cX2_sign 16 = .ok (.getfield 165, 3) := dk_180 0 165 (dk_at dksX2_sign_0 16 rfl rfl)
theorem dX2_sign_19 : decode cX2_sign 19 = .ok (.iaload, 1) := dk_46 (dk_at dksX2_sign_0 19 rfl rfl)
theorem dX2_sign_20 : decode cX2_sign 20 = .ok (.goto 4, 3) := dk_167 0 4 (dk_at dksX2_sign_0 20 rfl rfl)
theorem dX2_sign_23 : decode cX2_sign 23 = .ok (.iconst (-1), 1) := dk_2 (dk_at dksX2_sign_0 23 rfl rfl)
theorem dX2_sign_24 : decode cX2_sign 24 = .ok (.ireturn, 1) := dk_172 (dk_at dksX2_sign_1 0 rfl rfl)
abbrev cX2_codes : ByteArray := prog_31_method_20_code
def yX2_codes : MethodName := ⟨RX2, "codes", "(I)Z"⟩
def dkwX2_codes_0 : List UInt8 := [42, 180, 0, 51, 42, 89, 180, 0, 172, 90, 4, 96, 181, 0, 172, 27, 79, 4, 172]
abbrev dktX2_codes_0 : List UInt8 := dkwX2_codes_0 ++ []
theorem dksX2_codes_0 : cX2_codes.data.toList.drop 0 = dktX2_codes_0 := by decide +kernel
theorem dX2_codes_0 : decode cX2_codes 0 = .ok (.aload_n 0, 1) := dk_42 (dk_at dksX2_codes_0 0 rfl rfl)
theorem dX2_codes_1 : decode cX2_codes 1 = .ok (.getfield 51, 3) := dk_180 0 51 (dk_at dksX2_codes_0 1 rfl rfl)
theorem dX2_codes_4 : decode cX2_codes 4 = .ok (.aload_n 0, 1) := dk_42 (dk_at dksX2_codes_0 4 rfl rfl)
theorem dX2_codes_5 : decode cX2_codes 5 = .ok (.dup, 1) := dk_89 (dk_at dksX2_codes_0 5 rfl rfl)
theorem dX2_codes_6 : decode cX2_codes 6 = .ok (.getfield 172, 3) := dk_180 0 172 (dk_at dksX2_codes_0 6 rfl rfl)
theorem dX2_codes_9 : decode cX2_codes 9 = .ok (.dup_x1, 1) := dk_90 (dk_at dksX2_codes_0 9 rfl rfl)
theorem dX2_codes_10 : decode cX2_codes 10 = .ok (.iconst 1, 1) := dk_4 (dk_at dksX2_codes_0 10 rfl rfl)
theorem dX2_codes_11 : decode cX2_codes 11 = .ok (.iadd, 1) := dk_96 (dk_at dksX2_codes_0 11 rfl rfl)
theorem dX2_codes_12 : decode cX2_codes 12 = .ok (.putfield 172, 3) := dk_181 0 172 (dk_at dksX2_codes_0 12 rfl rfl)
theorem dX2_codes_15 : decode cX2_codes 15 = .ok (.iload_n 1, 1) := dk_27 (dk_at dksX2_codes_0 15 rfl rfl)
theorem dX2_codes_16 : decode cX2_codes 16 = .ok (.iastore, 1) := dk_79 (dk_at dksX2_codes_0 16 rfl rfl)
theorem dX2_codes_17 : decode cX2_codes 17 = .ok (.iconst 1, 1) := dk_4 (dk_at dksX2_codes_0 17 rfl rfl)
theorem dX2_codes_18 : decode cX2_codes 18 = .ok (.ireturn, 1) := dk_172 (dk_at dksX2_codes_0 18 rfl rfl)
abbrev cX2_nameOf : ByteArray := prog_31_method_22_code
def yX2_nameOf : MethodName := ⟨RX2, "nameOf", "(I)I"⟩
def dkwX2_nameOf_2 : List UInt8 := [3, 172, 4, 172, 5, 172, 6, 172, 7, 172, 8, 172, 2, 172]
abbrev dktX2_nameOf_2 : List UInt8 := dkwX2_nameOf_2 ++ []
def dkwX2_nameOf_1 : List UInt8 := [170, 0, 0, 0, 0, 0, 103, 0, 0, 0, 100, 0, 0, 0, 118, 0, 0, 0, 97, 0, 0, 0, 103, 0, 0, 0, 103, 0, 0, 0, 103, 0, 0, 0, 103, 0, 0, 0, 103, 0, 0, 0, 103, 0, 0, 0, 103, 0, 0, 0, 103, 0, 0, 0, 95, 0, 0, 0, 101, 0, 0, 0, 103, 0, 0, 0, 99, 0, 0, 0, 103, 0, 0, 0, 103, 0, 0, 0, 103, 0, 0, 0, 103, 0, 0, 0, 93, 0, 0, 0, 91]
abbrev dktX2_nameOf_1 : List UInt8 := dkwX2_nameOf_1 ++ dktX2_nameOf_2
def dkwX2_nameOf_0 : List UInt8 := [26]
abbrev dktX2_nameOf_0 : List UInt8 := dkwX2_nameOf_0 ++ dktX2_nameOf_1
theorem dksX2_nameOf_0 : cX2_nameOf.data.toList.drop 0 = dktX2_nameOf_0 := by decide +kernel
theorem dksX2_nameOf_1 : cX2_nameOf.data.toList.drop 1 = dktX2_nameOf_1 := dk_seg dksX2_nameOf_0 1 rfl rfl
theorem dksX2_nameOf_2 : cX2_nameOf.data.toList.drop 92 = dktX2_nameOf_2 := dk_seg dksX2_nameOf_1 91 rfl rfl
theorem dX2_nameOf_0 : decode cX2_nameOf 0 = .ok (.iload_n 0, 1) := dk_26 (dk_at dksX2_nameOf_0 0 rfl rfl)
theorem dX2_nameOf_1 : decode cX2_nameOf 1 = .ok (.tableswitch 103 100 118 #[97, 103, 103, 103, 103, 103, 103, 103, 103, 95, 101, 103, 99, 103, 103, 103, 103, 93, 91], 91) := by decide +kernel
theorem dX2_nameOf_92 : decode cX2_nameOf 92 = .ok (.iconst 0, 1) := dk_3 (dk_at dksX2_nameOf_2 0 rfl rfl)
theorem dX2_nameOf_93 : decode cX2_nameOf 93 = .ok (.ireturn, 1) := dk_172 (dk_at dksX2_nameOf_2 1 rfl rfl)
theorem dX2_nameOf_94 : decode cX2_nameOf 94 = .ok (.iconst 1, 1) := dk_4 (dk_at dksX2_nameOf_2 2 rfl rfl)
theorem dX2_nameOf_95 : decode cX2_nameOf 95 = .ok (.ireturn, 1) := dk_172 (dk_at dksX2_nameOf_2 3 rfl rfl)
theorem dX2_nameOf_96 : decode cX2_nameOf 96 = .ok (.iconst 2, 1) := dk_5 (dk_at dksX2_nameOf_2 4 rfl rfl)
theorem dX2_nameOf_97 : decode cX2_nameOf 97 = .ok (.ireturn, 1) := dk_172 (dk_at dksX2_nameOf_2 5 rfl rfl)
theorem dX2_nameOf_98 : decode cX2_nameOf 98 = .ok (.iconst 3, 1) := dk_6 (dk_at dksX2_nameOf_2 6 rfl rfl)
theorem dX2_nameOf_99 : decode cX2_nameOf 99 = .ok (.ireturn, 1) := dk_172 (dk_at dksX2_nameOf_2 7 rfl rfl)
theorem dX2_nameOf_100 : decode cX2_nameOf 100 = .ok (.iconst 4, 1) := dk_7 (dk_at dksX2_nameOf_2 8 rfl rfl)
theorem dX2_nameOf_101 : decode cX2_nameOf 101 = .ok (.ireturn, 1) := dk_172 (dk_at dksX2_nameOf_2 9 rfl rfl)
theorem dX2_nameOf_102 : decode cX2_nameOf 102 = .ok (.iconst 5, 1) := dk_8 (dk_at dksX2_nameOf_2 10 rfl rfl)
theorem dX2_nameOf_103 : decode cX2_nameOf 103 = .ok (.ireturn, 1) := dk_172 (dk_at dksX2_nameOf_2 11 rfl rfl)
theorem dX2_nameOf_104 : decode cX2_nameOf 104 = .ok (.iconst (-1), 1) := dk_2 (dk_at dksX2_nameOf_2 12 rfl rfl)
theorem dX2_nameOf_105 : decode cX2_nameOf 105 = .ok (.ireturn, 1) := dk_172 (dk_at dksX2_nameOf_2 13 rfl rfl)
abbrev cX2_is : ByteArray := prog_31_method_19_code
def yX2_is : MethodName := ⟨RX2, "is", "(I)Z"⟩
def dkwX2_is_0 : List UInt8 := [42, 182, 0, 168, 27, 159, 0, 5, 3, 172, 42, 89, 180, 0, 165, 4, 96, 181, 0, 165, 4, 172]
abbrev dktX2_is_0 : List UInt8 := dkwX2_is_0 ++ []
theorem dksX2_is_0 : cX2_is.data.toList.drop 0 = dktX2_is_0 := by decide +kernel
theorem dX2_is_0 : decode cX2_is 0 = .ok (.aload_n 0, 1) := dk_42 (dk_at dksX2_is_0 0 rfl rfl)
theorem dX2_is_1 : decode cX2_is 1 = .ok (.invokevirtual 168, 3) := dk_182 0 168 (dk_at dksX2_is_0 1 rfl rfl)
theorem dX2_is_4 : decode cX2_is 4 = .ok (.iload_n 1, 1) := dk_27 (dk_at dksX2_is_0 4 rfl rfl)
theorem dX2_is_5 : decode cX2_is 5 = .ok (.if_icmp .eq 5, 3) := dk_159 0 5 (dk_at dksX2_is_0 5 rfl rfl)
theorem dX2_is_8 : decode cX2_is 8 = .ok (.iconst 0, 1) := dk_3 (dk_at dksX2_is_0 8 rfl rfl)
theorem dX2_is_9 : decode cX2_is 9 = .ok (.ireturn, 1) := dk_172 (dk_at dksX2_is_0 9 rfl rfl)
theorem dX2_is_10 : decode cX2_is 10 = .ok (.aload_n 0, 1) := dk_42 (dk_at dksX2_is_0 10 rfl rfl)
theorem dX2_is_11 : decode cX2_is 11 = .ok (.dup, 1) := dk_89 (dk_at dksX2_is_0 11 rfl rfl)
theorem dX2_is_12 : decode cX2_is 12 = .ok (.getfield 165, 3) := dk_180 0 165 (dk_at dksX2_is_0 12 rfl rfl)
theorem dX2_is_15 : decode cX2_is 15 = .ok (.iconst 1, 1) := dk_4 (dk_at dksX2_is_0 15 rfl rfl)
theorem dX2_is_16 : decode cX2_is 16 = .ok (.iadd, 1) := dk_96 (dk_at dksX2_is_0 16 rfl rfl)
theorem dX2_is_17 : decode cX2_is 17 = .ok (.putfield 165, 3) := dk_181 0 165 (dk_at dksX2_is_0 17 rfl rfl)
theorem dX2_is_20 : decode cX2_is 20 = .ok (.iconst 1, 1) := dk_4 (dk_at dksX2_is_0 20 rfl rfl)
theorem dX2_is_21 : decode cX2_is 21 = .ok (.ireturn, 1) := dk_172 (dk_at dksX2_is_0 21 rfl rfl)
abbrev cX2_round : ByteArray := prog_31_method_47_code
def yX2_round : MethodName := ⟨RX2, "round", "(II)I"⟩
def dkwX2_round_2 : List UInt8 := [182, 1, 15, 172]
abbrev dktX2_round_2 : List UInt8 := dkwX2_round_2 ++ []
def dkwX2_round_1 : List UInt8 := [62, 29, 156, 0, 5, 29, 172, 42, 27, 182, 1, 12, 28, 154, 0, 10, 42, 180, 0, 231, 167, 0, 7, 42]
abbrev dktX2_round_1 : List UInt8 := dkwX2_round_1 ++ dktX2_round_2
def dkwX2_round_0 : List UInt8 := [27, 184, 0, 131, 153, 0, 12, 28, 3, 4, 184, 0, 123, 154, 0, 5, 2, 172, 42, 27, 3, 182, 1, 9]
abbrev dktX2_round_0 : List UInt8 := dkwX2_round_0 ++ dktX2_round_1
theorem dksX2_round_0 : cX2_round.data.toList.drop 0 = dktX2_round_0 := by decide +kernel
theorem dksX2_round_1 : cX2_round.data.toList.drop 24 = dktX2_round_1 := dk_seg dksX2_round_0 24 rfl rfl
theorem dksX2_round_2 : cX2_round.data.toList.drop 48 = dktX2_round_2 := dk_seg dksX2_round_1 24 rfl rfl
theorem dX2_round_0 : decode cX2_round 0 = .ok (.iload_n 1, 1) := dk_27 (dk_at dksX2_round_0 0 rfl rfl)
theorem dX2_round_1 : decode cX2_round 1 = .ok (.invokestatic 131, 3) := dk_184 0 131 (dk_at dksX2_round_0 1 rfl rfl)
theorem dX2_round_4 : decode cX2_round 4 = .ok (.ifCond .eq 12, 3) := dk_153 0 12 (dk_at dksX2_round_0 4 rfl rfl)
theorem dX2_round_7 : decode cX2_round 7 = .ok (.iload_n 2, 1) := dk_28 (dk_at dksX2_round_0 7 rfl rfl)
theorem dX2_round_8 : decode cX2_round 8 = .ok (.iconst 0, 1) := dk_3 (dk_at dksX2_round_0 8 rfl rfl)
theorem dX2_round_9 : decode cX2_round 9 = .ok (.iconst 1, 1) := dk_4 (dk_at dksX2_round_0 9 rfl rfl)
theorem dX2_round_10 : decode cX2_round 10 = .ok (.invokestatic 123, 3) := dk_184 0 123 (dk_at dksX2_round_0 10 rfl rfl)
theorem dX2_round_13 : decode cX2_round 13 = .ok (.ifCond .ne 5, 3) := dk_154 0 5 (dk_at dksX2_round_0 13 rfl rfl)
theorem dX2_round_16 : decode cX2_round 16 = .ok (.iconst (-1), 1) := dk_2 (dk_at dksX2_round_0 16 rfl rfl)
theorem dX2_round_17 : decode cX2_round 17 = .ok (.ireturn, 1) := dk_172 (dk_at dksX2_round_0 17 rfl rfl)
theorem dX2_round_18 : decode cX2_round 18 = .ok (.aload_n 0, 1) := dk_42 (dk_at dksX2_round_0 18 rfl rfl)
theorem dX2_round_19 : decode cX2_round 19 = .ok (.iload_n 1, 1) := dk_27 (dk_at dksX2_round_0 19 rfl rfl)
theorem dX2_round_20 : decode cX2_round 20 = .ok (.iconst 0, 1) := dk_3 (dk_at dksX2_round_0 20 rfl rfl)
theorem dX2_round_21 : decode cX2_round 21 = .ok (.invokevirtual 265, 3) := dk_182 1 9 (dk_at dksX2_round_0 21 rfl rfl)
theorem dX2_round_24 : decode cX2_round 24 = .ok (.istore_n 3, 1) := dk_62 (dk_at dksX2_round_1 0 rfl rfl)
theorem dX2_round_25 : decode cX2_round 25 = .ok (.iload_n 3, 1) := dk_29 (dk_at dksX2_round_1 1 rfl rfl)
theorem dX2_round_26 : decode cX2_round 26 = .ok (.ifCond .ge 5, 3) := dk_156 0 5 (dk_at dksX2_round_1 2 rfl rfl)
theorem dX2_round_29 : decode cX2_round 29 = .ok (.iload_n 3, 1) := dk_29 (dk_at dksX2_round_1 5 rfl rfl)
theorem dX2_round_30 : decode cX2_round 30 = .ok (.ireturn, 1) := dk_172 (dk_at dksX2_round_1 6 rfl rfl)
theorem dX2_round_31 : decode cX2_round 31 = .ok (.aload_n 0, 1) := dk_42 (dk_at dksX2_round_1 7 rfl rfl)
theorem dX2_round_32 : decode cX2_round 32 = .ok (.iload_n 1, 1) := dk_27 (dk_at dksX2_round_1 8 rfl rfl)
theorem dX2_round_33 : decode cX2_round 33 = .ok (.invokevirtual 268, 3) := dk_182 1 12 (dk_at dksX2_round_1 9 rfl rfl)
theorem dX2_round_36 : decode cX2_round 36 = .ok (.iload_n 2, 1) := dk_28 (dk_at dksX2_round_1 12 rfl rfl)
theorem dX2_round_37 : decode cX2_round 37 = .ok (.ifCond .ne 10, 3) := dk_154 0 10 (dk_at dksX2_round_1 13 rfl rfl)
theorem dX2_round_40 : decode cX2_round 40 = .ok (.aload_n 0, 1) := dk_42 (dk_at dksX2_round_1 16 rfl rfl)
theorem dX2_round_41 : decode cX2_round 41 = .ok (.getfield 231, 3) := dk_180 0 231 (dk_at dksX2_round_1 17 rfl rfl)
theorem dX2_round_44 : decode cX2_round 44 = .ok (.goto 7, 3) := dk_167 0 7 (dk_at dksX2_round_1 20 rfl rfl)
theorem dX2_round_47 : decode cX2_round 47 = .ok (.aload_n 0, 1) := dk_42 (dk_at dksX2_round_1 23 rfl rfl)
theorem dX2_round_48 : decode cX2_round 48 = .ok (.invokevirtual 271, 3) := dk_182 1 15 (dk_at dksX2_round_2 0 rfl rfl)
theorem dX2_round_51 : decode cX2_round 51 = .ok (.ireturn, 1) := dk_172 (dk_at dksX2_round_2 3 rfl rfl)
abbrev cX2_noRow : ByteArray := prog_31_method_38_code
def yX2_noRow : MethodName := ⟨RX2, "noRow", "(II)I"⟩
def dkwX2_noRow_1 : List UInt8 := [159, 0, 8, 16, 244, 167, 0, 4, 3, 172]
abbrev dktX2_noRow_1 : List UInt8 := dkwX2_noRow_1 ++ []
def dkwX2_noRow_0 : List UInt8 := [42, 180, 0, 81, 27, 46, 2, 160, 0, 8, 16, 245, 167, 0, 19, 42, 180, 0, 81, 27, 46, 28]
abbrev dktX2_noRow_0 : List UInt8 := dkwX2_noRow_0 ++ dktX2_noRow_1
theorem dksX2_noRow_0 : cX2_noRow.data.toList.drop 0 = dktX2_noRow_0 := by decide +kernel
theorem dksX2_noRow_1 : cX2_noRow.data.toList.drop 22 = dktX2_noRow_1 := dk_seg dksX2_noRow_0 22 rfl rfl
theorem dX2_noRow_0 : decode cX2_noRow 0 = .ok (.aload_n 0, 1) := dk_42 (dk_at dksX2_noRow_0 0 rfl rfl)
theorem dX2_noRow_1 : decode cX2_noRow 1 = .ok (.getfield 81, 3) := dk_180 0 81 (dk_at dksX2_noRow_0 1 rfl rfl)
theorem dX2_noRow_4 : decode cX2_noRow 4 = .ok (.iload_n 1, 1) := dk_27 (dk_at dksX2_noRow_0 4 rfl rfl)
theorem dX2_noRow_5 : decode cX2_noRow 5 = .ok (.iaload, 1) := dk_46 (dk_at dksX2_noRow_0 5 rfl rfl)
theorem dX2_noRow_6 : decode cX2_noRow 6 = .ok (.iconst (-1), 1) := dk_2 (dk_at dksX2_noRow_0 6 rfl rfl)
theorem dX2_noRow_7 : decode cX2_noRow 7 = .ok (.if_icmp .ne 8, 3) := dk_160 0 8 (dk_at dksX2_noRow_0 7 rfl rfl)
theorem dX2_noRow_10 : decode cX2_noRow 10 = .ok (.bipush (-11), 2) := dk_16 245 (dk_at dksX2_noRow_0 10 rfl rfl)
theorem dX2_noRow_12 : decode cX2_noRow 12 = .ok (.goto 19, 3) := dk_167 0 19 (dk_at dksX2_noRow_0 12 rfl rfl)
theorem dX2_noRow_15 : decode cX2_noRow 15 = .ok (.aload_n 0, 1) := dk_42 (dk_at dksX2_noRow_0 15 rfl rfl)
theorem dX2_noRow_16 : decode cX2_noRow 16 = .ok (.getfield 81, 3) := dk_180 0 81 (dk_at dksX2_noRow_0 16 rfl rfl)
theorem dX2_noRow_19 : decode cX2_noRow 19 = .ok (.iload_n 1, 1) := dk_27 (dk_at dksX2_noRow_0 19 rfl rfl)
theorem dX2_noRow_20 : decode cX2_noRow 20 = .ok (.iaload, 1) := dk_46 (dk_at dksX2_noRow_0 20 rfl rfl)
theorem dX2_noRow_21 : decode cX2_noRow 21 = .ok (.iload_n 2, 1) := dk_28 (dk_at dksX2_noRow_0 21 rfl rfl)
theorem dX2_noRow_22 : decode cX2_noRow 22 = .ok (.if_icmp .eq 8, 3) := dk_159 0 8 (dk_at dksX2_noRow_1 0 rfl rfl)
theorem dX2_noRow_25 : decode cX2_noRow 25 = .ok (.bipush (-12), 2) := dk_16 244 (dk_at dksX2_noRow_1 3 rfl rfl)
theorem dX2_noRow_27 : decode cX2_noRow 27 = .ok (.goto 4, 3) := dk_167 0 4 (dk_at dksX2_noRow_1 5 rfl rfl)
theorem dX2_noRow_30 : decode cX2_noRow 30 = .ok (.iconst 0, 1) := dk_3 (dk_at dksX2_noRow_1 8 rfl rfl)
theorem dX2_noRow_31 : decode cX2_noRow 31 = .ok (.ireturn, 1) := dk_172 (dk_at dksX2_noRow_1 9 rfl rfl)
abbrev cX2_reads : ByteArray := prog_31_method_40_code
def yX2_reads : MethodName := ⟨RX2, "reads", "(I)V"⟩
def dkwX2_reads_3 : List UInt8 := [96, 181, 0, 231, 167, 255, 185, 177]
abbrev dktX2_reads_3 : List UInt8 := dkwX2_reads_3 ++ []
def dkwX2_reads_2 : List UInt8 := [42, 180, 0, 91, 42, 180, 0, 231, 42, 27, 42, 180, 0, 231, 182, 0, 252, 79, 42, 89, 180, 0, 231, 4]
abbrev dktX2_reads_2 : List UInt8 := dkwX2_reads_2 ++ dktX2_reads_3
def dkwX2_reads_1 : List UInt8 := [162, 0, 55, 42, 42, 180, 0, 87, 16, 60, 27, 104, 42, 180, 0, 231, 96, 47, 182, 0, 137, 153, 0, 34]
abbrev dktX2_reads_1 : List UInt8 := dkwX2_reads_1 ++ dktX2_reads_2
def dkwX2_reads_0 : List UInt8 := [42, 3, 181, 0, 231, 42, 180, 0, 231, 16, 20, 162, 0, 68, 42, 180, 0, 231, 42, 180, 0, 84, 27, 46]
abbrev dktX2_reads_0 : List UInt8 := dkwX2_reads_0 ++ dktX2_reads_1
theorem dksX2_reads_0 : cX2_reads.data.toList.drop 0 = dktX2_reads_0 := by decide +kernel
theorem dksX2_reads_1 : cX2_reads.data.toList.drop 24 = dktX2_reads_1 := dk_seg dksX2_reads_0 24 rfl rfl
theorem dksX2_reads_2 : cX2_reads.data.toList.drop 48 = dktX2_reads_2 := dk_seg dksX2_reads_1 24 rfl rfl
theorem dksX2_reads_3 : cX2_reads.data.toList.drop 72 = dktX2_reads_3 := dk_seg dksX2_reads_2 24 rfl rfl
theorem dX2_reads_0 : decode cX2_reads 0 = .ok (.aload_n 0, 1) := dk_42 (dk_at dksX2_reads_0 0 rfl rfl)
theorem dX2_reads_1 : decode cX2_reads 1 = .ok (.iconst 0, 1) := dk_3 (dk_at dksX2_reads_0 1 rfl rfl)
theorem dX2_reads_2 : decode cX2_reads 2 = .ok (.putfield 231, 3) := dk_181 0 231 (dk_at dksX2_reads_0 2 rfl rfl)
theorem dX2_reads_5 : decode cX2_reads 5 = .ok (.aload_n 0, 1) := dk_42 (dk_at dksX2_reads_0 5 rfl rfl)
theorem dX2_reads_6 : decode cX2_reads 6 = .ok (.getfield 231, 3) := dk_180 0 231 (dk_at dksX2_reads_0 6 rfl rfl)
theorem dX2_reads_9 : decode cX2_reads 9 = .ok (.bipush 20, 2) := dk_16 20 (dk_at dksX2_reads_0 9 rfl rfl)
theorem dX2_reads_11 : decode cX2_reads 11 = .ok (.if_icmp .ge 68, 3) := dk_162 0 68 (dk_at dksX2_reads_0 11 rfl rfl)
theorem dX2_reads_14 : decode cX2_reads 14 = .ok (.aload_n 0, 1) := dk_42 (dk_at dksX2_reads_0 14 rfl rfl)
theorem dX2_reads_15 : decode cX2_reads 15 = .ok (.getfield 231, 3) := dk_180 0 231 (dk_at dksX2_reads_0 15 rfl rfl)
theorem dX2_reads_18 : decode cX2_reads 18 = .ok (.aload_n 0, 1) := dk_42 (dk_at dksX2_reads_0 18 rfl rfl)
theorem dX2_reads_19 : decode cX2_reads 19 = .ok (.getfield 84, 3) := dk_180 0 84 (dk_at dksX2_reads_0 19 rfl rfl)
theorem dX2_reads_22 : decode cX2_reads 22 = .ok (.iload_n 1, 1) := dk_27 (dk_at dksX2_reads_0 22 rfl rfl)
theorem dX2_reads_23 : decode cX2_reads 23 = .ok (.iaload, 1) := dk_46 (dk_at dksX2_reads_0 23 rfl rfl)
theorem dX2_reads_24 : decode cX2_reads 24 = .ok (.if_icmp .ge 55, 3) := dk_162 0 55 (dk_at dksX2_reads_1 0 rfl rfl)
theorem dX2_reads_27 : decode cX2_reads 27 = .ok (.aload_n 0, 1) := dk_42 (dk_at dksX2_reads_1 3 rfl rfl)
theorem dX2_reads_28 : decode cX2_reads 28 = .ok (.aload_n 0, 1) := dk_42 (dk_at dksX2_reads_1 4 rfl rfl)
theorem dX2_reads_29 : decode cX2_reads 29 = .ok (.getfield 87, 3) := dk_180 0 87 (dk_at dksX2_reads_1 5 rfl rfl)
theorem dX2_reads_32 : decode cX2_reads 32 = .ok (.bipush 60, 2) := dk_16 60 (dk_at dksX2_reads_1 8 rfl rfl)
theorem dX2_reads_34 : decode cX2_reads 34 = .ok (.iload_n 1, 1) := dk_27 (dk_at dksX2_reads_1 10 rfl rfl)
theorem dX2_reads_35 : decode cX2_reads 35 = .ok (.imul, 1) := dk_104 (dk_at dksX2_reads_1 11 rfl rfl)
theorem dX2_reads_36 : decode cX2_reads 36 = .ok (.aload_n 0, 1) := dk_42 (dk_at dksX2_reads_1 12 rfl rfl)
theorem dX2_reads_37 : decode cX2_reads 37 = .ok (.getfield 231, 3) := dk_180 0 231 (dk_at dksX2_reads_1 13 rfl rfl)
theorem dX2_reads_40 : decode cX2_reads 40 = .ok (.iadd, 1) := dk_96 (dk_at dksX2_reads_1 16 rfl rfl)
theorem dX2_reads_41 : decode cX2_reads 41 = .ok (.laload, 1) := dk_47 (dk_at dksX2_reads_1 17 rfl rfl)
theorem dX2_reads_42 : decode cX2_reads 42 = .ok (.invokevirtual 137, 3) := dk_182 0 137 (dk_at dksX2_reads_1 18 rfl rfl)
theorem dX2_reads_45 : decode cX2_reads 45 = .ok (.ifCond .eq 34, 3) := dk_153 0 34 (dk_at dksX2_reads_1 21 rfl rfl)
theorem dX2_reads_48 : decode cX2_reads 48 = .ok (.aload_n 0, 1) := dk_42 (dk_at dksX2_reads_2 0 rfl rfl)
theorem dX2_reads_49 : decode cX2_reads 49 = .ok (.getfield 91, 3) := dk_180 0 91 (dk_at dksX2_reads_2 1 rfl rfl)
theorem dX2_reads_52 : decode cX2_reads 52 = .ok (.aload_n 0, 1) := dk_42 (dk_at dksX2_reads_2 4 rfl rfl)
theorem dX2_reads_53 : decode cX2_reads 53 = .ok (.getfield 231, 3) := dk_180 0 231 (dk_at dksX2_reads_2 5 rfl rfl)
theorem dX2_reads_56 : decode cX2_reads 56 = .ok (.aload_n 0, 1) := dk_42 (dk_at dksX2_reads_2 8 rfl rfl)
theorem dX2_reads_57 : decode cX2_reads 57 = .ok (.iload_n 1, 1) := dk_27 (dk_at dksX2_reads_2 9 rfl rfl)
theorem dX2_reads_58 : decode cX2_reads 58 = .ok (.aload_n 0, 1) := dk_42 (dk_at dksX2_reads_2 10 rfl rfl)
theorem dX2_reads_59 : decode cX2_reads 59 = .ok (.getfield 231, 3) := dk_180 0 231 (dk_at dksX2_reads_2 11 rfl rfl)
theorem dX2_reads_62 : decode cX2_reads 62 = .ok (.invokevirtual 252, 3) := dk_182 0 252 (dk_at dksX2_reads_2 14 rfl rfl)
theorem dX2_reads_65 : decode cX2_reads 65 = .ok (.iastore, 1) := dk_79 (dk_at dksX2_reads_2 17 rfl rfl)
theorem dX2_reads_66 : decode cX2_reads 66 = .ok (.aload_n 0, 1) := dk_42 (dk_at dksX2_reads_2 18 rfl rfl)
theorem dX2_reads_67 : decode cX2_reads 67 = .ok (.dup, 1) := dk_89 (dk_at dksX2_reads_2 19 rfl rfl)
theorem dX2_reads_68 : decode cX2_reads 68 = .ok (.getfield 231, 3) := dk_180 0 231 (dk_at dksX2_reads_2 20 rfl rfl)
theorem dX2_reads_71 : decode cX2_reads 71 = .ok (.iconst 1, 1) := dk_4 (dk_at dksX2_reads_2 23 rfl rfl)
theorem dX2_reads_72 : decode cX2_reads 72 = .ok (.iadd, 1) := dk_96 (dk_at dksX2_reads_3 0 rfl rfl)
theorem dX2_reads_73 : decode cX2_reads 73 = .ok (.putfield 231, 3) := dk_181 0 231 (dk_at dksX2_reads_3 1 rfl rfl)
theorem dX2_reads_76 : decode cX2_reads 76 = .ok (.goto (-71), 3) := dk_167 255 185 (dk_at dksX2_reads_3 4 rfl rfl)
theorem dX2_reads_79 : decode cX2_reads 79 = .ok (.return_, 1) := dk_177 (dk_at dksX2_reads_3 7 rfl rfl)
abbrev cX2_toldAt : ByteArray := prog_31_method_39_code
def yX2_toldAt : MethodName := ⟨RX2, "toldAt", "(II)I"⟩
def dkwX2_toldAt_0 : List UInt8 := [42, 180, 0, 87, 16, 60, 27, 104, 28, 96, 47, 136, 172]
abbrev dktX2_toldAt_0 : List UInt8 := dkwX2_toldAt_0 ++ []
theorem dksX2_toldAt_0 : cX2_toldAt.data.toList.drop 0 = dktX2_toldAt_0 := by decide +kernel
theorem dX2_toldAt_0 : decode cX2_toldAt 0 = .ok (.aload_n 0, 1) := dk_42 (dk_at dksX2_toldAt_0 0 rfl rfl)
theorem dX2_toldAt_1 : decode cX2_toldAt 1 = .ok (.getfield 87, 3) := dk_180 0 87 (dk_at dksX2_toldAt_0 1 rfl rfl)
theorem dX2_toldAt_4 : decode cX2_toldAt 4 = .ok (.bipush 60, 2) := dk_16 60 (dk_at dksX2_toldAt_0 4 rfl rfl)
theorem dX2_toldAt_6 : decode cX2_toldAt 6 = .ok (.iload_n 1, 1) := dk_27 (dk_at dksX2_toldAt_0 6 rfl rfl)
theorem dX2_toldAt_7 : decode cX2_toldAt 7 = .ok (.imul, 1) := dk_104 (dk_at dksX2_toldAt_0 7 rfl rfl)
theorem dX2_toldAt_8 : decode cX2_toldAt 8 = .ok (.iload_n 2, 1) := dk_28 (dk_at dksX2_toldAt_0 8 rfl rfl)
theorem dX2_toldAt_9 : decode cX2_toldAt 9 = .ok (.iadd, 1) := dk_96 (dk_at dksX2_toldAt_0 9 rfl rfl)
theorem dX2_toldAt_10 : decode cX2_toldAt 10 = .ok (.laload, 1) := dk_47 (dk_at dksX2_toldAt_0 10 rfl rfl)
theorem dX2_toldAt_11 : decode cX2_toldAt 11 = .ok (.l2i, 1) := dk_136 (dk_at dksX2_toldAt_0 11 rfl rfl)
theorem dX2_toldAt_12 : decode cX2_toldAt 12 = .ok (.ireturn, 1) := dk_172 (dk_at dksX2_toldAt_0 12 rfl rfl)
abbrev cX2_oneRound : ByteArray := prog_31_method_46_code
def yX2_oneRound : MethodName := ⟨RX2, "oneRound", "()I"⟩
def dkwX2_oneRound_2 : List UInt8 := [167, 255, 212, 27, 172]
abbrev dktX2_oneRound_2 : List UInt8 := dkwX2_oneRound_2 ++ []
def dkwX2_oneRound_1 : List UInt8 := [28, 46, 42, 180, 0, 91, 28, 4, 96, 42, 180, 0, 231, 112, 46, 182, 1, 2, 96, 96, 60, 132, 2, 1]
abbrev dktX2_oneRound_1 : List UInt8 := dkwX2_oneRound_1 ++ dktX2_oneRound_2
def dkwX2_oneRound_0 : List UInt8 := [3, 60, 3, 61, 28, 42, 180, 0, 231, 162, 0, 42, 27, 42, 180, 0, 24, 6, 46, 42, 42, 180, 0, 91]
abbrev dktX2_oneRound_0 : List UInt8 := dkwX2_oneRound_0 ++ dktX2_oneRound_1
theorem dksX2_oneRound_0 : cX2_oneRound.data.toList.drop 0 = dktX2_oneRound_0 := by decide +kernel
theorem dksX2_oneRound_1 : cX2_oneRound.data.toList.drop 24 = dktX2_oneRound_1 := dk_seg dksX2_oneRound_0 24 rfl rfl
theorem dksX2_oneRound_2 : cX2_oneRound.data.toList.drop 48 = dktX2_oneRound_2 := dk_seg dksX2_oneRound_1 24 rfl rfl
theorem dX2_oneRound_0 : decode cX2_oneRound 0 = .ok (.iconst 0, 1) := dk_3 (dk_at dksX2_oneRound_0 0 rfl rfl)
theorem dX2_oneRound_1 : decode cX2_oneRound 1 = .ok (.istore_n 1, 1) := dk_60 (dk_at dksX2_oneRound_0 1 rfl rfl)
theorem dX2_oneRound_2 : decode cX2_oneRound 2 = .ok (.iconst 0, 1) := dk_3 (dk_at dksX2_oneRound_0 2 rfl rfl)
theorem dX2_oneRound_3 : decode cX2_oneRound 3 = .ok (.istore_n 2, 1) := dk_61 (dk_at dksX2_oneRound_0 3 rfl rfl)
theorem dX2_oneRound_4 : decode cX2_oneRound 4 = .ok (.iload_n 2, 1) := dk_28 (dk_at dksX2_oneRound_0 4 rfl rfl)
theorem dX2_oneRound_5 : decode cX2_oneRound 5 = .ok (.aload_n 0, 1) := dk_42 (dk_at dksX2_oneRound_0 5 rfl rfl)
theorem dX2_oneRound_6 : decode cX2_oneRound 6 = .ok (.getfield 231, 3) := dk_180 0 231 (dk_at dksX2_oneRound_0 6 rfl rfl)
theorem dX2_oneRound_9 : decode cX2_oneRound 9 = .ok (.if_icmp .ge 42, 3) := dk_162 0 42 (dk_at dksX2_oneRound_0 9 rfl rfl)
theorem dX2_oneRound_12 : decode cX2_oneRound 12 = .ok (.iload_n 1, 1) := dk_27 (dk_at dksX2_oneRound_0 12 rfl rfl)
theorem dX2_oneRound_13 : decode cX2_oneRound 13 = .ok (.aload_n 0, 1) := dk_42 (dk_at dksX2_oneRound_0 13 rfl rfl)
theorem dX2_oneRound_14 : decode cX2_oneRound 14 = .ok (.getfield 24, 3) := dk_180 0 24 (dk_at dksX2_oneRound_0 14 rfl rfl)
theorem dX2_oneRound_17 : decode cX2_oneRound 17 = .ok (.iconst 3, 1) := dk_6 (dk_at dksX2_oneRound_0 17 rfl rfl)
theorem dX2_oneRound_18 : decode cX2_oneRound 18 = .ok (.iaload, 1) := dk_46 (dk_at dksX2_oneRound_0 18 rfl rfl)
theorem dX2_oneRound_19 : decode cX2_oneRound 19 = .ok (.aload_n 0, 1) := dk_42 (dk_at dksX2_oneRound_0 19 rfl rfl)
theorem dX2_oneRound_20 : decode cX2_oneRound 20 = .ok (.aload_n 0, 1) := dk_42 (dk_at dksX2_oneRound_0 20 rfl rfl)
theorem dX2_oneRound_21 : decode cX2_oneRound 21 = .ok (.getfield 91, 3) := dk_180 0 91 (dk_at dksX2_oneRound_0 21 rfl rfl)
theorem dX2_oneRound_24 : decode cX2_oneRound 24 = .ok (.iload_n 2, 1) := dk_28 (dk_at dksX2_oneRound_1 0 rfl rfl)
theorem dX2_oneRound_25 : decode cX2_oneRound 25 = .ok (.iaload, 1) := dk_46 (dk_at dksX2_oneRound_1 1 rfl rfl)
theorem dX2_oneRound_26 : decode cX2_oneRound 26 = .ok (.aload_n 0, 1) := dk_42 (dk_at dksX2_oneRound_1 2 rfl rfl)
theorem dX2_oneRound_27 : decode cX2_oneRound 27 = .ok (.getfield 91, 3) := dk_180 0 91 (dk_at dksX2_oneRound_1 3 rfl rfl)
theorem dX2_oneRound_30 : decode cX2_oneRound 30 = .ok (.iload_n 2, 1) := dk_28 (dk_at dksX2_oneRound_1 6 rfl rfl)
theorem dX2_oneRound_31 : decode cX2_oneRound 31 = .ok (.iconst 1, 1) := dk_4 (dk_at dksX2_oneRound_1 7 rfl rfl)
theorem dX2_oneRound_32 : decode cX2_oneRound 32 = .ok (.iadd, 1) := dk_96 (dk_at dksX2_oneRound_1 8 rfl rfl)
theorem dX2_oneRound_33 : decode cX2_oneRound 33 = .ok (.aload_n 0, 1) := dk_42 (dk_at dksX2_oneRound_1 9 rfl rfl)
theorem dX2_oneRound_34 : decode cX2_oneRound 34 = .ok (.getfield 231, 3) := dk_180 0 231 (dk_at dksX2_oneRound_1 10 rfl rfl)
theorem dX2_oneRound_37 : decode cX2_oneRound 37 = .ok (.irem, 1) := dk_112 (dk_at dksX2_oneRound_1 13 rfl rfl)
theorem dX2_oneRound_38 : decode cX2_oneRound 38 = .ok (.iaload, 1) := dk_46 (dk_at dksX2_oneRound_1 14 rfl rfl)
theorem dX2_oneRound_39 : decode cX2_oneRound 39 = .ok (.invokevirtual 258, 3) := dk_182 1 2 (dk_at dksX2_oneRound_1 15 rfl rfl)
theorem dX2_oneRound_42 : decode cX2_oneRound 42 = .ok (.iadd, 1) := dk_96 (dk_at dksX2_oneRound_1 18 rfl rfl)
theorem dX2_oneRound_43 : decode cX2_oneRound 43 = .ok (.iadd, 1) := dk_96 (dk_at dksX2_oneRound_1 19 rfl rfl)
theorem dX2_oneRound_44 : decode cX2_oneRound 44 = .ok (.istore_n 1, 1) := dk_60 (dk_at dksX2_oneRound_1 20 rfl rfl)
theorem dX2_oneRound_45 : decode cX2_oneRound 45 = .ok (.iinc 2 1, 3) := dk_132 2 1 (dk_at dksX2_oneRound_1 21 rfl rfl)
theorem dX2_oneRound_48 : decode cX2_oneRound 48 = .ok (.goto (-44), 3) := dk_167 255 212 (dk_at dksX2_oneRound_2 0 rfl rfl)
theorem dX2_oneRound_51 : decode cX2_oneRound 51 = .ok (.iload_n 1, 1) := dk_27 (dk_at dksX2_oneRound_2 3 rfl rfl)
theorem dX2_oneRound_52 : decode cX2_oneRound 52 = .ok (.ireturn, 1) := dk_172 (dk_at dksX2_oneRound_2 4 rfl rfl)
abbrev cX2_minutes : ByteArray := prog_31_method_37_code
def yX2_minutes : MethodName := ⟨RX2, "minutes", "(II)I"⟩
def dkwX2_minutes_0 : List UInt8 := [42, 27, 28, 182, 0, 249, 42, 180, 0, 24, 5, 46, 104, 172]
abbrev dktX2_minutes_0 : List UInt8 := dkwX2_minutes_0 ++ []
theorem dksX2_minutes_0 : cX2_minutes.data.toList.drop 0 = dktX2_minutes_0 := by decide +kernel
theorem dX2_minutes_0 : decode cX2_minutes 0 = .ok (.aload_n 0, 1) := dk_42 (dk_at dksX2_minutes_0 0 rfl rfl)
theorem dX2_minutes_1 : decode cX2_minutes 1 = .ok (.iload_n 1, 1) := dk_27 (dk_at dksX2_minutes_0 1 rfl rfl)
theorem dX2_minutes_2 : decode cX2_minutes 2 = .ok (.iload_n 2, 1) := dk_28 (dk_at dksX2_minutes_0 2 rfl rfl)
theorem dX2_minutes_3 : decode cX2_minutes 3 = .ok (.invokevirtual 249, 3) := dk_182 0 249 (dk_at dksX2_minutes_0 3 rfl rfl)
theorem dX2_minutes_6 : decode cX2_minutes 6 = .ok (.aload_n 0, 1) := dk_42 (dk_at dksX2_minutes_0 6 rfl rfl)
theorem dX2_minutes_7 : decode cX2_minutes 7 = .ok (.getfield 24, 3) := dk_180 0 24 (dk_at dksX2_minutes_0 7 rfl rfl)
theorem dX2_minutes_10 : decode cX2_minutes 10 = .ok (.iconst 2, 1) := dk_5 (dk_at dksX2_minutes_0 10 rfl rfl)
theorem dX2_minutes_11 : decode cX2_minutes 11 = .ok (.iaload, 1) := dk_46 (dk_at dksX2_minutes_0 11 rfl rfl)
theorem dX2_minutes_12 : decode cX2_minutes 12 = .ok (.imul, 1) := dk_104 (dk_at dksX2_minutes_0 12 rfl rfl)
theorem dX2_minutes_13 : decode cX2_minutes 13 = .ok (.ireturn, 1) := dk_172 (dk_at dksX2_minutes_0 13 rfl rfl)
abbrev cX2_apart : ByteArray := prog_31_method_36_code
def yX2_apart : MethodName := ⟨RX2, "apart", "(II)I"⟩
def dkwX2_apart_1 : List UInt8 := [100, 184, 0, 243, 96, 172]
abbrev dktX2_apart_1 : List UInt8 := dkwX2_apart_1 ++ []
def dkwX2_apart_0 : List UInt8 := [42, 27, 182, 0, 240, 42, 28, 182, 0, 240, 100, 184, 0, 243, 42, 27, 182, 0, 246, 42, 28, 182, 0, 246]
abbrev dktX2_apart_0 : List UInt8 := dkwX2_apart_0 ++ dktX2_apart_1
theorem dksX2_apart_0 : cX2_apart.data.toList.drop 0 = dktX2_apart_0 := by decide +kernel
theorem dksX2_apart_1 : cX2_apart.data.toList.drop 24 = dktX2_apart_1 := dk_seg dksX2_apart_0 24 rfl rfl
theorem dX2_apart_0 : decode cX2_apart 0 = .ok (.aload_n 0, 1) := dk_42 (dk_at dksX2_apart_0 0 rfl rfl)
theorem dX2_apart_1 : decode cX2_apart 1 = .ok (.iload_n 1, 1) := dk_27 (dk_at dksX2_apart_0 1 rfl rfl)
theorem dX2_apart_2 : decode cX2_apart 2 = .ok (.invokevirtual 240, 3) := dk_182 0 240 (dk_at dksX2_apart_0 2 rfl rfl)
theorem dX2_apart_5 : decode cX2_apart 5 = .ok (.aload_n 0, 1) := dk_42 (dk_at dksX2_apart_0 5 rfl rfl)
theorem dX2_apart_6 : decode cX2_apart 6 = .ok (.iload_n 2, 1) := dk_28 (dk_at dksX2_apart_0 6 rfl rfl)
theorem dX2_apart_7 : decode cX2_apart 7 = .ok (.invokevirtual 240, 3) := dk_182 0 240 (dk_at dksX2_apart_0 7 rfl rfl)
theorem dX2_apart_10 : decode cX2_apart 10 = .ok (.isub, 1) := dk_100 (dk_at dksX2_apart_0 10 rfl rfl)
theorem dX2_apart_11 : decode cX2_apart 11 = .ok (.invokestatic 243, 3) := dk_184 0 243 (dk_at dksX2_apart_0 11 rfl rfl)
theorem dX2_apart_14 : decode cX2_apart 14 = .ok (.aload_n 0, 1) := dk_42 (dk_at dksX2_apart_0 14 rfl rfl)
theorem dX2_apart_15 : decode cX2_apart 15 = .ok (.iload_n 1, 1) := dk_27 (dk_at dksX2_apart_0 15 rfl rfl)
theorem dX2_apart_16 : decode cX2_apart 16 = .ok (.invokevirtual 246, 3) := dk_182 0 246 (dk_at dksX2_apart_0 16 rfl rfl)
theorem dX2_apart_19 : decode cX2_apart 19 = .ok (.aload_n 0, 1) := dk_42 (dk_at dksX2_apart_0 19 rfl rfl)
theorem dX2_apart_20 : decode cX2_apart 20 = .ok (.iload_n 2, 1) := dk_28 (dk_at dksX2_apart_0 20 rfl rfl)
theorem dX2_apart_21 : decode cX2_apart 21 = .ok (.invokevirtual 246, 3) := dk_182 0 246 (dk_at dksX2_apart_0 21 rfl rfl)
theorem dX2_apart_24 : decode cX2_apart 24 = .ok (.isub, 1) := dk_100 (dk_at dksX2_apart_1 0 rfl rfl)
theorem dX2_apart_25 : decode cX2_apart 25 = .ok (.invokestatic 243, 3) := dk_184 0 243 (dk_at dksX2_apart_1 1 rfl rfl)
theorem dX2_apart_28 : decode cX2_apart 28 = .ok (.iadd, 1) := dk_96 (dk_at dksX2_apart_1 4 rfl rfl)
theorem dX2_apart_29 : decode cX2_apart 29 = .ok (.ireturn, 1) := dk_172 (dk_at dksX2_apart_1 5 rfl rfl)
abbrev cX2_xOf : ByteArray := prog_31_method_34_code
def yX2_xOf : MethodName := ⟨RX2, "xOf", "(I)I"⟩
def dkwX2_xOf_0 : List UInt8 := [27, 2, 160, 0, 12, 42, 180, 0, 24, 3, 46, 167, 0, 9, 42, 180, 0, 9, 27, 46, 172]
abbrev dktX2_xOf_0 : List UInt8 := dkwX2_xOf_0 ++ []
theorem dksX2_xOf_0 : cX2_xOf.data.toList.drop 0 = dktX2_xOf_0 := by decide +kernel
theorem dX2_xOf_0 : decode cX2_xOf 0 = .ok (.iload_n 1, 1) := dk_27 (dk_at dksX2_xOf_0 0 rfl rfl)
theorem dX2_xOf_1 : decode cX2_xOf 1 = .ok (.iconst (-1), 1) := dk_2 (dk_at dksX2_xOf_0 1 rfl rfl)
theorem dX2_xOf_2 : decode cX2_xOf 2 = .ok (.if_icmp .ne 12, 3) := dk_160 0 12 (dk_at dksX2_xOf_0 2 rfl rfl)
theorem dX2_xOf_5 : decode cX2_xOf 5 = .ok (.aload_n 0, 1) := dk_42 (dk_at dksX2_xOf_0 5 rfl rfl)
theorem dX2_xOf_6 : decode cX2_xOf 6 = .ok (.getfield 24, 3) := dk_180 0 24 (dk_at dksX2_xOf_0 6 rfl rfl)
theorem dX2_xOf_9 : decode cX2_xOf 9 = .ok (.iconst 0, 1) := dk_3 (dk_at dksX2_xOf_0 9 rfl rfl)
theorem dX2_xOf_10 : decode cX2_xOf 10 = .ok (.iaload, 1) := dk_46 (dk_at dksX2_xOf_0 10 rfl rfl)
theorem dX2_xOf_11 : decode cX2_xOf 11 = .ok (.goto 9, 3) := dk_167 0 9 (dk_at dksX2_xOf_0 11 rfl rfl)
theorem dX2_xOf_14 : decode cX2_xOf 14 = .ok (.aload_n 0, 1) := dk_42 (dk_at dksX2_xOf_0 14 rfl rfl)
theorem dX2_xOf_15 : decode cX2_xOf 15 = .ok (.getfield 9, 3) := dk_180 0 9 (dk_at dksX2_xOf_0 15 rfl rfl)
theorem dX2_xOf_18 : decode cX2_xOf 18 = .ok (.iload_n 1, 1) := dk_27 (dk_at dksX2_xOf_0 18 rfl rfl)
theorem dX2_xOf_19 : decode cX2_xOf 19 = .ok (.iaload, 1) := dk_46 (dk_at dksX2_xOf_0 19 rfl rfl)
theorem dX2_xOf_20 : decode cX2_xOf 20 = .ok (.ireturn, 1) := dk_172 (dk_at dksX2_xOf_0 20 rfl rfl)
abbrev cX2_yOf : ByteArray := prog_31_method_35_code
def yX2_yOf : MethodName := ⟨RX2, "yOf", "(I)I"⟩
def dkwX2_yOf_0 : List UInt8 := [27, 2, 160, 0, 12, 42, 180, 0, 24, 4, 46, 167, 0, 9, 42, 180, 0, 15, 27, 46, 172]
abbrev dktX2_yOf_0 : List UInt8 := dkwX2_yOf_0 ++ []
theorem dksX2_yOf_0 : cX2_yOf.data.toList.drop 0 = dktX2_yOf_0 := by decide +kernel
theorem dX2_yOf_0 : decode cX2_yOf 0 = .ok (.iload_n 1, 1) := dk_27 (dk_at dksX2_yOf_0 0 rfl rfl)
theorem dX2_yOf_1 : decode cX2_yOf 1 = .ok (.iconst (-1), 1) := dk_2 (dk_at dksX2_yOf_0 1 rfl rfl)
theorem dX2_yOf_2 : decode cX2_yOf 2 = .ok (.if_icmp .ne 12, 3) := dk_160 0 12 (dk_at dksX2_yOf_0 2 rfl rfl)
theorem dX2_yOf_5 : decode cX2_yOf 5 = .ok (.aload_n 0, 1) := dk_42 (dk_at dksX2_yOf_0 5 rfl rfl)
theorem dX2_yOf_6 : decode cX2_yOf 6 = .ok (.getfield 24, 3) := dk_180 0 24 (dk_at dksX2_yOf_0 6 rfl rfl)
theorem dX2_yOf_9 : decode cX2_yOf 9 = .ok (.iconst 1, 1) := dk_4 (dk_at dksX2_yOf_0 9 rfl rfl)
theorem dX2_yOf_10 : decode cX2_yOf 10 = .ok (.iaload, 1) := dk_46 (dk_at dksX2_yOf_0 10 rfl rfl)
theorem dX2_yOf_11 : decode cX2_yOf 11 = .ok (.goto 9, 3) := dk_167 0 9 (dk_at dksX2_yOf_0 11 rfl rfl)
theorem dX2_yOf_14 : decode cX2_yOf 14 = .ok (.aload_n 0, 1) := dk_42 (dk_at dksX2_yOf_0 14 rfl rfl)
theorem dX2_yOf_15 : decode cX2_yOf 15 = .ok (.getfield 15, 3) := dk_180 0 15 (dk_at dksX2_yOf_0 15 rfl rfl)
theorem dX2_yOf_18 : decode cX2_yOf 18 = .ok (.iload_n 1, 1) := dk_27 (dk_at dksX2_yOf_0 18 rfl rfl)
theorem dX2_yOf_19 : decode cX2_yOf 19 = .ok (.iaload, 1) := dk_46 (dk_at dksX2_yOf_0 19 rfl rfl)
theorem dX2_yOf_20 : decode cX2_yOf 20 = .ok (.ireturn, 1) := dk_172 (dk_at dksX2_yOf_0 20 rfl rfl)
abbrev cX2_first : ByteArray := prog_31_method_48_code
def yX2_first : MethodName := ⟨RX2, "first", "(II)I"⟩
def dkwX2_first_3 : List UInt8 := [46, 17, 3, 232, 162, 0, 11, 42, 180, 0, 94, 21, 4, 46, 172, 132, 4, 1, 167, 255, 212, 16, 254, 172]
abbrev dktX2_first_3 : List UInt8 := dkwX2_first_3 ++ []
def dkwX2_first_2 : List UInt8 := [42, 180, 0, 255, 162, 0, 41, 42, 180, 0, 97, 21, 4, 46, 28, 160, 0, 24, 42, 180, 0, 94, 21, 4]
abbrev dktX2_first_2 : List UInt8 := dkwX2_first_2 ++ dktX2_first_3
def dkwX2_first_1 : List UInt8 := [62, 29, 156, 0, 5, 29, 172, 42, 27, 182, 1, 12, 42, 17, 15, 160, 182, 1, 5, 3, 54, 4, 21, 4]
abbrev dktX2_first_1 : List UInt8 := dkwX2_first_1 ++ dktX2_first_2
def dkwX2_first_0 : List UInt8 := [27, 184, 0, 131, 153, 0, 12, 42, 28, 133, 182, 0, 137, 154, 0, 5, 2, 172, 42, 27, 3, 182, 1, 9]
abbrev dktX2_first_0 : List UInt8 := dkwX2_first_0 ++ dktX2_first_1
theorem dksX2_first_0 : cX2_first.data.toList.drop 0 = dktX2_first_0 := by decide +kernel
theorem dksX2_first_1 : cX2_first.data.toList.drop 24 = dktX2_first_1 := dk_seg dksX2_first_0 24 rfl rfl
theorem dksX2_first_2 : cX2_first.data.toList.drop 48 = dktX2_first_2 := dk_seg dksX2_first_1 24 rfl rfl
theorem dksX2_first_3 : cX2_first.data.toList.drop 72 = dktX2_first_3 := dk_seg dksX2_first_2 24 rfl rfl
theorem dX2_first_0 : decode cX2_first 0 = .ok (.iload_n 1, 1) := dk_27 (dk_at dksX2_first_0 0 rfl rfl)
theorem dX2_first_1 : decode cX2_first 1 = .ok (.invokestatic 131, 3) := dk_184 0 131 (dk_at dksX2_first_0 1 rfl rfl)
theorem dX2_first_4 : decode cX2_first 4 = .ok (.ifCond .eq 12, 3) := dk_153 0 12 (dk_at dksX2_first_0 4 rfl rfl)
theorem dX2_first_7 : decode cX2_first 7 = .ok (.aload_n 0, 1) := dk_42 (dk_at dksX2_first_0 7 rfl rfl)
theorem dX2_first_8 : decode cX2_first 8 = .ok (.iload_n 2, 1) := dk_28 (dk_at dksX2_first_0 8 rfl rfl)
theorem dX2_first_9 : decode cX2_first 9 = .ok (.i2l, 1) := dk_133 (dk_at dksX2_first_0 9 rfl rfl)
theorem dX2_first_10 : decode cX2_first 10 = .ok (.invokevirtual 137, 3) := dk_182 0 137 (dk_at dksX2_first_0 10 rfl rfl)
theorem dX2_first_13 : decode cX2_first 13 = .ok (.ifCond .ne 5, 3) := dk_154 0 5 (dk_at dksX2_first_0 13 rfl rfl)
theorem dX2_first_16 : decode cX2_first 16 = .ok (.iconst (-1), 1) := dk_2 (dk_at dksX2_first_0 16 rfl rfl)
theorem dX2_first_17 : decode cX2_first 17 = .ok (.ireturn, 1) := dk_172 (dk_at dksX2_first_0 17 rfl rfl)
theorem dX2_first_18 : decode cX2_first 18 = .ok (.aload_n 0, 1) := dk_42 (dk_at dksX2_first_0 18 rfl rfl)
theorem dX2_first_19 : decode cX2_first 19 = .ok (.iload_n 1, 1) := dk_27 (dk_at dksX2_first_0 19 rfl rfl)
theorem dX2_first_20 : decode cX2_first 20 = .ok (.iconst 0, 1) := dk_3 (dk_at dksX2_first_0 20 rfl rfl)
theorem dX2_first_21 : decode cX2_first 21 = .ok (.invokevirtual 265, 3) := dk_182 1 9 (dk_at dksX2_first_0 21 rfl rfl)
theorem dX2_first_24 : decode cX2_first 24 = .ok (.istore_n 3, 1) := dk_62 (dk_at dksX2_first_1 0 rfl rfl)
theorem dX2_first_25 : decode cX2_first 25 = .ok (.iload_n 3, 1) := dk_29 (dk_at dksX2_first_1 1 rfl rfl)
theorem dX2_first_26 : decode cX2_first 26 = .ok (.ifCond .ge 5, 3) := dk_156 0 5 (dk_at dksX2_first_1 2 rfl rfl)
theorem dX2_first_29 : decode cX2_first 29 = .ok (.iload_n 3, 1) := dk_29 (dk_at dksX2_first_1 5 rfl rfl)
theorem dX2_first_30 : decode cX2_first 30 = .ok (.ireturn, 1) := dk_172 (dk_at dksX2_first_1 6 rfl rfl)
theorem dX2_first_31 : decode cX2_first 31 = .ok (.aload_n 0, 1) := dk_42 (dk_at dksX2_first_1 7 rfl rfl)
theorem dX2_first_32 : decode cX2_first 32 = .ok (.iload_n 1, 1) := dk_27 (dk_at dksX2_first_1 8 rfl rfl)
theorem dX2_first_33 : decode cX2_first 33 = .ok (.invokevirtual 268, 3) := dk_182 1 12 (dk_at dksX2_first_1 9 rfl rfl)
theorem dX2_first_36 : decode cX2_first 36 = .ok (.aload_n 0, 1) := dk_42 (dk_at dksX2_first_1 12 rfl rfl)
theorem dX2_first_37 : decode cX2_first 37 = .ok (.sipush 4000, 3) := dk_17 15 160 (dk_at dksX2_first_1 13 rfl rfl)
theorem dX2_first_40 : decode cX2_first 40 = .ok (.invokevirtual 261, 3) := dk_182 1 5 (dk_at dksX2_first_1 16 rfl rfl)
theorem dX2_first_43 : decode cX2_first 43 = .ok (.iconst 0, 1) := dk_3 (dk_at dksX2_first_1 19 rfl rfl)
theorem dX2_first_44 : decode cX2_first 44 = .ok (.istore 4, 2) := dk_54 4 (dk_at dksX2_first_1 20 rfl rfl)
theorem dX2_first_46 : decode cX2_first 46 = .ok (.iload 4, 2) := dk_21 4 (dk_at dksX2_first_1 22 rfl rfl)
theorem dX2_first_48 : decode cX2_first 48 = .ok (.aload_n 0, 1) := dk_42 (dk_at dksX2_first_2 0 rfl rfl)
theorem dX2_first_49 : decode cX2_first 49 = .ok (.getfield 255, 3) := dk_180 0 255 (dk_at dksX2_first_2 1 rfl rfl)
theorem dX2_first_52 : decode cX2_first 52 = .ok (.if_icmp .ge 41, 3) := dk_162 0 41 (dk_at dksX2_first_2 4 rfl rfl)
theorem dX2_first_55 : decode cX2_first 55 = .ok (.aload_n 0, 1) := dk_42 (dk_at dksX2_first_2 7 rfl rfl)
theorem dX2_first_56 : decode cX2_first 56 = .ok (.getfield 97, 3) := dk_180 0 97 (dk_at dksX2_first_2 8 rfl rfl)
theorem dX2_first_59 : decode cX2_first 59 = .ok (.iload 4, 2) := dk_21 4 (dk_at dksX2_first_2 11 rfl rfl)
theorem dX2_first_61 : decode cX2_first 61 = .ok (.iaload, 1) := dk_46 (dk_at dksX2_first_2 13 rfl rfl)
theorem dX2_first_62 : decode cX2_first 62 = .ok (.iload_n 2, 1) := dk_28 (dk_at dksX2_first_2 14 rfl rfl)
theorem dX2_first_63 : decode cX2_first 63 = .ok (.if_icmp .ne 24, 3) := dk_160 0 24 (dk_at dksX2_first_2 15 rfl rfl)
theorem dX2_first_66 : decode cX2_first 66 = .ok (.aload_n 0, 1) := dk_42 (dk_at dksX2_first_2 18 rfl rfl)
theorem dX2_first_67 : decode cX2_first 67 = .ok (.getfield 94, 3) := dk_180 0 94 (dk_at dksX2_first_2 19 rfl rfl)
theorem dX2_first_70 : decode cX2_first 70 = .ok (.iload 4, 2) := dk_21 4 (dk_at dksX2_first_2 22 rfl rfl)
theorem dX2_first_72 : decode cX2_first 72 = .ok (.iaload, 1) := dk_46 (dk_at dksX2_first_3 0 rfl rfl)
theorem dX2_first_73 : decode cX2_first 73 = .ok (.sipush 1000, 3) := dk_17 3 232 (dk_at dksX2_first_3 1 rfl rfl)
theorem dX2_first_76 : decode cX2_first 76 = .ok (.if_icmp .ge 11, 3) := dk_162 0 11 (dk_at dksX2_first_3 4 rfl rfl)
theorem dX2_first_79 : decode cX2_first 79 = .ok (.aload_n 0, 1) := dk_42 (dk_at dksX2_first_3 7 rfl rfl)
theorem dX2_first_80 : decode cX2_first 80 = .ok (.getfield 94, 3) := dk_180 0 94 (dk_at dksX2_first_3 8 rfl rfl)
theorem dX2_first_83 : decode cX2_first 83 = .ok (.iload 4, 2) := dk_21 4 (dk_at dksX2_first_3 11 rfl rfl)
theorem dX2_first_85 : decode cX2_first 85 = .ok (.iaload, 1) := dk_46 (dk_at dksX2_first_3 13 rfl rfl)
theorem dX2_first_86 : decode cX2_first 86 = .ok (.ireturn, 1) := dk_172 (dk_at dksX2_first_3 14 rfl rfl)
theorem dX2_first_87 : decode cX2_first 87 = .ok (.iinc 4 1, 3) := dk_132 4 1 (dk_at dksX2_first_3 15 rfl rfl)
theorem dX2_first_90 : decode cX2_first 90 = .ok (.goto (-44), 3) := dk_167 255 212 (dk_at dksX2_first_3 18 rfl rfl)
theorem dX2_first_93 : decode cX2_first 93 = .ok (.bipush (-2), 2) := dk_16 254 (dk_at dksX2_first_3 21 rfl rfl)
theorem dX2_first_95 : decode cX2_first 95 = .ok (.ireturn, 1) := dk_172 (dk_at dksX2_first_3 23 rfl rfl)
abbrev cX2_walks : ByteArray := prog_31_method_42_code
def yX2_walks : MethodName := ⟨RX2, "walks", "(I)V"⟩
def dkwX2_walks_4 : List UInt8 := [180, 0, 24, 6, 46, 96, 61, 21, 4, 4, 96, 42, 180, 0, 231, 112, 54, 4, 167, 255, 157, 177]
abbrev dktX2_walks_4 : List UInt8 := dkwX2_walks_4 ++ []
def dkwX2_walks_3 : List UInt8 := [4, 96, 181, 0, 255, 42, 180, 0, 91, 21, 4, 46, 79, 42, 180, 0, 91, 21, 4, 46, 62, 28, 42]
abbrev dktX2_walks_3 : List UInt8 := dkwX2_walks_3 ++ dktX2_walks_4
def dkwX2_walks_2 : List UInt8 := [161, 0, 4, 177, 42, 180, 0, 94, 42, 180, 0, 255, 28, 79, 42, 180, 0, 97, 42, 89, 180, 0, 255, 90]
abbrev dktX2_walks_2 : List UInt8 := dkwX2_walks_2 ++ dktX2_walks_3
def dkwX2_walks_1 : List UInt8 := [162, 0, 90, 28, 42, 29, 42, 180, 0, 91, 21, 4, 46, 182, 1, 2, 96, 61, 28, 17, 7, 208]
abbrev dktX2_walks_1 : List UInt8 := dkwX2_walks_1 ++ dktX2_walks_2
def dkwX2_walks_0 : List UInt8 := [42, 3, 181, 0, 255, 3, 61, 2, 62, 3, 54, 4, 42, 180, 0, 231, 158, 0, 98, 42, 180, 0, 255, 27]
abbrev dktX2_walks_0 : List UInt8 := dkwX2_walks_0 ++ dktX2_walks_1
theorem dksX2_walks_0 : cX2_walks.data.toList.drop 0 = dktX2_walks_0 := by decide +kernel
theorem dksX2_walks_1 : cX2_walks.data.toList.drop 24 = dktX2_walks_1 := dk_seg dksX2_walks_0 24 rfl rfl
theorem dksX2_walks_2 : cX2_walks.data.toList.drop 46 = dktX2_walks_2 := dk_seg dksX2_walks_1 22 rfl rfl
theorem dksX2_walks_3 : cX2_walks.data.toList.drop 70 = dktX2_walks_3 := dk_seg dksX2_walks_2 24 rfl rfl
theorem dksX2_walks_4 : cX2_walks.data.toList.drop 93 = dktX2_walks_4 := dk_seg dksX2_walks_3 23 rfl rfl
theorem dX2_walks_0 : decode cX2_walks 0 = .ok (.aload_n 0, 1) := dk_42 (dk_at dksX2_walks_0 0 rfl rfl)
theorem dX2_walks_1 : decode cX2_walks 1 = .ok (.iconst 0, 1) := dk_3 (dk_at dksX2_walks_0 1 rfl rfl)
theorem dX2_walks_2 : decode cX2_walks 2 = .ok (.putfield 255, 3) := dk_181 0 255 (dk_at dksX2_walks_0 2 rfl rfl)
theorem dX2_walks_5 : decode cX2_walks 5 = .ok (.iconst 0, 1) := dk_3 (dk_at dksX2_walks_0 5 rfl rfl)
theorem dX2_walks_6 : decode cX2_walks 6 = .ok (.istore_n 2, 1) := dk_61 (dk_at dksX2_walks_0 6 rfl rfl)
theorem dX2_walks_7 : decode cX2_walks 7 = .ok (.iconst (-1), 1) := dk_2 (dk_at dksX2_walks_0 7 rfl rfl)
theorem dX2_walks_8 : decode cX2_walks 8 = .ok (.istore_n 3, 1) := dk_62 (dk_at dksX2_walks_0 8 rfl rfl)
theorem dX2_walks_9 : decode cX2_walks 9 = .ok (.iconst 0, 1) := dk_3 (dk_at dksX2_walks_0 9 rfl rfl)
theorem dX2_walks_10 : decode cX2_walks 10 = .ok (.istore 4, 2) := dk_54 4 (dk_at dksX2_walks_0 10 rfl rfl)
theorem dX2_walks_12 : decode cX2_walks 12 = .ok (.aload_n 0, 1) := dk_42 (dk_at dksX2_walks_0 12 rfl rfl)
theorem dX2_walks_13 : decode cX2_walks 13 = .ok (.getfield 231, 3) := dk_180 0 231 (dk_at dksX2_walks_0 13 rfl rfl)
theorem dX2_walks_16 : decode cX2_walks 16 = .ok (.ifCond .le 98, 3) := dk_158 0 98 (dk_at dksX2_walks_0 16 rfl rfl)
theorem dX2_walks_19 : decode cX2_walks 19 = .ok (.aload_n 0, 1) := dk_42 (dk_at dksX2_walks_0 19 rfl rfl)
theorem dX2_walks_20 : decode cX2_walks 20 = .ok (.getfield 255, 3) := dk_180 0 255 (dk_at dksX2_walks_0 20 rfl rfl)
theorem dX2_walks_23 : decode cX2_walks 23 = .ok (.iload_n 1, 1) := dk_27 (dk_at dksX2_walks_0 23 rfl rfl)
theorem dX2_walks_24 : decode cX2_walks 24 = .ok (.if_icmp .ge 90, 3) := dk_162 0 90 (dk_at dksX2_walks_1 0 rfl rfl)
theorem dX2_walks_27 : decode cX2_walks 27 = .ok (.iload_n 2, 1) := dk_28 (dk_at dksX2_walks_1 3 rfl rfl)
theorem dX2_walks_28 : decode cX2_walks 28 = .ok (.aload_n 0, 1) := dk_42 (dk_at dksX2_walks_1 4 rfl rfl)
theorem dX2_walks_29 : decode cX2_walks 29 = .ok (.iload_n 3, 1) := dk_29 (dk_at dksX2_walks_1 5 rfl rfl)
theorem dX2_walks_30 : decode cX2_walks 30 = .ok (.aload_n 0, 1) := dk_42 (dk_at dksX2_walks_1 6 rfl rfl)
theorem dX2_walks_31 : decode cX2_walks 31 = .ok (.getfield 91, 3) := dk_180 0 91 (dk_at dksX2_walks_1 7 rfl rfl)
theorem dX2_walks_34 : decode cX2_walks 34 = .ok (.iload 4, 2) := dk_21 4 (dk_at dksX2_walks_1 10 rfl rfl)
theorem dX2_walks_36 : decode cX2_walks 36 = .ok (.iaload, 1) := dk_46 (dk_at dksX2_walks_1 12 rfl rfl)
theorem dX2_walks_37 : decode cX2_walks 37 = .ok (.invokevirtual 258, 3) := dk_182 1 2 (dk_at dksX2_walks_1 13 rfl rfl)
theorem dX2_walks_40 : decode cX2_walks 40 = .ok (.iadd, 1) := dk_96 (dk_at dksX2_walks_1 16 rfl rfl)
theorem dX2_walks_41 : decode cX2_walks 41 = .ok (.istore_n 2, 1) := dk_61 (dk_at dksX2_walks_1 17 rfl rfl)
theorem dX2_walks_42 : decode cX2_walks 42 = .ok (.iload_n 2, 1) := dk_28 (dk_at dksX2_walks_1 18 rfl rfl)
theorem dX2_walks_43 : decode cX2_walks 43 = .ok (.sipush 2000, 3) := dk_17 7 208 (dk_at dksX2_walks_1 19 rfl rfl)
theorem dX2_walks_46 : decode cX2_walks 46 = .ok (.if_icmp .lt 4, 3) := dk_161 0 4 (dk_at dksX2_walks_2 0 rfl rfl)
theorem dX2_walks_49 : decode cX2_walks 49 = .ok (.return_, 1) := dk_177 (dk_at dksX2_walks_2 3 rfl rfl)
theorem dX2_walks_50 : decode cX2_walks 50 = .ok (.aload_n 0, 1) := dk_42 (dk_at dksX2_walks_2 4 rfl rfl)
theorem dX2_walks_51 : decode cX2_walks 51 = .ok (.getfield 94, 3) := dk_180 0 94 (dk_at dksX2_walks_2 5 rfl rfl)
theorem dX2_walks_54 : decode cX2_walks 54 = .ok (.aload_n 0, 1) := dk_42 (dk_at dksX2_walks_2 8 rfl rfl)
theorem dX2_walks_55 : decode cX2_walks 55 = .ok (.getfield 255, 3) := dk_180 0 255 (dk_at dksX2_walks_2 9 rfl rfl)
theorem dX2_walks_58 : decode cX2_walks 58 = .ok (.iload_n 2, 1) := dk_28 (dk_at dksX2_walks_2 12 rfl rfl)
theorem dX2_walks_59 : decode cX2_walks 59 = .ok (.iastore, 1) := dk_79 (dk_at dksX2_walks_2 13 rfl rfl)
theorem dX2_walks_60 : decode cX2_walks 60 = .ok (.aload_n 0, 1) := dk_42 (dk_at dksX2_walks_2 14 rfl rfl)
theorem dX2_walks_61 : decode cX2_walks 61 = .ok (.getfield 97, 3) := dk_180 0 97 (dk_at dksX2_walks_2 15 rfl rfl)
theorem dX2_walks_64 : decode cX2_walks 64 = .ok (.aload_n 0, 1) := dk_42 (dk_at dksX2_walks_2 18 rfl rfl)
theorem dX2_walks_65 : decode cX2_walks 65 = .ok (.dup, 1) := dk_89 (dk_at dksX2_walks_2 19 rfl rfl)
theorem dX2_walks_66 : decode cX2_walks 66 = .ok (.getfield 255, 3) := dk_180 0 255 (dk_at dksX2_walks_2 20 rfl rfl)
theorem dX2_walks_69 : decode cX2_walks 69 = .ok (.dup_x1, 1) := dk_90 (dk_at dksX2_walks_2 23 rfl rfl)
theorem dX2_walks_70 : decode cX2_walks 70 = .ok (.iconst 1, 1) := dk_4 (dk_at dksX2_walks_3 0 rfl rfl)
theorem dX2_walks_71 : decode cX2_walks 71 = .ok (.iadd, 1) := dk_96 (dk_at dksX2_walks_3 1 rfl rfl)
theorem dX2_walks_72 : decode cX2_walks 72 = .ok (.putfield 255, 3) := dk_181 0 255 (dk_at dksX2_walks_3 2 rfl rfl)
theorem dX2_walks_75 : decode cX2_walks 75 = .ok (.aload_n 0, 1) := dk_42 (dk_at dksX2_walks_3 5 rfl rfl)
theorem dX2_walks_76 : decode cX2_walks 76 = .ok (.getfield 91, 3) := dk_180 0 91 (dk_at dksX2_walks_3 6 rfl rfl)
theorem dX2_walks_79 : decode cX2_walks 79 = .ok (.iload 4, 2) := dk_21 4 (dk_at dksX2_walks_3 9 rfl rfl)
theorem dX2_walks_81 : decode cX2_walks 81 = .ok (.iaload, 1) := dk_46 (dk_at dksX2_walks_3 11 rfl rfl)
theorem dX2_walks_82 : decode cX2_walks 82 = .ok (.iastore, 1) := dk_79 (dk_at dksX2_walks_3 12 rfl rfl)
theorem dX2_walks_83 : decode cX2_walks 83 = .ok (.aload_n 0, 1) := dk_42 (dk_at dksX2_walks_3 13 rfl rfl)
theorem dX2_walks_84 : decode cX2_walks 84 = .ok (.getfield 91, 3) := dk_180 0 91 (dk_at dksX2_walks_3 14 rfl rfl)
theorem dX2_walks_87 : decode cX2_walks 87 = .ok (.iload 4, 2) := dk_21 4 (dk_at dksX2_walks_3 17 rfl rfl)
theorem dX2_walks_89 : decode cX2_walks 89 = .ok (.iaload, 1) := dk_46 (dk_at dksX2_walks_3 19 rfl rfl)
theorem dX2_walks_90 : decode cX2_walks 90 = .ok (.istore_n 3, 1) := dk_62 (dk_at dksX2_walks_3 20 rfl rfl)
theorem dX2_walks_91 : decode cX2_walks 91 = .ok (.iload_n 2, 1) := dk_28 (dk_at dksX2_walks_3 21 rfl rfl)
theorem dX2_walks_92 : decode cX2_walks 92 = .ok (.aload_n 0, 1) := dk_42 (dk_at dksX2_walks_3 22 rfl rfl)
theorem dX2_walks_93 : decode cX2_walks 93 = .ok (.getfield 24, 3) := dk_180 0 24 (dk_at dksX2_walks_4 0 rfl rfl)
theorem dX2_walks_96 : decode cX2_walks 96 = .ok (.iconst 3, 1) := dk_6 (dk_at dksX2_walks_4 3 rfl rfl)
theorem dX2_walks_97 : decode cX2_walks 97 = .ok (.iaload, 1) := dk_46 (dk_at dksX2_walks_4 4 rfl rfl)
theorem dX2_walks_98 : decode cX2_walks 98 = .ok (.iadd, 1) := dk_96 (dk_at dksX2_walks_4 5 rfl rfl)
theorem dX2_walks_99 : decode cX2_walks 99 = .ok (.istore_n 2, 1) := dk_61 (dk_at dksX2_walks_4 6 rfl rfl)
theorem dX2_walks_100 : decode cX2_walks 100 = .ok (.iload 4, 2) := dk_21 4 (dk_at dksX2_walks_4 7 rfl rfl)
theorem dX2_walks_102 : decode cX2_walks 102 = .ok (.iconst 1, 1) := dk_4 (dk_at dksX2_walks_4 9 rfl rfl)
theorem dX2_walks_103 : decode cX2_walks 103 = .ok (.iadd, 1) := dk_96 (dk_at dksX2_walks_4 10 rfl rfl)
theorem dX2_walks_104 : decode cX2_walks 104 = .ok (.aload_n 0, 1) := dk_42 (dk_at dksX2_walks_4 11 rfl rfl)
theorem dX2_walks_105 : decode cX2_walks 105 = .ok (.getfield 231, 3) := dk_180 0 231 (dk_at dksX2_walks_4 12 rfl rfl)
theorem dX2_walks_108 : decode cX2_walks 108 = .ok (.irem, 1) := dk_112 (dk_at dksX2_walks_4 15 rfl rfl)
theorem dX2_walks_109 : decode cX2_walks 109 = .ok (.istore 4, 2) := dk_54 4 (dk_at dksX2_walks_4 16 rfl rfl)
theorem dX2_walks_111 : decode cX2_walks 111 = .ok (.goto (-99), 3) := dk_167 255 157 (dk_at dksX2_walks_4 18 rfl rfl)
theorem dX2_walks_114 : decode cX2_walks 114 = .ok (.return_, 1) := dk_177 (dk_at dksX2_walks_4 21 rfl rfl)
abbrev cX2_by : ByteArray := prog_31_method_49_code
def yX2_by : MethodName := ⟨RX2, "by", "(III)I"⟩
def dkwX2_by_4 : List UInt8 := [154, 0, 8, 16, 254, 167, 0, 12, 42, 180, 0, 97, 21, 5, 4, 100, 46, 172]
abbrev dktX2_by_4 : List UInt8 := dkwX2_by_4 ++ []
def dkwX2_by_3 : List UInt8 := [46, 28, 163, 0, 9, 132, 5, 1, 167, 255, 233, 29, 4, 160, 0, 8, 21, 5, 167, 0, 22, 21, 5]
abbrev dktX2_by_3 : List UInt8 := dkwX2_by_3 ++ dktX2_by_4
def dkwX2_by_2 : List UInt8 := [17, 15, 160, 182, 1, 5, 3, 54, 5, 21, 5, 42, 180, 0, 255, 162, 0, 20, 42, 180, 0, 94, 21, 5]
abbrev dktX2_by_2 : List UInt8 := dkwX2_by_2 ++ dktX2_by_3
def dkwX2_by_1 : List UInt8 := [172, 42, 27, 3, 182, 1, 9, 54, 4, 21, 4, 156, 0, 6, 21, 4, 172, 42, 27, 182, 1, 12, 42]
abbrev dktX2_by_1 : List UInt8 := dkwX2_by_1 ++ dktX2_by_2
def dkwX2_by_0 : List UInt8 := [27, 184, 0, 131, 153, 0, 19, 28, 184, 1, 18, 153, 0, 12, 29, 3, 4, 184, 0, 123, 154, 0, 5, 2]
abbrev dktX2_by_0 : List UInt8 := dkwX2_by_0 ++ dktX2_by_1
theorem dksX2_by_0 : cX2_by.data.toList.drop 0 = dktX2_by_0 := by decide +kernel
theorem dksX2_by_1 : cX2_by.data.toList.drop 24 = dktX2_by_1 := dk_seg dksX2_by_0 24 rfl rfl
theorem dksX2_by_2 : cX2_by.data.toList.drop 47 = dktX2_by_2 := dk_seg dksX2_by_1 23 rfl rfl
theorem dksX2_by_3 : cX2_by.data.toList.drop 71 = dktX2_by_3 := dk_seg dksX2_by_2 24 rfl rfl
theorem dksX2_by_4 : cX2_by.data.toList.drop 94 = dktX2_by_4 := dk_seg dksX2_by_3 23 rfl rfl
theorem dX2_by_0 : decode cX2_by 0 = .ok (.iload_n 1, 1) := dk_27 (dk_at dksX2_by_0 0 rfl rfl)
theorem dX2_by_1 : decode cX2_by 1 = .ok (.invokestatic 131, 3) := dk_184 0 131 (dk_at dksX2_by_0 1 rfl rfl)
theorem dX2_by_4 : decode cX2_by 4 = .ok (.ifCond .eq 19, 3) := dk_153 0 19 (dk_at dksX2_by_0 4 rfl rfl)
theorem dX2_by_7 : decode cX2_by 7 = .ok (.iload_n 2, 1) := dk_28 (dk_at dksX2_by_0 7 rfl rfl)
theorem dX2_by_8 : decode cX2_by 8 = .ok (.invokestatic 274, 3) := dk_184 1 18 (dk_at dksX2_by_0 8 rfl rfl)
theorem dX2_by_11 : decode cX2_by 11 = .ok (.ifCond .eq 12, 3) := dk_153 0 12 (dk_at dksX2_by_0 11 rfl rfl)
theorem dX2_by_14 : decode cX2_by 14 = .ok (.iload_n 3, 1) := dk_29 (dk_at dksX2_by_0 14 rfl rfl)
theorem dX2_by_15 : decode cX2_by 15 = .ok (.iconst 0, 1) := dk_3 (dk_at dksX2_by_0 15 rfl rfl)
theorem dX2_by_16 : decode cX2_by 16 = .ok (.iconst 1, 1) := dk_4 (dk_at dksX2_by_0 16 rfl rfl)
theorem dX2_by_17 : decode cX2_by 17 = .ok (.invokestatic 123, 3) := dk_184 0 123 (dk_at dksX2_by_0 17 rfl rfl)
theorem dX2_by_20 : decode cX2_by 20 = .ok (.ifCond .ne 5, 3) := dk_154 0 5 (dk_at dksX2_by_0 20 rfl rfl)
theorem dX2_by_23 : decode cX2_by 23 = .ok (.iconst (-1), 1) := dk_2 (dk_at dksX2_by_0 23 rfl rfl)
theorem dX2_by_24 : decode cX2_by 24 = .ok (.ireturn, 1) := dk_172 (dk_at dksX2_by_1 0 rfl rfl)
theorem dX2_by_25 : decode cX2_by 25 = .ok (.aload_n 0, 1) := dk_42 (dk_at dksX2_by_1 1 rfl rfl)
theorem dX2_by_26 : decode cX2_by 26 = .ok (.iload_n 1, 1) := dk_27 (dk_at dksX2_by_1 2 rfl rfl)
theorem dX2_by_27 : decode cX2_by 27 = .ok (.iconst 0, 1) := dk_3 (dk_at dksX2_by_1 3 rfl rfl)
theorem dX2_by_28 : decode cX2_by 28 = .ok (.invokevirtual 265, 3) := dk_182 1 9 (dk_at dksX2_by_1 4 rfl rfl)
theorem dX2_by_31 : decode cX2_by 31 = .ok (.istore 4, 2) := dk_54 4 (dk_at dksX2_by_1 7 rfl rfl)
theorem dX2_by_33 : decode cX2_by 33 = .ok (.iload 4, 2) := dk_21 4 (dk_at dksX2_by_1 9 rfl rfl)
theorem dX2_by_35 : decode cX2_by 35 = .ok (.ifCond .ge 6, 3) := dk_156 0 6 (dk_at dksX2_by_1 11 rfl rfl)
theorem dX2_by_38 : decode cX2_by 38 = .ok (.iload 4, 2) := dk_21 4 (dk_at dksX2_by_1 14 rfl rfl)
theorem dX2_by_40 : decode cX2_by 40 = .ok (.ireturn, 1) := dk_172 (dk_at dksX2_by_1 16 rfl rfl)
theorem dX2_by_41 : decode cX2_by 41 = .ok (.aload_n 0, 1) := dk_42 (dk_at dksX2_by_1 17 rfl rfl)
theorem dX2_by_42 : decode cX2_by 42 = .ok (.iload_n 1, 1) := dk_27 (dk_at dksX2_by_1 18 rfl rfl)
theorem dX2_by_43 : decode cX2_by 43 = .ok (.invokevirtual 268, 3) := dk_182 1 12 (dk_at dksX2_by_1 19 rfl rfl)
theorem dX2_by_46 : decode cX2_by 46 = .ok (.aload_n 0, 1) := dk_42 (dk_at dksX2_by_1 22 rfl rfl)
theorem dX2_by_47 : decode cX2_by 47 = .ok (.sipush 4000, 3) := dk_17 15 160 (dk_at dksX2_by_2 0 rfl rfl)
theorem dX2_by_50 : decode cX2_by 50 = .ok (.invokevirtual 261, 3) := dk_182 1 5 (dk_at dksX2_by_2 3 rfl rfl)
theorem dX2_by_53 : decode cX2_by 53 = .ok (.iconst 0, 1) := dk_3 (dk_at dksX2_by_2 6 rfl rfl)
theorem dX2_by_54 : decode cX2_by 54 = .ok (.istore 5, 2) := dk_54 5 (dk_at dksX2_by_2 7 rfl rfl)
theorem dX2_by_56 : decode cX2_by 56 = .ok (.iload 5, 2) := dk_21 5 (dk_at dksX2_by_2 9 rfl rfl)
theorem dX2_by_58 : decode cX2_by 58 = .ok (.aload_n 0, 1) := dk_42 (dk_at dksX2_by_2 11 rfl rfl)
theorem dX2_by_59 : decode cX2_by 59 = .ok (.getfield 255, 3) := dk_180 0 255 (dk_at dksX2_by_2 12 rfl rfl)
theorem dX2_by_62 : decode cX2_by 62 = .ok (.if_icmp .ge 20, 3) := dk_162 0 20 (dk_at dksX2_by_2 15 rfl rfl)
theorem dX2_by_65 : decode cX2_by 65 = .ok (.aload_n 0, 1) := dk_42 (dk_at dksX2_by_2 18 rfl rfl)
theorem dX2_by_66 : decode cX2_by 66 = .ok (.getfield 94, 3) := dk_180 0 94 (dk_at dksX2_by_2 19 rfl rfl)
theorem dX2_by_69 : decode cX2_by 69 = .ok (.iload 5, 2) := dk_21 5 (dk_at dksX2_by_2 22 rfl rfl)
theorem dX2_by_71 : decode cX2_by 71 = .ok (.iaload, 1) := dk_46 (dk_at dksX2_by_3 0 rfl rfl)
theorem dX2_by_72 : decode cX2_by 72 = .ok (.iload_n 2, 1) := dk_28 (dk_at dksX2_by_3 1 rfl rfl)
theorem dX2_by_73 : decode cX2_by 73 = .ok (.if_icmp .gt 9, 3) := dk_163 0 9 (dk_at dksX2_by_3 2 rfl rfl)
theorem dX2_by_76 : decode cX2_by 76 = .ok (.iinc 5 1, 3) := dk_132 5 1 (dk_at dksX2_by_3 5 rfl rfl)
theorem dX2_by_79 : decode cX2_by 79 = .ok (.goto (-23), 3) := dk_167 255 233 (dk_at dksX2_by_3 8 rfl rfl)
theorem dX2_by_82 : decode cX2_by 82 = .ok (.iload_n 3, 1) := dk_29 (dk_at dksX2_by_3 11 rfl rfl)
theorem dX2_by_83 : decode cX2_by 83 = .ok (.iconst 1, 1) := dk_4 (dk_at dksX2_by_3 12 rfl rfl)
theorem dX2_by_84 : decode cX2_by 84 = .ok (.if_icmp .ne 8, 3) := dk_160 0 8 (dk_at dksX2_by_3 13 rfl rfl)
theorem dX2_by_87 : decode cX2_by 87 = .ok (.iload 5, 2) := dk_21 5 (dk_at dksX2_by_3 16 rfl rfl)
theorem dX2_by_89 : decode cX2_by 89 = .ok (.goto 22, 3) := dk_167 0 22 (dk_at dksX2_by_3 18 rfl rfl)
theorem dX2_by_92 : decode cX2_by 92 = .ok (.iload 5, 2) := dk_21 5 (dk_at dksX2_by_3 21 rfl rfl)
theorem dX2_by_94 : decode cX2_by 94 = .ok (.ifCond .ne 8, 3) := dk_154 0 8 (dk_at dksX2_by_4 0 rfl rfl)
theorem dX2_by_97 : decode cX2_by 97 = .ok (.bipush (-2), 2) := dk_16 254 (dk_at dksX2_by_4 3 rfl rfl)
theorem dX2_by_99 : decode cX2_by 99 = .ok (.goto 12, 3) := dk_167 0 12 (dk_at dksX2_by_4 5 rfl rfl)
theorem dX2_by_102 : decode cX2_by 102 = .ok (.aload_n 0, 1) := dk_42 (dk_at dksX2_by_4 8 rfl rfl)
theorem dX2_by_103 : decode cX2_by 103 = .ok (.getfield 97, 3) := dk_180 0 97 (dk_at dksX2_by_4 9 rfl rfl)
theorem dX2_by_106 : decode cX2_by 106 = .ok (.iload 5, 2) := dk_21 5 (dk_at dksX2_by_4 12 rfl rfl)
theorem dX2_by_108 : decode cX2_by 108 = .ok (.iconst 1, 1) := dk_4 (dk_at dksX2_by_4 14 rfl rfl)
theorem dX2_by_109 : decode cX2_by 109 = .ok (.isub, 1) := dk_100 (dk_at dksX2_by_4 15 rfl rfl)
theorem dX2_by_110 : decode cX2_by 110 = .ok (.iaload, 1) := dk_46 (dk_at dksX2_by_4 16 rfl rfl)
theorem dX2_by_111 : decode cX2_by 111 = .ok (.ireturn, 1) := dk_172 (dk_at dksX2_by_4 17 rfl rfl)
abbrev cX2_isMinute : ByteArray := prog_31_method_4_code
def yX2_isMinute : MethodName := ⟨RX2, "isMinute", "(I)Z"⟩
def dkwX2_isMinute_0 : List UInt8 := [26, 3, 17, 3, 231, 184, 0, 123, 172]
abbrev dktX2_isMinute_0 : List UInt8 := dkwX2_isMinute_0 ++ []
theorem dksX2_isMinute_0 : cX2_isMinute.data.toList.drop 0 = dktX2_isMinute_0 := by decide +kernel
theorem dX2_isMinute_0 : decode cX2_isMinute 0 = .ok (.iload_n 0, 1) := dk_26 (dk_at dksX2_isMinute_0 0 rfl rfl)
theorem dX2_isMinute_1 : decode cX2_isMinute 1 = .ok (.iconst 0, 1) := dk_3 (dk_at dksX2_isMinute_0 1 rfl rfl)
theorem dX2_isMinute_2 : decode cX2_isMinute 2 = .ok (.sipush 999, 3) := dk_17 3 231 (dk_at dksX2_isMinute_0 2 rfl rfl)
theorem dX2_isMinute_5 : decode cX2_isMinute 5 = .ok (.invokestatic 123, 3) := dk_184 0 123 (dk_at dksX2_isMinute_0 5 rfl rfl)
theorem dX2_isMinute_8 : decode cX2_isMinute 8 = .ok (.ireturn, 1) := dk_172 (dk_at dksX2_isMinute_0 8 rfl rfl)
abbrev cX2_unseen : ByteArray := prog_31_method_50_code
def yX2_unseen : MethodName := ⟨RX2, "unseen", "(IIII)I"⟩
def dkwX2_unseen_3 : List UInt8 := [182, 1, 24, 167, 0, 17, 42, 28, 29, 182, 1, 27, 153, 0, 7, 4, 167, 0, 4, 3, 172]
abbrev dktX2_unseen_3 : List UInt8 := dkwX2_unseen_3 ++ []
def dkwX2_unseen_2 : List UInt8 := [156, 0, 6, 21, 5, 172, 42, 27, 182, 1, 12, 42, 182, 1, 21, 21, 4, 154, 0, 12, 42, 28, 29]
abbrev dktX2_unseen_2 : List UInt8 := dkwX2_unseen_2 ++ dktX2_unseen_3
def dkwX2_unseen_1 : List UInt8 := [21, 4, 3, 4, 184, 0, 123, 154, 0, 5, 2, 172, 42, 27, 3, 182, 1, 9, 54, 5, 21, 5]
abbrev dktX2_unseen_1 : List UInt8 := dkwX2_unseen_1 ++ dktX2_unseen_2
def dkwX2_unseen_0 : List UInt8 := [27, 184, 0, 131, 153, 0, 29, 42, 28, 133, 182, 0, 137, 153, 0, 20, 29, 184, 1, 18, 153, 0, 13]
abbrev dktX2_unseen_0 : List UInt8 := dkwX2_unseen_0 ++ dktX2_unseen_1
theorem dksX2_unseen_0 : cX2_unseen.data.toList.drop 0 = dktX2_unseen_0 := by decide +kernel
theorem dksX2_unseen_1 : cX2_unseen.data.toList.drop 23 = dktX2_unseen_1 := dk_seg dksX2_unseen_0 23 rfl rfl
theorem dksX2_unseen_2 : cX2_unseen.data.toList.drop 45 = dktX2_unseen_2 := dk_seg dksX2_unseen_1 22 rfl rfl
theorem dksX2_unseen_3 : cX2_unseen.data.toList.drop 68 = dktX2_unseen_3 := dk_seg dksX2_unseen_2 23 rfl rfl
theorem dX2_unseen_0 : decode cX2_unseen 0 = .ok (.iload_n 1, 1) := dk_27 (dk_at dksX2_unseen_0 0 rfl rfl)
theorem dX2_unseen_1 : decode cX2_unseen 1 = .ok (.invokestatic 131, 3) := dk_184 0 131 (dk_at dksX2_unseen_0 1 rfl rfl)
theorem dX2_unseen_4 : decode cX2_unseen 4 = .ok (.ifCond .eq 29, 3) := dk_153 0 29 (dk_at dksX2_unseen_0 4 rfl rfl)
theorem dX2_unseen_7 : decode cX2_unseen 7 = .ok (.aload_n 0, 1) := dk_42 (dk_at dksX2_unseen_0 7 rfl rfl)
theorem dX2_unseen_8 : decode cX2_unseen 8 = .ok (.iload_n 2, 1) := dk_28 (dk_at dksX2_unseen_0 8 rfl rfl)
theorem dX2_unseen_9 : decode cX2_unseen 9 = .ok (.i2l, 1) := dk_133 (dk_at dksX2_unseen_0 9 rfl rfl)
theorem dX2_unseen_10 : decode cX2_unseen 10 = .ok (.invokevirtual 137, 3) := dk_182 0 137 (dk_at dksX2_unseen_0 10 rfl rfl)
theorem dX2_unseen_13 : decode cX2_unseen 13 = .ok (.ifCond .eq 20, 3) := dk_153 0 20 (dk_at dksX2_unseen_0 13 rfl rfl)
theorem dX2_unseen_16 : decode cX2_unseen 16 = .ok (.iload_n 3, 1) := dk_29 (dk_at dksX2_unseen_0 16 rfl rfl)
theorem dX2_unseen_17 : decode cX2_unseen 17 = .ok (.invokestatic 274, 3) := dk_184 1 18 (dk_at dksX2_unseen_0 17 rfl rfl)
theorem dX2_unseen_20 : decode cX2_unseen 20 = .ok (.ifCond .eq 13, 3) := dk_153 0 13 (dk_at dksX2_unseen_0 20 rfl rfl)
theorem dX2_unseen_23 : decode cX2_unseen 23 = .ok (.iload 4, 2) := dk_21 4 (dk_at dksX2_unseen_1 0 rfl rfl)
theorem dX2_unseen_25 : decode cX2_unseen 25 = .ok (.iconst 0, 1) := dk_3 (dk_at dksX2_unseen_1 2 rfl rfl)
theorem dX2_unseen_26 : decode cX2_unseen 26 = .ok (.iconst 1, 1) := dk_4 (dk_at dksX2_unseen_1 3 rfl rfl)
theorem dX2_unseen_27 : decode cX2_unseen 27 = .ok (.invokestatic 123, 3) := dk_184 0 123 (dk_at dksX2_unseen_1 4 rfl rfl)
theorem dX2_unseen_30 : decode cX2_unseen 30 = .ok (.ifCond .ne 5, 3) := dk_154 0 5 (dk_at dksX2_unseen_1 7 rfl rfl)
theorem dX2_unseen_33 : decode cX2_unseen 33 = .ok (.iconst (-1), 1) := dk_2 (dk_at dksX2_unseen_1 10 rfl rfl)
theorem dX2_unseen_34 : decode cX2_unseen 34 = .ok (.ireturn, 1) := dk_172 (dk_at dksX2_unseen_1 11 rfl rfl)
theorem dX2_unseen_35 : decode cX2_unseen 35 = .ok (.aload_n 0, 1) := dk_42 (dk_at dksX2_unseen_1 12 rfl rfl)
theorem dX2_unseen_36 : decode cX2_unseen 36 = .ok (.iload_n 1, 1) := dk_27 (dk_at dksX2_unseen_1 13 rfl rfl)
theorem dX2_unseen_37 : decode cX2_unseen 37 = .ok (.iconst 0, 1) := dk_3 (dk_at dksX2_unseen_1 14 rfl rfl)
theorem dX2_unseen_38 : decode cX2_unseen 38 = .ok (.invokevirtual 265, 3) := dk_182 1 9 (dk_at dksX2_unseen_1 15 rfl rfl)
theorem dX2_unseen_41 : decode cX2_unseen 41 = .ok (.istore 5, 2) := dk_54 5 (dk_at dksX2_unseen_1 18 rfl rfl)
theorem dX2_unseen_43 : decode cX2_unseen 43 = .ok (.iload 5, 2) := dk_21 5 (dk_at dksX2_unseen_1 20 rfl rfl)
theorem dX2_unseen_45 : decode cX2_unseen 45 = .ok (.ifCond .ge 6, 3) := dk_156 0 6 (dk_at dksX2_unseen_2 0 rfl rfl)
theorem dX2_unseen_48 : decode cX2_unseen 48 = .ok (.iload 5, 2) := dk_21 5 (dk_at dksX2_unseen_2 3 rfl rfl)
theorem dX2_unseen_50 : decode cX2_unseen 50 = .ok (.ireturn, 1) := dk_172 (dk_at dksX2_unseen_2 5 rfl rfl)
theorem dX2_unseen_51 : decode cX2_unseen 51 = .ok (.aload_n 0, 1) := dk_42 (dk_at dksX2_unseen_2 6 rfl rfl)
theorem dX2_unseen_52 : decode cX2_unseen 52 = .ok (.iload_n 1, 1) := dk_27 (dk_at dksX2_unseen_2 7 rfl rfl)
theorem dX2_unseen_53 : decode cX2_unseen 53 = .ok (.invokevirtual 268, 3) := dk_182 1 12 (dk_at dksX2_unseen_2 8 rfl rfl)
theorem dX2_unseen_56 : decode cX2_unseen 56 = .ok (.aload_n 0, 1) := dk_42 (dk_at dksX2_unseen_2 11 rfl rfl)
theorem dX2_unseen_57 : decode cX2_unseen 57 = .ok (.invokevirtual 277, 3) := dk_182 1 21 (dk_at dksX2_unseen_2 12 rfl rfl)
theorem dX2_unseen_60 : decode cX2_unseen 60 = .ok (.iload 4, 2) := dk_21 4 (dk_at dksX2_unseen_2 15 rfl rfl)
theorem dX2_unseen_62 : decode cX2_unseen 62 = .ok (.ifCond .ne 12, 3) := dk_154 0 12 (dk_at dksX2_unseen_2 17 rfl rfl)
theorem dX2_unseen_65 : decode cX2_unseen 65 = .ok (.aload_n 0, 1) := dk_42 (dk_at dksX2_unseen_2 20 rfl rfl)
theorem dX2_unseen_66 : decode cX2_unseen 66 = .ok (.iload_n 2, 1) := dk_28 (dk_at dksX2_unseen_2 21 rfl rfl)
theorem dX2_unseen_67 : decode cX2_unseen 67 = .ok (.iload_n 3, 1) := dk_29 (dk_at dksX2_unseen_2 22 rfl rfl)
theorem dX2_unseen_68 : decode cX2_unseen 68 = .ok (.invokevirtual 280, 3) := dk_182 1 24 (dk_at dksX2_unseen_3 0 rfl rfl)
theorem dX2_unseen_71 : decode cX2_unseen 71 = .ok (.goto 17, 3) := dk_167 0 17 (dk_at dksX2_unseen_3 3 rfl rfl)
theorem dX2_unseen_74 : decode cX2_unseen 74 = .ok (.aload_n 0, 1) := dk_42 (dk_at dksX2_unseen_3 6 rfl rfl)
theorem dX2_unseen_75 : decode cX2_unseen 75 = .ok (.iload_n 2, 1) := dk_28 (dk_at dksX2_unseen_3 7 rfl rfl)
theorem dX2_unseen_76 : decode cX2_unseen 76 = .ok (.iload_n 3, 1) := dk_29 (dk_at dksX2_unseen_3 8 rfl rfl)
theorem dX2_unseen_77 : decode cX2_unseen 77 = .ok (.invokevirtual 283, 3) := dk_182 1 27 (dk_at dksX2_unseen_3 9 rfl rfl)
theorem dX2_unseen_80 : decode cX2_unseen 80 = .ok (.ifCond .eq 7, 3) := dk_153 0 7 (dk_at dksX2_unseen_3 12 rfl rfl)
theorem dX2_unseen_83 : decode cX2_unseen 83 = .ok (.iconst 1, 1) := dk_4 (dk_at dksX2_unseen_3 15 rfl rfl)
theorem dX2_unseen_84 : decode cX2_unseen 84 = .ok (.goto 4, 3) := dk_167 0 4 (dk_at dksX2_unseen_3 16 rfl rfl)
theorem dX2_unseen_87 : decode cX2_unseen 87 = .ok (.iconst 0, 1) := dk_3 (dk_at dksX2_unseen_3 19 rfl rfl)
theorem dX2_unseen_88 : decode cX2_unseen 88 = .ok (.ireturn, 1) := dk_172 (dk_at dksX2_unseen_3 20 rfl rfl)
abbrev cX2_looks : ByteArray := prog_31_method_43_code
def yX2_looks : MethodName := ⟨RX2, "looks", "()V"⟩
def dkwX2_looks_6 : List UInt8 := [167, 255, 191, 177]
abbrev dktX2_looks_6 : List UInt8 := dkwX2_looks_6 ++ []
def dkwX2_looks_5 : List UInt8 := [180, 0, 100, 17, 7, 208, 27, 104, 28, 96, 4, 100, 46, 79, 132, 2, 1, 167, 255, 205, 132, 1, 1]
abbrev dktX2_looks_5 : List UInt8 := dkwX2_looks_5 ++ dktX2_looks_6
def dkwX2_looks_4 : List UInt8 := [17, 7, 208, 27, 104, 28, 96, 46, 156, 0, 29, 42, 180, 0, 100, 17, 7, 208, 27, 104, 28, 96, 42]
abbrev dktX2_looks_4 : List UInt8 := dkwX2_looks_4 ++ dktX2_looks_5
def dkwX2_looks_3 : List UInt8 := [167, 255, 217, 3, 60, 27, 16, 9, 162, 0, 65, 4, 61, 28, 17, 7, 208, 162, 0, 50, 42, 180, 0, 100]
abbrev dktX2_looks_3 : List UInt8 := dkwX2_looks_3 ++ dktX2_looks_4
def dkwX2_looks_2 : List UInt8 := [180, 0, 97, 27, 46, 104, 42, 180, 0, 94, 27, 46, 96, 42, 180, 0, 94, 27, 46, 79, 132, 1, 1]
abbrev dktX2_looks_2 : List UInt8 := dkwX2_looks_2 ++ dktX2_looks_3
def dkwX2_looks_1 : List UInt8 := [132, 1, 1, 167, 255, 239, 3, 60, 27, 42, 180, 0, 255, 162, 0, 37, 42, 180, 0, 100, 17, 7, 208, 42]
abbrev dktX2_looks_1 : List UInt8 := dkwX2_looks_1 ++ dktX2_looks_2
def dkwX2_looks_0 : List UInt8 := [42, 17, 15, 160, 182, 1, 5, 3, 60, 27, 17, 70, 80, 162, 0, 16, 42, 180, 0, 100, 27, 2, 79]
abbrev dktX2_looks_0 : List UInt8 := dkwX2_looks_0 ++ dktX2_looks_1
theorem dksX2_looks_0 : cX2_looks.data.toList.drop 0 = dktX2_looks_0 := by decide +kernel
theorem dksX2_looks_1 : cX2_looks.data.toList.drop 23 = dktX2_looks_1 := dk_seg dksX2_looks_0 23 rfl rfl
theorem dksX2_looks_2 : cX2_looks.data.toList.drop 47 = dktX2_looks_2 := dk_seg dksX2_looks_1 24 rfl rfl
theorem dksX2_looks_3 : cX2_looks.data.toList.drop 70 = dktX2_looks_3 := dk_seg dksX2_looks_2 23 rfl rfl
theorem dksX2_looks_4 : cX2_looks.data.toList.drop 94 = dktX2_looks_4 := dk_seg dksX2_looks_3 24 rfl rfl
theorem dksX2_looks_5 : cX2_looks.data.toList.drop 117 = dktX2_looks_5 := dk_seg dksX2_looks_4 23 rfl rfl
theorem dksX2_looks_6 : cX2_looks.data.toList.drop 140 = dktX2_looks_6 := dk_seg dksX2_looks_5 23 rfl rfl
theorem dX2_looks_0 : decode cX2_looks 0 = .ok (.aload_n 0, 1) := dk_42 (dk_at dksX2_looks_0 0 rfl rfl)
theorem dX2_looks_1 : decode cX2_looks 1 = .ok (.sipush 4000, 3) := dk_17 15 160 (dk_at dksX2_looks_0 1 rfl rfl)
theorem dX2_looks_4 : decode cX2_looks 4 = .ok (.invokevirtual 261, 3) := dk_182 1 5 (dk_at dksX2_looks_0 4 rfl rfl)
theorem dX2_looks_7 : decode cX2_looks 7 = .ok (.iconst 0, 1) := dk_3 (dk_at dksX2_looks_0 7 rfl rfl)
theorem dX2_looks_8 : decode cX2_looks 8 = .ok (.istore_n 1, 1) := dk_60 (dk_at dksX2_looks_0 8 rfl rfl)
theorem dX2_looks_9 : decode cX2_looks 9 = .ok (.iload_n 1, 1) := dk_27 (dk_at dksX2_looks_0 9 rfl rfl)
theorem dX2_looks_10 : decode cX2_looks 10 = .ok (.sipush 18000, 3) := dk_17 70 80 (dk_at dksX2_looks_0 10 rfl rfl)
theorem dX2_looks_13 : decode cX2_looks 13 = .ok (.if_icmp .ge 16, 3) := dk_162 0 16 (dk_at dksX2_looks_0 13 rfl rfl)
theorem dX2_looks_16 : decode cX2_looks 16 = .ok (.aload_n 0, 1) := dk_42 (dk_at dksX2_looks_0 16 rfl rfl)
theorem dX2_looks_17 : decode cX2_looks 17 = .ok (.getfield 100, 3) := dk_180 0 100 (dk_at dksX2_looks_0 17 rfl rfl)
theorem dX2_looks_20 : decode cX2_looks 20 = .ok (.iload_n 1, 1) := dk_27 (dk_at dksX2_looks_0 20 rfl rfl)
theorem dX2_looks_21 : decode cX2_looks 21 = .ok (.iconst (-1), 1) := dk_2 (dk_at dksX2_looks_0 21 rfl rfl)
theorem dX2_looks_22 : decode cX2_looks 22 = .ok (.iastore, 1) := dk_79 (dk_at dksX2_looks_0 22 rfl rfl)
theorem dX2_looks_23 : decode cX2_looks 23 = .ok (.iinc 1 1, 3) := dk_132 1 1 (dk_at dksX2_looks_1 0 rfl rfl)
theorem dX2_looks_26 : decode cX2_looks 26 = .ok (.goto (-17), 3) := dk_167 255 239 (dk_at dksX2_looks_1 3 rfl rfl)
theorem dX2_looks_29 : decode cX2_looks 29 = .ok (.iconst 0, 1) := dk_3 (dk_at dksX2_looks_1 6 rfl rfl)
theorem dX2_looks_30 : decode cX2_looks 30 = .ok (.istore_n 1, 1) := dk_60 (dk_at dksX2_looks_1 7 rfl rfl)
theorem dX2_looks_31 : decode cX2_looks 31 = .ok (.iload_n 1, 1) := dk_27 (dk_at dksX2_looks_1 8 rfl rfl)
theorem dX2_looks_32 : decode cX2_looks 32 = .ok (.aload_n 0, 1) := dk_42 (dk_at dksX2_looks_1 9 rfl rfl)
theorem dX2_looks_33 : decode cX2_looks 33 = .ok (.getfield 255, 3) := dk_180 0 255 (dk_at dksX2_looks_1 10 rfl rfl)
theorem dX2_looks_36 : decode cX2_looks 36 = .ok (.if_icmp .ge 37, 3) := dk_162 0 37 (dk_at dksX2_looks_1 13 rfl rfl)
theorem dX2_looks_39 : decode cX2_looks 39 = .ok (.aload_n 0, 1) := dk_42 (dk_at dksX2_looks_1 16 rfl rfl)
theorem dX2_looks_40 : decode cX2_looks 40 = .ok (.getfield 100, 3) := dk_180 0 100 (dk_at dksX2_looks_1 17 rfl rfl)
theorem dX2_looks_43 : decode cX2_looks 43 = .ok (.sipush 2000, 3) := dk_17 7 208 (dk_at dksX2_looks_1 20 rfl rfl)
theorem dX2_looks_46 : decode cX2_looks 46 = .ok (.aload_n 0, 1) := dk_42 (dk_at dksX2_looks_1 23 rfl rfl)
theorem dX2_looks_47 : decode cX2_looks 47 = .ok (.getfield 97, 3) := dk_180 0 97 (dk_at dksX2_looks_2 0 rfl rfl)
theorem dX2_looks_50 : decode cX2_looks 50 = .ok (.iload_n 1, 1) := dk_27 (dk_at dksX2_looks_2 3 rfl rfl)
theorem dX2_looks_51 : decode cX2_looks 51 = .ok (.iaload, 1) := dk_46 (dk_at dksX2_looks_2 4 rfl rfl)
theorem dX2_looks_52 : decode cX2_looks 52 = .ok (.imul, 1) := dk_104 (dk_at dksX2_looks_2 5 rfl rfl)
theorem dX2_looks_53 : decode cX2_looks 53 = .ok (.aload_n 0, 1) := dk_42 (dk_at dksX2_looks_2 6 rfl rfl)
theorem dX2_looks_54 : decode cX2_looks 54 = .ok (.getfield 94, 3) := dk_180 0 94 (dk_at dksX2_looks_2 7 rfl rfl)
theorem dX2_looks_57 : decode cX2_looks 57 = .ok (.iload_n 1, 1) := dk_27 (dk_at dksX2_looks_2 10 rfl rfl)
theorem dX2_looks_58 : decode cX2_looks 58 = .ok (.iaload, 1) := dk_46 (dk_at dksX2_looks_2 11 rfl rfl)
theorem dX2_looks_59 : decode cX2_looks 59 = .ok (.iadd, 1) := dk_96 (dk_at dksX2_looks_2 12 rfl rfl)
theorem dX2_looks_60 : decode cX2_looks 60 = .ok (.aload_n 0, 1) := dk_42 (dk_at dksX2_looks_2 13 rfl rfl)
theorem dX2_looks_61 : decode cX2_looks 61 = .ok (.getfield 94, 3) := dk_180 0 94 (dk_at dksX2_looks_2 14 rfl rfl)
theorem dX2_looks_64 : decode cX2_looks 64 = .ok (.iload_n 1, 1) := dk_27 (dk_at dksX2_looks_2 17 rfl rfl)
theorem dX2_looks_65 : decode cX2_looks 65 = .ok (.iaload, 1) := dk_46 (dk_at dksX2_looks_2 18 rfl rfl)
theorem dX2_looks_66 : decode cX2_looks 66 = .ok (.iastore, 1) := dk_79 (dk_at dksX2_looks_2 19 rfl rfl)
theorem dX2_looks_67 : decode cX2_looks 67 = .ok (.iinc 1 1, 3) := dk_132 1 1 (dk_at dksX2_looks_2 20 rfl rfl)
theorem dX2_looks_70 : decode cX2_looks 70 = .ok (.goto (-39), 3) := dk_167 255 217 (dk_at dksX2_looks_3 0 rfl rfl)
theorem dX2_looks_73 : decode cX2_looks 73 = .ok (.iconst 0, 1) := dk_3 (dk_at dksX2_looks_3 3 rfl rfl)
theorem dX2_looks_74 : decode cX2_looks 74 = .ok (.istore_n 1, 1) := dk_60 (dk_at dksX2_looks_3 4 rfl rfl)
theorem dX2_looks_75 : decode cX2_looks 75 = .ok (.iload_n 1, 1) := dk_27 (dk_at dksX2_looks_3 5 rfl rfl)
theorem dX2_looks_76 : decode cX2_looks 76 = .ok (.bipush 9, 2) := dk_16 9 (dk_at dksX2_looks_3 6 rfl rfl)
theorem dX2_looks_78 : decode cX2_looks 78 = .ok (.if_icmp .ge 65, 3) := dk_162 0 65 (dk_at dksX2_looks_3 8 rfl rfl)
theorem dX2_looks_81 : decode cX2_looks 81 = .ok (.iconst 1, 1) := dk_4 (dk_at dksX2_looks_3 11 rfl rfl)
theorem dX2_looks_82 : decode cX2_looks 82 = .ok (.istore_n 2, 1) := dk_61 (dk_at dksX2_looks_3 12 rfl rfl)
theorem dX2_looks_83 : decode cX2_looks 83 = .ok (.iload_n 2, 1) := dk_28 (dk_at dksX2_looks_3 13 rfl rfl)
theorem dX2_looks_84 : decode cX2_looks 84 = .ok (.sipush 2000, 3) := dk_17 7 208 (dk_at dksX2_looks_3 14 rfl rfl)
theorem dX2_looks_87 : decode cX2_looks 87 = .ok (.if_icmp .ge 50, 3) := dk_162 0 50 (dk_at dksX2_looks_3 17 rfl rfl)
theorem dX2_looks_90 : decode cX2_looks 90 = .ok (.aload_n 0, 1) := dk_42 (dk_at dksX2_looks_3 20 rfl rfl)
theorem dX2_looks_91 : decode cX2_looks 91 = .ok (.getfield 100, 3) := dk_180 0 100 (dk_at dksX2_looks_3 21 rfl rfl)
theorem dX2_looks_94 : decode cX2_looks 94 = .ok (.sipush 2000, 3) := dk_17 7 208 (dk_at dksX2_looks_4 0 rfl rfl)
theorem dX2_looks_97 : decode cX2_looks 97 = .ok (.iload_n 1, 1) := dk_27 (dk_at dksX2_looks_4 3 rfl rfl)
theorem dX2_looks_98 : decode cX2_looks 98 = .ok (.imul, 1) := dk_104 (dk_at dksX2_looks_4 4 rfl rfl)
theorem dX2_looks_99 : decode cX2_looks 99 = .ok (.iload_n 2, 1) := dk_28 (dk_at dksX2_looks_4 5 rfl rfl)
theorem dX2_looks_100 : decode cX2_looks 100 = .ok (.iadd, 1) := dk_96 (dk_at dksX2_looks_4 6 rfl rfl)
theorem dX2_looks_101 : decode cX2_looks 101 = .ok (.iaload, 1) := dk_46 (dk_at dksX2_looks_4 7 rfl rfl)
theorem dX2_looks_102 : decode cX2_looks 102 = .ok (.ifCond .ge 29, 3) := dk_156 0 29 (dk_at dksX2_looks_4 8 rfl rfl)
theorem dX2_looks_105 : decode cX2_looks 105 = .ok (.aload_n 0, 1) := dk_42 (dk_at dksX2_looks_4 11 rfl rfl)
theorem dX2_looks_106 : decode cX2_looks 106 = .ok (.getfield 100, 3) := dk_180 0 100 (dk_at dksX2_looks_4 12 rfl rfl)
theorem dX2_looks_109 : decode cX2_looks 109 = .ok (.sipush 2000, 3) := dk_17 7 208 (dk_at dksX2_looks_4 15 rfl rfl)
theorem dX2_looks_112 : decode cX2_looks 112 = .ok (.iload_n 1, 1) := dk_27 (dk_at dksX2_looks_4 18 rfl rfl)
theorem dX2_looks_113 : decode cX2_looks 113 = .ok (.imul, 1) := dk_104 (dk_at dksX2_looks_4 19 rfl rfl)
theorem dX2_looks_114 : decode cX2_looks 114 = .ok (.iload_n 2, 1) := dk_28 (dk_at dksX2_looks_4 20 rfl rfl)
theorem dX2_looks_115 : decode cX2_looks 115 = .ok (.iadd, 1) := dk_96 (dk_at dksX2_looks_4 21 rfl rfl)
theorem dX2_looks_116 : decode cX2_looks 116 = .ok (.aload_n 0, 1) := dk_42 (dk_at dksX2_looks_4 22 rfl rfl)
theorem dX2_looks_117 : decode cX2_looks 117 = .ok (.getfield 100, 3) := dk_180 0 100 (dk_at dksX2_looks_5 0 rfl rfl)
theorem dX2_looks_120 : decode cX2_looks 120 = .ok (.sipush 2000, 3) := dk_17 7 208 (dk_at dksX2_looks_5 3 rfl rfl)
theorem dX2_looks_123 : decode cX2_looks 123 = .ok (.iload_n 1, 1) := dk_27 (dk_at dksX2_looks_5 6 rfl rfl)
theorem dX2_looks_124 : decode cX2_looks 124 = .ok (.imul, 1) := dk_104 (dk_at dksX2_looks_5 7 rfl rfl)
theorem dX2_looks_125 : decode cX2_looks 125 = .ok (.iload_n 2, 1) := dk_28 (dk_at dksX2_looks_5 8 rfl rfl)
theorem dX2_looks_126 : decode cX2_looks 126 = .ok (.iadd, 1) := dk_96 (dk_at dksX2_looks_5 9 rfl rfl)
theorem dX2_looks_127 : decode cX2_looks 127 = .ok (.iconst 1, 1) := dk_4 (dk_at dksX2_looks_5 10 rfl rfl)
theorem dX2_looks_128 : decode cX2_looks 128 = .ok (.isub, 1) := dk_100 (dk_at dksX2_looks_5 11 rfl rfl)
theorem dX2_looks_129 : decode cX2_looks 129 = .ok (.iaload, 1) := dk_46 (dk_at dksX2_looks_5 12 rfl rfl)
theorem dX2_looks_130 : decode cX2_looks 130 = .ok (.iastore, 1) := dk_79 (dk_at dksX2_looks_5 13 rfl rfl)
theorem dX2_looks_131 : decode cX2_looks 131 = .ok (.iinc 2 1, 3) := dk_132 2 1 (dk_at dksX2_looks_5 14 rfl rfl)
theorem dX2_looks_134 : decode cX2_looks 134 = .ok (.goto (-51), 3) := dk_167 255 205 (dk_at dksX2_looks_5 17 rfl rfl)
theorem dX2_looks_137 : decode cX2_looks 137 = .ok (.iinc 1 1, 3) := dk_132 1 1 (dk_at dksX2_looks_5 20 rfl rfl)
theorem dX2_looks_140 : decode cX2_looks 140 = .ok (.goto (-65), 3) := dk_167 255 191 (dk_at dksX2_looks_6 0 rfl rfl)
theorem dX2_looks_143 : decode cX2_looks 143 = .ok (.return_, 1) := dk_177 (dk_at dksX2_looks_6 3 rfl rfl)
abbrev cX2_unseenFor : ByteArray := prog_31_method_45_code
def yX2_unseenFor : MethodName := ⟨RX2, "unseenFor", "(II)I"⟩
def dkwX2_unseenFor_1 : List UInt8 := [29, 100, 172]
abbrev dktX2_unseenFor_1 : List UInt8 := dkwX2_unseenFor_1 ++ []
def dkwX2_unseenFor_0 : List UInt8 := [42, 180, 0, 100, 17, 7, 208, 27, 104, 28, 96, 46, 62, 29, 156, 0, 9, 28, 4, 96, 167, 0, 6, 28]
abbrev dktX2_unseenFor_0 : List UInt8 := dkwX2_unseenFor_0 ++ dktX2_unseenFor_1
theorem dksX2_unseenFor_0 : cX2_unseenFor.data.toList.drop 0 = dktX2_unseenFor_0 := by decide +kernel
theorem dksX2_unseenFor_1 : cX2_unseenFor.data.toList.drop 24 = dktX2_unseenFor_1 := dk_seg dksX2_unseenFor_0 24 rfl rfl
theorem dX2_unseenFor_0 : decode cX2_unseenFor 0 = .ok (.aload_n 0, 1) := dk_42 (dk_at dksX2_unseenFor_0 0 rfl rfl)
theorem dX2_unseenFor_1 : decode cX2_unseenFor 1 = .ok (.getfield 100, 3) := dk_180 0 100 (dk_at dksX2_unseenFor_0 1 rfl rfl)
theorem dX2_unseenFor_4 : decode cX2_unseenFor 4 = .ok (.sipush 2000, 3) := dk_17 7 208 (dk_at dksX2_unseenFor_0 4 rfl rfl)
theorem dX2_unseenFor_7 : decode cX2_unseenFor 7 = .ok (.iload_n 1, 1) := dk_27 (dk_at dksX2_unseenFor_0 7 rfl rfl)
theorem dX2_unseenFor_8 : decode cX2_unseenFor 8 = .ok (.imul, 1) := dk_104 (dk_at dksX2_unseenFor_0 8 rfl rfl)
theorem dX2_unseenFor_9 : decode cX2_unseenFor 9 = .ok (.iload_n 2, 1) := dk_28 (dk_at dksX2_unseenFor_0 9 rfl rfl)
theorem dX2_unseenFor_10 : decode cX2_unseenFor 10 = .ok (.iadd, 1) := dk_96 (dk_at dksX2_unseenFor_0 10 rfl rfl)
theorem dX2_unseenFor_11 : decode cX2_unseenFor 11 = .ok (.iaload, 1) := dk_46 (dk_at dksX2_unseenFor_0 11 rfl rfl)
theorem dX2_unseenFor_12 : decode cX2_unseenFor 12 = .ok (.istore_n 3, 1) := dk_62 (dk_at dksX2_unseenFor_0 12 rfl rfl)
theorem dX2_unseenFor_13 : decode cX2_unseenFor 13 = .ok (.iload_n 3, 1) := dk_29 (dk_at dksX2_unseenFor_0 13 rfl rfl)
theorem dX2_unseenFor_14 : decode cX2_unseenFor 14 = .ok (.ifCond .ge 9, 3) := dk_156 0 9 (dk_at dksX2_unseenFor_0 14 rfl rfl)
theorem dX2_unseenFor_17 : decode cX2_unseenFor 17 = .ok (.iload_n 2, 1) := dk_28 (dk_at dksX2_unseenFor_0 17 rfl rfl)
theorem dX2_unseenFor_18 : decode cX2_unseenFor 18 = .ok (.iconst 1, 1) := dk_4 (dk_at dksX2_unseenFor_0 18 rfl rfl)
theorem dX2_unseenFor_19 : decode cX2_unseenFor 19 = .ok (.iadd, 1) := dk_96 (dk_at dksX2_unseenFor_0 19 rfl rfl)
theorem dX2_unseenFor_20 : decode cX2_unseenFor 20 = .ok (.goto 6, 3) := dk_167 0 6 (dk_at dksX2_unseenFor_0 20 rfl rfl)
theorem dX2_unseenFor_23 : decode cX2_unseenFor 23 = .ok (.iload_n 2, 1) := dk_28 (dk_at dksX2_unseenFor_0 23 rfl rfl)
theorem dX2_unseenFor_24 : decode cX2_unseenFor 24 = .ok (.iload_n 3, 1) := dk_29 (dk_at dksX2_unseenFor_1 0 rfl rfl)
theorem dX2_unseenFor_25 : decode cX2_unseenFor 25 = .ok (.isub, 1) := dk_100 (dk_at dksX2_unseenFor_1 1 rfl rfl)
theorem dX2_unseenFor_26 : decode cX2_unseenFor 26 = .ok (.ireturn, 1) := dk_172 (dk_at dksX2_unseenFor_1 2 rfl rfl)
abbrev cX2_isSeen : ByteArray := prog_31_method_44_code
def yX2_isSeen : MethodName := ⟨RX2, "isSeen", "(II)Z"⟩
def dkwX2_isSeen_1 : List UInt8 := [180, 0, 24, 6, 46, 184, 0, 237, 162, 0, 7, 4, 167, 0, 4, 3, 172]
abbrev dktX2_isSeen_1 : List UInt8 := dkwX2_isSeen_1 ++ []
def dkwX2_isSeen_0 : List UInt8 := [42, 180, 0, 100, 17, 7, 208, 27, 104, 28, 96, 46, 62, 29, 155, 0, 23, 28, 29, 100, 4, 42]
abbrev dktX2_isSeen_0 : List UInt8 := dkwX2_isSeen_0 ++ dktX2_isSeen_1
theorem dksX2_isSeen_0 : cX2_isSeen.data.toList.drop 0 = dktX2_isSeen_0 := by decide +kernel
theorem dksX2_isSeen_1 : cX2_isSeen.data.toList.drop 22 = dktX2_isSeen_1 := dk_seg dksX2_isSeen_0 22 rfl rfl
theorem dX2_isSeen_0 : decode cX2_isSeen 0 = .ok (.aload_n 0, 1) := dk_42 (dk_at dksX2_isSeen_0 0 rfl rfl)
theorem dX2_isSeen_1 : decode cX2_isSeen 1 = .ok (.getfield 100, 3) := dk_180 0 100 (dk_at dksX2_isSeen_0 1 rfl rfl)
theorem dX2_isSeen_4 : decode cX2_isSeen 4 = .ok (.sipush 2000, 3) := dk_17 7 208 (dk_at dksX2_isSeen_0 4 rfl rfl)
theorem dX2_isSeen_7 : decode cX2_isSeen 7 = .ok (.iload_n 1, 1) := dk_27 (dk_at dksX2_isSeen_0 7 rfl rfl)
theorem dX2_isSeen_8 : decode cX2_isSeen 8 = .ok (.imul, 1) := dk_104 (dk_at dksX2_isSeen_0 8 rfl rfl)
theorem dX2_isSeen_9 : decode cX2_isSeen 9 = .ok (.iload_n 2, 1) := dk_28 (dk_at dksX2_isSeen_0 9 rfl rfl)
theorem dX2_isSeen_10 : decode cX2_isSeen 10 = .ok (.iadd, 1) := dk_96 (dk_at dksX2_isSeen_0 10 rfl rfl)
theorem dX2_isSeen_11 : decode cX2_isSeen 11 = .ok (.iaload, 1) := dk_46 (dk_at dksX2_isSeen_0 11 rfl rfl)
theorem dX2_isSeen_12 : decode cX2_isSeen 12 = .ok (.istore_n 3, 1) := dk_62 (dk_at dksX2_isSeen_0 12 rfl rfl)
theorem dX2_isSeen_13 : decode cX2_isSeen 13 = .ok (.iload_n 3, 1) := dk_29 (dk_at dksX2_isSeen_0 13 rfl rfl)
theorem dX2_isSeen_14 : decode cX2_isSeen 14 = .ok (.ifCond .lt 23, 3) := dk_155 0 23 (dk_at dksX2_isSeen_0 14 rfl rfl)
theorem dX2_isSeen_17 : decode cX2_isSeen 17 = .ok (.iload_n 2, 1) := dk_28 (dk_at dksX2_isSeen_0 17 rfl rfl)
theorem dX2_isSeen_18 : decode cX2_isSeen 18 = .ok (.iload_n 3, 1) := dk_29 (dk_at dksX2_isSeen_0 18 rfl rfl)
theorem dX2_isSeen_19 : decode cX2_isSeen 19 = .ok (.isub, 1) := dk_100 (dk_at dksX2_isSeen_0 19 rfl rfl)
theorem dX2_isSeen_20 : decode cX2_isSeen 20 = .ok (.iconst 1, 1) := dk_4 (dk_at dksX2_isSeen_0 20 rfl rfl)
theorem dX2_isSeen_21 : decode cX2_isSeen 21 = .ok (.aload_n 0, 1) := dk_42 (dk_at dksX2_isSeen_0 21 rfl rfl)
theorem dX2_isSeen_22 : decode cX2_isSeen 22 = .ok (.getfield 24, 3) := dk_180 0 24 (dk_at dksX2_isSeen_1 0 rfl rfl)
theorem dX2_isSeen_25 : decode cX2_isSeen 25 = .ok (.iconst 3, 1) := dk_6 (dk_at dksX2_isSeen_1 3 rfl rfl)
theorem dX2_isSeen_26 : decode cX2_isSeen 26 = .ok (.iaload, 1) := dk_46 (dk_at dksX2_isSeen_1 4 rfl rfl)
theorem dX2_isSeen_27 : decode cX2_isSeen 27 = .ok (.invokestatic 237, 3) := dk_184 0 237 (dk_at dksX2_isSeen_1 5 rfl rfl)
theorem dX2_isSeen_30 : decode cX2_isSeen 30 = .ok (.if_icmp .ge 7, 3) := dk_162 0 7 (dk_at dksX2_isSeen_1 8 rfl rfl)
theorem dX2_isSeen_33 : decode cX2_isSeen 33 = .ok (.iconst 1, 1) := dk_4 (dk_at dksX2_isSeen_1 11 rfl rfl)
theorem dX2_isSeen_34 : decode cX2_isSeen 34 = .ok (.goto 4, 3) := dk_167 0 4 (dk_at dksX2_isSeen_1 12 rfl rfl)
theorem dX2_isSeen_37 : decode cX2_isSeen 37 = .ok (.iconst 0, 1) := dk_3 (dk_at dksX2_isSeen_1 15 rfl rfl)
theorem dX2_isSeen_38 : decode cX2_isSeen 38 = .ok (.ireturn, 1) := dk_172 (dk_at dksX2_isSeen_1 16 rfl rfl)
abbrev cX2_lost : ByteArray := prog_31_method_51_code
def yX2_lost : MethodName := ⟨RX2, "lost", "(IIII)I"⟩
def dkwX2_lost_6 : List UInt8 := [167, 255, 203, 132, 7, 1, 167, 255, 185, 21, 6, 172]
abbrev dktX2_lost_6 : List UInt8 := dkwX2_lost_6 ++ []
def dkwX2_lost_5 : List UInt8 := [42, 21, 7, 42, 21, 7, 21, 8, 182, 1, 24, 21, 8, 182, 1, 30, 96, 54, 6, 132, 8, 1]
abbrev dktX2_lost_5 : List UInt8 := dkwX2_lost_5 ++ dktX2_lost_6
def dkwX2_lost_4 : List UInt8 := [28, 2, 159, 0, 9, 28, 21, 7, 160, 0, 35, 42, 21, 7, 21, 8, 182, 1, 27, 154, 0, 24, 21, 6]
abbrev dktX2_lost_4 : List UInt8 := dkwX2_lost_4 ++ dktX2_lost_5
def dkwX2_lost_3 : List UInt8 := [54, 6, 3, 54, 7, 21, 7, 42, 180, 0, 120, 162, 0, 68, 29, 54, 8, 21, 8, 21, 4, 163, 0, 52]
abbrev dktX2_lost_3 : List UInt8 := dkwX2_lost_3 ++ dktX2_lost_4
def dkwX2_lost_2 : List UInt8 := [3, 182, 1, 9, 54, 5, 21, 5, 156, 0, 6, 21, 5, 172, 42, 27, 182, 1, 12, 42, 182, 1, 21, 3]
abbrev dktX2_lost_2 : List UInt8 := dkwX2_lost_2 ++ dktX2_lost_3
def dkwX2_lost_1 : List UInt8 := [184, 1, 18, 153, 0, 17, 21, 4, 184, 1, 18, 153, 0, 9, 29, 21, 4, 164, 0, 5, 2, 172, 42, 27]
abbrev dktX2_lost_1 : List UInt8 := dkwX2_lost_1 ++ dktX2_lost_2
def dkwX2_lost_0 : List UInt8 := [27, 184, 0, 131, 153, 0, 38, 28, 2, 159, 0, 12, 42, 28, 133, 182, 0, 137, 153, 0, 24, 29]
abbrev dktX2_lost_0 : List UInt8 := dkwX2_lost_0 ++ dktX2_lost_1
theorem dksX2_lost_0 : cX2_lost.data.toList.drop 0 = dktX2_lost_0 := by decide +kernel
theorem dksX2_lost_1 : cX2_lost.data.toList.drop 22 = dktX2_lost_1 := dk_seg dksX2_lost_0 22 rfl rfl
theorem dksX2_lost_2 : cX2_lost.data.toList.drop 46 = dktX2_lost_2 := dk_seg dksX2_lost_1 24 rfl rfl
theorem dksX2_lost_3 : cX2_lost.data.toList.drop 70 = dktX2_lost_3 := dk_seg dksX2_lost_2 24 rfl rfl
theorem dksX2_lost_4 : cX2_lost.data.toList.drop 94 = dktX2_lost_4 := dk_seg dksX2_lost_3 24 rfl rfl
theorem dksX2_lost_5 : cX2_lost.data.toList.drop 118 = dktX2_lost_5 := dk_seg dksX2_lost_4 24 rfl rfl
theorem dksX2_lost_6 : cX2_lost.data.toList.drop 140 = dktX2_lost_6 := dk_seg dksX2_lost_5 22 rfl rfl
theorem dX2_lost_0 : decode cX2_lost 0 = .ok (.iload_n 1, 1) := dk_27 (dk_at dksX2_lost_0 0 rfl rfl)
theorem dX2_lost_1 : decode cX2_lost 1 = .ok (.invokestatic 131, 3) := dk_184 0 131 (dk_at dksX2_lost_0 1 rfl rfl)
theorem dX2_lost_4 : decode cX2_lost 4 = .ok (.ifCond .eq 38, 3) := dk_153 0 38 (dk_at dksX2_lost_0 4 rfl rfl)
theorem dX2_lost_7 : decode cX2_lost 7 = .ok (.iload_n 2, 1) := dk_28 (dk_at dksX2_lost_0 7 rfl rfl)
theorem dX2_lost_8 : decode cX2_lost 8 = .ok (.iconst (-1), 1) := dk_2 (dk_at dksX2_lost_0 8 rfl rfl)
theorem dX2_lost_9 : decode cX2_lost 9 = .ok (.if_icmp .eq 12, 3) := dk_159 0 12 (dk_at dksX2_lost_0 9 rfl rfl)
theorem dX2_lost_12 : decode cX2_lost 12 = .ok (.aload_n 0, 1) := dk_42 (dk_at dksX2_lost_0 12 rfl rfl)
theorem dX2_lost_13 : decode cX2_lost 13 = .ok (.iload_n 2, 1) := dk_28 (dk_at dksX2_lost_0 13 rfl rfl)
theorem dX2_lost_14 : decode cX2_lost 14 = .ok (.i2l, 1) := dk_133 (dk_at dksX2_lost_0 14 rfl rfl)
theorem dX2_lost_15 : decode cX2_lost 15 = .ok (.invokevirtual 137, 3) := dk_182 0 137 (dk_at dksX2_lost_0 15 rfl rfl)
theorem dX2_lost_18 : decode cX2_lost 18 = .ok (.ifCond .eq 24, 3) := dk_153 0 24 (dk_at dksX2_lost_0 18 rfl rfl)
theorem dX2_lost_21 : decode cX2_lost 21 = .ok (.iload_n 3, 1) := dk_29 (dk_at dksX2_lost_0 21 rfl rfl)
theorem dX2_lost_22 : decode cX2_lost 22 = .ok (.invokestatic 274, 3) := dk_184 1 18 (dk_at dksX2_lost_1 0 rfl rfl)
theorem dX2_lost_25 : decode cX2_lost 25 = .ok (.ifCond .eq 17, 3) := dk_153 0 17 (dk_at dksX2_lost_1 3 rfl rfl)
theorem dX2_lost_28 : decode cX2_lost 28 = .ok (.iload 4, 2) := dk_21 4 (dk_at dksX2_lost_1 6 rfl rfl)
theorem dX2_lost_30 : decode cX2_lost 30 = .ok (.invokestatic 274, 3) := dk_184 1 18 (dk_at dksX2_lost_1 8 rfl rfl)
theorem dX2_lost_33 : decode cX2_lost 33 = .ok (.ifCond .eq 9, 3) := dk_153 0 9 (dk_at dksX2_lost_1 11 rfl rfl)
theorem dX2_lost_36 : decode cX2_lost 36 = .ok (.iload_n 3, 1) := dk_29 (dk_at dksX2_lost_1 14 rfl rfl)
theorem dX2_lost_37 : decode cX2_lost 37 = .ok (.iload 4, 2) := dk_21 4 (dk_at dksX2_lost_1 15 rfl rfl)
theorem dX2_lost_39 : decode cX2_lost 39 = .ok (.if_icmp .le 5, 3) := dk_164 0 5 (dk_at dksX2_lost_1 17 rfl rfl)
theorem dX2_lost_42 : decode cX2_lost 42 = .ok (.iconst (-1), 1) := dk_2 (dk_at dksX2_lost_1 20 rfl rfl)
theorem dX2_lost_43 : decode cX2_lost 43 = .ok (.ireturn, 1) := dk_172 (dk_at dksX2_lost_1 21 rfl rfl)
theorem dX2_lost_44 : decode cX2_lost 44 = .ok (.aload_n 0, 1) := dk_42 (dk_at dksX2_lost_1 22 rfl rfl)
theorem dX2_lost_45 : decode cX2_lost 45 = .ok (.iload_n 1, 1) := dk_27 (dk_at dksX2_lost_1 23 rfl rfl)
theorem dX2_lost_46 : decode cX2_lost 46 = .ok (.iconst 0, 1) := dk_3 (dk_at dksX2_lost_2 0 rfl rfl)
theorem dX2_lost_47 : decode cX2_lost 47 = .ok (.invokevirtual 265, 3) := dk_182 1 9 (dk_at dksX2_lost_2 1 rfl rfl)
theorem dX2_lost_50 : decode cX2_lost 50 = .ok (.istore 5, 2) := dk_54 5 (dk_at dksX2_lost_2 4 rfl rfl)
theorem dX2_lost_52 : decode cX2_lost 52 = .ok (.iload 5, 2) := dk_21 5 (dk_at dksX2_lost_2 6 rfl rfl)
theorem dX2_lost_54 : decode cX2_lost 54 = .ok (.ifCond .ge 6, 3) := dk_156 0 6 (dk_at dksX2_lost_2 8 rfl rfl)
theorem dX2_lost_57 : decode cX2_lost 57 = .ok (.iload 5, 2) := dk_21 5 (dk_at dksX2_lost_2 11 rfl rfl)
theorem dX2_lost_59 : decode cX2_lost 59 = .ok (.ireturn, 1) := dk_172 (dk_at dksX2_lost_2 13 rfl rfl)
theorem dX2_lost_60 : decode cX2_lost 60 = .ok (.aload_n 0, 1) := dk_42 (dk_at dksX2_lost_2 14 rfl rfl)
theorem dX2_lost_61 : decode cX2_lost 61 = .ok (.iload_n 1, 1) := dk_27 (dk_at dksX2_lost_2 15 rfl rfl)
theorem dX2_lost_62 : decode cX2_lost 62 = .ok (.invokevirtual 268, 3) := dk_182 1 12 (dk_at dksX2_lost_2 16 rfl rfl)
theorem dX2_lost_65 : decode cX2_lost 65 = .ok (.aload_n 0, 1) := dk_42 (dk_at dksX2_lost_2 19 rfl rfl)
theorem dX2_lost_66 : decode cX2_lost 66 = .ok (.invokevirtual 277, 3) := dk_182 1 21 (dk_at dksX2_lost_2 20 rfl rfl)
theorem dX2_lost_69 : decode cX2_lost 69 = .ok (.iconst 0, 1) := dk_3 (dk_at dksX2_lost_2 23 rfl rfl)
theorem dX2_lost_70 : decode cX2_lost 70 = .ok (.istore 6, 2) := dk_54 6 (dk_at dksX2_lost_3 0 rfl rfl)
theorem dX2_lost_72 : decode cX2_lost 72 = .ok (.iconst 0, 1) := dk_3 (dk_at dksX2_lost_3 2 rfl rfl)
theorem dX2_lost_73 : decode cX2_lost 73 = .ok (.istore 7, 2) := dk_54 7 (dk_at dksX2_lost_3 3 rfl rfl)
theorem dX2_lost_75 : decode cX2_lost 75 = .ok (.iload 7, 2) := dk_21 7 (dk_at dksX2_lost_3 5 rfl rfl)
theorem dX2_lost_77 : decode cX2_lost 77 = .ok (.aload_n 0, 1) := dk_42 (dk_at dksX2_lost_3 7 rfl rfl)
theorem dX2_lost_78 : decode cX2_lost 78 = .ok (.getfield 120, 3) := dk_180 0 120 (dk_at dksX2_lost_3 8 rfl rfl)
theorem dX2_lost_81 : decode cX2_lost 81 = .ok (.if_icmp .ge 68, 3) := dk_162 0 68 (dk_at dksX2_lost_3 11 rfl rfl)
theorem dX2_lost_84 : decode cX2_lost 84 = .ok (.iload_n 3, 1) := dk_29 (dk_at dksX2_lost_3 14 rfl rfl)
theorem dX2_lost_85 : decode cX2_lost 85 = .ok (.istore 8, 2) := dk_54 8 (dk_at dksX2_lost_3 15 rfl rfl)
theorem dX2_lost_87 : decode cX2_lost 87 = .ok (.iload 8, 2) := dk_21 8 (dk_at dksX2_lost_3 17 rfl rfl)
theorem dX2_lost_89 : decode cX2_lost 89 = .ok (.iload 4, 2) := dk_21 4 (dk_at dksX2_lost_3 19 rfl rfl)
theorem dX2_lost_91 : decode cX2_lost 91 = .ok (.if_icmp .gt 52, 3) := dk_163 0 52 (dk_at dksX2_lost_3 21 rfl rfl)
theorem dX2_lost_94 : decode cX2_lost 94 = .ok (.iload_n 2, 1) := dk_28 (dk_at dksX2_lost_4 0 rfl rfl)
theorem dX2_lost_95 : decode cX2_lost 95 = .ok (.iconst (-1), 1) := dk_2 (dk_at dksX2_lost_4 1 rfl rfl)
theorem dX2_lost_96 : decode cX2_lost 96 = .ok (.if_icmp .eq 9, 3) := dk_159 0 9 (dk_at dksX2_lost_4 2 rfl rfl)
theorem dX2_lost_99 : decode cX2_lost 99 = .ok (.iload_n 2, 1) := dk_28 (dk_at dksX2_lost_4 5 rfl rfl)
theorem dX2_lost_100 : decode cX2_lost 100 = .ok (.iload 7, 2) := dk_21 7 (dk_at dksX2_lost_4 6 rfl rfl)
theorem dX2_lost_102 : decode cX2_lost 102 = .ok (.if_icmp .ne 35, 3) := dk_160 0 35 (dk_at dksX2_lost_4 8 rfl rfl)
theorem dX2_lost_105 : decode cX2_lost 105 = .ok (.aload_n 0, 1) := dk_42 (dk_at dksX2_lost_4 11 rfl rfl)
theorem dX2_lost_106 : decode cX2_lost 106 = .ok (.iload 7, 2) := dk_21 7 (dk_at dksX2_lost_4 12 rfl rfl)
theorem dX2_lost_108 : decode cX2_lost 108 = .ok (.iload 8, 2) := dk_21 8 (dk_at dksX2_lost_4 14 rfl rfl)
theorem dX2_lost_110 : decode cX2_lost 110 = .ok (.invokevirtual 283, 3) := dk_182 1 27 (dk_at dksX2_lost_4 16 rfl rfl)
theorem dX2_lost_113 : decode cX2_lost 113 = .ok (.ifCond .ne 24, 3) := dk_154 0 24 (dk_at dksX2_lost_4 19 rfl rfl)
theorem dX2_lost_116 : decode cX2_lost 116 = .ok (.iload 6, 2) := dk_21 6 (dk_at dksX2_lost_4 22 rfl rfl)
theorem dX2_lost_118 : decode cX2_lost 118 = .ok (.aload_n 0, 1) := dk_42 (dk_at dksX2_lost_5 0 rfl rfl)
theorem dX2_lost_119 : decode cX2_lost 119 = .ok (.iload 7, 2) := dk_21 7 (dk_at dksX2_lost_5 1 rfl rfl)
theorem dX2_lost_121 : decode cX2_lost 121 = .ok (.aload_n 0, 1) := dk_42 (dk_at dksX2_lost_5 3 rfl rfl)
theorem dX2_lost_122 : decode cX2_lost 122 = .ok (.iload 7, 2) := dk_21 7 (dk_at dksX2_lost_5 4 rfl rfl)
theorem dX2_lost_124 : decode cX2_lost 124 = .ok (.iload 8, 2) := dk_21 8 (dk_at dksX2_lost_5 6 rfl rfl)
theorem dX2_lost_126 : decode cX2_lost 126 = .ok (.invokevirtual 280, 3) := dk_182 1 24 (dk_at dksX2_lost_5 8 rfl rfl)
theorem dX2_lost_129 : decode cX2_lost 129 = .ok (.iload 8, 2) := dk_21 8 (dk_at dksX2_lost_5 11 rfl rfl)
theorem dX2_lost_131 : decode cX2_lost 131 = .ok (.invokevirtual 286, 3) := dk_182 1 30 (dk_at dksX2_lost_5 13 rfl rfl)
theorem dX2_lost_134 : decode cX2_lost 134 = .ok (.iadd, 1) := dk_96 (dk_at dksX2_lost_5 16 rfl rfl)
theorem dX2_lost_135 : decode cX2_lost 135 = .ok (.istore 6, 2) := dk_54 6 (dk_at dksX2_lost_5 17 rfl rfl)
theorem dX2_lost_137 : decode cX2_lost 137 = .ok (.iinc 8 1, 3) := dk_132 8 1 (dk_at dksX2_lost_5 19 rfl rfl)
theorem dX2_lost_140 : decode cX2_lost 140 = .ok (.goto (-53), 3) := dk_167 255 203 (dk_at dksX2_lost_6 0 rfl rfl)
theorem dX2_lost_143 : decode cX2_lost 143 = .ok (.iinc 7 1, 3) := dk_132 7 1 (dk_at dksX2_lost_6 3 rfl rfl)
theorem dX2_lost_146 : decode cX2_lost 146 = .ok (.goto (-71), 3) := dk_167 255 185 (dk_at dksX2_lost_6 6 rfl rfl)
theorem dX2_lost_149 : decode cX2_lost 149 = .ok (.iload 6, 2) := dk_21 6 (dk_at dksX2_lost_6 9 rfl rfl)
theorem dX2_lost_151 : decode cX2_lost 151 = .ok (.ireturn, 1) := dk_172 (dk_at dksX2_lost_6 11 rfl rfl)
abbrev cX2_loss : ByteArray := prog_31_method_33_code
def yX2_loss : MethodName := ⟨RX2, "loss", "(III)I"⟩
def dkwX2_loss_7 : List UInt8 := [167, 255, 175, 3, 172]
abbrev dktX2_loss_7 : List UInt8 := dkwX2_loss_7 ++ []
def dkwX2_loss_6 : List UInt8 := [21, 4, 46, 42, 180, 0, 36, 21, 4, 46, 182, 0, 234, 184, 0, 226, 184, 0, 237, 172, 132, 4, 1]
abbrev dktX2_loss_6 : List UInt8 := dkwX2_loss_6 ++ dktX2_loss_7
def dkwX2_loss_5 : List UInt8 := [42, 180, 0, 33, 21, 4, 46, 182, 0, 234, 154, 0, 6, 167, 0, 31, 3, 16, 99, 42, 42, 180, 0, 33]
abbrev dktX2_loss_5 : List UInt8 := dkwX2_loss_5 ++ dktX2_loss_6
def dkwX2_loss_4 : List UInt8 := [180, 0, 33, 21, 4, 46, 42, 180, 0, 30, 21, 4, 46, 164, 0, 27, 42, 42, 180, 0, 30, 21, 4, 46]
abbrev dktX2_loss_4 : List UInt8 := dkwX2_loss_4 ++ dktX2_loss_5
def dkwX2_loss_3 : List UInt8 := [180, 0, 57, 8, 42, 180, 0, 231, 79, 3, 54, 4, 21, 4, 42, 180, 0, 220, 162, 0, 78, 42]
abbrev dktX2_loss_3 : List UInt8 := dkwX2_loss_3 ++ dktX2_loss_4
def dkwX2_loss_2 : List UInt8 := [29, 79, 42, 180, 0, 57, 6, 42, 180, 0, 21, 27, 46, 79, 42, 180, 0, 57, 7, 27, 79, 42]
abbrev dktX2_loss_2 : List UInt8 := dkwX2_loss_2 ++ dktX2_loss_3
def dkwX2_loss_1 : List UInt8 := [42, 180, 0, 57, 3, 42, 180, 0, 18, 27, 46, 79, 42, 180, 0, 57, 4, 28, 79, 42, 180, 0, 57, 5]
abbrev dktX2_loss_1 : List UInt8 := dkwX2_loss_1 ++ dktX2_loss_2
def dkwX2_loss_0 : List UInt8 := [42, 180, 0, 216, 154, 0, 20, 16, 99, 42, 180, 0, 18, 27, 46, 28, 104, 16, 10, 108, 184, 0, 226, 172]
abbrev dktX2_loss_0 : List UInt8 := dkwX2_loss_0 ++ dktX2_loss_1
theorem dksX2_loss_0 : cX2_loss.data.toList.drop 0 = dktX2_loss_0 := by decide +kernel
theorem dksX2_loss_1 : cX2_loss.data.toList.drop 24 = dktX2_loss_1 := dk_seg dksX2_loss_0 24 rfl rfl
theorem dksX2_loss_2 : cX2_loss.data.toList.drop 48 = dktX2_loss_2 := dk_seg dksX2_loss_1 24 rfl rfl
theorem dksX2_loss_3 : cX2_loss.data.toList.drop 70 = dktX2_loss_3 := dk_seg dksX2_loss_2 22 rfl rfl
theorem dksX2_loss_4 : cX2_loss.data.toList.drop 92 = dktX2_loss_4 := dk_seg dksX2_loss_3 22 rfl rfl
theorem dksX2_loss_5 : cX2_loss.data.toList.drop 116 = dktX2_loss_5 := dk_seg dksX2_loss_4 24 rfl rfl
theorem dksX2_loss_6 : cX2_loss.data.toList.drop 140 = dktX2_loss_6 := dk_seg dksX2_loss_5 24 rfl rfl
theorem dksX2_loss_7 : cX2_loss.data.toList.drop 163 = dktX2_loss_7 := dk_seg dksX2_loss_6 23 rfl rfl
theorem dX2_loss_0 : decode cX2_loss 0 = .ok (.aload_n 0, 1) := dk_42 (dk_at dksX2_loss_0 0 rfl rfl)
theorem dX2_loss_1 : decode cX2_loss 1 = .ok (.getfield 216, 3) := dk_180 0 216 (dk_at dksX2_loss_0 1 rfl rfl)
theorem dX2_loss_4 : decode cX2_loss 4 = .ok (.ifCond .ne 20, 3) := dk_154 0 20 (dk_at dksX2_loss_0 4 rfl rfl)
theorem dX2_loss_7 : decode cX2_loss 7 = .ok (.bipush 99, 2) := dk_16 99 (dk_at dksX2_loss_0 7 rfl rfl)
theorem dX2_loss_9 : decode cX2_loss 9 = .ok (.aload_n 0, 1) := dk_42 (dk_at dksX2_loss_0 9 rfl rfl)
theorem dX2_loss_10 : decode cX2_loss 10 = .ok (.getfield 18, 3) := dk_180 0 18 (dk_at dksX2_loss_0 10 rfl rfl)
theorem dX2_loss_13 : decode cX2_loss 13 = .ok (.iload_n 1, 1) := dk_27 (dk_at dksX2_loss_0 13 rfl rfl)
theorem dX2_loss_14 : decode cX2_loss 14 = .ok (.iaload, 1) := dk_46 (dk_at dksX2_loss_0 14 rfl rfl)
theorem dX2_loss_15 : decode cX2_loss 15 = .ok (.iload_n 2, 1) := dk_28 (dk_at dksX2_loss_0 15 rfl rfl)
theorem dX2_loss_16 : decode cX2_loss 16 = .ok (.imul, 1) := dk_104 (dk_at dksX2_loss_0 16 rfl rfl)
theorem dX2_loss_17 : decode cX2_loss 17 = .ok (.bipush 10, 2) := dk_16 10 (dk_at dksX2_loss_0 17 rfl rfl)
theorem dX2_loss_19 : decode cX2_loss 19 = .ok (.idiv, 1) := dk_108 (dk_at dksX2_loss_0 19 rfl rfl)
theorem dX2_loss_20 : decode cX2_loss 20 = .ok (.invokestatic 226, 3) := dk_184 0 226 (dk_at dksX2_loss_0 20 rfl rfl)
theorem dX2_loss_23 : decode cX2_loss 23 = .ok (.ireturn, 1) := dk_172 (dk_at dksX2_loss_0 23 rfl rfl)
theorem dX2_loss_24 : decode cX2_loss 24 = .ok (.aload_n 0, 1) := dk_42 (dk_at dksX2_loss_1 0 rfl rfl)
theorem dX2_loss_25 : decode cX2_loss 25 = .ok (.getfield 57, 3) := dk_180 0 57 (dk_at dksX2_loss_1 1 rfl rfl)
theorem dX2_loss_28 : decode cX2_loss 28 = .ok (.iconst 0, 1) := dk_3 (dk_at dksX2_loss_1 4 rfl rfl)
theorem dX2_loss_29 : decode cX2_loss 29 = .ok (.aload_n 0, 1) := dk_42 (dk_at dksX2_loss_1 5 rfl rfl)
theorem dX2_loss_30 : decode cX2_loss 30 = .ok (.getfield 18, 3) := dk_180 0 18 (dk_at dksX2_loss_1 6 rfl rfl)
theorem dX2_loss_33 : decode cX2_loss 33 = .ok (.iload_n 1, 1) := dk_27 (dk_at dksX2_loss_1 9 rfl rfl)
theorem dX2_loss_34 : decode cX2_loss 34 = .ok (.iaload, 1) := dk_46 (dk_at dksX2_loss_1 10 rfl rfl)
theorem dX2_loss_35 : decode cX2_loss 35 = .ok (.iastore, 1) := dk_79 (dk_at dksX2_loss_1 11 rfl rfl)
theorem dX2_loss_36 : decode cX2_loss 36 = .ok (.aload_n 0, 1) := dk_42 (dk_at dksX2_loss_1 12 rfl rfl)
theorem dX2_loss_37 : decode cX2_loss 37 = .ok (.getfield 57, 3) := dk_180 0 57 (dk_at dksX2_loss_1 13 rfl rfl)
theorem dX2_loss_40 : decode cX2_loss 40 = .ok (.iconst 1, 1) := dk_4 (dk_at dksX2_loss_1 16 rfl rfl)
theorem dX2_loss_41 : decode cX2_loss 41 = .ok (.iload_n 2, 1) := dk_28 (dk_at dksX2_loss_1 17 rfl rfl)
theorem dX2_loss_42 : decode cX2_loss 42 = .ok (.iastore, 1) := dk_79 (dk_at dksX2_loss_1 18 rfl rfl)
theorem dX2_loss_43 : decode cX2_loss 43 = .ok (.aload_n 0, 1) := dk_42 (dk_at dksX2_loss_1 19 rfl rfl)
theorem dX2_loss_44 : decode cX2_loss 44 = .ok (.getfield 57, 3) := dk_180 0 57 (dk_at dksX2_loss_1 20 rfl rfl)
theorem dX2_loss_47 : decode cX2_loss 47 = .ok (.iconst 2, 1) := dk_5 (dk_at dksX2_loss_1 23 rfl rfl)
theorem dX2_loss_48 : decode cX2_loss 48 = .ok (.iload_n 3, 1) := dk_29 (dk_at dksX2_loss_2 0 rfl rfl)
theorem dX2_loss_49 : decode cX2_loss 49 = .ok (.iastore, 1) := dk_79 (dk_at dksX2_loss_2 1 rfl rfl)
theorem dX2_loss_50 : decode cX2_loss 50 = .ok (.aload_n 0, 1) := dk_42 (dk_at dksX2_loss_2 2 rfl rfl)
theorem dX2_loss_51 : decode cX2_loss 51 = .ok (.getfield 57, 3) := dk_180 0 57 (dk_at dksX2_loss_2 3 rfl rfl)
theorem dX2_loss_54 : decode cX2_loss 54 = .ok (.iconst 3, 1) := dk_6 (dk_at dksX2_loss_2 6 rfl rfl)
theorem dX2_loss_55 : decode cX2_loss 55 = .ok (.aload_n 0, 1) := dk_42 (dk_at dksX2_loss_2 7 rfl rfl)
theorem dX2_loss_56 : decode cX2_loss 56 = .ok (.getfield 21, 3) := dk_180 0 21 (dk_at dksX2_loss_2 8 rfl rfl)
theorem dX2_loss_59 : decode cX2_loss 59 = .ok (.iload_n 1, 1) := dk_27 (dk_at dksX2_loss_2 11 rfl rfl)
theorem dX2_loss_60 : decode cX2_loss 60 = .ok (.iaload, 1) := dk_46 (dk_at dksX2_loss_2 12 rfl rfl)
theorem dX2_loss_61 : decode cX2_loss 61 = .ok (.iastore, 1) := dk_79 (dk_at dksX2_loss_2 13 rfl rfl)
theorem dX2_loss_62 : decode cX2_loss 62 = .ok (.aload_n 0, 1) := dk_42 (dk_at dksX2_loss_2 14 rfl rfl)
theorem dX2_loss_63 : decode cX2_loss 63 = .ok (.getfield 57, 3) := dk_180 0 57 (dk_at dksX2_loss_2 15 rfl rfl)
theorem dX2_loss_66 : decode cX2_loss 66 = .ok (.iconst 4, 1) := dk_7 (dk_at dksX2_loss_2 18 rfl rfl)
theorem dX2_loss_67 : decode cX2_loss 67 = .ok (.iload_n 1, 1) := dk_27 (dk_at dksX2_loss_2 19 rfl rfl)
theorem dX2_loss_68 : decode cX2_loss 68 = .ok (.iastore, 1) := dk_79 (dk_at dksX2_loss_2 20 rfl rfl)
theorem dX2_loss_69 : decode cX2_loss 69 = .ok (.aload_n 0, 1) := dk_42 (dk_at dksX2_loss_2 21 rfl rfl)
theorem dX2_loss_70 : decode cX2_loss 70 = .ok (.getfield 57, 3) := dk_180 0 57 (dk_at dksX2_loss_3 0 rfl rfl)
theorem dX2_loss_73 : decode cX2_loss 73 = .ok (.iconst 5, 1) := dk_8 (dk_at dksX2_loss_3 3 rfl rfl)
theorem dX2_loss_74 : decode cX2_loss 74 = .ok (.aload_n 0, 1) := dk_42 (dk_at dksX2_loss_3 4 rfl rfl)
theorem dX2_loss_75 : decode cX2_loss 75 = .ok (.getfield 231, 3) := dk_180 0 231 (dk_at dksX2_loss_3 5 rfl rfl)
theorem dX2_loss_78 : decode cX2_loss 78 = .ok (.iastore, 1) := dk_79 (dk_at dksX2_loss_3 8 rfl rfl)
theorem dX2_loss_79 : decode cX2_loss 79 = .ok (.iconst 0, 1) := dk_3 (dk_at dksX2_loss_3 9 rfl rfl)
theorem dX2_loss_80 : decode cX2_loss 80 = .ok (.istore 4, 2) := dk_54 4 (dk_at dksX2_loss_3 10 rfl rfl)
theorem dX2_loss_82 : decode cX2_loss 82 = .ok (.iload 4, 2) := dk_21 4 (dk_at dksX2_loss_3 12 rfl rfl)
theorem dX2_loss_84 : decode cX2_loss 84 = .ok (.aload_n 0, 1) := dk_42 (dk_at dksX2_loss_3 14 rfl rfl)
theorem dX2_loss_85 : decode cX2_loss 85 = .ok (.getfield 220, 3) := dk_180 0 220 (dk_at dksX2_loss_3 15 rfl rfl)
theorem dX2_loss_88 : decode cX2_loss 88 = .ok (.if_icmp .ge 78, 3) := dk_162 0 78 (dk_at dksX2_loss_3 18 rfl rfl)
theorem dX2_loss_91 : decode cX2_loss 91 = .ok (.aload_n 0, 1) := dk_42 (dk_at dksX2_loss_3 21 rfl rfl)
theorem dX2_loss_92 : decode cX2_loss 92 = .ok (.getfield 33, 3) := dk_180 0 33 (dk_at dksX2_loss_4 0 rfl rfl)
theorem dX2_loss_95 : decode cX2_loss 95 = .ok (.iload 4, 2) := dk_21 4 (dk_at dksX2_loss_4 3 rfl rfl)
theorem dX2_loss_97 : decode cX2_loss 97 = .ok (.iaload, 1) := dk_46 (dk_at dksX2_loss_4 5 rfl rfl)
theorem dX2_loss_98 : decode cX2_loss 98 = .ok (.aload_n 0, 1) := dk_42 (dk_at dksX2_loss_4 6 rfl rfl)
theorem dX2_loss_99 : decode cX2_loss 99 = .ok (.getfield 30, 3) := dk_180 0 30 (dk_at dksX2_loss_4 7 rfl rfl)
theorem dX2_loss_102 : decode cX2_loss 102 = .ok (.iload 4, 2) := dk_21 4 (dk_at dksX2_loss_4 10 rfl rfl)
theorem dX2_loss_104 : decode cX2_loss 104 = .ok (.iaload, 1) := dk_46 (dk_at dksX2_loss_4 12 rfl rfl)
theorem dX2_loss_105 : decode cX2_loss 105 = .ok (.if_icmp .le 27, 3) := dk_164 0 27 (dk_at dksX2_loss_4 13 rfl rfl)
theorem dX2_loss_108 : decode cX2_loss 108 = .ok (.aload_n 0, 1) := dk_42 (dk_at dksX2_loss_4 16 rfl rfl)
theorem dX2_loss_109 : decode cX2_loss 109 = .ok (.aload_n 0, 1) := dk_42 (dk_at dksX2_loss_4 17 rfl rfl)
theorem dX2_loss_110 : decode cX2_loss 110 = .ok (.getfield 30, 3) := dk_180 0 30 (dk_at dksX2_loss_4 18 rfl rfl)
theorem dX2_loss_113 : decode cX2_loss 113 = .ok (.iload 4, 2) := dk_21 4 (dk_at dksX2_loss_4 21 rfl rfl)
theorem dX2_loss_115 : decode cX2_loss 115 = .ok (.iaload, 1) := dk_46 (dk_at dksX2_loss_4 23 rfl rfl)
theorem dX2_loss_116 : decode cX2_loss 116 = .ok (.aload_n 0, 1) := dk_42 (dk_at dksX2_loss_5 0 rfl rfl)
theorem dX2_loss_117 : decode cX2_loss 117 = .ok (.getfield 33, 3) := dk_180 0 33 (dk_at dksX2_loss_5 1 rfl rfl)
theorem dX2_loss_120 : decode cX2_loss 120 = .ok (.iload 4, 2) := dk_21 4 (dk_at dksX2_loss_5 4 rfl rfl)
theorem dX2_loss_122 : decode cX2_loss 122 = .ok (.iaload, 1) := dk_46 (dk_at dksX2_loss_5 6 rfl rfl)
theorem dX2_loss_123 : decode cX2_loss 123 = .ok (.invokevirtual 234, 3) := dk_182 0 234 (dk_at dksX2_loss_5 7 rfl rfl)
theorem dX2_loss_126 : decode cX2_loss 126 = .ok (.ifCond .ne 6, 3) := dk_154 0 6 (dk_at dksX2_loss_5 10 rfl rfl)
theorem dX2_loss_129 : decode cX2_loss 129 = .ok (.goto 31, 3) := dk_167 0 31 (dk_at dksX2_loss_5 13 rfl rfl)
theorem dX2_loss_132 : decode cX2_loss 132 = .ok (.iconst 0, 1) := dk_3 (dk_at dksX2_loss_5 16 rfl rfl)
theorem dX2_loss_133 : decode cX2_loss 133 = .ok (.bipush 99, 2) := dk_16 99 (dk_at dksX2_loss_5 17 rfl rfl)
theorem dX2_loss_135 : decode cX2_loss 135 = .ok (.aload_n 0, 1) := dk_42 (dk_at dksX2_loss_5 19 rfl rfl)
theorem dX2_loss_136 : decode cX2_loss 136 = .ok (.aload_n 0, 1) := dk_42 (dk_at dksX2_loss_5 20 rfl rfl)
theorem dX2_loss_137 : decode cX2_loss 137 = .ok (.getfield 33, 3) := dk_180 0 33 (dk_at dksX2_loss_5 21 rfl rfl)
theorem dX2_loss_140 : decode cX2_loss 140 = .ok (.iload 4, 2) := dk_21 4 (dk_at dksX2_loss_6 0 rfl rfl)
theorem dX2_loss_142 : decode cX2_loss 142 = .ok (.iaload, 1) := dk_46 (dk_at dksX2_loss_6 2 rfl rfl)
theorem dX2_loss_143 : decode cX2_loss 143 = .ok (.aload_n 0, 1) := dk_42 (dk_at dksX2_loss_6 3 rfl rfl)
theorem dX2_loss_144 : decode cX2_loss 144 = .ok (.getfield 36, 3) := dk_180 0 36 (dk_at dksX2_loss_6 4 rfl rfl)
theorem dX2_loss_147 : decode cX2_loss 147 = .ok (.iload 4, 2) := dk_21 4 (dk_at dksX2_loss_6 7 rfl rfl)
theorem dX2_loss_149 : decode cX2_loss 149 = .ok (.iaload, 1) := dk_46 (dk_at dksX2_loss_6 9 rfl rfl)
theorem dX2_loss_150 : decode cX2_loss 150 = .ok (.invokevirtual 234, 3) := dk_182 0 234 (dk_at dksX2_loss_6 10 rfl rfl)
theorem dX2_loss_153 : decode cX2_loss 153 = .ok (.invokestatic 226, 3) := dk_184 0 226 (dk_at dksX2_loss_6 13 rfl rfl)
theorem dX2_loss_156 : decode cX2_loss 156 = .ok (.invokestatic 237, 3) := dk_184 0 237 (dk_at dksX2_loss_6 16 rfl rfl)
theorem dX2_loss_159 : decode cX2_loss 159 = .ok (.ireturn, 1) := dk_172 (dk_at dksX2_loss_6 19 rfl rfl)
theorem dX2_loss_160 : decode cX2_loss 160 = .ok (.iinc 4 1, 3) := dk_132 4 1 (dk_at dksX2_loss_6 20 rfl rfl)
theorem dX2_loss_163 : decode cX2_loss 163 = .ok (.goto (-81), 3) := dk_167 255 175 (dk_at dksX2_loss_7 0 rfl rfl)
theorem dX2_loss_166 : decode cX2_loss 166 = .ok (.iconst 0, 1) := dk_3 (dk_at dksX2_loss_7 3 rfl rfl)
theorem dX2_loss_167 : decode cX2_loss 167 = .ok (.ireturn, 1) := dk_172 (dk_at dksX2_loss_7 4 rfl rfl)
abbrev cX2_worked : ByteArray := prog_31_method_32_code
def yX2_worked : MethodName := ⟨RX2, "worked", "(II)I"⟩
def dkwX2_worked_7 : List UInt8 := [3, 46, 172]
abbrev dktX2_worked_7 : List UInt8 := dkwX2_worked_7 ++ []
def dkwX2_worked_6 : List UInt8 := [29, 4, 100, 46, 42, 180, 0, 54, 29, 46, 184, 0, 223, 79, 132, 4, 1, 167, 255, 101, 42, 180, 0, 54]
abbrev dktX2_worked_6 : List UInt8 := dkwX2_worked_6 ++ dktX2_worked_7
def dkwX2_worked_5 : List UInt8 := [167, 0, 4, 3, 79, 167, 0, 33, 132, 3, 255, 42, 180, 0, 54, 29, 4, 100, 21, 5, 42, 180, 0, 54]
abbrev dktX2_worked_5 : List UInt8 := dkwX2_worked_5 ++ dktX2_worked_6
def dkwX2_worked_4 : List UInt8 := [42, 180, 0, 54, 29, 4, 100, 46, 116, 167, 0, 19, 42, 180, 0, 54, 29, 4, 100, 46, 154, 0, 7, 4]
abbrev dktX2_worked_4 : List UInt8 := dkwX2_worked_4 ++ dktX2_worked_5
def dkwX2_worked_3 : List UInt8 := [159, 0, 10, 21, 5, 16, 17, 160, 0, 49, 42, 180, 0, 54, 29, 4, 100, 21, 5, 16, 17, 160, 0, 15]
abbrev dktX2_worked_3 : List UInt8 := dkwX2_worked_3 ++ dktX2_worked_4
def dkwX2_worked_2 : List UInt8 := [21, 5, 16, 18, 100, 167, 0, 10, 42, 180, 0, 57, 21, 5, 46, 79, 167, 0, 93, 21, 5, 16, 16]
abbrev dktX2_worked_2 : List UInt8 := dkwX2_worked_2 ++ dktX2_worked_3
def dkwX2_worked_1 : List UInt8 := [162, 0, 9, 21, 5, 8, 163, 0, 37, 42, 180, 0, 54, 29, 132, 3, 1, 21, 5, 16, 18, 161, 0, 11]
abbrev dktX2_worked_1 : List UInt8 := dkwX2_worked_1 ++ dktX2_worked_2
def dkwX2_worked_0 : List UInt8 := [3, 62, 27, 54, 4, 21, 4, 28, 162, 0, 155, 42, 180, 0, 39, 21, 4, 46, 54, 5, 21, 5, 16, 18]
abbrev dktX2_worked_0 : List UInt8 := dkwX2_worked_0 ++ dktX2_worked_1
theorem dksX2_worked_0 : cX2_worked.data.toList.drop 0 = dktX2_worked_0 := by decide +kernel
theorem dksX2_worked_1 : cX2_worked.data.toList.drop 24 = dktX2_worked_1 := dk_seg dksX2_worked_0 24 rfl rfl
theorem dksX2_worked_2 : cX2_worked.data.toList.drop 48 = dktX2_worked_2 := dk_seg dksX2_worked_1 24 rfl rfl
theorem dksX2_worked_3 : cX2_worked.data.toList.drop 71 = dktX2_worked_3 := dk_seg dksX2_worked_2 23 rfl rfl
theorem dksX2_worked_4 : cX2_worked.data.toList.drop 95 = dktX2_worked_4 := dk_seg dksX2_worked_3 24 rfl rfl
theorem dksX2_worked_5 : cX2_worked.data.toList.drop 119 = dktX2_worked_5 := dk_seg dksX2_worked_4 24 rfl rfl
theorem dksX2_worked_6 : cX2_worked.data.toList.drop 143 = dktX2_worked_6 := dk_seg dksX2_worked_5 24 rfl rfl
theorem dksX2_worked_7 : cX2_worked.data.toList.drop 167 = dktX2_worked_7 := dk_seg dksX2_worked_6 24 rfl rfl
theorem dX2_worked_0 : decode cX2_worked 0 = .ok (.iconst 0, 1) := dk_3 (dk_at dksX2_worked_0 0 rfl rfl)
theorem dX2_worked_1 : decode cX2_worked 1 = .ok (.istore_n 3, 1) := dk_62 (dk_at dksX2_worked_0 1 rfl rfl)
theorem dX2_worked_2 : decode cX2_worked 2 = .ok (.iload_n 1, 1) := dk_27 (dk_at dksX2_worked_0 2 rfl rfl)
theorem dX2_worked_3 : decode cX2_worked 3 = .ok (.istore 4, 2) := dk_54 4 (dk_at dksX2_worked_0 3 rfl rfl)
theorem dX2_worked_5 : decode cX2_worked 5 = .ok (.iload 4, 2) := dk_21 4 (dk_at dksX2_worked_0 5 rfl rfl)
theorem dX2_worked_7 : decode cX2_worked 7 = .ok (.iload_n 2, 1) := dk_28 (dk_at dksX2_worked_0 7 rfl rfl)
theorem dX2_worked_8 : decode cX2_worked 8 = .ok (.if_icmp .ge 155, 3) := dk_162 0 155 (dk_at dksX2_worked_0 8 rfl rfl)
theorem dX2_worked_11 : decode cX2_worked 11 = .ok (.aload_n 0, 1) := dk_42 (dk_at dksX2_worked_0 11 rfl rfl)
theorem dX2_worked_12 : decode cX2_worked 12 = .ok (.getfield 39, 3) := dk_180 0 39 (dk_at dksX2_worked_0 12 rfl rfl)
theorem dX2_worked_15 : decode cX2_worked 15 = .ok (.iload 4, 2) := dk_21 4 (dk_at dksX2_worked_0 15 rfl rfl)
theorem dX2_worked_17 : decode cX2_worked 17 = .ok (.iaload, 1) := dk_46 (dk_at dksX2_worked_0 17 rfl rfl)
theorem dX2_worked_18 : decode cX2_worked 18 = .ok (.istore 5, 2) := dk_54 5 (dk_at dksX2_worked_0 18 rfl rfl)
theorem dX2_worked_20 : decode cX2_worked 20 = .ok (.iload 5, 2) := dk_21 5 (dk_at dksX2_worked_0 20 rfl rfl)
theorem dX2_worked_22 : decode cX2_worked 22 = .ok (.bipush 18, 2) := dk_16 18 (dk_at dksX2_worked_0 22 rfl rfl)
theorem dX2_worked_24 : decode cX2_worked 24 = .ok (.if_icmp .ge 9, 3) := dk_162 0 9 (dk_at dksX2_worked_1 0 rfl rfl)
theorem dX2_worked_27 : decode cX2_worked 27 = .ok (.iload 5, 2) := dk_21 5 (dk_at dksX2_worked_1 3 rfl rfl)
theorem dX2_worked_29 : decode cX2_worked 29 = .ok (.iconst 5, 1) := dk_8 (dk_at dksX2_worked_1 5 rfl rfl)
theorem dX2_worked_30 : decode cX2_worked 30 = .ok (.if_icmp .gt 37, 3) := dk_163 0 37 (dk_at dksX2_worked_1 6 rfl rfl)
theorem dX2_worked_33 : decode cX2_worked 33 = .ok (.aload_n 0, 1) := dk_42 (dk_at dksX2_worked_1 9 rfl rfl)
theorem dX2_worked_34 : decode cX2_worked 34 = .ok (.getfield 54, 3) := dk_180 0 54 (dk_at dksX2_worked_1 10 rfl rfl)
theorem dX2_worked_37 : decode cX2_worked 37 = .ok (.iload_n 3, 1) := dk_29 (dk_at dksX2_worked_1 13 rfl rfl)
theorem dX2_worked_38 : decode cX2_worked 38 = .ok (.iinc 3 1, 3) := dk_132 3 1 (dk_at dksX2_worked_1 14 rfl rfl)
theorem dX2_worked_41 : decode cX2_worked 41 = .ok (.iload 5, 2) := dk_21 5 (dk_at dksX2_worked_1 17 rfl rfl)
theorem dX2_worked_43 : decode cX2_worked 43 = .ok (.bipush 18, 2) := dk_16 18 (dk_at dksX2_worked_1 19 rfl rfl)
theorem dX2_worked_45 : decode cX2_worked 45 = .ok (.if_icmp .lt 11, 3) := dk_161 0 11 (dk_at dksX2_worked_1 21 rfl rfl)
theorem dX2_worked_48 : decode cX2_worked 48 = .ok (.iload 5, 2) := dk_21 5 (dk_at dksX2_worked_2 0 rfl rfl)
theorem dX2_worked_50 : decode cX2_worked 50 = .ok (.bipush 18, 2) := dk_16 18 (dk_at dksX2_worked_2 2 rfl rfl)
theorem dX2_worked_52 : decode cX2_worked 52 = .ok (.isub, 1) := dk_100 (dk_at dksX2_worked_2 4 rfl rfl)
theorem dX2_worked_53 : decode cX2_worked 53 = .ok (.goto 10, 3) := dk_167 0 10 (dk_at dksX2_worked_2 5 rfl rfl)
theorem dX2_worked_56 : decode cX2_worked 56 = .ok (.aload_n 0, 1) := dk_42 (dk_at dksX2_worked_2 8 rfl rfl)
theorem dX2_worked_57 : decode cX2_worked 57 = .ok (.getfield 57, 3) := dk_180 0 57 (dk_at dksX2_worked_2 9 rfl rfl)
theorem dX2_worked_60 : decode cX2_worked 60 = .ok (.iload 5, 2) := dk_21 5 (dk_at dksX2_worked_2 12 rfl rfl)
theorem dX2_worked_62 : decode cX2_worked 62 = .ok (.iaload, 1) := dk_46 (dk_at dksX2_worked_2 14 rfl rfl)
theorem dX2_worked_63 : decode cX2_worked 63 = .ok (.iastore, 1) := dk_79 (dk_at dksX2_worked_2 15 rfl rfl)
theorem dX2_worked_64 : decode cX2_worked 64 = .ok (.goto 93, 3) := dk_167 0 93 (dk_at dksX2_worked_2 16 rfl rfl)
theorem dX2_worked_67 : decode cX2_worked 67 = .ok (.iload 5, 2) := dk_21 5 (dk_at dksX2_worked_2 19 rfl rfl)
theorem dX2_worked_69 : decode cX2_worked 69 = .ok (.bipush 16, 2) := dk_16 16 (dk_at dksX2_worked_2 21 rfl rfl)
theorem dX2_worked_71 : decode cX2_worked 71 = .ok (.if_icmp .eq 10, 3) := dk_159 0 10 (dk_at dksX2_worked_3 0 rfl rfl)
theorem dX2_worked_74 : decode cX2_worked 74 = .ok (.iload 5, 2) := dk_21 5 (dk_at dksX2_worked_3 3 rfl rfl)
theorem dX2_worked_76 : decode cX2_worked 76 = .ok (.bipush 17, 2) := dk_16 17 (dk_at dksX2_worked_3 5 rfl rfl)
theorem dX2_worked_78 : decode cX2_worked 78 = .ok (.if_icmp .ne 49, 3) := dk_160 0 49 (dk_at dksX2_worked_3 7 rfl rfl)
theorem dX2_worked_81 : decode cX2_worked 81 = .ok (.aload_n 0, 1) := dk_42 (dk_at dksX2_worked_3 10 rfl rfl)
theorem dX2_worked_82 : decode cX2_worked 82 = .ok (.getfield 54, 3) := dk_180 0 54 (dk_at dksX2_worked_3 11 rfl rfl)
theorem dX2_worked_85 : decode cX2_worked 85 = .ok (.iload_n 3, 1) := dk_29 (dk_at dksX2_worked_3 14 rfl rfl)
theorem dX2_worked_86 : decode cX2_worked 86 = .ok (.iconst 1, 1) := dk_4 (dk_at dksX2_worked_3 15 rfl rfl)
theorem dX2_worked_87 : decode cX2_worked 87 = .ok (.isub, 1) := dk_100 (dk_at dksX2_worked_3 16 rfl rfl)
theorem dX2_worked_88 : decode cX2_worked 88 = .ok (.iload 5, 2) := dk_21 5 (dk_at dksX2_worked_3 17 rfl rfl)
theorem dX2_worked_90 : decode cX2_worked 90 = .ok (.bipush 17, 2) := dk_16 17 (dk_at dksX2_worked_3 19 rfl rfl)
theorem dX2_worked_92 : decode cX2_worked 92 = .ok (.if_icmp .ne 15, 3) := dk_160 0 15 (dk_at dksX2_worked_3 21 rfl rfl)
theorem dX2_worked_95 : decode cX2_worked 95 = .ok (.aload_n 0, 1) := dk_42 (dk_at dksX2_worked_4 0 rfl rfl)
theorem dX2_worked_96 : decode cX2_worked 96 = .ok (.getfield 54, 3) := dk_180 0 54 (dk_at dksX2_worked_4 1 rfl rfl)
theorem dX2_worked_99 : decode cX2_worked 99 = .ok (.iload_n 3, 1) := dk_29 (dk_at dksX2_worked_4 4 rfl rfl)
theorem dX2_worked_100 : decode cX2_worked 100 = .ok (.iconst 1, 1) := dk_4 (dk_at dksX2_worked_4 5 rfl rfl)
theorem dX2_worked_101 : decode cX2_worked 101 = .ok (.isub, 1) := dk_100 (dk_at dksX2_worked_4 6 rfl rfl)
theorem dX2_worked_102 : decode cX2_worked 102 = .ok (.iaload, 1) := dk_46 (dk_at dksX2_worked_4 7 rfl rfl)
theorem dX2_worked_103 : decode cX2_worked 103 = .ok (.ineg, 1) := dk_116 (dk_at dksX2_worked_4 8 rfl rfl)
theorem dX2_worked_104 : decode cX2_worked 104 = .ok (.goto 19, 3) := dk_167 0 19 (dk_at dksX2_worked_4 9 rfl rfl)
theorem dX2_worked_107 : decode cX2_worked 107 = .ok (.aload_n 0, 1) := dk_42 (dk_at dksX2_worked_4 12 rfl rfl)
theorem dX2_worked_108 : decode cX2_worked 108 = .ok (.getfield 54, 3) := dk_180 0 54 (dk_at dksX2_worked_4 13 rfl rfl)
theorem dX2_worked_111 : decode cX2_worked 111 = .ok (.iload_n 3, 1) := dk_29 (dk_at dksX2_worked_4 16 rfl rfl)
theorem dX2_worked_112 : decode cX2_worked 112 = .ok (.iconst 1, 1) := dk_4 (dk_at dksX2_worked_4 17 rfl rfl)
theorem dX2_worked_113 : decode cX2_worked 113 = .ok (.isub, 1) := dk_100 (dk_at dksX2_worked_4 18 rfl rfl)
theorem dX2_worked_114 : decode cX2_worked 114 = .ok (.iaload, 1) := dk_46 (dk_at dksX2_worked_4 19 rfl rfl)
theorem dX2_worked_115 : decode cX2_worked 115 = .ok (.ifCond .ne 7, 3) := dk_154 0 7 (dk_at dksX2_worked_4 20 rfl rfl)
theorem dX2_worked_118 : decode cX2_worked 118 = .ok (.iconst 1, 1) := dk_4 (dk_at dksX2_worked_4 23 rfl rfl)
theorem dX2_worked_119 : decode cX2_worked 119 = .ok (.goto 4, 3) := dk_167 0 4 (dk_at dksX2_worked_5 0 rfl rfl)
theorem dX2_worked_122 : decode cX2_worked 122 = .ok (.iconst 0, 1) := dk_3 (dk_at dksX2_worked_5 3 rfl rfl)
theorem dX2_worked_123 : decode cX2_worked 123 = .ok (.iastore, 1) := dk_79 (dk_at dksX2_worked_5 4 rfl rfl)
theorem dX2_worked_124 : decode cX2_worked 124 = .ok (.goto 33, 3) := dk_167 0 33 (dk_at dksX2_worked_5 5 rfl rfl)
theorem dX2_worked_127 : decode cX2_worked 127 = .ok (.iinc 3 (-1), 3) := dk_132 3 255 (dk_at dksX2_worked_5 8 rfl rfl)
theorem dX2_worked_130 : decode cX2_worked 130 = .ok (.aload_n 0, 1) := dk_42 (dk_at dksX2_worked_5 11 rfl rfl)
theorem dX2_worked_131 : decode cX2_worked 131 = .ok (.getfield 54, 3) := dk_180 0 54 (dk_at dksX2_worked_5 12 rfl rfl)
theorem dX2_worked_134 : decode cX2_worked 134 = .ok (.iload_n 3, 1) := dk_29 (dk_at dksX2_worked_5 15 rfl rfl)
theorem dX2_worked_135 : decode cX2_worked 135 = .ok (.iconst 1, 1) := dk_4 (dk_at dksX2_worked_5 16 rfl rfl)
theorem dX2_worked_136 : decode cX2_worked 136 = .ok (.isub, 1) := dk_100 (dk_at dksX2_worked_5 17 rfl rfl)
theorem dX2_worked_137 : decode cX2_worked 137 = .ok (.iload 5, 2) := dk_21 5 (dk_at dksX2_worked_5 18 rfl rfl)
theorem dX2_worked_139 : decode cX2_worked 139 = .ok (.aload_n 0, 1) := dk_42 (dk_at dksX2_worked_5 20 rfl rfl)
theorem dX2_worked_140 : decode cX2_worked 140 = .ok (.getfield 54, 3) := dk_180 0 54 (dk_at dksX2_worked_5 21 rfl rfl)
theorem dX2_worked_143 : decode cX2_worked 143 = .ok (.iload_n 3, 1) := dk_29 (dk_at dksX2_worked_6 0 rfl rfl)
theorem dX2_worked_144 : decode cX2_worked 144 = .ok (.iconst 1, 1) := dk_4 (dk_at dksX2_worked_6 1 rfl rfl)
theorem dX2_worked_145 : decode cX2_worked 145 = .ok (.isub, 1) := dk_100 (dk_at dksX2_worked_6 2 rfl rfl)
theorem dX2_worked_146 : decode cX2_worked 146 = .ok (.iaload, 1) := dk_46 (dk_at dksX2_worked_6 3 rfl rfl)
theorem dX2_worked_147 : decode cX2_worked 147 = .ok (.aload_n 0, 1) := dk_42 (dk_at dksX2_worked_6 4 rfl rfl)
theorem dX2_worked_148 : decode cX2_worked 148 = .ok (.getfield 54, 3) := dk_180 0 54 (dk_at dksX2_worked_6 5 rfl rfl)
theorem dX2_worked_151 : decode cX2_worked 151 = .ok (.iload_n 3, 1) := dk_29 (dk_at dksX2_worked_6 8 rfl rfl)
theorem dX2_worked_152 : decode cX2_worked 152 = .ok (.iaload, 1) := dk_46 (dk_at dksX2_worked_6 9 rfl rfl)
theorem dX2_worked_153 : decode cX2_worked 153 = .ok (.invokestatic 223, 3) := dk_184 0 223 (dk_at dksX2_worked_6 10 rfl rfl)
theorem dX2_worked_156 : decode cX2_worked 156 = .ok (.iastore, 1) := dk_79 (dk_at dksX2_worked_6 13 rfl rfl)
theorem dX2_worked_157 : decode cX2_worked 157 = .ok (.iinc 4 1, 3) := dk_132 4 1 (dk_at dksX2_worked_6 14 rfl rfl)
theorem dX2_worked_160 : decode cX2_worked 160 = .ok (.goto (-155), 3) := dk_167 255 101 (dk_at dksX2_worked_6 17 rfl rfl)
theorem dX2_worked_163 : decode cX2_worked 163 = .ok (.aload_n 0, 1) := dk_42 (dk_at dksX2_worked_6 20 rfl rfl)
theorem dX2_worked_164 : decode cX2_worked 164 = .ok (.getfield 54, 3) := dk_180 0 54 (dk_at dksX2_worked_6 21 rfl rfl)
theorem dX2_worked_167 : decode cX2_worked 167 = .ok (.iconst 0, 1) := dk_3 (dk_at dksX2_worked_7 0 rfl rfl)
theorem dX2_worked_168 : decode cX2_worked 168 = .ok (.iaload, 1) := dk_46 (dk_at dksX2_worked_7 1 rfl rfl)
theorem dX2_worked_169 : decode cX2_worked 169 = .ok (.ireturn, 1) := dk_172 (dk_at dksX2_worked_7 2 rfl rfl)
abbrev cX2_both : ByteArray := prog_31_method_31_code
def yX2_both : MethodName := ⟨RX2, "both", "(III)I"⟩
def dkwX2_both_6 : List UInt8 := [27, 28, 112, 172]
abbrev dktX2_both_6 : List UInt8 := dkwX2_both_6 ++ []
def dkwX2_both_5 : List UInt8 := [27, 28, 104, 172, 28, 154, 0, 7, 3, 167, 0, 6, 27, 28, 108, 172, 28, 154, 0, 7, 3, 167, 0, 6]
abbrev dktX2_both_5 : List UInt8 := dkwX2_both_5 ++ dktX2_both_6
def dkwX2_both_4 : List UInt8 := [167, 0, 4, 3, 172, 27, 28, 164, 0, 7, 4, 167, 0, 4, 3, 172, 27, 28, 96, 172, 27, 28, 100, 172]
abbrev dktX2_both_4 : List UInt8 := dkwX2_both_4 ++ dktX2_both_5
def dkwX2_both_3 : List UInt8 := [167, 0, 4, 3, 172, 27, 28, 162, 0, 7, 4, 167, 0, 4, 3, 172, 27, 28, 160, 0, 7, 4]
abbrev dktX2_both_3 : List UInt8 := dkwX2_both_3 ++ dktX2_both_4
def dkwX2_both_2 : List UInt8 := [27, 154, 0, 7, 28, 153, 0, 7, 4, 167, 0, 4, 3, 172, 27, 153, 0, 11, 28, 153, 0, 7, 4]
abbrev dktX2_both_2 : List UInt8 := dkwX2_both_2 ++ dktX2_both_3
def dkwX2_both_1 : List UInt8 := [170, 0, 0, 0, 0, 0, 136, 0, 0, 0, 6, 0, 0, 0, 14, 0, 0, 0, 51, 0, 0, 0, 65, 0, 0, 0, 79, 0, 0, 0, 90, 0, 0, 0, 101, 0, 0, 0, 112, 0, 0, 0, 116, 0, 0, 0, 120, 0, 0, 0, 124]
abbrev dktX2_both_1 : List UInt8 := dkwX2_both_1 ++ dktX2_both_2
def dkwX2_both_0 : List UInt8 := [26]
abbrev dktX2_both_0 : List UInt8 := dkwX2_both_0 ++ dktX2_both_1
theorem dksX2_both_0 : cX2_both.data.toList.drop 0 = dktX2_both_0 := by decide +kernel
theorem dksX2_both_1 : cX2_both.data.toList.drop 1 = dktX2_both_1 := dk_seg dksX2_both_0 1 rfl rfl
theorem dksX2_both_2 : cX2_both.data.toList.drop 52 = dktX2_both_2 := dk_seg dksX2_both_1 51 rfl rfl
theorem dksX2_both_3 : cX2_both.data.toList.drop 75 = dktX2_both_3 := dk_seg dksX2_both_2 23 rfl rfl
theorem dksX2_both_4 : cX2_both.data.toList.drop 97 = dktX2_both_4 := dk_seg dksX2_both_3 22 rfl rfl
theorem dksX2_both_5 : cX2_both.data.toList.drop 121 = dktX2_both_5 := dk_seg dksX2_both_4 24 rfl rfl
theorem dksX2_both_6 : cX2_both.data.toList.drop 145 = dktX2_both_6 := dk_seg dksX2_both_5 24 rfl rfl
theorem dX2_both_0 : decode cX2_both 0 = .ok (.iload_n 0, 1) := dk_26 (dk_at dksX2_both_0 0 rfl rfl)
theorem dX2_both_1 : decode cX2_both 1 = .ok (.tableswitch 136 6 14 #[51, 65, 79, 90, 101, 112, 116, 120, 124], 51) := by decide +kernel
theorem dX2_both_52 : decode cX2_both 52 = .ok (.iload_n 1, 1) := dk_27 (dk_at dksX2_both_2 0 rfl rfl)
theorem dX2_both_53 : decode cX2_both 53 = .ok (.ifCond .ne 7, 3) := dk_154 0 7 (dk_at dksX2_both_2 1 rfl rfl)
theorem dX2_both_56 : decode cX2_both 56 = .ok (.iload_n 2, 1) := dk_28 (dk_at dksX2_both_2 4 rfl rfl)
theorem dX2_both_57 : decode cX2_both 57 = .ok (.ifCond .eq 7, 3) := dk_153 0 7 (dk_at dksX2_both_2 5 rfl rfl)
theorem dX2_both_60 : decode cX2_both 60 = .ok (.iconst 1, 1) := dk_4 (dk_at dksX2_both_2 8 rfl rfl)
theorem dX2_both_61 : decode cX2_both 61 = .ok (.goto 4, 3) := dk_167 0 4 (dk_at dksX2_both_2 9 rfl rfl)
theorem dX2_both_64 : decode cX2_both 64 = .ok (.iconst 0, 1) := dk_3 (dk_at dksX2_both_2 12 rfl rfl)
theorem dX2_both_65 : decode cX2_both 65 = .ok (.ireturn, 1) := dk_172 (dk_at dksX2_both_2 13 rfl rfl)
theorem dX2_both_66 : decode cX2_both 66 = .ok (.iload_n 1, 1) := dk_27 (dk_at dksX2_both_2 14 rfl rfl)
theorem dX2_both_67 : decode cX2_both 67 = .ok (.ifCond .eq 11, 3) := dk_153 0 11 (dk_at dksX2_both_2 15 rfl rfl)
theorem dX2_both_70 : decode cX2_both 70 = .ok (.iload_n 2, 1) := dk_28 (dk_at dksX2_both_2 18 rfl rfl)
theorem dX2_both_71 : decode cX2_both 71 = .ok (.ifCond .eq 7, 3) := dk_153 0 7 (dk_at dksX2_both_2 19 rfl rfl)
theorem dX2_both_74 : decode cX2_both 74 = .ok (.iconst 1, 1) := dk_4 (dk_at dksX2_both_2 22 rfl rfl)
theorem dX2_both_75 : decode cX2_both 75 = .ok (.goto 4, 3) := dk_167 0 4 (dk_at dksX2_both_3 0 rfl rfl)
theorem dX2_both_78 : decode cX2_both 78 = .ok (.iconst 0, 1) := dk_3 (dk_at dksX2_both_3 3 rfl rfl)
theorem dX2_both_79 : decode cX2_both 79 = .ok (.ireturn, 1) := dk_172 (dk_at dksX2_both_3 4 rfl rfl)
theorem dX2_both_80 : decode cX2_both 80 = .ok (.iload_n 1, 1) := dk_27 (dk_at dksX2_both_3 5 rfl rfl)
theorem dX2_both_81 : decode cX2_both 81 = .ok (.iload_n 2, 1) := dk_28 (dk_at dksX2_both_3 6 rfl rfl)
theorem dX2_both_82 : decode cX2_both 82 = .ok (.if_icmp .ge 7, 3) := dk_162 0 7 (dk_at dksX2_both_3 7 rfl rfl)
theorem dX2_both_85 : decode cX2_both 85 = .ok (.iconst 1, 1) := dk_4 (dk_at dksX2_both_3 10 rfl rfl)
theorem dX2_both_86 : decode cX2_both 86 = .ok (.goto 4, 3) := dk_167 0 4 (dk_at dksX2_both_3 11 rfl rfl)
theorem dX2_both_89 : decode cX2_both 89 = .ok (.iconst 0, 1) := dk_3 (dk_at dksX2_both_3 14 rfl rfl)
theorem dX2_both_90 : decode cX2_both 90 = .ok (.ireturn, 1) := dk_172 (dk_at dksX2_both_3 15 rfl rfl)
theorem dX2_both_91 : decode cX2_both 91 = .ok (.iload_n 1, 1) := dk_27 (dk_at dksX2_both_3 16 rfl rfl)
theorem dX2_both_92 : decode cX2_both 92 = .ok (.iload_n 2, 1) := dk_28 (dk_at dksX2_both_3 17 rfl rfl)
theorem dX2_both_93 : decode cX2_both 93 = .ok (.if_icmp .ne 7, 3) := dk_160 0 7 (dk_at dksX2_both_3 18 rfl rfl)
theorem dX2_both_96 : decode cX2_both 96 = .ok (.iconst 1, 1) := dk_4 (dk_at dksX2_both_3 21 rfl rfl)
theorem dX2_both_97 : decode cX2_both 97 = .ok (.goto 4, 3) := dk_167 0 4 (dk_at dksX2_both_4 0 rfl rfl)
theorem dX2_both_100 : decode cX2_both 100 = .ok (.iconst 0, 1) := dk_3 (dk_at dksX2_both_4 3 rfl rfl)
theorem dX2_both_101 : decode cX2_both 101 = .ok (.ireturn, 1) := dk_172 (dk_at dksX2_both_4 4 rfl rfl)
theorem dX2_both_102 : decode cX2_both 102 = .ok (.iload_n 1, 1) := dk_27 (dk_at dksX2_both_4 5 rfl rfl)
theorem dX2_both_103 : decode cX2_both 103 = .ok (.iload_n 2, 1) := dk_28 (dk_at dksX2_both_4 6 rfl rfl)
theorem dX2_both_104 : decode cX2_both 104 = .ok (.if_icmp .le 7, 3) := dk_164 0 7 (dk_at dksX2_both_4 7 rfl rfl)
theorem dX2_both_107 : decode cX2_both 107 = .ok (.iconst 1, 1) := dk_4 (dk_at dksX2_both_4 10 rfl rfl)
theorem dX2_both_108 : decode cX2_both 108 = .ok (.goto 4, 3) := dk_167 0 4 (dk_at dksX2_both_4 11 rfl rfl)
theorem dX2_both_111 : decode cX2_both 111 = .ok (.iconst 0, 1) := dk_3 (dk_at dksX2_both_4 14 rfl rfl)
theorem dX2_both_112 : decode cX2_both 112 = .ok (.ireturn, 1) := dk_172 (dk_at dksX2_both_4 15 rfl rfl)
theorem dX2_both_113 : decode cX2_both 113 = .ok (.iload_n 1, 1) := dk_27 (dk_at dksX2_both_4 16 rfl rfl)
theorem dX2_both_114 : decode cX2_both 114 = .ok (.iload_n 2, 1) := dk_28 (dk_at dksX2_both_4 17 rfl rfl)
theorem dX2_both_115 : decode cX2_both 115 = .ok (.iadd, 1) := dk_96 (dk_at dksX2_both_4 18 rfl rfl)
theorem dX2_both_116 : decode cX2_both 116 = .ok (.ireturn, 1) := dk_172 (dk_at dksX2_both_4 19 rfl rfl)
theorem dX2_both_117 : decode cX2_both 117 = .ok (.iload_n 1, 1) := dk_27 (dk_at dksX2_both_4 20 rfl rfl)
theorem dX2_both_118 : decode cX2_both 118 = .ok (.iload_n 2, 1) := dk_28 (dk_at dksX2_both_4 21 rfl rfl)
theorem dX2_both_119 : decode cX2_both 119 = .ok (.isub, 1) := dk_100 (dk_at dksX2_both_4 22 rfl rfl)
theorem dX2_both_120 : decode cX2_both 120 = .ok (.ireturn, 1) := dk_172 (dk_at dksX2_both_4 23 rfl rfl)
theorem dX2_both_121 : decode cX2_both 121 = .ok (.iload_n 1, 1) := dk_27 (dk_at dksX2_both_5 0 rfl rfl)
theorem dX2_both_122 : decode cX2_both 122 = .ok (.iload_n 2, 1) := dk_28 (dk_at dksX2_both_5 1 rfl rfl)
theorem dX2_both_123 : decode cX2_both 123 = .ok (.imul, 1) := dk_104 (dk_at dksX2_both_5 2 rfl rfl)
theorem dX2_both_124 : decode cX2_both 124 = .ok (.ireturn, 1) := dk_172 (dk_at dksX2_both_5 3 rfl rfl)
theorem dX2_both_125 : decode cX2_both 125 = .ok (.iload_n 2, 1) := dk_28 (dk_at dksX2_both_5 4 rfl rfl)
theorem dX2_both_126 : decode cX2_both 126 = .ok (.ifCond .ne 7, 3) := dk_154 0 7 (dk_at dksX2_both_5 5 rfl rfl)
theorem dX2_both_129 : decode cX2_both 129 = .ok (.iconst 0, 1) := dk_3 (dk_at dksX2_both_5 8 rfl rfl)
theorem dX2_both_130 : decode cX2_both 130 = .ok (.goto 6, 3) := dk_167 0 6 (dk_at dksX2_both_5 9 rfl rfl)
theorem dX2_both_133 : decode cX2_both 133 = .ok (.iload_n 1, 1) := dk_27 (dk_at dksX2_both_5 12 rfl rfl)
theorem dX2_both_134 : decode cX2_both 134 = .ok (.iload_n 2, 1) := dk_28 (dk_at dksX2_both_5 13 rfl rfl)
theorem dX2_both_135 : decode cX2_both 135 = .ok (.idiv, 1) := dk_108 (dk_at dksX2_both_5 14 rfl rfl)
theorem dX2_both_136 : decode cX2_both 136 = .ok (.ireturn, 1) := dk_172 (dk_at dksX2_both_5 15 rfl rfl)
theorem dX2_both_137 : decode cX2_both 137 = .ok (.iload_n 2, 1) := dk_28 (dk_at dksX2_both_5 16 rfl rfl)
theorem dX2_both_138 : decode cX2_both 138 = .ok (.ifCond .ne 7, 3) := dk_154 0 7 (dk_at dksX2_both_5 17 rfl rfl)
theorem dX2_both_141 : decode cX2_both 141 = .ok (.iconst 0, 1) := dk_3 (dk_at dksX2_both_5 20 rfl rfl)
theorem dX2_both_142 : decode cX2_both 142 = .ok (.goto 6, 3) := dk_167 0 6 (dk_at dksX2_both_5 21 rfl rfl)
theorem dX2_both_145 : decode cX2_both 145 = .ok (.iload_n 1, 1) := dk_27 (dk_at dksX2_both_6 0 rfl rfl)
theorem dX2_both_146 : decode cX2_both 146 = .ok (.iload_n 2, 1) := dk_28 (dk_at dksX2_both_6 1 rfl rfl)
theorem dX2_both_147 : decode cX2_both 147 = .ok (.irem, 1) := dk_112 (dk_at dksX2_both_6 2 rfl rfl)
theorem dX2_both_148 : decode cX2_both 148 = .ok (.ireturn, 1) := dk_172 (dk_at dksX2_both_6 3 rfl rfl)
abbrev cX2_red : ByteArray := prog_31_method_52_code
def yX2_red : MethodName := ⟨RX2, "red", "(II)I"⟩
def dkwX2_red_4 : List UInt8 := [54, 4, 132, 5, 1, 167, 255, 214, 21, 4, 172]
abbrev dktX2_red_4 : List UInt8 := dkwX2_red_4 ++ []
def dkwX2_red_3 : List UInt8 := [21, 5, 46, 16, 60, 108, 28, 160, 0, 19, 21, 4, 4, 42, 180, 0, 97, 21, 5, 46, 120, 2, 130, 126]
abbrev dktX2_red_3 : List UInt8 := dkwX2_red_3 ++ dktX2_red_4
def dkwX2_red_2 : List UInt8 := [180, 0, 120, 120, 4, 100, 54, 4, 3, 54, 5, 21, 5, 42, 180, 0, 255, 162, 0, 39, 42, 180, 0, 94]
abbrev dktX2_red_2 : List UInt8 := dkwX2_red_2 ++ dktX2_red_3
def dkwX2_red_1 : List UInt8 := [182, 1, 9, 62, 29, 156, 0, 5, 29, 172, 42, 27, 182, 1, 12, 42, 17, 15, 160, 182, 1, 5, 4, 42]
abbrev dktX2_red_1 : List UInt8 := dkwX2_red_1 ++ dktX2_red_2
def dkwX2_red_0 : List UInt8 := [27, 184, 0, 131, 153, 0, 13, 28, 3, 16, 15, 184, 0, 123, 154, 0, 5, 2, 172, 42, 27, 3]
abbrev dktX2_red_0 : List UInt8 := dkwX2_red_0 ++ dktX2_red_1
theorem dksX2_red_0 : cX2_red.data.toList.drop 0 = dktX2_red_0 := by decide +kernel
theorem dksX2_red_1 : cX2_red.data.toList.drop 22 = dktX2_red_1 := dk_seg dksX2_red_0 22 rfl rfl
theorem dksX2_red_2 : cX2_red.data.toList.drop 46 = dktX2_red_2 := dk_seg dksX2_red_1 24 rfl rfl
theorem dksX2_red_3 : cX2_red.data.toList.drop 70 = dktX2_red_3 := dk_seg dksX2_red_2 24 rfl rfl
theorem dksX2_red_4 : cX2_red.data.toList.drop 94 = dktX2_red_4 := dk_seg dksX2_red_3 24 rfl rfl
theorem dX2_red_0 : decode cX2_red 0 = .ok (.iload_n 1, 1) := dk_27 (dk_at dksX2_red_0 0 rfl rfl)
theorem dX2_red_1 : decode cX2_red 1 = .ok (.invokestatic 131, 3) := dk_184 0 131 (dk_at dksX2_red_0 1 rfl rfl)
theorem dX2_red_4 : decode cX2_red 4 = .ok (.ifCond .eq 13, 3) := dk_153 0 13 (dk_at dksX2_red_0 4 rfl rfl)
theorem dX2_red_7 : decode cX2_red 7 = .ok (.iload_n 2, 1) := dk_28 (dk_at dksX2_red_0 7 rfl rfl)
theorem dX2_red_8 : decode cX2_red 8 = .ok (.iconst 0, 1) := dk_3 (dk_at dksX2_red_0 8 rfl rfl)
theorem dX2_red_9 : decode cX2_red 9 = .ok (.bipush 15, 2) := dk_16 15 (dk_at dksX2_red_0 9 rfl rfl)
theorem dX2_red_11 : decode cX2_red 11 = .ok (.invokestatic 123, 3) := dk_184 0 123 (dk_at dksX2_red_0 11 rfl rfl)
theorem dX2_red_14 : decode cX2_red 14 = .ok (.ifCond .ne 5, 3) := dk_154 0 5 (dk_at dksX2_red_0 14 rfl rfl)
theorem dX2_red_17 : decode cX2_red 17 = .ok (.iconst (-1), 1) := dk_2 (dk_at dksX2_red_0 17 rfl rfl)
theorem dX2_red_18 : decode cX2_red 18 = .ok (.ireturn, 1) := dk_172 (dk_at dksX2_red_0 18 rfl rfl)
theorem dX2_red_19 : decode cX2_red 19 = .ok (.aload_n 0, 1) := dk_42 (dk_at dksX2_red_0 19 rfl rfl)
theorem dX2_red_20 : decode cX2_red 20 = .ok (.iload_n 1, 1) := dk_27 (dk_at dksX2_red_0 20 rfl rfl)
theorem dX2_red_21 : decode cX2_red 21 = .ok (.iconst 0, 1) := dk_3 (dk_at dksX2_red_0 21 rfl rfl)
theorem dX2_red_22 : decode cX2_red 22 = .ok (.invokevirtual 265, 3) := dk_182 1 9 (dk_at dksX2_red_1 0 rfl rfl)
theorem dX2_red_25 : decode cX2_red 25 = .ok (.istore_n 3, 1) := dk_62 (dk_at dksX2_red_1 3 rfl rfl)
theorem dX2_red_26 : decode cX2_red 26 = .ok (.iload_n 3, 1) := dk_29 (dk_at dksX2_red_1 4 rfl rfl)
theorem dX2_red_27 : decode cX2_red 27 = .ok (.ifCond .ge 5, 3) := dk_156 0 5 (dk_at dksX2_red_1 5 rfl rfl)
theorem dX2_red_30 : decode cX2_red 30 = .ok (.iload_n 3, 1) := dk_29 (dk_at dksX2_red_1 8 rfl rfl)
theorem dX2_red_31 : decode cX2_red 31 = .ok (.ireturn, 1) := dk_172 (dk_at dksX2_red_1 9 rfl rfl)
theorem dX2_red_32 : decode cX2_red 32 = .ok (.aload_n 0, 1) := dk_42 (dk_at dksX2_red_1 10 rfl rfl)
theorem dX2_red_33 : decode cX2_red 33 = .ok (.iload_n 1, 1) := dk_27 (dk_at dksX2_red_1 11 rfl rfl)
theorem dX2_red_34 : decode cX2_red 34 = .ok (.invokevirtual 268, 3) := dk_182 1 12 (dk_at dksX2_red_1 12 rfl rfl)
theorem dX2_red_37 : decode cX2_red 37 = .ok (.aload_n 0, 1) := dk_42 (dk_at dksX2_red_1 15 rfl rfl)
theorem dX2_red_38 : decode cX2_red 38 = .ok (.sipush 4000, 3) := dk_17 15 160 (dk_at dksX2_red_1 16 rfl rfl)
theorem dX2_red_41 : decode cX2_red 41 = .ok (.invokevirtual 261, 3) := dk_182 1 5 (dk_at dksX2_red_1 19 rfl rfl)
theorem dX2_red_44 : decode cX2_red 44 = .ok (.iconst 1, 1) := dk_4 (dk_at dksX2_red_1 22 rfl rfl)
theorem dX2_red_45 : decode cX2_red 45 = .ok (.aload_n 0, 1) := dk_42 (dk_at dksX2_red_1 23 rfl rfl)
theorem dX2_red_46 : decode cX2_red 46 = .ok (.getfield 120, 3) := dk_180 0 120 (dk_at dksX2_red_2 0 rfl rfl)
theorem dX2_red_49 : decode cX2_red 49 = .ok (.ishl, 1) := dk_120 (dk_at dksX2_red_2 3 rfl rfl)
theorem dX2_red_50 : decode cX2_red 50 = .ok (.iconst 1, 1) := dk_4 (dk_at dksX2_red_2 4 rfl rfl)
theorem dX2_red_51 : decode cX2_red 51 = .ok (.isub, 1) := dk_100 (dk_at dksX2_red_2 5 rfl rfl)
theorem dX2_red_52 : decode cX2_red 52 = .ok (.istore 4, 2) := dk_54 4 (dk_at dksX2_red_2 6 rfl rfl)
theorem dX2_red_54 : decode cX2_red 54 = .ok (.iconst 0, 1) := dk_3 (dk_at dksX2_red_2 8 rfl rfl)
theorem dX2_red_55 : decode cX2_red 55 = .ok (.istore 5, 2) := dk_54 5 (dk_at dksX2_red_2 9 rfl rfl)
theorem dX2_red_57 : decode cX2_red 57 = .ok (.iload 5, 2) := dk_21 5 (dk_at dksX2_red_2 11 rfl rfl)
theorem dX2_red_59 : decode cX2_red 59 = .ok (.aload_n 0, 1) := dk_42 (dk_at dksX2_red_2 13 rfl rfl)
theorem dX2_red_60 : decode cX2_red 60 = .ok (.getfield 255, 3) := dk_180 0 255 (dk_at dksX2_red_2 14 rfl rfl)
theorem dX2_red_63 : decode cX2_red 63 = .ok (.if_icmp .ge 39, 3) := dk_162 0 39 (dk_at dksX2_red_2 17 rfl rfl)
theorem dX2_red_66 : decode cX2_red 66 = .ok (.aload_n 0, 1) := dk_42 (dk_at dksX2_red_2 20 rfl rfl)
theorem dX2_red_67 : decode cX2_red 67 = .ok (.getfield 94, 3) := dk_180 0 94 (dk_at dksX2_red_2 21 rfl rfl)
theorem dX2_red_70 : decode cX2_red 70 = .ok (.iload 5, 2) := dk_21 5 (dk_at dksX2_red_3 0 rfl rfl)
theorem dX2_red_72 : decode cX2_red 72 = .ok (.iaload, 1) := dk_46 (dk_at dksX2_red_3 2 rfl rfl)
theorem dX2_red_73 : decode cX2_red 73 = .ok (.bipush 60, 2) := dk_16 60 (dk_at dksX2_red_3 3 rfl rfl)
theorem dX2_red_75 : decode cX2_red 75 = .ok (.idiv, 1) := dk_108 (dk_at dksX2_red_3 5 rfl rfl)
theorem dX2_red_76 : decode cX2_red 76 = .ok (.iload_n 2, 1) := dk_28 (dk_at dksX2_red_3 6 rfl rfl)
theorem dX2_red_77 : decode cX2_red 77 = .ok (.if_icmp .ne 19, 3) := dk_160 0 19 (dk_at dksX2_red_3 7 rfl rfl)
theorem dX2_red_80 : decode cX2_red 80 = .ok (.iload 4, 2) := dk_21 4 (dk_at dksX2_red_3 10 rfl rfl)
theorem dX2_red_82 : decode cX2_red 82 = .ok (.iconst 1, 1) := dk_4 (dk_at dksX2_red_3 12 rfl rfl)
theorem dX2_red_83 : decode cX2_red 83 = .ok (.aload_n 0, 1) := dk_42 (dk_at dksX2_red_3 13 rfl rfl)
theorem dX2_red_84 : decode cX2_red 84 = .ok (.getfield 97, 3) := dk_180 0 97 (dk_at dksX2_red_3 14 rfl rfl)
theorem dX2_red_87 : decode cX2_red 87 = .ok (.iload 5, 2) := dk_21 5 (dk_at dksX2_red_3 17 rfl rfl)
theorem dX2_red_89 : decode cX2_red 89 = .ok (.iaload, 1) := dk_46 (dk_at dksX2_red_3 19 rfl rfl)
theorem dX2_red_90 : decode cX2_red 90 = .ok (.ishl, 1) := dk_120 (dk_at dksX2_red_3 20 rfl rfl)
theorem dX2_red_91 : decode cX2_red 91 = .ok (.iconst (-1), 1) := dk_2 (dk_at dksX2_red_3 21 rfl rfl)
theorem dX2_red_92 : decode cX2_red 92 = .ok (.ixor, 1) := dk_130 (dk_at dksX2_red_3 22 rfl rfl)
theorem dX2_red_93 : decode cX2_red 93 = .ok (.iand, 1) := dk_126 (dk_at dksX2_red_3 23 rfl rfl)
theorem dX2_red_94 : decode cX2_red 94 = .ok (.istore 4, 2) := dk_54 4 (dk_at dksX2_red_4 0 rfl rfl)
theorem dX2_red_96 : decode cX2_red 96 = .ok (.iinc 5 1, 3) := dk_132 5 1 (dk_at dksX2_red_4 2 rfl rfl)
theorem dX2_red_99 : decode cX2_red 99 = .ok (.goto (-42), 3) := dk_167 255 214 (dk_at dksX2_red_4 5 rfl rfl)
theorem dX2_red_102 : decode cX2_red 102 = .ok (.iload 4, 2) := dk_21 4 (dk_at dksX2_red_4 8 rfl rfl)
theorem dX2_red_104 : decode cX2_red 104 = .ok (.ireturn, 1) := dk_172 (dk_at dksX2_red_4 10 rfl rfl)
abbrev cX2_gap : ByteArray := prog_31_method_54_code
def yX2_gap : MethodName := ⟨RX2, "gap", "(II)I"⟩
def dkwX2_gap_1 : List UInt8 := [62, 29, 156, 0, 5, 29, 172, 42, 27, 182, 1, 12, 42, 28, 182, 1, 33, 172]
abbrev dktX2_gap_1 : List UInt8 := dkwX2_gap_1 ++ []
def dkwX2_gap_0 : List UInt8 := [27, 184, 0, 131, 153, 0, 12, 42, 28, 133, 182, 0, 137, 154, 0, 5, 2, 172, 42, 27, 3, 182, 1, 9]
abbrev dktX2_gap_0 : List UInt8 := dkwX2_gap_0 ++ dktX2_gap_1
theorem dksX2_gap_0 : cX2_gap.data.toList.drop 0 = dktX2_gap_0 := by decide +kernel
theorem dksX2_gap_1 : cX2_gap.data.toList.drop 24 = dktX2_gap_1 := dk_seg dksX2_gap_0 24 rfl rfl
theorem dX2_gap_0 : decode cX2_gap 0 = .ok (.iload_n 1, 1) := dk_27 (dk_at dksX2_gap_0 0 rfl rfl)
theorem dX2_gap_1 : decode cX2_gap 1 = .ok (.invokestatic 131, 3) := dk_184 0 131 (dk_at dksX2_gap_0 1 rfl rfl)
theorem dX2_gap_4 : decode cX2_gap 4 = .ok (.ifCond .eq 12, 3) := dk_153 0 12 (dk_at dksX2_gap_0 4 rfl rfl)
theorem dX2_gap_7 : decode cX2_gap 7 = .ok (.aload_n 0, 1) := dk_42 (dk_at dksX2_gap_0 7 rfl rfl)
theorem dX2_gap_8 : decode cX2_gap 8 = .ok (.iload_n 2, 1) := dk_28 (dk_at dksX2_gap_0 8 rfl rfl)
theorem dX2_gap_9 : decode cX2_gap 9 = .ok (.i2l, 1) := dk_133 (dk_at dksX2_gap_0 9 rfl rfl)
theorem dX2_gap_10 : decode cX2_gap 10 = .ok (.invokevirtual 137, 3) := dk_182 0 137 (dk_at dksX2_gap_0 10 rfl rfl)
theorem dX2_gap_13 : decode cX2_gap 13 = .ok (.ifCond .ne 5, 3) := dk_154 0 5 (dk_at dksX2_gap_0 13 rfl rfl)
theorem dX2_gap_16 : decode cX2_gap 16 = .ok (.iconst (-1), 1) := dk_2 (dk_at dksX2_gap_0 16 rfl rfl)
theorem dX2_gap_17 : decode cX2_gap 17 = .ok (.ireturn, 1) := dk_172 (dk_at dksX2_gap_0 17 rfl rfl)
theorem dX2_gap_18 : decode cX2_gap 18 = .ok (.aload_n 0, 1) := dk_42 (dk_at dksX2_gap_0 18 rfl rfl)
theorem dX2_gap_19 : decode cX2_gap 19 = .ok (.iload_n 1, 1) := dk_27 (dk_at dksX2_gap_0 19 rfl rfl)
theorem dX2_gap_20 : decode cX2_gap 20 = .ok (.iconst 0, 1) := dk_3 (dk_at dksX2_gap_0 20 rfl rfl)
theorem dX2_gap_21 : decode cX2_gap 21 = .ok (.invokevirtual 265, 3) := dk_182 1 9 (dk_at dksX2_gap_0 21 rfl rfl)
theorem dX2_gap_24 : decode cX2_gap 24 = .ok (.istore_n 3, 1) := dk_62 (dk_at dksX2_gap_1 0 rfl rfl)
theorem dX2_gap_25 : decode cX2_gap 25 = .ok (.iload_n 3, 1) := dk_29 (dk_at dksX2_gap_1 1 rfl rfl)
theorem dX2_gap_26 : decode cX2_gap 26 = .ok (.ifCond .ge 5, 3) := dk_156 0 5 (dk_at dksX2_gap_1 2 rfl rfl)
theorem dX2_gap_29 : decode cX2_gap 29 = .ok (.iload_n 3, 1) := dk_29 (dk_at dksX2_gap_1 5 rfl rfl)
theorem dX2_gap_30 : decode cX2_gap 30 = .ok (.ireturn, 1) := dk_172 (dk_at dksX2_gap_1 6 rfl rfl)
theorem dX2_gap_31 : decode cX2_gap 31 = .ok (.aload_n 0, 1) := dk_42 (dk_at dksX2_gap_1 7 rfl rfl)
theorem dX2_gap_32 : decode cX2_gap 32 = .ok (.iload_n 1, 1) := dk_27 (dk_at dksX2_gap_1 8 rfl rfl)
theorem dX2_gap_33 : decode cX2_gap 33 = .ok (.invokevirtual 268, 3) := dk_182 1 12 (dk_at dksX2_gap_1 9 rfl rfl)
theorem dX2_gap_36 : decode cX2_gap 36 = .ok (.aload_n 0, 1) := dk_42 (dk_at dksX2_gap_1 12 rfl rfl)
theorem dX2_gap_37 : decode cX2_gap 37 = .ok (.iload_n 2, 1) := dk_28 (dk_at dksX2_gap_1 13 rfl rfl)
theorem dX2_gap_38 : decode cX2_gap 38 = .ok (.invokevirtual 289, 3) := dk_182 1 33 (dk_at dksX2_gap_1 14 rfl rfl)
theorem dX2_gap_41 : decode cX2_gap 41 = .ok (.ireturn, 1) := dk_172 (dk_at dksX2_gap_1 17 rfl rfl)
abbrev cX2_gapOf : ByteArray := prog_31_method_53_code
def yX2_gapOf : MethodName := ⟨RX2, "gapOf", "(I)I"⟩
def dkwX2_gapOf_7 : List UInt8 := [100, 21, 4, 96, 184, 0, 237, 172]
abbrev dktX2_gapOf_7 : List UInt8 := dkwX2_gapOf_7 ++ []
def dkwX2_gapOf_6 : List UInt8 := [132, 7, 1, 167, 255, 155, 29, 16, 254, 159, 0, 7, 28, 154, 0, 7, 29, 167, 0, 14, 29, 28, 21, 5]
abbrev dktX2_gapOf_6 : List UInt8 := dkwX2_gapOf_6 ++ dktX2_gapOf_7
def dkwX2_gapOf_5 : List UInt8 := [21, 7, 46, 42, 180, 0, 91, 21, 7, 4, 96, 42, 180, 0, 231, 112, 46, 182, 1, 2, 96, 96, 54, 6]
abbrev dktX2_gapOf_5 : List UInt8 := dkwX2_gapOf_5 ++ dktX2_gapOf_6
def dkwX2_gapOf_4 : List UInt8 := [156, 0, 7, 21, 6, 54, 4, 21, 6, 54, 5, 21, 6, 42, 180, 0, 24, 6, 46, 42, 42, 180, 0, 91]
abbrev dktX2_gapOf_4 : List UInt8 := dkwX2_gapOf_4 ++ dktX2_gapOf_5
def dkwX2_gapOf_3 : List UInt8 := [21, 6, 167, 0, 16, 28, 154, 0, 7, 3, 167, 0, 8, 21, 6, 21, 5, 100, 184, 0, 237, 62, 21, 4]
abbrev dktX2_gapOf_3 : List UInt8 := dkwX2_gapOf_3 ++ dktX2_gapOf_4
def dkwX2_gapOf_2 : List UInt8 := [180, 0, 231, 162, 0, 98, 42, 180, 0, 91, 21, 7, 46, 27, 160, 0, 44, 29, 21, 5, 156, 0, 8]
abbrev dktX2_gapOf_2 : List UInt8 := dkwX2_gapOf_2 ++ dktX2_gapOf_3
def dkwX2_gapOf_1 : List UInt8 := [167, 0, 14, 42, 2, 42, 180, 0, 91, 3, 46, 182, 1, 2, 54, 6, 3, 54, 7, 21, 7, 42]
abbrev dktX2_gapOf_1 : List UInt8 := dkwX2_gapOf_1 ++ dktX2_gapOf_2
def dkwX2_gapOf_0 : List UInt8 := [42, 182, 1, 15, 61, 16, 254, 62, 2, 54, 4, 2, 54, 5, 42, 180, 0, 231, 154, 0, 7, 3]
abbrev dktX2_gapOf_0 : List UInt8 := dkwX2_gapOf_0 ++ dktX2_gapOf_1
theorem dksX2_gapOf_0 : cX2_gapOf.data.toList.drop 0 = dktX2_gapOf_0 := by decide +kernel
theorem dksX2_gapOf_1 : cX2_gapOf.data.toList.drop 22 = dktX2_gapOf_1 := dk_seg dksX2_gapOf_0 22 rfl rfl
theorem dksX2_gapOf_2 : cX2_gapOf.data.toList.drop 44 = dktX2_gapOf_2 := dk_seg dksX2_gapOf_1 22 rfl rfl
theorem dksX2_gapOf_3 : cX2_gapOf.data.toList.drop 67 = dktX2_gapOf_3 := dk_seg dksX2_gapOf_2 23 rfl rfl
theorem dksX2_gapOf_4 : cX2_gapOf.data.toList.drop 91 = dktX2_gapOf_4 := dk_seg dksX2_gapOf_3 24 rfl rfl
theorem dksX2_gapOf_5 : cX2_gapOf.data.toList.drop 115 = dktX2_gapOf_5 := dk_seg dksX2_gapOf_4 24 rfl rfl
theorem dksX2_gapOf_6 : cX2_gapOf.data.toList.drop 139 = dktX2_gapOf_6 := dk_seg dksX2_gapOf_5 24 rfl rfl
theorem dksX2_gapOf_7 : cX2_gapOf.data.toList.drop 163 = dktX2_gapOf_7 := dk_seg dksX2_gapOf_6 24 rfl rfl
theorem dX2_gapOf_0 : decode cX2_gapOf 0 = .ok (.aload_n 0, 1) := dk_42 (dk_at dksX2_gapOf_0 0 rfl rfl)
theorem dX2_gapOf_1 : decode cX2_gapOf 1 = .ok (.invokevirtual 271, 3) := dk_182 1 15 (dk_at dksX2_gapOf_0 1 rfl rfl)
theorem dX2_gapOf_4 : decode cX2_gapOf 4 = .ok (.istore_n 2, 1) := dk_61 (dk_at dksX2_gapOf_0 4 rfl rfl)
theorem dX2_gapOf_5 : decode cX2_gapOf 5 = .ok (.bipush (-2), 2) := dk_16 254 (dk_at dksX2_gapOf_0 5 rfl rfl)
theorem dX2_gapOf_7 : decode cX2_gapOf 7 = .ok (.istore_n 3, 1) := dk_62 (dk_at dksX2_gapOf_0 7 rfl rfl)
theorem dX2_gapOf_8 : decode cX2_gapOf 8 = .ok (.iconst (-1), 1) := dk_2 (dk_at dksX2_gapOf_0 8 rfl rfl)
theorem dX2_gapOf_9 : decode cX2_gapOf 9 = .ok (.istore 4, 2) := dk_54 4 (dk_at dksX2_gapOf_0 9 rfl rfl)
theorem dX2_gapOf_11 : decode cX2_gapOf 11 = .ok (.iconst (-1), 1) := dk_2 (dk_at dksX2_gapOf_0 11 rfl rfl)
theorem dX2_gapOf_12 : decode cX2_gapOf 12 = .ok (.istore 5, 2) := dk_54 5 (dk_at dksX2_gapOf_0 12 rfl rfl)
theorem dX2_gapOf_14 : decode cX2_gapOf 14 = .ok (.aload_n 0, 1) := dk_42 (dk_at dksX2_gapOf_0 14 rfl rfl)
theorem dX2_gapOf_15 : decode cX2_gapOf 15 = .ok (.getfield 231, 3) := dk_180 0 231 (dk_at dksX2_gapOf_0 15 rfl rfl)
theorem dX2_gapOf_18 : decode cX2_gapOf 18 = .ok (.ifCond .ne 7, 3) := dk_154 0 7 (dk_at dksX2_gapOf_0 18 rfl rfl)
theorem dX2_gapOf_21 : decode cX2_gapOf 21 = .ok (.iconst 0, 1) := dk_3 (dk_at dksX2_gapOf_0 21 rfl rfl)
theorem dX2_gapOf_22 : decode cX2_gapOf 22 = .ok (.goto 14, 3) := dk_167 0 14 (dk_at dksX2_gapOf_1 0 rfl rfl)
theorem dX2_gapOf_25 : decode cX2_gapOf 25 = .ok (.aload_n 0, 1) := dk_42 (dk_at dksX2_gapOf_1 3 rfl rfl)
theorem dX2_gapOf_26 : decode cX2_gapOf 26 = .ok (.iconst (-1), 1) := dk_2 (dk_at dksX2_gapOf_1 4 rfl rfl)
theorem dX2_gapOf_27 : decode cX2_gapOf 27 = .ok (.aload_n 0, 1) := dk_42 (dk_at dksX2_gapOf_1 5 rfl rfl)
theorem dX2_gapOf_28 : decode cX2_gapOf 28 = .ok (.getfield 91, 3) := dk_180 0 91 (dk_at dksX2_gapOf_1 6 rfl rfl)
theorem dX2_gapOf_31 : decode cX2_gapOf 31 = .ok (.iconst 0, 1) := dk_3 (dk_at dksX2_gapOf_1 9 rfl rfl)
theorem dX2_gapOf_32 : decode cX2_gapOf 32 = .ok (.iaload, 1) := dk_46 (dk_at dksX2_gapOf_1 10 rfl rfl)
theorem dX2_gapOf_33 : decode cX2_gapOf 33 = .ok (.invokevirtual 258, 3) := dk_182 1 2 (dk_at dksX2_gapOf_1 11 rfl rfl)
theorem dX2_gapOf_36 : decode cX2_gapOf 36 = .ok (.istore 6, 2) := dk_54 6 (dk_at dksX2_gapOf_1 14 rfl rfl)
theorem dX2_gapOf_38 : decode cX2_gapOf 38 = .ok (.iconst 0, 1) := dk_3 (dk_at dksX2_gapOf_1 16 rfl rfl)
theorem dX2_gapOf_39 : decode cX2_gapOf 39 = .ok (.istore 7, 2) := dk_54 7 (dk_at dksX2_gapOf_1 17 rfl rfl)
theorem dX2_gapOf_41 : decode cX2_gapOf 41 = .ok (.iload 7, 2) := dk_21 7 (dk_at dksX2_gapOf_1 19 rfl rfl)
theorem dX2_gapOf_43 : decode cX2_gapOf 43 = .ok (.aload_n 0, 1) := dk_42 (dk_at dksX2_gapOf_1 21 rfl rfl)
theorem dX2_gapOf_44 : decode cX2_gapOf 44 = .ok (.getfield 231, 3) := dk_180 0 231 (dk_at dksX2_gapOf_2 0 rfl rfl)
theorem dX2_gapOf_47 : decode cX2_gapOf 47 = .ok (.if_icmp .ge 98, 3) := dk_162 0 98 (dk_at dksX2_gapOf_2 3 rfl rfl)
theorem dX2_gapOf_50 : decode cX2_gapOf 50 = .ok (.aload_n 0, 1) := dk_42 (dk_at dksX2_gapOf_2 6 rfl rfl)
theorem dX2_gapOf_51 : decode cX2_gapOf 51 = .ok (.getfield 91, 3) := dk_180 0 91 (dk_at dksX2_gapOf_2 7 rfl rfl)
theorem dX2_gapOf_54 : decode cX2_gapOf 54 = .ok (.iload 7, 2) := dk_21 7 (dk_at dksX2_gapOf_2 10 rfl rfl)
theorem dX2_gapOf_56 : decode cX2_gapOf 56 = .ok (.iaload, 1) := dk_46 (dk_at dksX2_gapOf_2 12 rfl rfl)
theorem dX2_gapOf_57 : decode cX2_gapOf 57 = .ok (.iload_n 1, 1) := dk_27 (dk_at dksX2_gapOf_2 13 rfl rfl)
theorem dX2_gapOf_58 : decode cX2_gapOf 58 = .ok (.if_icmp .ne 44, 3) := dk_160 0 44 (dk_at dksX2_gapOf_2 14 rfl rfl)
theorem dX2_gapOf_61 : decode cX2_gapOf 61 = .ok (.iload_n 3, 1) := dk_29 (dk_at dksX2_gapOf_2 17 rfl rfl)
theorem dX2_gapOf_62 : decode cX2_gapOf 62 = .ok (.iload 5, 2) := dk_21 5 (dk_at dksX2_gapOf_2 18 rfl rfl)
theorem dX2_gapOf_64 : decode cX2_gapOf 64 = .ok (.ifCond .ge 8, 3) := dk_156 0 8 (dk_at dksX2_gapOf_2 20 rfl rfl)
theorem dX2_gapOf_67 : decode cX2_gapOf 67 = .ok (.iload 6, 2) := dk_21 6 (dk_at dksX2_gapOf_3 0 rfl rfl)
theorem dX2_gapOf_69 : decode cX2_gapOf 69 = .ok (.goto 16, 3) := dk_167 0 16 (dk_at dksX2_gapOf_3 2 rfl rfl)
theorem dX2_gapOf_72 : decode cX2_gapOf 72 = .ok (.iload_n 2, 1) := dk_28 (dk_at dksX2_gapOf_3 5 rfl rfl)
theorem dX2_gapOf_73 : decode cX2_gapOf 73 = .ok (.ifCond .ne 7, 3) := dk_154 0 7 (dk_at dksX2_gapOf_3 6 rfl rfl)
theorem dX2_gapOf_76 : decode cX2_gapOf 76 = .ok (.iconst 0, 1) := dk_3 (dk_at dksX2_gapOf_3 9 rfl rfl)
theorem dX2_gapOf_77 : decode cX2_gapOf 77 = .ok (.goto 8, 3) := dk_167 0 8 (dk_at dksX2_gapOf_3 10 rfl rfl)
theorem dX2_gapOf_80 : decode cX2_gapOf 80 = .ok (.iload 6, 2) := dk_21 6 (dk_at dksX2_gapOf_3 13 rfl rfl)
theorem dX2_gapOf_82 : decode cX2_gapOf 82 = .ok (.iload 5, 2) := dk_21 5 (dk_at dksX2_gapOf_3 15 rfl rfl)
theorem dX2_gapOf_84 : decode cX2_gapOf 84 = .ok (.isub, 1) := dk_100 (dk_at dksX2_gapOf_3 17 rfl rfl)
theorem dX2_gapOf_85 : decode cX2_gapOf 85 = .ok (.invokestatic 237, 3) := dk_184 0 237 (dk_at dksX2_gapOf_3 18 rfl rfl)
theorem dX2_gapOf_88 : decode cX2_gapOf 88 = .ok (.istore_n 3, 1) := dk_62 (dk_at dksX2_gapOf_3 21 rfl rfl)
theorem dX2_gapOf_89 : decode cX2_gapOf 89 = .ok (.iload 4, 2) := dk_21 4 (dk_at dksX2_gapOf_3 22 rfl rfl)
theorem dX2_gapOf_91 : decode cX2_gapOf 91 = .ok (.ifCond .ge 7, 3) := dk_156 0 7 (dk_at dksX2_gapOf_4 0 rfl rfl)
theorem dX2_gapOf_94 : decode cX2_gapOf 94 = .ok (.iload 6, 2) := dk_21 6 (dk_at dksX2_gapOf_4 3 rfl rfl)
theorem dX2_gapOf_96 : decode cX2_gapOf 96 = .ok (.istore 4, 2) := dk_54 4 (dk_at dksX2_gapOf_4 5 rfl rfl)
theorem dX2_gapOf_98 : decode cX2_gapOf 98 = .ok (.iload 6, 2) := dk_21 6 (dk_at dksX2_gapOf_4 7 rfl rfl)
theorem dX2_gapOf_100 : decode cX2_gapOf 100 = .ok (.istore 5, 2) := dk_54 5 (dk_at dksX2_gapOf_4 9 rfl rfl)
theorem dX2_gapOf_102 : decode cX2_gapOf 102 = .ok (.iload 6, 2) := dk_21 6 (dk_at dksX2_gapOf_4 11 rfl rfl)
theorem dX2_gapOf_104 : decode cX2_gapOf 104 = .ok (.aload_n 0, 1) := dk_42 (dk_at dksX2_gapOf_4 13 rfl rfl)
theorem dX2_gapOf_105 : decode cX2_gapOf 105 = .ok (.getfield 24, 3) := dk_180 0 24 (dk_at dksX2_gapOf_4 14 rfl rfl)
theorem dX2_gapOf_108 : decode cX2_gapOf 108 = .ok (.iconst 3, 1) := dk_6 (dk_at dksX2_gapOf_4 17 rfl rfl)
theorem dX2_gapOf_109 : decode cX2_gapOf 109 = .ok (.iaload, 1) := dk_46 (dk_at dksX2_gapOf_4 18 rfl rfl)
theorem dX2_gapOf_110 : decode cX2_gapOf 110 = .ok (.aload_n 0, 1) := dk_42 (dk_at dksX2_gapOf_4 19 rfl rfl)
theorem dX2_gapOf_111 : decode cX2_gapOf 111 = .ok (.aload_n 0, 1) := dk_42 (dk_at dksX2_gapOf_4 20 rfl rfl)
theorem dX2_gapOf_112 : decode cX2_gapOf 112 = .ok (.getfield 91, 3) := dk_180 0 91 (dk_at dksX2_gapOf_4 21 rfl rfl)
theorem dX2_gapOf_115 : decode cX2_gapOf 115 = .ok (.iload 7, 2) := dk_21 7 (dk_at dksX2_gapOf_5 0 rfl rfl)
theorem dX2_gapOf_117 : decode cX2_gapOf 117 = .ok (.iaload, 1) := dk_46 (dk_at dksX2_gapOf_5 2 rfl rfl)
theorem dX2_gapOf_118 : decode cX2_gapOf 118 = .ok (.aload_n 0, 1) := dk_42 (dk_at dksX2_gapOf_5 3 rfl rfl)
theorem dX2_gapOf_119 : decode cX2_gapOf 119 = .ok (.getfield 91, 3) := dk_180 0 91 (dk_at dksX2_gapOf_5 4 rfl rfl)
theorem dX2_gapOf_122 : decode cX2_gapOf 122 = .ok (.iload 7, 2) := dk_21 7 (dk_at dksX2_gapOf_5 7 rfl rfl)
theorem dX2_gapOf_124 : decode cX2_gapOf 124 = .ok (.iconst 1, 1) := dk_4 (dk_at dksX2_gapOf_5 9 rfl rfl)
theorem dX2_gapOf_125 : decode cX2_gapOf 125 = .ok (.iadd, 1) := dk_96 (dk_at dksX2_gapOf_5 10 rfl rfl)
theorem dX2_gapOf_126 : decode cX2_gapOf 126 = .ok (.aload_n 0, 1) := dk_42 (dk_at dksX2_gapOf_5 11 rfl rfl)
theorem dX2_gapOf_127 : decode cX2_gapOf 127 = .ok (.getfield 231, 3) := dk_180 0 231 (dk_at dksX2_gapOf_5 12 rfl rfl)
theorem dX2_gapOf_130 : decode cX2_gapOf 130 = .ok (.irem, 1) := dk_112 (dk_at dksX2_gapOf_5 15 rfl rfl)
theorem dX2_gapOf_131 : decode cX2_gapOf 131 = .ok (.iaload, 1) := dk_46 (dk_at dksX2_gapOf_5 16 rfl rfl)
theorem dX2_gapOf_132 : decode cX2_gapOf 132 = .ok (.invokevirtual 258, 3) := dk_182 1 2 (dk_at dksX2_gapOf_5 17 rfl rfl)
theorem dX2_gapOf_135 : decode cX2_gapOf 135 = .ok (.iadd, 1) := dk_96 (dk_at dksX2_gapOf_5 20 rfl rfl)
theorem dX2_gapOf_136 : decode cX2_gapOf 136 = .ok (.iadd, 1) := dk_96 (dk_at dksX2_gapOf_5 21 rfl rfl)
theorem dX2_gapOf_137 : decode cX2_gapOf 137 = .ok (.istore 6, 2) := dk_54 6 (dk_at dksX2_gapOf_5 22 rfl rfl)
theorem dX2_gapOf_139 : decode cX2_gapOf 139 = .ok (.iinc 7 1, 3) := dk_132 7 1 (dk_at dksX2_gapOf_6 0 rfl rfl)
theorem dX2_gapOf_142 : decode cX2_gapOf 142 = .ok (.goto (-101), 3) := dk_167 255 155 (dk_at dksX2_gapOf_6 3 rfl rfl)
theorem dX2_gapOf_145 : decode cX2_gapOf 145 = .ok (.iload_n 3, 1) := dk_29 (dk_at dksX2_gapOf_6 6 rfl rfl)
theorem dX2_gapOf_146 : decode cX2_gapOf 146 = .ok (.bipush (-2), 2) := dk_16 254 (dk_at dksX2_gapOf_6 7 rfl rfl)
theorem dX2_gapOf_148 : decode cX2_gapOf 148 = .ok (.if_icmp .eq 7, 3) := dk_159 0 7 (dk_at dksX2_gapOf_6 9 rfl rfl)
theorem dX2_gapOf_151 : decode cX2_gapOf 151 = .ok (.iload_n 2, 1) := dk_28 (dk_at dksX2_gapOf_6 12 rfl rfl)
theorem dX2_gapOf_152 : decode cX2_gapOf 152 = .ok (.ifCond .ne 7, 3) := dk_154 0 7 (dk_at dksX2_gapOf_6 13 rfl rfl)
theorem dX2_gapOf_155 : decode cX2_gapOf 155 = .ok (.iload_n 3, 1) := dk_29 (dk_at dksX2_gapOf_6 16 rfl rfl)
theorem dX2_gapOf_156 : decode cX2_gapOf 156 = .ok (.goto 14, 3) := dk_167 0 14 (dk_at dksX2_gapOf_6 17 rfl rfl)
theorem dX2_gapOf_159 : decode cX2_gapOf 159 = .ok (.iload_n 3, 1) := dk_29 (dk_at dksX2_gapOf_6 20 rfl rfl)
theorem dX2_gapOf_160 : decode cX2_gapOf 160 = .ok (.iload_n 2, 1) := dk_28 (dk_at dksX2_gapOf_6 21 rfl rfl)
theorem dX2_gapOf_161 : decode cX2_gapOf 161 = .ok (.iload 5, 2) := dk_21 5 (dk_at dksX2_gapOf_6 22 rfl rfl)
theorem dX2_gapOf_163 : decode cX2_gapOf 163 = .ok (.isub, 1) := dk_100 (dk_at dksX2_gapOf_7 0 rfl rfl)
theorem dX2_gapOf_164 : decode cX2_gapOf 164 = .ok (.iload 4, 2) := dk_21 4 (dk_at dksX2_gapOf_7 1 rfl rfl)
theorem dX2_gapOf_166 : decode cX2_gapOf 166 = .ok (.iadd, 1) := dk_96 (dk_at dksX2_gapOf_7 3 rfl rfl)
theorem dX2_gapOf_167 : decode cX2_gapOf 167 = .ok (.invokestatic 237, 3) := dk_184 0 237 (dk_at dksX2_gapOf_7 4 rfl rfl)
theorem dX2_gapOf_170 : decode cX2_gapOf 170 = .ok (.ireturn, 1) := dk_172 (dk_at dksX2_gapOf_7 7 rfl rfl)
abbrev cX2_late : ByteArray := prog_31_method_55_code
def yX2_late : MethodName := ⟨RX2, "late", "(I)I"⟩
def dkwX2_late_3 : List UInt8 := [21, 4, 120, 128, 62, 132, 4, 1, 167, 255, 210, 29, 172]
abbrev dktX2_late_3 : List UInt8 := dkwX2_late_3 ++ []
def dkwX2_late_2 : List UInt8 := [16, 254, 159, 0, 19, 42, 21, 4, 182, 1, 33, 42, 180, 0, 21, 21, 4, 46, 164, 0, 10, 29, 4]
abbrev dktX2_late_2 : List UInt8 := dkwX2_late_2 ++ dktX2_late_3
def dkwX2_late_1 : List UInt8 := [182, 1, 12, 3, 62, 3, 54, 4, 21, 4, 42, 180, 0, 120, 162, 0, 43, 42, 21, 4, 182, 1, 33]
abbrev dktX2_late_1 : List UInt8 := dkwX2_late_1 ++ dktX2_late_2
def dkwX2_late_0 : List UInt8 := [27, 184, 0, 131, 154, 0, 5, 2, 172, 42, 27, 3, 182, 1, 9, 61, 28, 156, 0, 5, 28, 172, 42, 27]
abbrev dktX2_late_0 : List UInt8 := dkwX2_late_0 ++ dktX2_late_1
theorem dksX2_late_0 : cX2_late.data.toList.drop 0 = dktX2_late_0 := by decide +kernel
theorem dksX2_late_1 : cX2_late.data.toList.drop 24 = dktX2_late_1 := dk_seg dksX2_late_0 24 rfl rfl
theorem dksX2_late_2 : cX2_late.data.toList.drop 47 = dktX2_late_2 := dk_seg dksX2_late_1 23 rfl rfl
theorem dksX2_late_3 : cX2_late.data.toList.drop 70 = dktX2_late_3 := dk_seg dksX2_late_2 23 rfl rfl
theorem dX2_late_0 : decode cX2_late 0 = .ok (.iload_n 1, 1) := dk_27 (dk_at dksX2_late_0 0 rfl rfl)
theorem dX2_late_1 : decode cX2_late 1 = .ok (.invokestatic 131, 3) := dk_184 0 131 (dk_at dksX2_late_0 1 rfl rfl)
theorem dX2_late_4 : decode cX2_late 4 = .ok (.ifCond .ne 5, 3) := dk_154 0 5 (dk_at dksX2_late_0 4 rfl rfl)
theorem dX2_late_7 : decode cX2_late 7 = .ok (.iconst (-1), 1) := dk_2 (dk_at dksX2_late_0 7 rfl rfl)
theorem dX2_late_8 : decode cX2_late 8 = .ok (.ireturn, 1) := dk_172 (dk_at dksX2_late_0 8 rfl rfl)
theorem dX2_late_9 : decode cX2_late 9 = .ok (.aload_n 0, 1) := dk_42 (dk_at dksX2_late_0 9 rfl rfl)
theorem dX2_late_10 : decode cX2_late 10 = .ok (.iload_n 1, 1) := dk_27 (dk_at dksX2_late_0 10 rfl rfl)
theorem dX2_late_11 : decode cX2_late 11 = .ok (.iconst 0, 1) := dk_3 (dk_at dksX2_late_0 11 rfl rfl)
theorem dX2_late_12 : decode cX2_late 12 = .ok (.invokevirtual 265, 3) := dk_182 1 9 (dk_at dksX2_late_0 12 rfl rfl)
theorem dX2_late_15 : decode cX2_late 15 = .ok (.istore_n 2, 1) := dk_61 (dk_at dksX2_late_0 15 rfl rfl)
theorem dX2_late_16 : decode cX2_late 16 = .ok (.iload_n 2, 1) := dk_28 (dk_at dksX2_late_0 16 rfl rfl)
theorem dX2_late_17 : decode cX2_late 17 = .ok (.ifCond .ge 5, 3) := dk_156 0 5 (dk_at dksX2_late_0 17 rfl rfl)
theorem dX2_late_20 : decode cX2_late 20 = .ok (.iload_n 2, 1) := dk_28 (dk_at dksX2_late_0 20 rfl rfl)
theorem dX2_late_21 : decode cX2_late 21 = .ok (.ireturn, 1) := dk_172 (dk_at dksX2_late_0 21 rfl rfl)
theorem dX2_late_22 : decode cX2_late 22 = .ok (.aload_n 0, 1) := dk_42 (dk_at dksX2_late_0 22 rfl rfl)
theorem dX2_late_23 : decode cX2_late 23 = .ok (.iload_n 1, 1) := dk_27 (dk_at dksX2_late_0 23 rfl rfl)
theorem dX2_late_24 : decode cX2_late 24 = .ok (.invokevirtual 268, 3) := dk_182 1 12 (dk_at dksX2_late_1 0 rfl rfl)
theorem dX2_late_27 : decode cX2_late 27 = .ok (.iconst 0, 1) := dk_3 (dk_at dksX2_late_1 3 rfl rfl)
theorem dX2_late_28 : decode cX2_late 28 = .ok (.istore_n 3, 1) := dk_62 (dk_at dksX2_late_1 4 rfl rfl)
theorem dX2_late_29 : decode cX2_late 29 = .ok (.iconst 0, 1) := dk_3 (dk_at dksX2_late_1 5 rfl rfl)
theorem dX2_late_30 : decode cX2_late 30 = .ok (.istore 4, 2) := dk_54 4 (dk_at dksX2_late_1 6 rfl rfl)
theorem dX2_late_32 : decode cX2_late 32 = .ok (.iload 4, 2) := dk_21 4 (dk_at dksX2_late_1 8 rfl rfl)
theorem dX2_late_34 : decode cX2_late 34 = .ok (.aload_n 0, 1) := dk_42 (dk_at dksX2_late_1 10 rfl rfl)
theorem dX2_late_35 : decode cX2_late 35 = .ok (.getfield 120, 3) := dk_180 0 120 (dk_at dksX2_late_1 11 rfl rfl)
theorem dX2_late_38 : decode cX2_late 38 = .ok (.if_icmp .ge 43, 3) := dk_162 0 43 (dk_at dksX2_late_1 14 rfl rfl)
theorem dX2_late_41 : decode cX2_late 41 = .ok (.aload_n 0, 1) := dk_42 (dk_at dksX2_late_1 17 rfl rfl)
theorem dX2_late_42 : decode cX2_late 42 = .ok (.iload 4, 2) := dk_21 4 (dk_at dksX2_late_1 18 rfl rfl)
theorem dX2_late_44 : decode cX2_late 44 = .ok (.invokevirtual 289, 3) := dk_182 1 33 (dk_at dksX2_late_1 20 rfl rfl)
theorem dX2_late_47 : decode cX2_late 47 = .ok (.bipush (-2), 2) := dk_16 254 (dk_at dksX2_late_2 0 rfl rfl)
theorem dX2_late_49 : decode cX2_late 49 = .ok (.if_icmp .eq 19, 3) := dk_159 0 19 (dk_at dksX2_late_2 2 rfl rfl)
theorem dX2_late_52 : decode cX2_late 52 = .ok (.aload_n 0, 1) := dk_42 (dk_at dksX2_late_2 5 rfl rfl)
theorem dX2_late_53 : decode cX2_late 53 = .ok (.iload 4, 2) := dk_21 4 (dk_at dksX2_late_2 6 rfl rfl)
theorem dX2_late_55 : decode cX2_late 55 = .ok (.invokevirtual 289, 3) := dk_182 1 33 (dk_at dksX2_late_2 8 rfl rfl)
theorem dX2_late_58 : decode cX2_late 58 = .ok (.aload_n 0, 1) := dk_42 (dk_at dksX2_late_2 11 rfl rfl)
theorem dX2_late_59 : decode cX2_late 59 = .ok (.getfield 21, 3) := dk_180 0 21 (dk_at dksX2_late_2 12 rfl rfl)
theorem dX2_late_62 : decode cX2_late 62 = .ok (.iload 4, 2) := dk_21 4 (dk_at dksX2_late_2 15 rfl rfl)
theorem dX2_late_64 : decode cX2_late 64 = .ok (.iaload, 1) := dk_46 (dk_at dksX2_late_2 17 rfl rfl)
theorem dX2_late_65 : decode cX2_late 65 = .ok (.if_icmp .le 10, 3) := dk_164 0 10 (dk_at dksX2_late_2 18 rfl rfl)
theorem dX2_late_68 : decode cX2_late 68 = .ok (.iload_n 3, 1) := dk_29 (dk_at dksX2_late_2 21 rfl rfl)
theorem dX2_late_69 : decode cX2_late 69 = .ok (.iconst 1, 1) := dk_4 (dk_at dksX2_late_2 22 rfl rfl)
theorem dX2_late_70 : decode cX2_late 70 = .ok (.iload 4, 2) := dk_21 4 (dk_at dksX2_late_3 0 rfl rfl)
theorem dX2_late_72 : decode cX2_late 72 = .ok (.ishl, 1) := dk_120 (dk_at dksX2_late_3 2 rfl rfl)
theorem dX2_late_73 : decode cX2_late 73 = .ok (.ior, 1) := dk_128 (dk_at dksX2_late_3 3 rfl rfl)
theorem dX2_late_74 : decode cX2_late 74 = .ok (.istore_n 3, 1) := dk_62 (dk_at dksX2_late_3 4 rfl rfl)
theorem dX2_late_75 : decode cX2_late 75 = .ok (.iinc 4 1, 3) := dk_132 4 1 (dk_at dksX2_late_3 5 rfl rfl)
theorem dX2_late_78 : decode cX2_late 78 = .ok (.goto (-46), 3) := dk_167 255 210 (dk_at dksX2_late_3 8 rfl rfl)
theorem dX2_late_81 : decode cX2_late 81 = .ok (.iload_n 3, 1) := dk_29 (dk_at dksX2_late_3 11 rfl rfl)
theorem dX2_late_82 : decode cX2_late 82 = .ok (.ireturn, 1) := dk_172 (dk_at dksX2_late_3 12 rfl rfl)
abbrev cX2_shortest : ByteArray := prog_31_method_61_code
def yX2_shortest : MethodName := ⟨RX2, "shortest", "(II)I"⟩
def dkwX2_shortest_2 : List UInt8 := [160, 0, 7, 29, 167, 0, 9, 42, 180, 0, 113, 28, 46, 172]
abbrev dktX2_shortest_2 : List UInt8 := dkwX2_shortest_2 ++ []
def dkwX2_shortest_1 : List UInt8 := [16, 251, 172, 28, 27, 184, 1, 49, 161, 0, 6, 16, 254, 172, 42, 27, 182, 1, 54, 62, 28, 2]
abbrev dktX2_shortest_1 : List UInt8 := dkwX2_shortest_1 ++ dktX2_shortest_2
def dkwX2_shortest_0 : List UInt8 := [42, 27, 182, 1, 46, 153, 0, 8, 28, 2, 162, 0, 5, 2, 172, 27, 184, 1, 49, 16, 7, 164, 0, 6]
abbrev dktX2_shortest_0 : List UInt8 := dkwX2_shortest_0 ++ dktX2_shortest_1
theorem dksX2_shortest_0 : cX2_shortest.data.toList.drop 0 = dktX2_shortest_0 := by decide +kernel
theorem dksX2_shortest_1 : cX2_shortest.data.toList.drop 24 = dktX2_shortest_1 := dk_seg dksX2_shortest_0 24 rfl rfl
theorem dksX2_shortest_2 : cX2_shortest.data.toList.drop 46 = dktX2_shortest_2 := dk_seg dksX2_shortest_1 22 rfl rfl
theorem dX2_shortest_0 : decode cX2_shortest 0 = .ok (.aload_n 0, 1) := dk_42 (dk_at dksX2_shortest_0 0 rfl rfl)
theorem dX2_shortest_1 : decode cX2_shortest 1 = .ok (.iload_n 1, 1) := dk_27 (dk_at dksX2_shortest_0 1 rfl rfl)
theorem dX2_shortest_2 : decode cX2_shortest 2 = .ok (.invokevirtual 302, 3) := dk_182 1 46 (dk_at dksX2_shortest_0 2 rfl rfl)
theorem dX2_shortest_5 : decode cX2_shortest 5 = .ok (.ifCond .eq 8, 3) := dk_153 0 8 (dk_at dksX2_shortest_0 5 rfl rfl)
theorem dX2_shortest_8 : decode cX2_shortest 8 = .ok (.iload_n 2, 1) := dk_28 (dk_at dksX2_shortest_0 8 rfl rfl)
theorem dX2_shortest_9 : decode cX2_shortest 9 = .ok (.iconst (-1), 1) := dk_2 (dk_at dksX2_shortest_0 9 rfl rfl)
theorem dX2_shortest_10 : decode cX2_shortest 10 = .ok (.if_icmp .ge 5, 3) := dk_162 0 5 (dk_at dksX2_shortest_0 10 rfl rfl)
theorem dX2_shortest_13 : decode cX2_shortest 13 = .ok (.iconst (-1), 1) := dk_2 (dk_at dksX2_shortest_0 13 rfl rfl)
theorem dX2_shortest_14 : decode cX2_shortest 14 = .ok (.ireturn, 1) := dk_172 (dk_at dksX2_shortest_0 14 rfl rfl)
theorem dX2_shortest_15 : decode cX2_shortest 15 = .ok (.iload_n 1, 1) := dk_27 (dk_at dksX2_shortest_0 15 rfl rfl)
theorem dX2_shortest_16 : decode cX2_shortest 16 = .ok (.invokestatic 305, 3) := dk_184 1 49 (dk_at dksX2_shortest_0 16 rfl rfl)
theorem dX2_shortest_19 : decode cX2_shortest 19 = .ok (.bipush 7, 2) := dk_16 7 (dk_at dksX2_shortest_0 19 rfl rfl)
theorem dX2_shortest_21 : decode cX2_shortest 21 = .ok (.if_icmp .le 6, 3) := dk_164 0 6 (dk_at dksX2_shortest_0 21 rfl rfl)
theorem dX2_shortest_24 : decode cX2_shortest 24 = .ok (.bipush (-5), 2) := dk_16 251 (dk_at dksX2_shortest_1 0 rfl rfl)
theorem dX2_shortest_26 : decode cX2_shortest 26 = .ok (.ireturn, 1) := dk_172 (dk_at dksX2_shortest_1 2 rfl rfl)
theorem dX2_shortest_27 : decode cX2_shortest 27 = .ok (.iload_n 2, 1) := dk_28 (dk_at dksX2_shortest_1 3 rfl rfl)
theorem dX2_shortest_28 : decode cX2_shortest 28 = .ok (.iload_n 1, 1) := dk_27 (dk_at dksX2_shortest_1 4 rfl rfl)
theorem dX2_shortest_29 : decode cX2_shortest 29 = .ok (.invokestatic 305, 3) := dk_184 1 49 (dk_at dksX2_shortest_1 5 rfl rfl)
theorem dX2_shortest_32 : decode cX2_shortest 32 = .ok (.if_icmp .lt 6, 3) := dk_161 0 6 (dk_at dksX2_shortest_1 8 rfl rfl)
theorem dX2_shortest_35 : decode cX2_shortest 35 = .ok (.bipush (-2), 2) := dk_16 254 (dk_at dksX2_shortest_1 11 rfl rfl)
theorem dX2_shortest_37 : decode cX2_shortest 37 = .ok (.ireturn, 1) := dk_172 (dk_at dksX2_shortest_1 13 rfl rfl)
theorem dX2_shortest_38 : decode cX2_shortest 38 = .ok (.aload_n 0, 1) := dk_42 (dk_at dksX2_shortest_1 14 rfl rfl)
theorem dX2_shortest_39 : decode cX2_shortest 39 = .ok (.iload_n 1, 1) := dk_27 (dk_at dksX2_shortest_1 15 rfl rfl)
theorem dX2_shortest_40 : decode cX2_shortest 40 = .ok (.invokevirtual 310, 3) := dk_182 1 54 (dk_at dksX2_shortest_1 16 rfl rfl)
theorem dX2_shortest_43 : decode cX2_shortest 43 = .ok (.istore_n 3, 1) := dk_62 (dk_at dksX2_shortest_1 19 rfl rfl)
theorem dX2_shortest_44 : decode cX2_shortest 44 = .ok (.iload_n 2, 1) := dk_28 (dk_at dksX2_shortest_1 20 rfl rfl)
theorem dX2_shortest_45 : decode cX2_shortest 45 = .ok (.iconst (-1), 1) := dk_2 (dk_at dksX2_shortest_1 21 rfl rfl)
theorem dX2_shortest_46 : decode cX2_shortest 46 = .ok (.if_icmp .ne 7, 3) := dk_160 0 7 (dk_at dksX2_shortest_2 0 rfl rfl)
theorem dX2_shortest_49 : decode cX2_shortest 49 = .ok (.iload_n 3, 1) := dk_29 (dk_at dksX2_shortest_2 3 rfl rfl)
theorem dX2_shortest_50 : decode cX2_shortest 50 = .ok (.goto 9, 3) := dk_167 0 9 (dk_at dksX2_shortest_2 4 rfl rfl)
theorem dX2_shortest_53 : decode cX2_shortest 53 = .ok (.aload_n 0, 1) := dk_42 (dk_at dksX2_shortest_2 7 rfl rfl)
theorem dX2_shortest_54 : decode cX2_shortest 54 = .ok (.getfield 113, 3) := dk_180 0 113 (dk_at dksX2_shortest_2 8 rfl rfl)
theorem dX2_shortest_57 : decode cX2_shortest 57 = .ok (.iload_n 2, 1) := dk_28 (dk_at dksX2_shortest_2 11 rfl rfl)
theorem dX2_shortest_58 : decode cX2_shortest 58 = .ok (.iaload, 1) := dk_46 (dk_at dksX2_shortest_2 12 rfl rfl)
theorem dX2_shortest_59 : decode cX2_shortest 59 = .ok (.ireturn, 1) := dk_172 (dk_at dksX2_shortest_2 13 rfl rfl)
abbrev cX2_isSet : ByteArray := prog_31_method_60_code
def yX2_isSet : MethodName := ⟨RX2, "isSet", "(I)Z"⟩
def dkwX2_isSet_0 : List UInt8 := [27, 3, 4, 42, 180, 0, 120, 120, 4, 100, 184, 0, 123, 172]
abbrev dktX2_isSet_0 : List UInt8 := dkwX2_isSet_0 ++ []
theorem dksX2_isSet_0 : cX2_isSet.data.toList.drop 0 = dktX2_isSet_0 := by decide +kernel
theorem dX2_isSet_0 : decode cX2_isSet 0 = .ok (.iload_n 1, 1) := dk_27 (dk_at dksX2_isSet_0 0 rfl rfl)
theorem dX2_isSet_1 : decode cX2_isSet 1 = .ok (.iconst 0, 1) := dk_3 (dk_at dksX2_isSet_0 1 rfl rfl)
theorem dX2_isSet_2 : decode cX2_isSet 2 = .ok (.iconst 1, 1) := dk_4 (dk_at dksX2_isSet_0 2 rfl rfl)
theorem dX2_isSet_3 : decode cX2_isSet 3 = .ok (.aload_n 0, 1) := dk_42 (dk_at dksX2_isSet_0 3 rfl rfl)
theorem dX2_isSet_4 : decode cX2_isSet 4 = .ok (.getfield 120, 3) := dk_180 0 120 (dk_at dksX2_isSet_0 4 rfl rfl)
theorem dX2_isSet_7 : decode cX2_isSet 7 = .ok (.ishl, 1) := dk_120 (dk_at dksX2_isSet_0 7 rfl rfl)
theorem dX2_isSet_8 : decode cX2_isSet 8 = .ok (.iconst 1, 1) := dk_4 (dk_at dksX2_isSet_0 8 rfl rfl)
theorem dX2_isSet_9 : decode cX2_isSet 9 = .ok (.isub, 1) := dk_100 (dk_at dksX2_isSet_0 9 rfl rfl)
theorem dX2_isSet_10 : decode cX2_isSet 10 = .ok (.invokestatic 123, 3) := dk_184 0 123 (dk_at dksX2_isSet_0 10 rfl rfl)
theorem dX2_isSet_13 : decode cX2_isSet 13 = .ok (.ireturn, 1) := dk_172 (dk_at dksX2_isSet_0 13 rfl rfl)
abbrev cX2_shortestOf : ByteArray := prog_31_method_59_code
def yX2_shortestOf : MethodName := ⟨RX2, "shortestOf", "(I)I"⟩
def dkwX2_shortestOf_4 : List UInt8 := [132, 6, 1, 167, 255, 233, 42, 28, 182, 1, 43, 54, 4, 167, 255, 195, 29, 172]
abbrev dktX2_shortestOf_4 : List UInt8 := dkwX2_shortestOf_4 ++ []
def dkwX2_shortestOf_3 : List UInt8 := [54, 6, 21, 6, 28, 162, 0, 23, 42, 180, 0, 113, 21, 6, 42, 180, 0, 110, 21, 6, 46, 79]
abbrev dktX2_shortestOf_3 : List UInt8 := dkwX2_shortestOf_3 ++ dktX2_shortestOf_4
def dkwX2_shortestOf_2 : List UInt8 := [153, 0, 62, 42, 28, 182, 1, 40, 54, 5, 29, 155, 0, 9, 21, 5, 29, 162, 0, 35, 21, 5, 62, 3]
abbrev dktX2_shortestOf_2 : List UInt8 := dkwX2_shortestOf_2 ++ dktX2_shortestOf_3
def dkwX2_shortestOf_1 : List UInt8 := [180, 0, 110, 28, 132, 2, 1, 29, 79, 132, 3, 1, 167, 255, 226, 2, 62, 4, 54, 4, 21, 4]
abbrev dktX2_shortestOf_1 : List UInt8 := dkwX2_shortestOf_1 ++ dktX2_shortestOf_2
def dkwX2_shortestOf_0 : List UInt8 := [3, 61, 3, 62, 29, 42, 180, 0, 120, 162, 0, 28, 27, 29, 122, 4, 126, 4, 160, 0, 13, 42]
abbrev dktX2_shortestOf_0 : List UInt8 := dkwX2_shortestOf_0 ++ dktX2_shortestOf_1
theorem dksX2_shortestOf_0 : cX2_shortestOf.data.toList.drop 0 = dktX2_shortestOf_0 := by decide +kernel
theorem dksX2_shortestOf_1 : cX2_shortestOf.data.toList.drop 22 = dktX2_shortestOf_1 := dk_seg dksX2_shortestOf_0 22 rfl rfl
theorem dksX2_shortestOf_2 : cX2_shortestOf.data.toList.drop 44 = dktX2_shortestOf_2 := dk_seg dksX2_shortestOf_1 22 rfl rfl
theorem dksX2_shortestOf_3 : cX2_shortestOf.data.toList.drop 68 = dktX2_shortestOf_3 := dk_seg dksX2_shortestOf_2 24 rfl rfl
theorem dksX2_shortestOf_4 : cX2_shortestOf.data.toList.drop 90 = dktX2_shortestOf_4 := dk_seg dksX2_shortestOf_3 22 rfl rfl
theorem dX2_shortestOf_0 : decode cX2_shortestOf 0 = .ok (.iconst 0, 1) := dk_3 (dk_at dksX2_shortestOf_0 0 rfl rfl)
theorem dX2_shortestOf_1 : decode cX2_shortestOf 1 = .ok (.istore_n 2, 1) := dk_61 (dk_at dksX2_shortestOf_0 1 rfl rfl)
theorem dX2_shortestOf_2 : decode cX2_shortestOf 2 = .ok (.iconst 0, 1) := dk_3 (dk_at dksX2_shortestOf_0 2 rfl rfl)
theorem dX2_shortestOf_3 : decode cX2_shortestOf 3 = .ok (.istore_n 3, 1) := dk_62 (dk_at dksX2_shortestOf_0 3 rfl rfl)
theorem dX2_shortestOf_4 : decode cX2_shortestOf 4 = .ok (.iload_n 3, 1) := dk_29 (dk_at dksX2_shortestOf_0 4 rfl rfl)
theorem dX2_shortestOf_5 : decode cX2_shortestOf 5 = .ok (.aload_n 0, 1) := dk_42 (dk_at dksX2_shortestOf_0 5 rfl rfl)
theorem dX2_shortestOf_6 : decode cX2_shortestOf 6 = .ok (.getfield 120, 3) := dk_180 0 120 (dk_at dksX2_shortestOf_0 6 rfl rfl)
theorem dX2_shortestOf_9 : decode cX2_shortestOf 9 = .ok (.if_icmp .ge 28, 3) := dk_162 0 28 (dk_at dksX2_shortestOf_0 9 rfl rfl)
theorem dX2_shortestOf_12 : decode cX2_shortestOf 12 = .ok (.iload_n 1, 1) := dk_27 (dk_at dksX2_shortestOf_0 12 rfl rfl)
theorem dX2_shortestOf_13 : decode cX2_shortestOf 13 = .ok (.iload_n 3, 1) := dk_29 (dk_at dksX2_shortestOf_0 13 rfl rfl)
theorem dX2_shortestOf_14 : decode cX2_shortestOf 14 = .ok (.ishr, 1) := dk_122 (dk_at dksX2_shortestOf_0 14 rfl rfl)
theorem dX2_shortestOf_15 : decode cX2_shortestOf 15 = .ok (.iconst 1, 1) := dk_4 (dk_at dksX2_shortestOf_0 15 rfl rfl)
theorem dX2_shortestOf_16 : decode cX2_shortestOf 16 = .ok (.iand, 1) := dk_126 (dk_at dksX2_shortestOf_0 16 rfl rfl)
theorem dX2_shortestOf_17 : decode cX2_shortestOf 17 = .ok (.iconst 1, 1) := dk_4 (dk_at dksX2_shortestOf_0 17 rfl rfl)
theorem dX2_shortestOf_18 : decode cX2_shortestOf 18 = .ok (.if_icmp .ne 13, 3) := dk_160 0 13 (dk_at dksX2_shortestOf_0 18 rfl rfl)
theorem dX2_shortestOf_21 : decode cX2_shortestOf 21 = .ok (.aload_n 0, 1) := dk_42 (dk_at dksX2_shortestOf_0 21 rfl rfl)
theorem dX2_shortestOf_22 : decode cX2_shortestOf 22 = .ok (.getfield 110, 3) := dk_180 0 110 (dk_at dksX2_shortestOf_1 0 rfl rfl)
theorem dX2_shortestOf_25 : decode cX2_shortestOf 25 = .ok (.iload_n 2, 1) := dk_28 (dk_at dksX2_shortestOf_1 3 rfl rfl)
theorem dX2_shortestOf_26 : decode cX2_shortestOf 26 = .ok (.iinc 2 1, 3) := dk_132 2 1 (dk_at dksX2_shortestOf_1 4 rfl rfl)
theorem dX2_shortestOf_29 : decode cX2_shortestOf 29 = .ok (.iload_n 3, 1) := dk_29 (dk_at dksX2_shortestOf_1 7 rfl rfl)
theorem dX2_shortestOf_30 : decode cX2_shortestOf 30 = .ok (.iastore, 1) := dk_79 (dk_at dksX2_shortestOf_1 8 rfl rfl)
theorem dX2_shortestOf_31 : decode cX2_shortestOf 31 = .ok (.iinc 3 1, 3) := dk_132 3 1 (dk_at dksX2_shortestOf_1 9 rfl rfl)
theorem dX2_shortestOf_34 : decode cX2_shortestOf 34 = .ok (.goto (-30), 3) := dk_167 255 226 (dk_at dksX2_shortestOf_1 12 rfl rfl)
theorem dX2_shortestOf_37 : decode cX2_shortestOf 37 = .ok (.iconst (-1), 1) := dk_2 (dk_at dksX2_shortestOf_1 15 rfl rfl)
theorem dX2_shortestOf_38 : decode cX2_shortestOf 38 = .ok (.istore_n 3, 1) := dk_62 (dk_at dksX2_shortestOf_1 16 rfl rfl)
theorem dX2_shortestOf_39 : decode cX2_shortestOf 39 = .ok (.iconst 1, 1) := dk_4 (dk_at dksX2_shortestOf_1 17 rfl rfl)
theorem dX2_shortestOf_40 : decode cX2_shortestOf 40 = .ok (.istore 4, 2) := dk_54 4 (dk_at dksX2_shortestOf_1 18 rfl rfl)
theorem dX2_shortestOf_42 : decode cX2_shortestOf 42 = .ok (.iload 4, 2) := dk_21 4 (dk_at dksX2_shortestOf_1 20 rfl rfl)
theorem dX2_shortestOf_44 : decode cX2_shortestOf 44 = .ok (.ifCond .eq 62, 3) := dk_153 0 62 (dk_at dksX2_shortestOf_2 0 rfl rfl)
theorem dX2_shortestOf_47 : decode cX2_shortestOf 47 = .ok (.aload_n 0, 1) := dk_42 (dk_at dksX2_shortestOf_2 3 rfl rfl)
theorem dX2_shortestOf_48 : decode cX2_shortestOf 48 = .ok (.iload_n 2, 1) := dk_28 (dk_at dksX2_shortestOf_2 4 rfl rfl)
theorem dX2_shortestOf_49 : decode cX2_shortestOf 49 = .ok (.invokevirtual 296, 3) := dk_182 1 40 (dk_at dksX2_shortestOf_2 5 rfl rfl)
theorem dX2_shortestOf_52 : decode cX2_shortestOf 52 = .ok (.istore 5, 2) := dk_54 5 (dk_at dksX2_shortestOf_2 8 rfl rfl)
theorem dX2_shortestOf_54 : decode cX2_shortestOf 54 = .ok (.iload_n 3, 1) := dk_29 (dk_at dksX2_shortestOf_2 10 rfl rfl)
theorem dX2_shortestOf_55 : decode cX2_shortestOf 55 = .ok (.ifCond .lt 9, 3) := dk_155 0 9 (dk_at dksX2_shortestOf_2 11 rfl rfl)
theorem dX2_shortestOf_58 : decode cX2_shortestOf 58 = .ok (.iload 5, 2) := dk_21 5 (dk_at dksX2_shortestOf_2 14 rfl rfl)
theorem dX2_shortestOf_60 : decode cX2_shortestOf 60 = .ok (.iload_n 3, 1) := dk_29 (dk_at dksX2_shortestOf_2 16 rfl rfl)
theorem dX2_shortestOf_61 : decode cX2_shortestOf 61 = .ok (.if_icmp .ge 35, 3) := dk_162 0 35 (dk_at dksX2_shortestOf_2 17 rfl rfl)
theorem dX2_shortestOf_64 : decode cX2_shortestOf 64 = .ok (.iload 5, 2) := dk_21 5 (dk_at dksX2_shortestOf_2 20 rfl rfl)
theorem dX2_shortestOf_66 : decode cX2_shortestOf 66 = .ok (.istore_n 3, 1) := dk_62 (dk_at dksX2_shortestOf_2 22 rfl rfl)
theorem dX2_shortestOf_67 : decode cX2_shortestOf 67 = .ok (.iconst 0, 1) := dk_3 (dk_at dksX2_shortestOf_2 23 rfl rfl)
theorem dX2_shortestOf_68 : decode cX2_shortestOf 68 = .ok (.istore 6, 2) := dk_54 6 (dk_at dksX2_shortestOf_3 0 rfl rfl)
theorem dX2_shortestOf_70 : decode cX2_shortestOf 70 = .ok (.iload 6, 2) := dk_21 6 (dk_at dksX2_shortestOf_3 2 rfl rfl)
theorem dX2_shortestOf_72 : decode cX2_shortestOf 72 = .ok (.iload_n 2, 1) := dk_28 (dk_at dksX2_shortestOf_3 4 rfl rfl)
theorem dX2_shortestOf_73 : decode cX2_shortestOf 73 = .ok (.if_icmp .ge 23, 3) := dk_162 0 23 (dk_at dksX2_shortestOf_3 5 rfl rfl)
theorem dX2_shortestOf_76 : decode cX2_shortestOf 76 = .ok (.aload_n 0, 1) := dk_42 (dk_at dksX2_shortestOf_3 8 rfl rfl)
theorem dX2_shortestOf_77 : decode cX2_shortestOf 77 = .ok (.getfield 113, 3) := dk_180 0 113 (dk_at dksX2_shortestOf_3 9 rfl rfl)
theorem dX2_shortestOf_80 : decode cX2_shortestOf 80 = .ok (.iload 6, 2) := dk_21 6 (dk_at dksX2_shortestOf_3 12 rfl rfl)
theorem dX2_shortestOf_82 : decode cX2_shortestOf 82 = .ok (.aload_n 0, 1) := dk_42 (dk_at dksX2_shortestOf_3 14 rfl rfl)
theorem dX2_shortestOf_83 : decode cX2_shortestOf 83 = .ok (.getfield 110, 3) := dk_180 0 110 (dk_at dksX2_shortestOf_3 15 rfl rfl)
theorem dX2_shortestOf_86 : decode cX2_shortestOf 86 = .ok (.iload 6, 2) := dk_21 6 (dk_at dksX2_shortestOf_3 18 rfl rfl)
theorem dX2_shortestOf_88 : decode cX2_shortestOf 88 = .ok (.iaload, 1) := dk_46 (dk_at dksX2_shortestOf_3 20 rfl rfl)
theorem dX2_shortestOf_89 : decode cX2_shortestOf 89 = .ok (.iastore, 1) := dk_79 (dk_at dksX2_shortestOf_3 21 rfl rfl)
theorem dX2_shortestOf_90 : decode cX2_shortestOf 90 = .ok (.iinc 6 1, 3) := dk_132 6 1 (dk_at dksX2_shortestOf_4 0 rfl rfl)
theorem dX2_shortestOf_93 : decode cX2_shortestOf 93 = .ok (.goto (-23), 3) := dk_167 255 233 (dk_at dksX2_shortestOf_4 3 rfl rfl)
theorem dX2_shortestOf_96 : decode cX2_shortestOf 96 = .ok (.aload_n 0, 1) := dk_42 (dk_at dksX2_shortestOf_4 6 rfl rfl)
theorem dX2_shortestOf_97 : decode cX2_shortestOf 97 = .ok (.iload_n 2, 1) := dk_28 (dk_at dksX2_shortestOf_4 7 rfl rfl)
theorem dX2_shortestOf_98 : decode cX2_shortestOf 98 = .ok (.invokevirtual 299, 3) := dk_182 1 43 (dk_at dksX2_shortestOf_4 8 rfl rfl)
theorem dX2_shortestOf_101 : decode cX2_shortestOf 101 = .ok (.istore 4, 2) := dk_54 4 (dk_at dksX2_shortestOf_4 11 rfl rfl)
theorem dX2_shortestOf_103 : decode cX2_shortestOf 103 = .ok (.goto (-61), 3) := dk_167 255 195 (dk_at dksX2_shortestOf_4 13 rfl rfl)
theorem dX2_shortestOf_106 : decode cX2_shortestOf 106 = .ok (.iload_n 3, 1) := dk_29 (dk_at dksX2_shortestOf_4 16 rfl rfl)
theorem dX2_shortestOf_107 : decode cX2_shortestOf 107 = .ok (.ireturn, 1) := dk_172 (dk_at dksX2_shortestOf_4 17 rfl rfl)
abbrev cX2_took : ByteArray := prog_31_method_58_code
def yX2_took : MethodName := ⟨RX2, "took", "(I)I"⟩
def dkwX2_took_2 : List UInt8 := [167, 255, 217, 28, 42, 29, 2, 182, 1, 2, 96, 172]
abbrev dktX2_took_2 : List UInt8 := dkwX2_took_2 ++ []
def dkwX2_took_1 : List UInt8 := [182, 1, 2, 42, 180, 0, 24, 6, 46, 96, 96, 61, 42, 180, 0, 110, 21, 4, 46, 62, 132, 4, 1]
abbrev dktX2_took_1 : List UInt8 := dkwX2_took_1 ++ dktX2_took_2
def dkwX2_took_0 : List UInt8 := [3, 61, 2, 62, 3, 54, 4, 21, 4, 27, 162, 0, 39, 28, 42, 29, 42, 180, 0, 110, 21, 4, 46]
abbrev dktX2_took_0 : List UInt8 := dkwX2_took_0 ++ dktX2_took_1
theorem dksX2_took_0 : cX2_took.data.toList.drop 0 = dktX2_took_0 := by decide +kernel
theorem dksX2_took_1 : cX2_took.data.toList.drop 23 = dktX2_took_1 := dk_seg dksX2_took_0 23 rfl rfl
theorem dksX2_took_2 : cX2_took.data.toList.drop 46 = dktX2_took_2 := dk_seg dksX2_took_1 23 rfl rfl
theorem dX2_took_0 : decode cX2_took 0 = .ok (.iconst 0, 1) := dk_3 (dk_at dksX2_took_0 0 rfl rfl)
theorem dX2_took_1 : decode cX2_took 1 = .ok (.istore_n 2, 1) := dk_61 (dk_at dksX2_took_0 1 rfl rfl)
theorem dX2_took_2 : decode cX2_took 2 = .ok (.iconst (-1), 1) := dk_2 (dk_at dksX2_took_0 2 rfl rfl)
theorem dX2_took_3 : decode cX2_took 3 = .ok (.istore_n 3, 1) := dk_62 (dk_at dksX2_took_0 3 rfl rfl)
theorem dX2_took_4 : decode cX2_took 4 = .ok (.iconst 0, 1) := dk_3 (dk_at dksX2_took_0 4 rfl rfl)
theorem dX2_took_5 : decode cX2_took 5 = .ok (.istore 4, 2) := dk_54 4 (dk_at dksX2_took_0 5 rfl rfl)
theorem dX2_took_7 : decode cX2_took 7 = .ok (.iload 4, 2) := dk_21 4 (dk_at dksX2_took_0 7 rfl rfl)
theorem dX2_took_9 : decode cX2_took 9 = .ok (.iload_n 1, 1) := dk_27 (dk_at dksX2_took_0 9 rfl rfl)
theorem dX2_took_10 : decode cX2_took 10 = .ok (.if_icmp .ge 39, 3) := dk_162 0 39 (dk_at dksX2_took_0 10 rfl rfl)
theorem dX2_took_13 : decode cX2_took 13 = .ok (.iload_n 2, 1) := dk_28 (dk_at dksX2_took_0 13 rfl rfl)
theorem dX2_took_14 : decode cX2_took 14 = .ok (.aload_n 0, 1) := dk_42 (dk_at dksX2_took_0 14 rfl rfl)
theorem dX2_took_15 : decode cX2_took 15 = .ok (.iload_n 3, 1) := dk_29 (dk_at dksX2_took_0 15 rfl rfl)
theorem dX2_took_16 : decode cX2_took 16 = .ok (.aload_n 0, 1) := dk_42 (dk_at dksX2_took_0 16 rfl rfl)
theorem dX2_took_17 : decode cX2_took 17 = .ok (.getfield 110, 3) := dk_180 0 110 (dk_at dksX2_took_0 17 rfl rfl)
theorem dX2_took_20 : decode cX2_took 20 = .ok (.iload 4, 2) := dk_21 4 (dk_at dksX2_took_0 20 rfl rfl)
theorem dX2_took_22 : decode cX2_took 22 = .ok (.iaload, 1) := dk_46 (dk_at dksX2_took_0 22 rfl rfl)
theorem dX2_took_23 : decode cX2_took 23 = .ok (.invokevirtual 258, 3) := dk_182 1 2 (dk_at dksX2_took_1 0 rfl rfl)
theorem dX2_took_26 : decode cX2_took 26 = .ok (.aload_n 0, 1) := dk_42 (dk_at dksX2_took_1 3 rfl rfl)
theorem dX2_took_27 : decode cX2_took 27 = .ok (.getfield 24, 3) := dk_180 0 24 (dk_at dksX2_took_1 4 rfl rfl)
theorem dX2_took_30 : decode cX2_took 30 = .ok (.iconst 3, 1) := dk_6 (dk_at dksX2_took_1 7 rfl rfl)
theorem dX2_took_31 : decode cX2_took 31 = .ok (.iaload, 1) := dk_46 (dk_at dksX2_took_1 8 rfl rfl)
theorem dX2_took_32 : decode cX2_took 32 = .ok (.iadd, 1) := dk_96 (dk_at dksX2_took_1 9 rfl rfl)
theorem dX2_took_33 : decode cX2_took 33 = .ok (.iadd, 1) := dk_96 (dk_at dksX2_took_1 10 rfl rfl)
theorem dX2_took_34 : decode cX2_took 34 = .ok (.istore_n 2, 1) := dk_61 (dk_at dksX2_took_1 11 rfl rfl)
theorem dX2_took_35 : decode cX2_took 35 = .ok (.aload_n 0, 1) := dk_42 (dk_at dksX2_took_1 12 rfl rfl)
theorem dX2_took_36 : decode cX2_took 36 = .ok (.getfield 110, 3) := dk_180 0 110 (dk_at dksX2_took_1 13 rfl rfl)
theorem dX2_took_39 : decode cX2_took 39 = .ok (.iload 4, 2) := dk_21 4 (dk_at dksX2_took_1 16 rfl rfl)
theorem dX2_took_41 : decode cX2_took 41 = .ok (.iaload, 1) := dk_46 (dk_at dksX2_took_1 18 rfl rfl)
theorem dX2_took_42 : decode cX2_took 42 = .ok (.istore_n 3, 1) := dk_62 (dk_at dksX2_took_1 19 rfl rfl)
theorem dX2_took_43 : decode cX2_took 43 = .ok (.iinc 4 1, 3) := dk_132 4 1 (dk_at dksX2_took_1 20 rfl rfl)
theorem dX2_took_46 : decode cX2_took 46 = .ok (.goto (-39), 3) := dk_167 255 217 (dk_at dksX2_took_2 0 rfl rfl)
theorem dX2_took_49 : decode cX2_took 49 = .ok (.iload_n 2, 1) := dk_28 (dk_at dksX2_took_2 3 rfl rfl)
theorem dX2_took_50 : decode cX2_took 50 = .ok (.aload_n 0, 1) := dk_42 (dk_at dksX2_took_2 4 rfl rfl)
theorem dX2_took_51 : decode cX2_took 51 = .ok (.iload_n 3, 1) := dk_29 (dk_at dksX2_took_2 5 rfl rfl)
theorem dX2_took_52 : decode cX2_took 52 = .ok (.iconst (-1), 1) := dk_2 (dk_at dksX2_took_2 6 rfl rfl)
theorem dX2_took_53 : decode cX2_took 53 = .ok (.invokevirtual 258, 3) := dk_182 1 2 (dk_at dksX2_took_2 7 rfl rfl)
theorem dX2_took_56 : decode cX2_took 56 = .ok (.iadd, 1) := dk_96 (dk_at dksX2_took_2 10 rfl rfl)
theorem dX2_took_57 : decode cX2_took 57 = .ok (.ireturn, 1) := dk_172 (dk_at dksX2_took_2 11 rfl rfl)
abbrev cX2_nextOrder : ByteArray := prog_31_method_57_code
def yX2_nextOrder : MethodName := ⟨RX2, "nextOrder", "(I)Z"⟩
def dkwX2_nextOrder_4 : List UInt8 := [132, 4, 1, 132, 5, 255, 167, 255, 235, 4, 172]
abbrev dktX2_nextOrder_4 : List UInt8 := dkwX2_nextOrder_4 ++ []
def dkwX2_nextOrder_3 : List UInt8 := [96, 54, 4, 27, 4, 100, 54, 5, 21, 4, 21, 5, 162, 0, 20, 42, 21, 4, 21, 5, 182, 1, 36]
abbrev dktX2_nextOrder_3 : List UInt8 := dkwX2_nextOrder_3 ++ dktX2_nextOrder_4
def dkwX2_nextOrder_2 : List UInt8 := [46, 42, 180, 0, 110, 28, 46, 162, 0, 9, 132, 3, 255, 167, 255, 238, 42, 28, 29, 182, 1, 36, 28, 4]
abbrev dktX2_nextOrder_2 : List UInt8 := dkwX2_nextOrder_2 ++ dktX2_nextOrder_3
def dkwX2_nextOrder_1 : List UInt8 := [164, 0, 9, 132, 2, 255, 167, 255, 232, 28, 156, 0, 5, 3, 172, 27, 4, 100, 62, 42, 180, 0, 110, 29]
abbrev dktX2_nextOrder_1 : List UInt8 := dkwX2_nextOrder_1 ++ dktX2_nextOrder_2
def dkwX2_nextOrder_0 : List UInt8 := [27, 5, 100, 61, 28, 155, 0, 26, 42, 180, 0, 110, 28, 46, 42, 180, 0, 110, 28, 4, 96, 46]
abbrev dktX2_nextOrder_0 : List UInt8 := dkwX2_nextOrder_0 ++ dktX2_nextOrder_1
theorem dksX2_nextOrder_0 : cX2_nextOrder.data.toList.drop 0 = dktX2_nextOrder_0 := by decide +kernel
theorem dksX2_nextOrder_1 : cX2_nextOrder.data.toList.drop 22 = dktX2_nextOrder_1 := dk_seg dksX2_nextOrder_0 22 rfl rfl
theorem dksX2_nextOrder_2 : cX2_nextOrder.data.toList.drop 46 = dktX2_nextOrder_2 := dk_seg dksX2_nextOrder_1 24 rfl rfl
theorem dksX2_nextOrder_3 : cX2_nextOrder.data.toList.drop 70 = dktX2_nextOrder_3 := dk_seg dksX2_nextOrder_2 24 rfl rfl
theorem dksX2_nextOrder_4 : cX2_nextOrder.data.toList.drop 93 = dktX2_nextOrder_4 := dk_seg dksX2_nextOrder_3 23 rfl rfl
theorem dX2_nextOrder_0 : decode cX2_nextOrder 0 = .ok (.iload_n 1, 1) := dk_27 (dk_at dksX2_nextOrder_0 0 rfl rfl)
theorem dX2_nextOrder_1 : decode cX2_nextOrder 1 = .ok (.iconst 2, 1) := dk_5 (dk_at dksX2_nextOrder_0 1 rfl rfl)
theorem dX2_nextOrder_2 : decode cX2_nextOrder 2 = .ok (.isub, 1) := dk_100 (dk_at dksX2_nextOrder_0 2 rfl rfl)
theorem dX2_nextOrder_3 : decode cX2_nextOrder 3 = .ok (.istore_n 2, 1) := dk_61 (dk_at dksX2_nextOrder_0 3 rfl rfl)
theorem dX2_nextOrder_4 : decode cX2_nextOrder 4 = .ok (.iload_n 2, 1) := dk_28 (dk_at dksX2_nextOrder_0 4 rfl rfl)
theorem dX2_nextOrder_5 : decode cX2_nextOrder 5 = .ok (.ifCond .lt 26, 3) := dk_155 0 26 (dk_at dksX2_nextOrder_0 5 rfl rfl)
theorem dX2_nextOrder_8 : decode cX2_nextOrder 8 = .ok (.aload_n 0, 1) := dk_42 (dk_at dksX2_nextOrder_0 8 rfl rfl)
theorem dX2_nextOrder_9 : decode cX2_nextOrder 9 = .ok (.getfield 110, 3) := dk_180 0 110 (dk_at dksX2_nextOrder_0 9 rfl rfl)
theorem dX2_nextOrder_12 : decode cX2_nextOrder 12 = .ok (.iload_n 2, 1) := dk_28 (dk_at dksX2_nextOrder_0 12 rfl rfl)
theorem dX2_nextOrder_13 : decode cX2_nextOrder 13 = .ok (.iaload, 1) := dk_46 (dk_at dksX2_nextOrder_0 13 rfl rfl)
theorem dX2_nextOrder_14 : decode cX2_nextOrder 14 = .ok (.aload_n 0, 1) := dk_42 (dk_at dksX2_nextOrder_0 14 rfl rfl)
theorem dX2_nextOrder_15 : decode cX2_nextOrder 15 = .ok (.getfield 110, 3) := dk_180 0 110 (dk_at dksX2_nextOrder_0 15 rfl rfl)
theorem dX2_nextOrder_18 : decode cX2_nextOrder 18 = .ok (.iload_n 2, 1) := dk_28 (dk_at dksX2_nextOrder_0 18 rfl rfl)
theorem dX2_nextOrder_19 : decode cX2_nextOrder 19 = .ok (.iconst 1, 1) := dk_4 (dk_at dksX2_nextOrder_0 19 rfl rfl)
theorem dX2_nextOrder_20 : decode cX2_nextOrder 20 = .ok (.iadd, 1) := dk_96 (dk_at dksX2_nextOrder_0 20 rfl rfl)
theorem dX2_nextOrder_21 : decode cX2_nextOrder 21 = .ok (.iaload, 1) := dk_46 (dk_at dksX2_nextOrder_0 21 rfl rfl)
theorem dX2_nextOrder_22 : decode cX2_nextOrder 22 = .ok (.if_icmp .le 9, 3) := dk_164 0 9 (dk_at dksX2_nextOrder_1 0 rfl rfl)
theorem dX2_nextOrder_25 : decode cX2_nextOrder 25 = .ok (.iinc 2 (-1), 3) := dk_132 2 255 (dk_at dksX2_nextOrder_1 3 rfl rfl)
theorem dX2_nextOrder_28 : decode cX2_nextOrder 28 = .ok (.goto (-24), 3) := dk_167 255 232 (dk_at dksX2_nextOrder_1 6 rfl rfl)
theorem dX2_nextOrder_31 : decode cX2_nextOrder 31 = .ok (.iload_n 2, 1) := dk_28 (dk_at dksX2_nextOrder_1 9 rfl rfl)
theorem dX2_nextOrder_32 : decode cX2_nextOrder 32 = .ok (.ifCond .ge 5, 3) := dk_156 0 5 (dk_at dksX2_nextOrder_1 10 rfl rfl)
theorem dX2_nextOrder_35 : decode cX2_nextOrder 35 = .ok (.iconst 0, 1) := dk_3 (dk_at dksX2_nextOrder_1 13 rfl rfl)
theorem dX2_nextOrder_36 : decode cX2_nextOrder 36 = .ok (.ireturn, 1) := dk_172 (dk_at dksX2_nextOrder_1 14 rfl rfl)
theorem dX2_nextOrder_37 : decode cX2_nextOrder 37 = .ok (.iload_n 1, 1) := dk_27 (dk_at dksX2_nextOrder_1 15 rfl rfl)
theorem dX2_nextOrder_38 : decode cX2_nextOrder 38 = .ok (.iconst 1, 1) := dk_4 (dk_at dksX2_nextOrder_1 16 rfl rfl)
theorem dX2_nextOrder_39 : decode cX2_nextOrder 39 = .ok (.isub, 1) := dk_100 (dk_at dksX2_nextOrder_1 17 rfl rfl)
theorem dX2_nextOrder_40 : decode cX2_nextOrder 40 = .ok (.istore_n 3, 1) := dk_62 (dk_at dksX2_nextOrder_1 18 rfl rfl)
theorem dX2_nextOrder_41 : decode cX2_nextOrder 41 = .ok (.aload_n 0, 1) := dk_42 (dk_at dksX2_nextOrder_1 19 rfl rfl)
theorem dX2_nextOrder_42 : decode cX2_nextOrder 42 = .ok (.getfield 110, 3) := dk_180 0 110 (dk_at dksX2_nextOrder_1 20 rfl rfl)
theorem dX2_nextOrder_45 : decode cX2_nextOrder 45 = .ok (.iload_n 3, 1) := dk_29 (dk_at dksX2_nextOrder_1 23 rfl rfl)
theorem dX2_nextOrder_46 : decode cX2_nextOrder 46 = .ok (.iaload, 1) := dk_46 (dk_at dksX2_nextOrder_2 0 rfl rfl)
theorem dX2_nextOrder_47 : decode cX2_nextOrder 47 = .ok (.aload_n 0, 1) := dk_42 (dk_at dksX2_nextOrder_2 1 rfl rfl)
theorem dX2_nextOrder_48 : decode cX2_nextOrder 48 = .ok (.getfield 110, 3) := dk_180 0 110 (dk_at dksX2_nextOrder_2 2 rfl rfl)
theorem dX2_nextOrder_51 : decode cX2_nextOrder 51 = .ok (.iload_n 2, 1) := dk_28 (dk_at dksX2_nextOrder_2 5 rfl rfl)
theorem dX2_nextOrder_52 : decode cX2_nextOrder 52 = .ok (.iaload, 1) := dk_46 (dk_at dksX2_nextOrder_2 6 rfl rfl)
theorem dX2_nextOrder_53 : decode cX2_nextOrder 53 = .ok (.if_icmp .ge 9, 3) := dk_162 0 9 (dk_at dksX2_nextOrder_2 7 rfl rfl)
theorem dX2_nextOrder_56 : decode cX2_nextOrder 56 = .ok (.iinc 3 (-1), 3) := dk_132 3 255 (dk_at dksX2_nextOrder_2 10 rfl rfl)
theorem dX2_nextOrder_59 : decode cX2_nextOrder 59 = .ok (.goto (-18), 3) := dk_167 255 238 (dk_at dksX2_nextOrder_2 13 rfl rfl)
theorem dX2_nextOrder_62 : decode cX2_nextOrder 62 = .ok (.aload_n 0, 1) := dk_42 (dk_at dksX2_nextOrder_2 16 rfl rfl)
theorem dX2_nextOrder_63 : decode cX2_nextOrder 63 = .ok (.iload_n 2, 1) := dk_28 (dk_at dksX2_nextOrder_2 17 rfl rfl)
theorem dX2_nextOrder_64 : decode cX2_nextOrder 64 = .ok (.iload_n 3, 1) := dk_29 (dk_at dksX2_nextOrder_2 18 rfl rfl)
theorem dX2_nextOrder_65 : decode cX2_nextOrder 65 = .ok (.invokevirtual 292, 3) := dk_182 1 36 (dk_at dksX2_nextOrder_2 19 rfl rfl)
theorem dX2_nextOrder_68 : decode cX2_nextOrder 68 = .ok (.iload_n 2, 1) := dk_28 (dk_at dksX2_nextOrder_2 22 rfl rfl)
theorem dX2_nextOrder_69 : decode cX2_nextOrder 69 = .ok (.iconst 1, 1) := dk_4 (dk_at dksX2_nextOrder_2 23 rfl rfl)
theorem dX2_nextOrder_70 : decode cX2_nextOrder 70 = .ok (.iadd, 1) := dk_96 (dk_at dksX2_nextOrder_3 0 rfl rfl)
theorem dX2_nextOrder_71 : decode cX2_nextOrder 71 = .ok (.istore 4, 2) := dk_54 4 (dk_at dksX2_nextOrder_3 1 rfl rfl)
theorem dX2_nextOrder_73 : decode cX2_nextOrder 73 = .ok (.iload_n 1, 1) := dk_27 (dk_at dksX2_nextOrder_3 3 rfl rfl)
theorem dX2_nextOrder_74 : decode cX2_nextOrder 74 = .ok (.iconst 1, 1) := dk_4 (dk_at dksX2_nextOrder_3 4 rfl rfl)
theorem dX2_nextOrder_75 : decode cX2_nextOrder 75 = .ok (.isub, 1) := dk_100 (dk_at dksX2_nextOrder_3 5 rfl rfl)
theorem dX2_nextOrder_76 : decode cX2_nextOrder 76 = .ok (.istore 5, 2) := dk_54 5 (dk_at dksX2_nextOrder_3 6 rfl rfl)
theorem dX2_nextOrder_78 : decode cX2_nextOrder 78 = .ok (.iload 4, 2) := dk_21 4 (dk_at dksX2_nextOrder_3 8 rfl rfl)
theorem dX2_nextOrder_80 : decode cX2_nextOrder 80 = .ok (.iload 5, 2) := dk_21 5 (dk_at dksX2_nextOrder_3 10 rfl rfl)
theorem dX2_nextOrder_82 : decode cX2_nextOrder 82 = .ok (.if_icmp .ge 20, 3) := dk_162 0 20 (dk_at dksX2_nextOrder_3 12 rfl rfl)
theorem dX2_nextOrder_85 : decode cX2_nextOrder 85 = .ok (.aload_n 0, 1) := dk_42 (dk_at dksX2_nextOrder_3 15 rfl rfl)
theorem dX2_nextOrder_86 : decode cX2_nextOrder 86 = .ok (.iload 4, 2) := dk_21 4 (dk_at dksX2_nextOrder_3 16 rfl rfl)
theorem dX2_nextOrder_88 : decode cX2_nextOrder 88 = .ok (.iload 5, 2) := dk_21 5 (dk_at dksX2_nextOrder_3 18 rfl rfl)
theorem dX2_nextOrder_90 : decode cX2_nextOrder 90 = .ok (.invokevirtual 292, 3) := dk_182 1 36 (dk_at dksX2_nextOrder_3 20 rfl rfl)
theorem dX2_nextOrder_93 : decode cX2_nextOrder 93 = .ok (.iinc 4 1, 3) := dk_132 4 1 (dk_at dksX2_nextOrder_4 0 rfl rfl)
theorem dX2_nextOrder_96 : decode cX2_nextOrder 96 = .ok (.iinc 5 (-1), 3) := dk_132 5 255 (dk_at dksX2_nextOrder_4 3 rfl rfl)
theorem dX2_nextOrder_99 : decode cX2_nextOrder 99 = .ok (.goto (-21), 3) := dk_167 255 235 (dk_at dksX2_nextOrder_4 6 rfl rfl)
theorem dX2_nextOrder_102 : decode cX2_nextOrder 102 = .ok (.iconst 1, 1) := dk_4 (dk_at dksX2_nextOrder_4 9 rfl rfl)
theorem dX2_nextOrder_103 : decode cX2_nextOrder 103 = .ok (.ireturn, 1) := dk_172 (dk_at dksX2_nextOrder_4 10 rfl rfl)
abbrev cX2_exchange : ByteArray := prog_31_method_56_code
def yX2_exchange : MethodName := ⟨RX2, "exchange", "(II)V"⟩
def dkwX2_exchange_1 : List UInt8 := [29, 79, 177]
abbrev dktX2_exchange_1 : List UInt8 := dkwX2_exchange_1 ++ []
def dkwX2_exchange_0 : List UInt8 := [42, 180, 0, 110, 27, 46, 62, 42, 180, 0, 110, 27, 42, 180, 0, 110, 28, 46, 79, 42, 180, 0, 110, 28]
abbrev dktX2_exchange_0 : List UInt8 := dkwX2_exchange_0 ++ dktX2_exchange_1
theorem dksX2_exchange_0 : cX2_exchange.data.toList.drop 0 = dktX2_exchange_0 := by decide +kernel
theorem dksX2_exchange_1 : cX2_exchange.data.toList.drop 24 = dktX2_exchange_1 := dk_seg dksX2_exchange_0 24 rfl rfl
theorem dX2_exchange_0 : decode cX2_exchange 0 = .ok (.aload_n 0, 1) := dk_42 (dk_at dksX2_exchange_0 0 rfl rfl)
theorem dX2_exchange_1 : decode cX2_exchange 1 = .ok (.getfield 110, 3) := dk_180 0 110 (dk_at dksX2_exchange_0 1 rfl rfl)
theorem dX2_exchange_4 : decode cX2_exchange 4 = .ok (.iload_n 1, 1) := dk_27 (dk_at dksX2_exchange_0 4 rfl rfl)
theorem dX2_exchange_5 : decode cX2_exchange 5 = .ok (.iaload, 1) := dk_46 (dk_at dksX2_exchange_0 5 rfl rfl)
theorem dX2_exchange_6 : decode cX2_exchange 6 = .ok (.istore_n 3, 1) := dk_62 (dk_at dksX2_exchange_0 6 rfl rfl)
theorem dX2_exchange_7 : decode cX2_exchange 7 = .ok (.aload_n 0, 1) := dk_42 (dk_at dksX2_exchange_0 7 rfl rfl)
theorem dX2_exchange_8 : decode cX2_exchange 8 = .ok (.getfield 110, 3) := dk_180 0 110 (dk_at dksX2_exchange_0 8 rfl rfl)
theorem dX2_exchange_11 : decode cX2_exchange 11 = .ok (.iload_n 1, 1) := dk_27 (dk_at dksX2_exchange_0 11 rfl rfl)
theorem dX2_exchange_12 : decode cX2_exchange 12 = .ok (.aload_n 0, 1) := dk_42 (dk_at dksX2_exchange_0 12 rfl rfl)
theorem dX2_exchange_13 : decode cX2_exchange 13 = .ok (.getfield 110, 3) := dk_180 0 110 (dk_at dksX2_exchange_0 13 rfl rfl)
theorem dX2_exchange_16 : decode cX2_exchange 16 = .ok (.iload_n 2, 1) := dk_28 (dk_at dksX2_exchange_0 16 rfl rfl)
theorem dX2_exchange_17 : decode cX2_exchange 17 = .ok (.iaload, 1) := dk_46 (dk_at dksX2_exchange_0 17 rfl rfl)
theorem dX2_exchange_18 : decode cX2_exchange 18 = .ok (.iastore, 1) := dk_79 (dk_at dksX2_exchange_0 18 rfl rfl)
theorem dX2_exchange_19 : decode cX2_exchange 19 = .ok (.aload_n 0, 1) := dk_42 (dk_at dksX2_exchange_0 19 rfl rfl)
theorem dX2_exchange_20 : decode cX2_exchange 20 = .ok (.getfield 110, 3) := dk_180 0 110 (dk_at dksX2_exchange_0 20 rfl rfl)
theorem dX2_exchange_23 : decode cX2_exchange 23 = .ok (.iload_n 2, 1) := dk_28 (dk_at dksX2_exchange_0 23 rfl rfl)
theorem dX2_exchange_24 : decode cX2_exchange 24 = .ok (.iload_n 3, 1) := dk_29 (dk_at dksX2_exchange_1 0 rfl rfl)
theorem dX2_exchange_25 : decode cX2_exchange 25 = .ok (.iastore, 1) := dk_79 (dk_at dksX2_exchange_1 1 rfl rfl)
theorem dX2_exchange_26 : decode cX2_exchange 26 = .ok (.return_, 1) := dk_177 (dk_at dksX2_exchange_1 2 rfl rfl)
abbrev cX2_leftOut : ByteArray := prog_31_method_62_code
def yX2_leftOut : MethodName := ⟨RX2, "leftOut", "(II)I"⟩
def dkwX2_leftOut_4 : List UInt8 := [54, 4, 21, 5, 62, 132, 5, 1, 167, 255, 195, 28, 154, 0, 7, 29, 167, 0, 5, 21, 4, 172]
abbrev dktX2_leftOut_4 : List UInt8 := dkwX2_leftOut_4 ++ []
def dkwX2_leftOut_3 : List UInt8 := [182, 1, 54, 54, 6, 29, 16, 254, 159, 0, 13, 21, 6, 21, 4, 161, 0, 6, 167, 0, 10, 21, 6]
abbrev dktX2_leftOut_3 : List UInt8 := dkwX2_leftOut_3 ++ dktX2_leftOut_4
def dkwX2_leftOut_2 : List UInt8 := [162, 0, 58, 27, 21, 5, 122, 4, 126, 154, 0, 6, 167, 0, 40, 42, 27, 4, 21, 5, 120, 2, 130, 126]
abbrev dktX2_leftOut_2 : List UInt8 := dkwX2_leftOut_2 ++ dktX2_leftOut_3
def dkwX2_leftOut_1 : List UInt8 := [16, 7, 164, 0, 6, 16, 251, 172, 16, 254, 62, 16, 254, 54, 4, 3, 54, 5, 21, 5, 42, 180, 0, 120]
abbrev dktX2_leftOut_1 : List UInt8 := dkwX2_leftOut_1 ++ dktX2_leftOut_2
def dkwX2_leftOut_0 : List UInt8 := [42, 27, 182, 1, 46, 153, 0, 12, 28, 3, 4, 184, 0, 123, 154, 0, 5, 2, 172, 27, 184, 1, 49]
abbrev dktX2_leftOut_0 : List UInt8 := dkwX2_leftOut_0 ++ dktX2_leftOut_1
theorem dksX2_leftOut_0 : cX2_leftOut.data.toList.drop 0 = dktX2_leftOut_0 := by decide +kernel
theorem dksX2_leftOut_1 : cX2_leftOut.data.toList.drop 23 = dktX2_leftOut_1 := dk_seg dksX2_leftOut_0 23 rfl rfl
theorem dksX2_leftOut_2 : cX2_leftOut.data.toList.drop 47 = dktX2_leftOut_2 := dk_seg dksX2_leftOut_1 24 rfl rfl
theorem dksX2_leftOut_3 : cX2_leftOut.data.toList.drop 71 = dktX2_leftOut_3 := dk_seg dksX2_leftOut_2 24 rfl rfl
theorem dksX2_leftOut_4 : cX2_leftOut.data.toList.drop 94 = dktX2_leftOut_4 := dk_seg dksX2_leftOut_3 23 rfl rfl
theorem dX2_leftOut_0 : decode cX2_leftOut 0 = .ok (.aload_n 0, 1) := dk_42 (dk_at dksX2_leftOut_0 0 rfl rfl)
theorem dX2_leftOut_1 : decode cX2_leftOut 1 = .ok (.iload_n 1, 1) := dk_27 (dk_at dksX2_leftOut_0 1 rfl rfl)
theorem dX2_leftOut_2 : decode cX2_leftOut 2 = .ok (.invokevirtual 302, 3) := dk_182 1 46 (dk_at dksX2_leftOut_0 2 rfl rfl)
theorem dX2_leftOut_5 : decode cX2_leftOut 5 = .ok (.ifCond .eq 12, 3) := dk_153 0 12 (dk_at dksX2_leftOut_0 5 rfl rfl)
theorem dX2_leftOut_8 : decode cX2_leftOut 8 = .ok (.iload_n 2, 1) := dk_28 (dk_at dksX2_leftOut_0 8 rfl rfl)
theorem dX2_leftOut_9 : decode cX2_leftOut 9 = .ok (.iconst 0, 1) := dk_3 (dk_at dksX2_leftOut_0 9 rfl rfl)
theorem dX2_leftOut_10 : decode cX2_leftOut 10 = .ok (.iconst 1, 1) := dk_4 (dk_at dksX2_leftOut_0 10 rfl rfl)
theorem dX2_leftOut_11 : decode cX2_leftOut 11 = .ok (.invokestatic 123, 3) := dk_184 0 123 (dk_at dksX2_leftOut_0 11 rfl rfl)
theorem dX2_leftOut_14 : decode cX2_leftOut 14 = .ok (.ifCond .ne 5, 3) := dk_154 0 5 (dk_at dksX2_leftOut_0 14 rfl rfl)
theorem dX2_leftOut_17 : decode cX2_leftOut 17 = .ok (.iconst (-1), 1) := dk_2 (dk_at dksX2_leftOut_0 17 rfl rfl)
theorem dX2_leftOut_18 : decode cX2_leftOut 18 = .ok (.ireturn, 1) := dk_172 (dk_at dksX2_leftOut_0 18 rfl rfl)
theorem dX2_leftOut_19 : decode cX2_leftOut 19 = .ok (.iload_n 1, 1) := dk_27 (dk_at dksX2_leftOut_0 19 rfl rfl)
theorem dX2_leftOut_20 : decode cX2_leftOut 20 = .ok (.invokestatic 305, 3) := dk_184 1 49 (dk_at dksX2_leftOut_0 20 rfl rfl)
theorem dX2_leftOut_23 : decode cX2_leftOut 23 = .ok (.bipush 7, 2) := dk_16 7 (dk_at dksX2_leftOut_1 0 rfl rfl)
theorem dX2_leftOut_25 : decode cX2_leftOut 25 = .ok (.if_icmp .le 6, 3) := dk_164 0 6 (dk_at dksX2_leftOut_1 2 rfl rfl)
theorem dX2_leftOut_28 : decode cX2_leftOut 28 = .ok (.bipush (-5), 2) := dk_16 251 (dk_at dksX2_leftOut_1 5 rfl rfl)
theorem dX2_leftOut_30 : decode cX2_leftOut 30 = .ok (.ireturn, 1) := dk_172 (dk_at dksX2_leftOut_1 7 rfl rfl)
theorem dX2_leftOut_31 : decode cX2_leftOut 31 = .ok (.bipush (-2), 2) := dk_16 254 (dk_at dksX2_leftOut_1 8 rfl rfl)
theorem dX2_leftOut_33 : decode cX2_leftOut 33 = .ok (.istore_n 3, 1) := dk_62 (dk_at dksX2_leftOut_1 10 rfl rfl)
theorem dX2_leftOut_34 : decode cX2_leftOut 34 = .ok (.bipush (-2), 2) := dk_16 254 (dk_at dksX2_leftOut_1 11 rfl rfl)
theorem dX2_leftOut_36 : decode cX2_leftOut 36 = .ok (.istore 4, 2) := dk_54 4 (dk_at dksX2_leftOut_1 13 rfl rfl)
theorem dX2_leftOut_38 : decode cX2_leftOut 38 = .ok (.iconst 0, 1) := dk_3 (dk_at dksX2_leftOut_1 15 rfl rfl)
theorem dX2_leftOut_39 : decode cX2_leftOut 39 = .ok (.istore 5, 2) := dk_54 5 (dk_at dksX2_leftOut_1 16 rfl rfl)
theorem dX2_leftOut_41 : decode cX2_leftOut 41 = .ok (.iload 5, 2) := dk_21 5 (dk_at dksX2_leftOut_1 18 rfl rfl)
theorem dX2_leftOut_43 : decode cX2_leftOut 43 = .ok (.aload_n 0, 1) := dk_42 (dk_at dksX2_leftOut_1 20 rfl rfl)
theorem dX2_leftOut_44 : decode cX2_leftOut 44 = .ok (.getfield 120, 3) := dk_180 0 120 (dk_at dksX2_leftOut_1 21 rfl rfl)
theorem dX2_leftOut_47 : decode cX2_leftOut 47 = .ok (.if_icmp .ge 58, 3) := dk_162 0 58 (dk_at dksX2_leftOut_2 0 rfl rfl)
theorem dX2_leftOut_50 : decode cX2_leftOut 50 = .ok (.iload_n 1, 1) := dk_27 (dk_at dksX2_leftOut_2 3 rfl rfl)
theorem dX2_leftOut_51 : decode cX2_leftOut 51 = .ok (.iload 5, 2) := dk_21 5 (dk_at dksX2_leftOut_2 4 rfl rfl)
theorem dX2_leftOut_53 : decode cX2_leftOut 53 = .ok (.ishr, 1) := dk_122 (dk_at dksX2_leftOut_2 6 rfl rfl)
theorem dX2_leftOut_54 : decode cX2_leftOut 54 = .ok (.iconst 1, 1) := dk_4 (dk_at dksX2_leftOut_2 7 rfl rfl)
theorem dX2_leftOut_55 : decode cX2_leftOut 55 = .ok (.iand, 1) := dk_126 (dk_at dksX2_leftOut_2 8 rfl rfl)
theorem dX2_leftOut_56 : decode cX2_leftOut 56 = .ok (.ifCond .ne 6, 3) := dk_154 0 6 (dk_at dksX2_leftOut_2 9 rfl rfl)
theorem dX2_leftOut_59 : decode cX2_leftOut 59 = .ok (.goto 40, 3) := dk_167 0 40 (dk_at dksX2_leftOut_2 12 rfl rfl)
theorem dX2_leftOut_62 : decode cX2_leftOut 62 = .ok (.aload_n 0, 1) := dk_42 (dk_at dksX2_leftOut_2 15 rfl rfl)
theorem dX2_leftOut_63 : decode cX2_leftOut 63 = .ok (.iload_n 1, 1) := dk_27 (dk_at dksX2_leftOut_2 16 rfl rfl)
theorem dX2_leftOut_64 : decode cX2_leftOut 64 = .ok (.iconst 1, 1) := dk_4 (dk_at dksX2_leftOut_2 17 rfl rfl)
theorem dX2_leftOut_65 : decode cX2_leftOut 65 = .ok (.iload 5, 2) := dk_21 5 (dk_at dksX2_leftOut_2 18 rfl rfl)
theorem dX2_leftOut_67 : decode cX2_leftOut 67 = .ok (.ishl, 1) := dk_120 (dk_at dksX2_leftOut_2 20 rfl rfl)
theorem dX2_leftOut_68 : decode cX2_leftOut 68 = .ok (.iconst (-1), 1) := dk_2 (dk_at dksX2_leftOut_2 21 rfl rfl)
theorem dX2_leftOut_69 : decode cX2_leftOut 69 = .ok (.ixor, 1) := dk_130 (dk_at dksX2_leftOut_2 22 rfl rfl)
theorem dX2_leftOut_70 : decode cX2_leftOut 70 = .ok (.iand, 1) := dk_126 (dk_at dksX2_leftOut_2 23 rfl rfl)
theorem dX2_leftOut_71 : decode cX2_leftOut 71 = .ok (.invokevirtual 310, 3) := dk_182 1 54 (dk_at dksX2_leftOut_3 0 rfl rfl)
theorem dX2_leftOut_74 : decode cX2_leftOut 74 = .ok (.istore 6, 2) := dk_54 6 (dk_at dksX2_leftOut_3 3 rfl rfl)
theorem dX2_leftOut_76 : decode cX2_leftOut 76 = .ok (.iload_n 3, 1) := dk_29 (dk_at dksX2_leftOut_3 5 rfl rfl)
theorem dX2_leftOut_77 : decode cX2_leftOut 77 = .ok (.bipush (-2), 2) := dk_16 254 (dk_at dksX2_leftOut_3 6 rfl rfl)
theorem dX2_leftOut_79 : decode cX2_leftOut 79 = .ok (.if_icmp .eq 13, 3) := dk_159 0 13 (dk_at dksX2_leftOut_3 8 rfl rfl)
theorem dX2_leftOut_82 : decode cX2_leftOut 82 = .ok (.iload 6, 2) := dk_21 6 (dk_at dksX2_leftOut_3 11 rfl rfl)
theorem dX2_leftOut_84 : decode cX2_leftOut 84 = .ok (.iload 4, 2) := dk_21 4 (dk_at dksX2_leftOut_3 13 rfl rfl)
theorem dX2_leftOut_86 : decode cX2_leftOut 86 = .ok (.if_icmp .lt 6, 3) := dk_161 0 6 (dk_at dksX2_leftOut_3 15 rfl rfl)
theorem dX2_leftOut_89 : decode cX2_leftOut 89 = .ok (.goto 10, 3) := dk_167 0 10 (dk_at dksX2_leftOut_3 18 rfl rfl)
theorem dX2_leftOut_92 : decode cX2_leftOut 92 = .ok (.iload 6, 2) := dk_21 6 (dk_at dksX2_leftOut_3 21 rfl rfl)
theorem dX2_leftOut_94 : decode cX2_leftOut 94 = .ok (.istore 4, 2) := dk_54 4 (dk_at dksX2_leftOut_4 0 rfl rfl)
theorem dX2_leftOut_96 : decode cX2_leftOut 96 = .ok (.iload 5, 2) := dk_21 5 (dk_at dksX2_leftOut_4 2 rfl rfl)
theorem dX2_leftOut_98 : decode cX2_leftOut 98 = .ok (.istore_n 3, 1) := dk_62 (dk_at dksX2_leftOut_4 4 rfl rfl)
theorem dX2_leftOut_99 : decode cX2_leftOut 99 = .ok (.iinc 5 1, 3) := dk_132 5 1 (dk_at dksX2_leftOut_4 5 rfl rfl)
theorem dX2_leftOut_102 : decode cX2_leftOut 102 = .ok (.goto (-61), 3) := dk_167 255 195 (dk_at dksX2_leftOut_4 8 rfl rfl)
theorem dX2_leftOut_105 : decode cX2_leftOut 105 = .ok (.iload_n 2, 1) := dk_28 (dk_at dksX2_leftOut_4 11 rfl rfl)
theorem dX2_leftOut_106 : decode cX2_leftOut 106 = .ok (.ifCond .ne 7, 3) := dk_154 0 7 (dk_at dksX2_leftOut_4 12 rfl rfl)
theorem dX2_leftOut_109 : decode cX2_leftOut 109 = .ok (.iload_n 3, 1) := dk_29 (dk_at dksX2_leftOut_4 15 rfl rfl)
theorem dX2_leftOut_110 : decode cX2_leftOut 110 = .ok (.goto 5, 3) := dk_167 0 5 (dk_at dksX2_leftOut_4 16 rfl rfl)
theorem dX2_leftOut_113 : decode cX2_leftOut 113 = .ok (.iload 4, 2) := dk_21 4 (dk_at dksX2_leftOut_4 19 rfl rfl)
theorem dX2_leftOut_115 : decode cX2_leftOut 115 = .ok (.ireturn, 1) := dk_172 (dk_at dksX2_leftOut_4 21 rfl rfl)
abbrev cX2_thief : ByteArray := prog_31_method_64_code
def yX2_thief : MethodName := ⟨RX2, "thief", "(IIII)I"⟩
def dkwX2_thief_2 : List UInt8 := [156, 0, 6, 21, 5, 172, 42, 27, 182, 1, 12, 42, 182, 1, 21, 42, 28, 29, 21, 4, 182, 1, 57, 172]
abbrev dktX2_thief_2 : List UInt8 := dkwX2_thief_2 ++ []
def dkwX2_thief_1 : List UInt8 := [21, 4, 4, 16, 99, 184, 0, 123, 154, 0, 5, 2, 172, 42, 27, 3, 182, 1, 9, 54, 5, 21, 5]
abbrev dktX2_thief_1 : List UInt8 := dkwX2_thief_1 ++ dktX2_thief_2
def dkwX2_thief_0 : List UInt8 := [27, 184, 0, 131, 153, 0, 30, 42, 28, 133, 182, 0, 137, 153, 0, 21, 29, 184, 1, 18, 153, 0, 14]
abbrev dktX2_thief_0 : List UInt8 := dkwX2_thief_0 ++ dktX2_thief_1
theorem dksX2_thief_0 : cX2_thief.data.toList.drop 0 = dktX2_thief_0 := by decide +kernel
theorem dksX2_thief_1 : cX2_thief.data.toList.drop 23 = dktX2_thief_1 := dk_seg dksX2_thief_0 23 rfl rfl
theorem dksX2_thief_2 : cX2_thief.data.toList.drop 46 = dktX2_thief_2 := dk_seg dksX2_thief_1 23 rfl rfl
theorem dX2_thief_0 : decode cX2_thief 0 = .ok (.iload_n 1, 1) := dk_27 (dk_at dksX2_thief_0 0 rfl rfl)
theorem dX2_thief_1 : decode cX2_thief 1 = .ok (.invokestatic 131, 3) := dk_184 0 131 (dk_at dksX2_thief_0 1 rfl rfl)
theorem dX2_thief_4 : decode cX2_thief 4 = .ok (.ifCond .eq 30, 3) := dk_153 0 30 (dk_at dksX2_thief_0 4 rfl rfl)
theorem dX2_thief_7 : decode cX2_thief 7 = .ok (.aload_n 0, 1) := dk_42 (dk_at dksX2_thief_0 7 rfl rfl)
theorem dX2_thief_8 : decode cX2_thief 8 = .ok (.iload_n 2, 1) := dk_28 (dk_at dksX2_thief_0 8 rfl rfl)
theorem dX2_thief_9 : decode cX2_thief 9 = .ok (.i2l, 1) := dk_133 (dk_at dksX2_thief_0 9 rfl rfl)
theorem dX2_thief_10 : decode cX2_thief 10 = .ok (.invokevirtual 137, 3) := dk_182 0 137 (dk_at dksX2_thief_0 10 rfl rfl)
theorem dX2_thief_13 : decode cX2_thief 13 = .ok (.ifCond .eq 21, 3) := dk_153 0 21 (dk_at dksX2_thief_0 13 rfl rfl)
theorem dX2_thief_16 : decode cX2_thief 16 = .ok (.iload_n 3, 1) := dk_29 (dk_at dksX2_thief_0 16 rfl rfl)
theorem dX2_thief_17 : decode cX2_thief 17 = .ok (.invokestatic 274, 3) := dk_184 1 18 (dk_at dksX2_thief_0 17 rfl rfl)
theorem dX2_thief_20 : decode cX2_thief 20 = .ok (.ifCond .eq 14, 3) := dk_153 0 14 (dk_at dksX2_thief_0 20 rfl rfl)
theorem dX2_thief_23 : decode cX2_thief 23 = .ok (.iload 4, 2) := dk_21 4 (dk_at dksX2_thief_1 0 rfl rfl)
theorem dX2_thief_25 : decode cX2_thief 25 = .ok (.iconst 1, 1) := dk_4 (dk_at dksX2_thief_1 2 rfl rfl)
theorem dX2_thief_26 : decode cX2_thief 26 = .ok (.bipush 99, 2) := dk_16 99 (dk_at dksX2_thief_1 3 rfl rfl)
theorem dX2_thief_28 : decode cX2_thief 28 = .ok (.invokestatic 123, 3) := dk_184 0 123 (dk_at dksX2_thief_1 5 rfl rfl)
theorem dX2_thief_31 : decode cX2_thief 31 = .ok (.ifCond .ne 5, 3) := dk_154 0 5 (dk_at dksX2_thief_1 8 rfl rfl)
theorem dX2_thief_34 : decode cX2_thief 34 = .ok (.iconst (-1), 1) := dk_2 (dk_at dksX2_thief_1 11 rfl rfl)
theorem dX2_thief_35 : decode cX2_thief 35 = .ok (.ireturn, 1) := dk_172 (dk_at dksX2_thief_1 12 rfl rfl)
theorem dX2_thief_36 : decode cX2_thief 36 = .ok (.aload_n 0, 1) := dk_42 (dk_at dksX2_thief_1 13 rfl rfl)
theorem dX2_thief_37 : decode cX2_thief 37 = .ok (.iload_n 1, 1) := dk_27 (dk_at dksX2_thief_1 14 rfl rfl)
theorem dX2_thief_38 : decode cX2_thief 38 = .ok (.iconst 0, 1) := dk_3 (dk_at dksX2_thief_1 15 rfl rfl)
theorem dX2_thief_39 : decode cX2_thief 39 = .ok (.invokevirtual 265, 3) := dk_182 1 9 (dk_at dksX2_thief_1 16 rfl rfl)
theorem dX2_thief_42 : decode cX2_thief 42 = .ok (.istore 5, 2) := dk_54 5 (dk_at dksX2_thief_1 19 rfl rfl)
theorem dX2_thief_44 : decode cX2_thief 44 = .ok (.iload 5, 2) := dk_21 5 (dk_at dksX2_thief_1 21 rfl rfl)
theorem dX2_thief_46 : decode cX2_thief 46 = .ok (.ifCond .ge 6, 3) := dk_156 0 6 (dk_at dksX2_thief_2 0 rfl rfl)
theorem dX2_thief_49 : decode cX2_thief 49 = .ok (.iload 5, 2) := dk_21 5 (dk_at dksX2_thief_2 3 rfl rfl)
theorem dX2_thief_51 : decode cX2_thief 51 = .ok (.ireturn, 1) := dk_172 (dk_at dksX2_thief_2 5 rfl rfl)
theorem dX2_thief_52 : decode cX2_thief 52 = .ok (.aload_n 0, 1) := dk_42 (dk_at dksX2_thief_2 6 rfl rfl)
theorem dX2_thief_53 : decode cX2_thief 53 = .ok (.iload_n 1, 1) := dk_27 (dk_at dksX2_thief_2 7 rfl rfl)
theorem dX2_thief_54 : decode cX2_thief 54 = .ok (.invokevirtual 268, 3) := dk_182 1 12 (dk_at dksX2_thief_2 8 rfl rfl)
theorem dX2_thief_57 : decode cX2_thief 57 = .ok (.aload_n 0, 1) := dk_42 (dk_at dksX2_thief_2 11 rfl rfl)
theorem dX2_thief_58 : decode cX2_thief 58 = .ok (.invokevirtual 277, 3) := dk_182 1 21 (dk_at dksX2_thief_2 12 rfl rfl)
theorem dX2_thief_61 : decode cX2_thief 61 = .ok (.aload_n 0, 1) := dk_42 (dk_at dksX2_thief_2 15 rfl rfl)
theorem dX2_thief_62 : decode cX2_thief 62 = .ok (.iload_n 2, 1) := dk_28 (dk_at dksX2_thief_2 16 rfl rfl)
theorem dX2_thief_63 : decode cX2_thief 63 = .ok (.iload_n 3, 1) := dk_29 (dk_at dksX2_thief_2 17 rfl rfl)
theorem dX2_thief_64 : decode cX2_thief 64 = .ok (.iload 4, 2) := dk_21 4 (dk_at dksX2_thief_2 18 rfl rfl)
theorem dX2_thief_66 : decode cX2_thief 66 = .ok (.invokevirtual 313, 3) := dk_182 1 57 (dk_at dksX2_thief_2 20 rfl rfl)
theorem dX2_thief_69 : decode cX2_thief 69 = .ok (.ireturn, 1) := dk_172 (dk_at dksX2_thief_2 23 rfl rfl)
abbrev cX2_thiefAt : ByteArray := prog_31_method_63_code
def yX2_thiefAt : MethodName := ⟨RX2, "thiefAt", "(III)I"⟩
def dkwX2_thiefAt_2 : List UInt8 := [96, 172, 132, 5, 1, 167, 255, 210, 16, 254, 172]
abbrev dktX2_thiefAt_2 : List UInt8 := dkwX2_thiefAt_2 ++ []
def dkwX2_thiefAt_1 : List UInt8 := [153, 0, 7, 3, 167, 0, 7, 21, 4, 4, 96, 54, 4, 21, 4, 29, 160, 0, 10, 21, 5, 29, 100, 4]
abbrev dktX2_thiefAt_1 : List UInt8 := dkwX2_thiefAt_1 ++ dktX2_thiefAt_2
def dkwX2_thiefAt_0 : List UInt8 := [3, 54, 4, 28, 54, 5, 21, 5, 17, 3, 231, 29, 96, 162, 0, 42, 42, 27, 21, 5, 182, 1, 27]
abbrev dktX2_thiefAt_0 : List UInt8 := dkwX2_thiefAt_0 ++ dktX2_thiefAt_1
theorem dksX2_thiefAt_0 : cX2_thiefAt.data.toList.drop 0 = dktX2_thiefAt_0 := by decide +kernel
theorem dksX2_thiefAt_1 : cX2_thiefAt.data.toList.drop 23 = dktX2_thiefAt_1 := dk_seg dksX2_thiefAt_0 23 rfl rfl
theorem dksX2_thiefAt_2 : cX2_thiefAt.data.toList.drop 47 = dktX2_thiefAt_2 := dk_seg dksX2_thiefAt_1 24 rfl rfl
theorem dX2_thiefAt_0 : decode cX2_thiefAt 0 = .ok (.iconst 0, 1) := dk_3 (dk_at dksX2_thiefAt_0 0 rfl rfl)
theorem dX2_thiefAt_1 : decode cX2_thiefAt 1 = .ok (.istore 4, 2) := dk_54 4 (dk_at dksX2_thiefAt_0 1 rfl rfl)
theorem dX2_thiefAt_3 : decode cX2_thiefAt 3 = .ok (.iload_n 2, 1) := dk_28 (dk_at dksX2_thiefAt_0 3 rfl rfl)
theorem dX2_thiefAt_4 : decode cX2_thiefAt 4 = .ok (.istore 5, 2) := dk_54 5 (dk_at dksX2_thiefAt_0 4 rfl rfl)
theorem dX2_thiefAt_6 : decode cX2_thiefAt 6 = .ok (.iload 5, 2) := dk_21 5 (dk_at dksX2_thiefAt_0 6 rfl rfl)
theorem dX2_thiefAt_8 : decode cX2_thiefAt 8 = .ok (.sipush 999, 3) := dk_17 3 231 (dk_at dksX2_thiefAt_0 8 rfl rfl)
theorem dX2_thiefAt_11 : decode cX2_thiefAt 11 = .ok (.iload_n 3, 1) := dk_29 (dk_at dksX2_thiefAt_0 11 rfl rfl)
theorem dX2_thiefAt_12 : decode cX2_thiefAt 12 = .ok (.iadd, 1) := dk_96 (dk_at dksX2_thiefAt_0 12 rfl rfl)
theorem dX2_thiefAt_13 : decode cX2_thiefAt 13 = .ok (.if_icmp .ge 42, 3) := dk_162 0 42 (dk_at dksX2_thiefAt_0 13 rfl rfl)
theorem dX2_thiefAt_16 : decode cX2_thiefAt 16 = .ok (.aload_n 0, 1) := dk_42 (dk_at dksX2_thiefAt_0 16 rfl rfl)
theorem dX2_thiefAt_17 : decode cX2_thiefAt 17 = .ok (.iload_n 1, 1) := dk_27 (dk_at dksX2_thiefAt_0 17 rfl rfl)
theorem dX2_thiefAt_18 : decode cX2_thiefAt 18 = .ok (.iload 5, 2) := dk_21 5 (dk_at dksX2_thiefAt_0 18 rfl rfl)
theorem dX2_thiefAt_20 : decode cX2_thiefAt 20 = .ok (.invokevirtual 283, 3) := dk_182 1 27 (dk_at dksX2_thiefAt_0 20 rfl rfl)
theorem dX2_thiefAt_23 : decode cX2_thiefAt 23 = .ok (.ifCond .eq 7, 3) := dk_153 0 7 (dk_at dksX2_thiefAt_1 0 rfl rfl)
theorem dX2_thiefAt_26 : decode cX2_thiefAt 26 = .ok (.iconst 0, 1) := dk_3 (dk_at dksX2_thiefAt_1 3 rfl rfl)
theorem dX2_thiefAt_27 : decode cX2_thiefAt 27 = .ok (.goto 7, 3) := dk_167 0 7 (dk_at dksX2_thiefAt_1 4 rfl rfl)
theorem dX2_thiefAt_30 : decode cX2_thiefAt 30 = .ok (.iload 4, 2) := dk_21 4 (dk_at dksX2_thiefAt_1 7 rfl rfl)
theorem dX2_thiefAt_32 : decode cX2_thiefAt 32 = .ok (.iconst 1, 1) := dk_4 (dk_at dksX2_thiefAt_1 9 rfl rfl)
theorem dX2_thiefAt_33 : decode cX2_thiefAt 33 = .ok (.iadd, 1) := dk_96 (dk_at dksX2_thiefAt_1 10 rfl rfl)
theorem dX2_thiefAt_34 : decode cX2_thiefAt 34 = .ok (.istore 4, 2) := dk_54 4 (dk_at dksX2_thiefAt_1 11 rfl rfl)
theorem dX2_thiefAt_36 : decode cX2_thiefAt 36 = .ok (.iload 4, 2) := dk_21 4 (dk_at dksX2_thiefAt_1 13 rfl rfl)
theorem dX2_thiefAt_38 : decode cX2_thiefAt 38 = .ok (.iload_n 3, 1) := dk_29 (dk_at dksX2_thiefAt_1 15 rfl rfl)
theorem dX2_thiefAt_39 : decode cX2_thiefAt 39 = .ok (.if_icmp .ne 10, 3) := dk_160 0 10 (dk_at dksX2_thiefAt_1 16 rfl rfl)
theorem dX2_thiefAt_42 : decode cX2_thiefAt 42 = .ok (.iload 5, 2) := dk_21 5 (dk_at dksX2_thiefAt_1 19 rfl rfl)
theorem dX2_thiefAt_44 : decode cX2_thiefAt 44 = .ok (.iload_n 3, 1) := dk_29 (dk_at dksX2_thiefAt_1 21 rfl rfl)
theorem dX2_thiefAt_45 : decode cX2_thiefAt 45 = .ok (.isub, 1) := dk_100 (dk_at dksX2_thiefAt_1 22 rfl rfl)
theorem dX2_thiefAt_46 : decode cX2_thiefAt 46 = .ok (.iconst 1, 1) := dk_4 (dk_at dksX2_thiefAt_1 23 rfl rfl)
theorem dX2_thiefAt_47 : decode cX2_thiefAt 47 = .ok (.iadd, 1) := dk_96 (dk_at dksX2_thiefAt_2 0 rfl rfl)
theorem dX2_thiefAt_48 : decode cX2_thiefAt 48 = .ok (.ireturn, 1) := dk_172 (dk_at dksX2_thiefAt_2 1 rfl rfl)
theorem dX2_thiefAt_49 : decode cX2_thiefAt 49 = .ok (.iinc 5 1, 3) := dk_132 5 1 (dk_at dksX2_thiefAt_2 2 rfl rfl)
theorem dX2_thiefAt_52 : decode cX2_thiefAt 52 = .ok (.goto (-46), 3) := dk_167 255 210 (dk_at dksX2_thiefAt_2 5 rfl rfl)
theorem dX2_thiefAt_55 : decode cX2_thiefAt 55 = .ok (.bipush (-2), 2) := dk_16 254 (dk_at dksX2_thiefAt_2 8 rfl rfl)
theorem dX2_thiefAt_57 : decode cX2_thiefAt 57 = .ok (.ireturn, 1) := dk_172 (dk_at dksX2_thiefAt_2 10 rfl rfl)
abbrev cX2_safe : ByteArray := prog_31_method_65_code
def yX2_safe : MethodName := ⟨RX2, "safe", "(II)I"⟩
def dkwX2_safe_3 : List UInt8 := [21, 4, 4, 21, 5, 120, 128, 54, 4, 132, 5, 1, 167, 255, 222, 21, 4, 172]
abbrev dktX2_safe_3 : List UInt8 := dkwX2_safe_3 ++ []
def dkwX2_safe_2 : List UInt8 := [54, 5, 21, 5, 42, 180, 0, 120, 162, 0, 31, 42, 21, 5, 3, 28, 182, 1, 57, 16, 254, 160, 0, 12]
abbrev dktX2_safe_2 : List UInt8 := dkwX2_safe_2 ++ dktX2_safe_3
def dkwX2_safe_1 : List UInt8 := [182, 1, 9, 62, 29, 156, 0, 5, 29, 172, 42, 27, 182, 1, 12, 42, 182, 1, 21, 3, 54, 4, 3]
abbrev dktX2_safe_1 : List UInt8 := dkwX2_safe_1 ++ dktX2_safe_2
def dkwX2_safe_0 : List UInt8 := [27, 184, 0, 131, 153, 0, 13, 28, 4, 16, 99, 184, 0, 123, 154, 0, 5, 2, 172, 42, 27, 3]
abbrev dktX2_safe_0 : List UInt8 := dkwX2_safe_0 ++ dktX2_safe_1
theorem dksX2_safe_0 : cX2_safe.data.toList.drop 0 = dktX2_safe_0 := by decide +kernel
theorem dksX2_safe_1 : cX2_safe.data.toList.drop 22 = dktX2_safe_1 := dk_seg dksX2_safe_0 22 rfl rfl
theorem dksX2_safe_2 : cX2_safe.data.toList.drop 45 = dktX2_safe_2 := dk_seg dksX2_safe_1 23 rfl rfl
theorem dksX2_safe_3 : cX2_safe.data.toList.drop 69 = dktX2_safe_3 := dk_seg dksX2_safe_2 24 rfl rfl
theorem dX2_safe_0 : decode cX2_safe 0 = .ok (.iload_n 1, 1) := dk_27 (dk_at dksX2_safe_0 0 rfl rfl)
theorem dX2_safe_1 : decode cX2_safe 1 = .ok (.invokestatic 131, 3) := dk_184 0 131 (dk_at dksX2_safe_0 1 rfl rfl)
theorem dX2_safe_4 : decode cX2_safe 4 = .ok (.ifCond .eq 13, 3) := dk_153 0 13 (dk_at dksX2_safe_0 4 rfl rfl)
theorem dX2_safe_7 : decode cX2_safe 7 = .ok (.iload_n 2, 1) := dk_28 (dk_at dksX2_safe_0 7 rfl rfl)
theorem dX2_safe_8 : decode cX2_safe 8 = .ok (.iconst 1, 1) := dk_4 (dk_at dksX2_safe_0 8 rfl rfl)
theorem dX2_safe_9 : decode cX2_safe 9 = .ok (.bipush 99, 2) := dk_16 99 (dk_at dksX2_safe_0 9 rfl rfl)
theorem dX2_safe_11 : decode cX2_safe 11 = .ok (.invokestatic 123, 3) := dk_184 0 123 (dk_at dksX2_safe_0 11 rfl rfl)
theorem dX2_safe_14 : decode cX2_safe 14 = .ok (.ifCond .ne 5, 3) := dk_154 0 5 (dk_at dksX2_safe_0 14 rfl rfl)
theorem dX2_safe_17 : decode cX2_safe 17 = .ok (.iconst (-1), 1) := dk_2 (dk_at dksX2_safe_0 17 rfl rfl)
theorem dX2_safe_18 : decode cX2_safe 18 = .ok (.ireturn, 1) := dk_172 (dk_at dksX2_safe_0 18 rfl rfl)
theorem dX2_safe_19 : decode cX2_safe 19 = .ok (.aload_n 0, 1) := dk_42 (dk_at dksX2_safe_0 19 rfl rfl)
theorem dX2_safe_20 : decode cX2_safe 20 = .ok (.iload_n 1, 1) := dk_27 (dk_at dksX2_safe_0 20 rfl rfl)
theorem dX2_safe_21 : decode cX2_safe 21 = .ok (.iconst 0, 1) := dk_3 (dk_at dksX2_safe_0 21 rfl rfl)
theorem dX2_safe_22 : decode cX2_safe 22 = .ok (.invokevirtual 265, 3) := dk_182 1 9 (dk_at dksX2_safe_1 0 rfl rfl)
theorem dX2_safe_25 : decode cX2_safe 25 = .ok (.istore_n 3, 1) := dk_62 (dk_at dksX2_safe_1 3 rfl rfl)
theorem dX2_safe_26 : decode cX2_safe 26 = .ok (.iload_n 3, 1) := dk_29 (dk_at dksX2_safe_1 4 rfl rfl)
theorem dX2_safe_27 : decode cX2_safe 27 = .ok (.ifCond .ge 5, 3) := dk_156 0 5 (dk_at dksX2_safe_1 5 rfl rfl)
theorem dX2_safe_30 : decode cX2_safe 30 = .ok (.iload_n 3, 1) := dk_29 (dk_at dksX2_safe_1 8 rfl rfl)
theorem dX2_safe_31 : decode cX2_safe 31 = .ok (.ireturn, 1) := dk_172 (dk_at dksX2_safe_1 9 rfl rfl)
theorem dX2_safe_32 : decode cX2_safe 32 = .ok (.aload_n 0, 1) := dk_42 (dk_at dksX2_safe_1 10 rfl rfl)
theorem dX2_safe_33 : decode cX2_safe 33 = .ok (.iload_n 1, 1) := dk_27 (dk_at dksX2_safe_1 11 rfl rfl)
theorem dX2_safe_34 : decode cX2_safe 34 = .ok (.invokevirtual 268, 3) := dk_182 1 12 (dk_at dksX2_safe_1 12 rfl rfl)
theorem dX2_safe_37 : decode cX2_safe 37 = .ok (.aload_n 0, 1) := dk_42 (dk_at dksX2_safe_1 15 rfl rfl)
theorem dX2_safe_38 : decode cX2_safe 38 = .ok (.invokevirtual 277, 3) := dk_182 1 21 (dk_at dksX2_safe_1 16 rfl rfl)
theorem dX2_safe_41 : decode cX2_safe 41 = .ok (.iconst 0, 1) := dk_3 (dk_at dksX2_safe_1 19 rfl rfl)
theorem dX2_safe_42 : decode cX2_safe 42 = .ok (.istore 4, 2) := dk_54 4 (dk_at dksX2_safe_1 20 rfl rfl)
theorem dX2_safe_44 : decode cX2_safe 44 = .ok (.iconst 0, 1) := dk_3 (dk_at dksX2_safe_1 22 rfl rfl)
theorem dX2_safe_45 : decode cX2_safe 45 = .ok (.istore 5, 2) := dk_54 5 (dk_at dksX2_safe_2 0 rfl rfl)
theorem dX2_safe_47 : decode cX2_safe 47 = .ok (.iload 5, 2) := dk_21 5 (dk_at dksX2_safe_2 2 rfl rfl)
theorem dX2_safe_49 : decode cX2_safe 49 = .ok (.aload_n 0, 1) := dk_42 (dk_at dksX2_safe_2 4 rfl rfl)
theorem dX2_safe_50 : decode cX2_safe 50 = .ok (.getfield 120, 3) := dk_180 0 120 (dk_at dksX2_safe_2 5 rfl rfl)
theorem dX2_safe_53 : decode cX2_safe 53 = .ok (.if_icmp .ge 31, 3) := dk_162 0 31 (dk_at dksX2_safe_2 8 rfl rfl)
theorem dX2_safe_56 : decode cX2_safe 56 = .ok (.aload_n 0, 1) := dk_42 (dk_at dksX2_safe_2 11 rfl rfl)
theorem dX2_safe_57 : decode cX2_safe 57 = .ok (.iload 5, 2) := dk_21 5 (dk_at dksX2_safe_2 12 rfl rfl)
theorem dX2_safe_59 : decode cX2_safe 59 = .ok (.iconst 0, 1) := dk_3 (dk_at dksX2_safe_2 14 rfl rfl)
theorem dX2_safe_60 : decode cX2_safe 60 = .ok (.iload_n 2, 1) := dk_28 (dk_at dksX2_safe_2 15 rfl rfl)
theorem dX2_safe_61 : decode cX2_safe 61 = .ok (.invokevirtual 313, 3) := dk_182 1 57 (dk_at dksX2_safe_2 16 rfl rfl)
theorem dX2_safe_64 : decode cX2_safe 64 = .ok (.bipush (-2), 2) := dk_16 254 (dk_at dksX2_safe_2 19 rfl rfl)
theorem dX2_safe_66 : decode cX2_safe 66 = .ok (.if_icmp .ne 12, 3) := dk_160 0 12 (dk_at dksX2_safe_2 21 rfl rfl)
theorem dX2_safe_69 : decode cX2_safe 69 = .ok (.iload 4, 2) := dk_21 4 (dk_at dksX2_safe_3 0 rfl rfl)
theorem dX2_safe_71 : decode cX2_safe 71 = .ok (.iconst 1, 1) := dk_4 (dk_at dksX2_safe_3 2 rfl rfl)
theorem dX2_safe_72 : decode cX2_safe 72 = .ok (.iload 5, 2) := dk_21 5 (dk_at dksX2_safe_3 3 rfl rfl)
theorem dX2_safe_74 : decode cX2_safe 74 = .ok (.ishl, 1) := dk_120 (dk_at dksX2_safe_3 5 rfl rfl)
theorem dX2_safe_75 : decode cX2_safe 75 = .ok (.ior, 1) := dk_128 (dk_at dksX2_safe_3 6 rfl rfl)
theorem dX2_safe_76 : decode cX2_safe 76 = .ok (.istore 4, 2) := dk_54 4 (dk_at dksX2_safe_3 7 rfl rfl)
theorem dX2_safe_78 : decode cX2_safe 78 = .ok (.iinc 5 1, 3) := dk_132 5 1 (dk_at dksX2_safe_3 9 rfl rfl)
theorem dX2_safe_81 : decode cX2_safe 81 = .ok (.goto (-34), 3) := dk_167 255 222 (dk_at dksX2_safe_3 12 rfl rfl)
theorem dX2_safe_84 : decode cX2_safe 84 = .ok (.iload 4, 2) := dk_21 4 (dk_at dksX2_safe_3 15 rfl rfl)
theorem dX2_safe_86 : decode cX2_safe 86 = .ok (.ireturn, 1) := dk_172 (dk_at dksX2_safe_3 17 rfl rfl)
abbrev cX2_two : ByteArray := prog_31_method_68_code
def yX2_two : MethodName := ⟨RX2, "two", "(III)I"⟩
def dkwX2_two_3 : List UInt8 := [167, 0, 9, 42, 28, 29, 182, 1, 60, 172]
abbrev dktX2_two_3 : List UInt8 := dkwX2_two_3 ++ []
def dkwX2_two_2 : List UInt8 := [21, 4, 172, 42, 27, 182, 1, 12, 42, 17, 15, 160, 182, 1, 5, 28, 2, 160, 0, 10, 42, 182, 1, 63]
abbrev dktX2_two_2 : List UInt8 := dkwX2_two_2 ++ dktX2_two_3
def dkwX2_two_1 : List UInt8 := [16, 99, 184, 0, 123, 154, 0, 5, 2, 172, 42, 27, 3, 182, 1, 9, 54, 4, 21, 4, 156, 0, 6]
abbrev dktX2_two_1 : List UInt8 := dkwX2_two_1 ++ dktX2_two_2
def dkwX2_two_0 : List UInt8 := [27, 184, 0, 131, 153, 0, 27, 28, 2, 159, 0, 24, 42, 28, 133, 182, 0, 137, 153, 0, 13, 29, 3]
abbrev dktX2_two_0 : List UInt8 := dkwX2_two_0 ++ dktX2_two_1
theorem dksX2_two_0 : cX2_two.data.toList.drop 0 = dktX2_two_0 := by decide +kernel
theorem dksX2_two_1 : cX2_two.data.toList.drop 23 = dktX2_two_1 := dk_seg dksX2_two_0 23 rfl rfl
theorem dksX2_two_2 : cX2_two.data.toList.drop 46 = dktX2_two_2 := dk_seg dksX2_two_1 23 rfl rfl
theorem dksX2_two_3 : cX2_two.data.toList.drop 70 = dktX2_two_3 := dk_seg dksX2_two_2 24 rfl rfl
theorem dX2_two_0 : decode cX2_two 0 = .ok (.iload_n 1, 1) := dk_27 (dk_at dksX2_two_0 0 rfl rfl)
theorem dX2_two_1 : decode cX2_two 1 = .ok (.invokestatic 131, 3) := dk_184 0 131 (dk_at dksX2_two_0 1 rfl rfl)
theorem dX2_two_4 : decode cX2_two 4 = .ok (.ifCond .eq 27, 3) := dk_153 0 27 (dk_at dksX2_two_0 4 rfl rfl)
theorem dX2_two_7 : decode cX2_two 7 = .ok (.iload_n 2, 1) := dk_28 (dk_at dksX2_two_0 7 rfl rfl)
theorem dX2_two_8 : decode cX2_two 8 = .ok (.iconst (-1), 1) := dk_2 (dk_at dksX2_two_0 8 rfl rfl)
theorem dX2_two_9 : decode cX2_two 9 = .ok (.if_icmp .eq 24, 3) := dk_159 0 24 (dk_at dksX2_two_0 9 rfl rfl)
theorem dX2_two_12 : decode cX2_two 12 = .ok (.aload_n 0, 1) := dk_42 (dk_at dksX2_two_0 12 rfl rfl)
theorem dX2_two_13 : decode cX2_two 13 = .ok (.iload_n 2, 1) := dk_28 (dk_at dksX2_two_0 13 rfl rfl)
theorem dX2_two_14 : decode cX2_two 14 = .ok (.i2l, 1) := dk_133 (dk_at dksX2_two_0 14 rfl rfl)
theorem dX2_two_15 : decode cX2_two 15 = .ok (.invokevirtual 137, 3) := dk_182 0 137 (dk_at dksX2_two_0 15 rfl rfl)
theorem dX2_two_18 : decode cX2_two 18 = .ok (.ifCond .eq 13, 3) := dk_153 0 13 (dk_at dksX2_two_0 18 rfl rfl)
theorem dX2_two_21 : decode cX2_two 21 = .ok (.iload_n 3, 1) := dk_29 (dk_at dksX2_two_0 21 rfl rfl)
theorem dX2_two_22 : decode cX2_two 22 = .ok (.iconst 0, 1) := dk_3 (dk_at dksX2_two_0 22 rfl rfl)
theorem dX2_two_23 : decode cX2_two 23 = .ok (.bipush 99, 2) := dk_16 99 (dk_at dksX2_two_1 0 rfl rfl)
theorem dX2_two_25 : decode cX2_two 25 = .ok (.invokestatic 123, 3) := dk_184 0 123 (dk_at dksX2_two_1 2 rfl rfl)
theorem dX2_two_28 : decode cX2_two 28 = .ok (.ifCond .ne 5, 3) := dk_154 0 5 (dk_at dksX2_two_1 5 rfl rfl)
theorem dX2_two_31 : decode cX2_two 31 = .ok (.iconst (-1), 1) := dk_2 (dk_at dksX2_two_1 8 rfl rfl)
theorem dX2_two_32 : decode cX2_two 32 = .ok (.ireturn, 1) := dk_172 (dk_at dksX2_two_1 9 rfl rfl)
theorem dX2_two_33 : decode cX2_two 33 = .ok (.aload_n 0, 1) := dk_42 (dk_at dksX2_two_1 10 rfl rfl)
theorem dX2_two_34 : decode cX2_two 34 = .ok (.iload_n 1, 1) := dk_27 (dk_at dksX2_two_1 11 rfl rfl)
theorem dX2_two_35 : decode cX2_two 35 = .ok (.iconst 0, 1) := dk_3 (dk_at dksX2_two_1 12 rfl rfl)
theorem dX2_two_36 : decode cX2_two 36 = .ok (.invokevirtual 265, 3) := dk_182 1 9 (dk_at dksX2_two_1 13 rfl rfl)
theorem dX2_two_39 : decode cX2_two 39 = .ok (.istore 4, 2) := dk_54 4 (dk_at dksX2_two_1 16 rfl rfl)
theorem dX2_two_41 : decode cX2_two 41 = .ok (.iload 4, 2) := dk_21 4 (dk_at dksX2_two_1 18 rfl rfl)
theorem dX2_two_43 : decode cX2_two 43 = .ok (.ifCond .ge 6, 3) := dk_156 0 6 (dk_at dksX2_two_1 20 rfl rfl)
theorem dX2_two_46 : decode cX2_two 46 = .ok (.iload 4, 2) := dk_21 4 (dk_at dksX2_two_2 0 rfl rfl)
theorem dX2_two_48 : decode cX2_two 48 = .ok (.ireturn, 1) := dk_172 (dk_at dksX2_two_2 2 rfl rfl)
theorem dX2_two_49 : decode cX2_two 49 = .ok (.aload_n 0, 1) := dk_42 (dk_at dksX2_two_2 3 rfl rfl)
theorem dX2_two_50 : decode cX2_two 50 = .ok (.iload_n 1, 1) := dk_27 (dk_at dksX2_two_2 4 rfl rfl)
theorem dX2_two_51 : decode cX2_two 51 = .ok (.invokevirtual 268, 3) := dk_182 1 12 (dk_at dksX2_two_2 5 rfl rfl)
theorem dX2_two_54 : decode cX2_two 54 = .ok (.aload_n 0, 1) := dk_42 (dk_at dksX2_two_2 8 rfl rfl)
theorem dX2_two_55 : decode cX2_two 55 = .ok (.sipush 4000, 3) := dk_17 15 160 (dk_at dksX2_two_2 9 rfl rfl)
theorem dX2_two_58 : decode cX2_two 58 = .ok (.invokevirtual 261, 3) := dk_182 1 5 (dk_at dksX2_two_2 12 rfl rfl)
theorem dX2_two_61 : decode cX2_two 61 = .ok (.iload_n 2, 1) := dk_28 (dk_at dksX2_two_2 15 rfl rfl)
theorem dX2_two_62 : decode cX2_two 62 = .ok (.iconst (-1), 1) := dk_2 (dk_at dksX2_two_2 16 rfl rfl)
theorem dX2_two_63 : decode cX2_two 63 = .ok (.if_icmp .ne 10, 3) := dk_160 0 10 (dk_at dksX2_two_2 17 rfl rfl)
theorem dX2_two_66 : decode cX2_two 66 = .ok (.aload_n 0, 1) := dk_42 (dk_at dksX2_two_2 20 rfl rfl)
theorem dX2_two_67 : decode cX2_two 67 = .ok (.invokevirtual 319, 3) := dk_182 1 63 (dk_at dksX2_two_2 21 rfl rfl)
theorem dX2_two_70 : decode cX2_two 70 = .ok (.goto 9, 3) := dk_167 0 9 (dk_at dksX2_two_3 0 rfl rfl)
theorem dX2_two_73 : decode cX2_two 73 = .ok (.aload_n 0, 1) := dk_42 (dk_at dksX2_two_3 3 rfl rfl)
theorem dX2_two_74 : decode cX2_two 74 = .ok (.iload_n 2, 1) := dk_28 (dk_at dksX2_two_3 4 rfl rfl)
theorem dX2_two_75 : decode cX2_two 75 = .ok (.iload_n 3, 1) := dk_29 (dk_at dksX2_two_3 5 rfl rfl)
theorem dX2_two_76 : decode cX2_two 76 = .ok (.invokevirtual 316, 3) := dk_182 1 60 (dk_at dksX2_two_3 6 rfl rfl)
theorem dX2_two_79 : decode cX2_two 79 = .ok (.ireturn, 1) := dk_172 (dk_at dksX2_two_3 9 rfl rfl)
abbrev cX2_bestTwo : ByteArray := prog_31_method_67_code
def yX2_bestTwo : MethodName := ⟨RX2, "bestTwo", "()I"⟩
def dkwX2_bestTwo_3 : List UInt8 := [172]
abbrev dktX2_bestTwo_3 : List UInt8 := dkwX2_bestTwo_3 ++ []
def dkwX2_bestTwo_2 : List UInt8 := [155, 0, 12, 21, 4, 28, 161, 0, 6, 167, 0, 8, 21, 4, 61, 29, 60, 132, 3, 1, 167, 255, 194, 27]
abbrev dktX2_bestTwo_2 : List UInt8 := dkwX2_bestTwo_2 ++ dktX2_bestTwo_3
def dkwX2_bestTwo_1 : List UInt8 := [162, 0, 23, 21, 4, 42, 21, 5, 29, 182, 1, 60, 184, 0, 237, 54, 4, 132, 5, 1, 167, 255, 230, 28]
abbrev dktX2_bestTwo_1 : List UInt8 := dkwX2_bestTwo_1 ++ dktX2_bestTwo_2
def dkwX2_bestTwo_0 : List UInt8 := [3, 60, 2, 61, 3, 62, 29, 16, 100, 162, 0, 62, 3, 54, 4, 3, 54, 5, 21, 5, 42, 180, 0, 120]
abbrev dktX2_bestTwo_0 : List UInt8 := dkwX2_bestTwo_0 ++ dktX2_bestTwo_1
theorem dksX2_bestTwo_0 : cX2_bestTwo.data.toList.drop 0 = dktX2_bestTwo_0 := by decide +kernel
theorem dksX2_bestTwo_1 : cX2_bestTwo.data.toList.drop 24 = dktX2_bestTwo_1 := dk_seg dksX2_bestTwo_0 24 rfl rfl
theorem dksX2_bestTwo_2 : cX2_bestTwo.data.toList.drop 48 = dktX2_bestTwo_2 := dk_seg dksX2_bestTwo_1 24 rfl rfl
theorem dksX2_bestTwo_3 : cX2_bestTwo.data.toList.drop 72 = dktX2_bestTwo_3 := dk_seg dksX2_bestTwo_2 24 rfl rfl
theorem dX2_bestTwo_0 : decode cX2_bestTwo 0 = .ok (.iconst 0, 1) := dk_3 (dk_at dksX2_bestTwo_0 0 rfl rfl)
theorem dX2_bestTwo_1 : decode cX2_bestTwo 1 = .ok (.istore_n 1, 1) := dk_60 (dk_at dksX2_bestTwo_0 1 rfl rfl)
theorem dX2_bestTwo_2 : decode cX2_bestTwo 2 = .ok (.iconst (-1), 1) := dk_2 (dk_at dksX2_bestTwo_0 2 rfl rfl)
theorem dX2_bestTwo_3 : decode cX2_bestTwo 3 = .ok (.istore_n 2, 1) := dk_61 (dk_at dksX2_bestTwo_0 3 rfl rfl)
theorem dX2_bestTwo_4 : decode cX2_bestTwo 4 = .ok (.iconst 0, 1) := dk_3 (dk_at dksX2_bestTwo_0 4 rfl rfl)
theorem dX2_bestTwo_5 : decode cX2_bestTwo 5 = .ok (.istore_n 3, 1) := dk_62 (dk_at dksX2_bestTwo_0 5 rfl rfl)
theorem dX2_bestTwo_6 : decode cX2_bestTwo 6 = .ok (.iload_n 3, 1) := dk_29 (dk_at dksX2_bestTwo_0 6 rfl rfl)
theorem dX2_bestTwo_7 : decode cX2_bestTwo 7 = .ok (.bipush 100, 2) := dk_16 100 (dk_at dksX2_bestTwo_0 7 rfl rfl)
theorem dX2_bestTwo_9 : decode cX2_bestTwo 9 = .ok (.if_icmp .ge 62, 3) := dk_162 0 62 (dk_at dksX2_bestTwo_0 9 rfl rfl)
theorem dX2_bestTwo_12 : decode cX2_bestTwo 12 = .ok (.iconst 0, 1) := dk_3 (dk_at dksX2_bestTwo_0 12 rfl rfl)
theorem dX2_bestTwo_13 : decode cX2_bestTwo 13 = .ok (.istore 4, 2) := dk_54 4 (dk_at dksX2_bestTwo_0 13 rfl rfl)
theorem dX2_bestTwo_15 : decode cX2_bestTwo 15 = .ok (.iconst 0, 1) := dk_3 (dk_at dksX2_bestTwo_0 15 rfl rfl)
theorem dX2_bestTwo_16 : decode cX2_bestTwo 16 = .ok (.istore 5, 2) := dk_54 5 (dk_at dksX2_bestTwo_0 16 rfl rfl)
theorem dX2_bestTwo_18 : decode cX2_bestTwo 18 = .ok (.iload 5, 2) := dk_21 5 (dk_at dksX2_bestTwo_0 18 rfl rfl)
theorem dX2_bestTwo_20 : decode cX2_bestTwo 20 = .ok (.aload_n 0, 1) := dk_42 (dk_at dksX2_bestTwo_0 20 rfl rfl)
theorem dX2_bestTwo_21 : decode cX2_bestTwo 21 = .ok (.getfield 120, 3) := dk_180 0 120 (dk_at dksX2_bestTwo_0 21 rfl rfl)
theorem dX2_bestTwo_24 : decode cX2_bestTwo 24 = .ok (.if_icmp .ge 23, 3) := dk_162 0 23 (dk_at dksX2_bestTwo_1 0 rfl rfl)
theorem dX2_bestTwo_27 : decode cX2_bestTwo 27 = .ok (.iload 4, 2) := dk_21 4 (dk_at dksX2_bestTwo_1 3 rfl rfl)
theorem dX2_bestTwo_29 : decode cX2_bestTwo 29 = .ok (.aload_n 0, 1) := dk_42 (dk_at dksX2_bestTwo_1 5 rfl rfl)
theorem dX2_bestTwo_30 : decode cX2_bestTwo 30 = .ok (.iload 5, 2) := dk_21 5 (dk_at dksX2_bestTwo_1 6 rfl rfl)
theorem dX2_bestTwo_32 : decode cX2_bestTwo 32 = .ok (.iload_n 3, 1) := dk_29 (dk_at dksX2_bestTwo_1 8 rfl rfl)
theorem dX2_bestTwo_33 : decode cX2_bestTwo 33 = .ok (.invokevirtual 316, 3) := dk_182 1 60 (dk_at dksX2_bestTwo_1 9 rfl rfl)
theorem dX2_bestTwo_36 : decode cX2_bestTwo 36 = .ok (.invokestatic 237, 3) := dk_184 0 237 (dk_at dksX2_bestTwo_1 12 rfl rfl)
theorem dX2_bestTwo_39 : decode cX2_bestTwo 39 = .ok (.istore 4, 2) := dk_54 4 (dk_at dksX2_bestTwo_1 15 rfl rfl)
theorem dX2_bestTwo_41 : decode cX2_bestTwo 41 = .ok (.iinc 5 1, 3) := dk_132 5 1 (dk_at dksX2_bestTwo_1 17 rfl rfl)
theorem dX2_bestTwo_44 : decode cX2_bestTwo 44 = .ok (.goto (-26), 3) := dk_167 255 230 (dk_at dksX2_bestTwo_1 20 rfl rfl)
theorem dX2_bestTwo_47 : decode cX2_bestTwo 47 = .ok (.iload_n 2, 1) := dk_28 (dk_at dksX2_bestTwo_1 23 rfl rfl)
theorem dX2_bestTwo_48 : decode cX2_bestTwo 48 = .ok (.ifCond .lt 12, 3) := dk_155 0 12 (dk_at dksX2_bestTwo_2 0 rfl rfl)
theorem dX2_bestTwo_51 : decode cX2_bestTwo 51 = .ok (.iload 4, 2) := dk_21 4 (dk_at dksX2_bestTwo_2 3 rfl rfl)
theorem dX2_bestTwo_53 : decode cX2_bestTwo 53 = .ok (.iload_n 2, 1) := dk_28 (dk_at dksX2_bestTwo_2 5 rfl rfl)
theorem dX2_bestTwo_54 : decode cX2_bestTwo 54 = .ok (.if_icmp .lt 6, 3) := dk_161 0 6 (dk_at dksX2_bestTwo_2 6 rfl rfl)
theorem dX2_bestTwo_57 : decode cX2_bestTwo 57 = .ok (.goto 8, 3) := dk_167 0 8 (dk_at dksX2_bestTwo_2 9 rfl rfl)
theorem dX2_bestTwo_60 : decode cX2_bestTwo 60 = .ok (.iload 4, 2) := dk_21 4 (dk_at dksX2_bestTwo_2 12 rfl rfl)
theorem dX2_bestTwo_62 : decode cX2_bestTwo 62 = .ok (.istore_n 2, 1) := dk_61 (dk_at dksX2_bestTwo_2 14 rfl rfl)
theorem dX2_bestTwo_63 : decode cX2_bestTwo 63 = .ok (.iload_n 3, 1) := dk_29 (dk_at dksX2_bestTwo_2 15 rfl rfl)
theorem dX2_bestTwo_64 : decode cX2_bestTwo 64 = .ok (.istore_n 1, 1) := dk_60 (dk_at dksX2_bestTwo_2 16 rfl rfl)
theorem dX2_bestTwo_65 : decode cX2_bestTwo 65 = .ok (.iinc 3 1, 3) := dk_132 3 1 (dk_at dksX2_bestTwo_2 17 rfl rfl)
theorem dX2_bestTwo_68 : decode cX2_bestTwo 68 = .ok (.goto (-62), 3) := dk_167 255 194 (dk_at dksX2_bestTwo_2 20 rfl rfl)
theorem dX2_bestTwo_71 : decode cX2_bestTwo 71 = .ok (.iload_n 1, 1) := dk_27 (dk_at dksX2_bestTwo_2 23 rfl rfl)
theorem dX2_bestTwo_72 : decode cX2_bestTwo 72 = .ok (.ireturn, 1) := dk_172 (dk_at dksX2_bestTwo_3 0 rfl rfl)
abbrev cX2_twoOf : ByteArray := prog_31_method_66_code
def yX2_twoOf : MethodName := ⟨RX2, "twoOf", "(II)I"⟩
def dkwX2_twoOf_8 : List UInt8 := [172]
abbrev dktX2_twoOf_8 : List UInt8 := dkwX2_twoOf_8 ++ []
def dkwX2_twoOf_7 : List UInt8 := [54, 5, 21, 6, 54, 4, 132, 6, 1, 167, 255, 201, 29, 5, 162, 0, 8, 16, 254, 167, 0, 5, 21, 5]
abbrev dktX2_twoOf_7 : List UInt8 := dkwX2_twoOf_7 ++ dktX2_twoOf_8
def dkwX2_twoOf_6 : List UInt8 := [42, 180, 0, 107, 21, 6, 46, 96, 62, 21, 4, 155, 0, 15, 21, 5, 21, 6, 21, 4, 100, 184, 0, 237]
abbrev dktX2_twoOf_6 : List UInt8 := dkwX2_twoOf_6 ++ dktX2_twoOf_7
def dkwX2_twoOf_5 : List UInt8 := [54, 6, 21, 6, 17, 3, 232, 162, 0, 53, 42, 180, 0, 107, 21, 6, 46, 154, 0, 6, 167, 0, 34, 29]
abbrev dktX2_twoOf_5 : List UInt8 := dkwX2_twoOf_5 ++ dktX2_twoOf_6
def dkwX2_twoOf_4 : List UInt8 := [21, 4, 28, 96, 92, 46, 4, 96, 79, 132, 3, 1, 167, 255, 176, 3, 62, 2, 54, 4, 3, 54, 5, 3]
abbrev dktX2_twoOf_4 : List UInt8 := dkwX2_twoOf_4 ++ dktX2_twoOf_5
def dkwX2_twoOf_3 : List UInt8 := [180, 0, 107, 21, 4, 92, 46, 4, 96, 79, 21, 4, 28, 96, 17, 3, 232, 162, 0, 16, 42, 180, 0, 107]
abbrev dktX2_twoOf_3 : List UInt8 := dkwX2_twoOf_3 ++ dktX2_twoOf_4
def dkwX2_twoOf_2 : List UInt8 := [180, 0, 94, 29, 46, 54, 4, 21, 4, 28, 161, 0, 22, 21, 4, 17, 3, 232, 162, 0, 14, 42]
abbrev dktX2_twoOf_2 : List UInt8 := dkwX2_twoOf_2 ++ dktX2_twoOf_3
def dkwX2_twoOf_1 : List UInt8 := [29, 42, 180, 0, 255, 162, 0, 78, 42, 180, 0, 97, 29, 46, 27, 159, 0, 6, 167, 0, 59, 42]
abbrev dktX2_twoOf_1 : List UInt8 := dkwX2_twoOf_1 ++ dktX2_twoOf_2
def dkwX2_twoOf_0 : List UInt8 := [3, 62, 29, 17, 3, 232, 162, 0, 16, 42, 180, 0, 107, 29, 3, 79, 132, 3, 1, 167, 255, 239, 3, 62]
abbrev dktX2_twoOf_0 : List UInt8 := dkwX2_twoOf_0 ++ dktX2_twoOf_1
theorem dksX2_twoOf_0 : cX2_twoOf.data.toList.drop 0 = dktX2_twoOf_0 := by decide +kernel
theorem dksX2_twoOf_1 : cX2_twoOf.data.toList.drop 24 = dktX2_twoOf_1 := dk_seg dksX2_twoOf_0 24 rfl rfl
theorem dksX2_twoOf_2 : cX2_twoOf.data.toList.drop 46 = dktX2_twoOf_2 := dk_seg dksX2_twoOf_1 22 rfl rfl
theorem dksX2_twoOf_3 : cX2_twoOf.data.toList.drop 68 = dktX2_twoOf_3 := dk_seg dksX2_twoOf_2 22 rfl rfl
theorem dksX2_twoOf_4 : cX2_twoOf.data.toList.drop 92 = dktX2_twoOf_4 := dk_seg dksX2_twoOf_3 24 rfl rfl
theorem dksX2_twoOf_5 : cX2_twoOf.data.toList.drop 116 = dktX2_twoOf_5 := dk_seg dksX2_twoOf_4 24 rfl rfl
theorem dksX2_twoOf_6 : cX2_twoOf.data.toList.drop 140 = dktX2_twoOf_6 := dk_seg dksX2_twoOf_5 24 rfl rfl
theorem dksX2_twoOf_7 : cX2_twoOf.data.toList.drop 164 = dktX2_twoOf_7 := dk_seg dksX2_twoOf_6 24 rfl rfl
theorem dksX2_twoOf_8 : cX2_twoOf.data.toList.drop 188 = dktX2_twoOf_8 := dk_seg dksX2_twoOf_7 24 rfl rfl
theorem dX2_twoOf_0 : decode cX2_twoOf 0 = .ok (.iconst 0, 1) := dk_3 (dk_at dksX2_twoOf_0 0 rfl rfl)
theorem dX2_twoOf_1 : decode cX2_twoOf 1 = .ok (.istore_n 3, 1) := dk_62 (dk_at dksX2_twoOf_0 1 rfl rfl)
theorem dX2_twoOf_2 : decode cX2_twoOf 2 = .ok (.iload_n 3, 1) := dk_29 (dk_at dksX2_twoOf_0 2 rfl rfl)
theorem dX2_twoOf_3 : decode cX2_twoOf 3 = .ok (.sipush 1000, 3) := dk_17 3 232 (dk_at dksX2_twoOf_0 3 rfl rfl)
theorem dX2_twoOf_6 : decode cX2_twoOf 6 = .ok (.if_icmp .ge 16, 3) := dk_162 0 16 (dk_at dksX2_twoOf_0 6 rfl rfl)
theorem dX2_twoOf_9 : decode cX2_twoOf 9 = .ok (.aload_n 0, 1) := dk_42 (dk_at dksX2_twoOf_0 9 rfl rfl)
theorem dX2_twoOf_10 : decode cX2_twoOf 10 = .ok (.getfield 107, 3) := dk_180 0 107 (dk_at dksX2_twoOf_0 10 rfl rfl)
theorem dX2_twoOf_13 : decode cX2_twoOf 13 = .ok (.iload_n 3, 1) := dk_29 (dk_at dksX2_twoOf_0 13 rfl rfl)
theorem dX2_twoOf_14 : decode cX2_twoOf 14 = .ok (.iconst 0, 1) := dk_3 (dk_at dksX2_twoOf_0 14 rfl rfl)
theorem dX2_twoOf_15 : decode cX2_twoOf 15 = .ok (.iastore, 1) := dk_79 (dk_at dksX2_twoOf_0 15 rfl rfl)
theorem dX2_twoOf_16 : decode cX2_twoOf 16 = .ok (.iinc 3 1, 3) := dk_132 3 1 (dk_at dksX2_twoOf_0 16 rfl rfl)
theorem dX2_twoOf_19 : decode cX2_twoOf 19 = .ok (.goto (-17), 3) := dk_167 255 239 (dk_at dksX2_twoOf_0 19 rfl rfl)
theorem dX2_twoOf_22 : decode cX2_twoOf 22 = .ok (.iconst 0, 1) := dk_3 (dk_at dksX2_twoOf_0 22 rfl rfl)
theorem dX2_twoOf_23 : decode cX2_twoOf 23 = .ok (.istore_n 3, 1) := dk_62 (dk_at dksX2_twoOf_0 23 rfl rfl)
theorem dX2_twoOf_24 : decode cX2_twoOf 24 = .ok (.iload_n 3, 1) := dk_29 (dk_at dksX2_twoOf_1 0 rfl rfl)
theorem dX2_twoOf_25 : decode cX2_twoOf 25 = .ok (.aload_n 0, 1) := dk_42 (dk_at dksX2_twoOf_1 1 rfl rfl)
theorem dX2_twoOf_26 : decode cX2_twoOf 26 = .ok (.getfield 255, 3) := dk_180 0 255 (dk_at dksX2_twoOf_1 2 rfl rfl)
theorem dX2_twoOf_29 : decode cX2_twoOf 29 = .ok (.if_icmp .ge 78, 3) := dk_162 0 78 (dk_at dksX2_twoOf_1 5 rfl rfl)
theorem dX2_twoOf_32 : decode cX2_twoOf 32 = .ok (.aload_n 0, 1) := dk_42 (dk_at dksX2_twoOf_1 8 rfl rfl)
theorem dX2_twoOf_33 : decode cX2_twoOf 33 = .ok (.getfield 97, 3) := dk_180 0 97 (dk_at dksX2_twoOf_1 9 rfl rfl)
theorem dX2_twoOf_36 : decode cX2_twoOf 36 = .ok (.iload_n 3, 1) := dk_29 (dk_at dksX2_twoOf_1 12 rfl rfl)
theorem dX2_twoOf_37 : decode cX2_twoOf 37 = .ok (.iaload, 1) := dk_46 (dk_at dksX2_twoOf_1 13 rfl rfl)
theorem dX2_twoOf_38 : decode cX2_twoOf 38 = .ok (.iload_n 1, 1) := dk_27 (dk_at dksX2_twoOf_1 14 rfl rfl)
theorem dX2_twoOf_39 : decode cX2_twoOf 39 = .ok (.if_icmp .eq 6, 3) := dk_159 0 6 (dk_at dksX2_twoOf_1 15 rfl rfl)
theorem dX2_twoOf_42 : decode cX2_twoOf 42 = .ok (.goto 59, 3) := dk_167 0 59 (dk_at dksX2_twoOf_1 18 rfl rfl)
theorem dX2_twoOf_45 : decode cX2_twoOf 45 = .ok (.aload_n 0, 1) := dk_42 (dk_at dksX2_twoOf_1 21 rfl rfl)
theorem dX2_twoOf_46 : decode cX2_twoOf 46 = .ok (.getfield 94, 3) := dk_180 0 94 (dk_at dksX2_twoOf_2 0 rfl rfl)
theorem dX2_twoOf_49 : decode cX2_twoOf 49 = .ok (.iload_n 3, 1) := dk_29 (dk_at dksX2_twoOf_2 3 rfl rfl)
theorem dX2_twoOf_50 : decode cX2_twoOf 50 = .ok (.iaload, 1) := dk_46 (dk_at dksX2_twoOf_2 4 rfl rfl)
theorem dX2_twoOf_51 : decode cX2_twoOf 51 = .ok (.istore 4, 2) := dk_54 4 (dk_at dksX2_twoOf_2 5 rfl rfl)
theorem dX2_twoOf_53 : decode cX2_twoOf 53 = .ok (.iload 4, 2) := dk_21 4 (dk_at dksX2_twoOf_2 7 rfl rfl)
theorem dX2_twoOf_55 : decode cX2_twoOf 55 = .ok (.iload_n 2, 1) := dk_28 (dk_at dksX2_twoOf_2 9 rfl rfl)
theorem dX2_twoOf_56 : decode cX2_twoOf 56 = .ok (.if_icmp .lt 22, 3) := dk_161 0 22 (dk_at dksX2_twoOf_2 10 rfl rfl)
theorem dX2_twoOf_59 : decode cX2_twoOf 59 = .ok (.iload 4, 2) := dk_21 4 (dk_at dksX2_twoOf_2 13 rfl rfl)
theorem dX2_twoOf_61 : decode cX2_twoOf 61 = .ok (.sipush 1000, 3) := dk_17 3 232 (dk_at dksX2_twoOf_2 15 rfl rfl)
theorem dX2_twoOf_64 : decode cX2_twoOf 64 = .ok (.if_icmp .ge 14, 3) := dk_162 0 14 (dk_at dksX2_twoOf_2 18 rfl rfl)
theorem dX2_twoOf_67 : decode cX2_twoOf 67 = .ok (.aload_n 0, 1) := dk_42 (dk_at dksX2_twoOf_2 21 rfl rfl)
theorem dX2_twoOf_68 : decode cX2_twoOf 68 = .ok (.getfield 107, 3) := dk_180 0 107 (dk_at dksX2_twoOf_3 0 rfl rfl)
theorem dX2_twoOf_71 : decode cX2_twoOf 71 = .ok (.iload 4, 2) := dk_21 4 (dk_at dksX2_twoOf_3 3 rfl rfl)
theorem dX2_twoOf_73 : decode cX2_twoOf 73 = .ok (.dup2, 1) := dk_92 (dk_at dksX2_twoOf_3 5 rfl rfl)
theorem dX2_twoOf_74 : decode cX2_twoOf 74 = .ok (.iaload, 1) := dk_46 (dk_at dksX2_twoOf_3 6 rfl rfl)
theorem dX2_twoOf_75 : decode cX2_twoOf 75 = .ok (.iconst 1, 1) := dk_4 (dk_at dksX2_twoOf_3 7 rfl rfl)
theorem dX2_twoOf_76 : decode cX2_twoOf 76 = .ok (.iadd, 1) := dk_96 (dk_at dksX2_twoOf_3 8 rfl rfl)
theorem dX2_twoOf_77 : decode cX2_twoOf 77 = .ok (.iastore, 1) := dk_79 (dk_at dksX2_twoOf_3 9 rfl rfl)
theorem dX2_twoOf_78 : decode cX2_twoOf 78 = .ok (.iload 4, 2) := dk_21 4 (dk_at dksX2_twoOf_3 10 rfl rfl)
theorem dX2_twoOf_80 : decode cX2_twoOf 80 = .ok (.iload_n 2, 1) := dk_28 (dk_at dksX2_twoOf_3 12 rfl rfl)
theorem dX2_twoOf_81 : decode cX2_twoOf 81 = .ok (.iadd, 1) := dk_96 (dk_at dksX2_twoOf_3 13 rfl rfl)
theorem dX2_twoOf_82 : decode cX2_twoOf 82 = .ok (.sipush 1000, 3) := dk_17 3 232 (dk_at dksX2_twoOf_3 14 rfl rfl)
theorem dX2_twoOf_85 : decode cX2_twoOf 85 = .ok (.if_icmp .ge 16, 3) := dk_162 0 16 (dk_at dksX2_twoOf_3 17 rfl rfl)
theorem dX2_twoOf_88 : decode cX2_twoOf 88 = .ok (.aload_n 0, 1) := dk_42 (dk_at dksX2_twoOf_3 20 rfl rfl)
theorem dX2_twoOf_89 : decode cX2_twoOf 89 = .ok (.getfield 107, 3) := dk_180 0 107 (dk_at dksX2_twoOf_3 21 rfl rfl)
theorem dX2_twoOf_92 : decode cX2_twoOf 92 = .ok (.iload 4, 2) := dk_21 4 (dk_at dksX2_twoOf_4 0 rfl rfl)
theorem dX2_twoOf_94 : decode cX2_twoOf 94 = .ok (.iload_n 2, 1) := dk_28 (dk_at dksX2_twoOf_4 2 rfl rfl)
theorem dX2_twoOf_95 : decode cX2_twoOf 95 = .ok (.iadd, 1) := dk_96 (dk_at dksX2_twoOf_4 3 rfl rfl)
theorem dX2_twoOf_96 : decode cX2_twoOf 96 = .ok (.dup2, 1) := dk_92 (dk_at dksX2_twoOf_4 4 rfl rfl)
theorem dX2_twoOf_97 : decode cX2_twoOf 97 = .ok (.iaload, 1) := dk_46 (dk_at dksX2_twoOf_4 5 rfl rfl)
theorem dX2_twoOf_98 : decode cX2_twoOf 98 = .ok (.iconst 1, 1) := dk_4 (dk_at dksX2_twoOf_4 6 rfl rfl)
theorem dX2_twoOf_99 : decode cX2_twoOf 99 = .ok (.iadd, 1) := dk_96 (dk_at dksX2_twoOf_4 7 rfl rfl)
theorem dX2_twoOf_100 : decode cX2_twoOf 100 = .ok (.iastore, 1) := dk_79 (dk_at dksX2_twoOf_4 8 rfl rfl)
theorem dX2_twoOf_101 : decode cX2_twoOf 101 = .ok (.iinc 3 1, 3) := dk_132 3 1 (dk_at dksX2_twoOf_4 9 rfl rfl)
theorem dX2_twoOf_104 : decode cX2_twoOf 104 = .ok (.goto (-80), 3) := dk_167 255 176 (dk_at dksX2_twoOf_4 12 rfl rfl)
theorem dX2_twoOf_107 : decode cX2_twoOf 107 = .ok (.iconst 0, 1) := dk_3 (dk_at dksX2_twoOf_4 15 rfl rfl)
theorem dX2_twoOf_108 : decode cX2_twoOf 108 = .ok (.istore_n 3, 1) := dk_62 (dk_at dksX2_twoOf_4 16 rfl rfl)
theorem dX2_twoOf_109 : decode cX2_twoOf 109 = .ok (.iconst (-1), 1) := dk_2 (dk_at dksX2_twoOf_4 17 rfl rfl)
theorem dX2_twoOf_110 : decode cX2_twoOf 110 = .ok (.istore 4, 2) := dk_54 4 (dk_at dksX2_twoOf_4 18 rfl rfl)
theorem dX2_twoOf_112 : decode cX2_twoOf 112 = .ok (.iconst 0, 1) := dk_3 (dk_at dksX2_twoOf_4 20 rfl rfl)
theorem dX2_twoOf_113 : decode cX2_twoOf 113 = .ok (.istore 5, 2) := dk_54 5 (dk_at dksX2_twoOf_4 21 rfl rfl)
theorem dX2_twoOf_115 : decode cX2_twoOf 115 = .ok (.iconst 0, 1) := dk_3 (dk_at dksX2_twoOf_4 23 rfl rfl)
theorem dX2_twoOf_116 : decode cX2_twoOf 116 = .ok (.istore 6, 2) := dk_54 6 (dk_at dksX2_twoOf_5 0 rfl rfl)
theorem dX2_twoOf_118 : decode cX2_twoOf 118 = .ok (.iload 6, 2) := dk_21 6 (dk_at dksX2_twoOf_5 2 rfl rfl)
theorem dX2_twoOf_120 : decode cX2_twoOf 120 = .ok (.sipush 1000, 3) := dk_17 3 232 (dk_at dksX2_twoOf_5 4 rfl rfl)
theorem dX2_twoOf_123 : decode cX2_twoOf 123 = .ok (.if_icmp .ge 53, 3) := dk_162 0 53 (dk_at dksX2_twoOf_5 7 rfl rfl)
theorem dX2_twoOf_126 : decode cX2_twoOf 126 = .ok (.aload_n 0, 1) := dk_42 (dk_at dksX2_twoOf_5 10 rfl rfl)
theorem dX2_twoOf_127 : decode cX2_twoOf 127 = .ok (.getfield 107, 3) := dk_180 0 107 (dk_at dksX2_twoOf_5 11 rfl rfl)
theorem dX2_twoOf_130 : decode cX2_twoOf 130 = .ok (.iload 6, 2) := dk_21 6 (dk_at dksX2_twoOf_5 14 rfl rfl)
theorem dX2_twoOf_132 : decode cX2_twoOf 132 = .ok (.iaload, 1) := dk_46 (dk_at dksX2_twoOf_5 16 rfl rfl)
theorem dX2_twoOf_133 : decode cX2_twoOf 133 = .ok (.ifCond .ne 6, 3) := dk_154 0 6 (dk_at dksX2_twoOf_5 17 rfl rfl)
theorem dX2_twoOf_136 : decode cX2_twoOf 136 = .ok (.goto 34, 3) := dk_167 0 34 (dk_at dksX2_twoOf_5 20 rfl rfl)
theorem dX2_twoOf_139 : decode cX2_twoOf 139 = .ok (.iload_n 3, 1) := dk_29 (dk_at dksX2_twoOf_5 23 rfl rfl)
theorem dX2_twoOf_140 : decode cX2_twoOf 140 = .ok (.aload_n 0, 1) := dk_42 (dk_at dksX2_twoOf_6 0 rfl rfl)
theorem dX2_twoOf_141 : decode cX2_twoOf 141 = .ok (.getfield 107, 3) := dk_180 0 107 (dk_at dksX2_twoOf_6 1 rfl rfl)
theorem dX2_twoOf_144 : decode cX2_twoOf 144 = .ok (.iload 6, 2) := dk_21 6 (dk_at dksX2_twoOf_6 4 rfl rfl)
theorem dX2_twoOf_146 : decode cX2_twoOf 146 = .ok (.iaload, 1) := dk_46 (dk_at dksX2_twoOf_6 6 rfl rfl)
theorem dX2_twoOf_147 : decode cX2_twoOf 147 = .ok (.iadd, 1) := dk_96 (dk_at dksX2_twoOf_6 7 rfl rfl)
theorem dX2_twoOf_148 : decode cX2_twoOf 148 = .ok (.istore_n 3, 1) := dk_62 (dk_at dksX2_twoOf_6 8 rfl rfl)
theorem dX2_twoOf_149 : decode cX2_twoOf 149 = .ok (.iload 4, 2) := dk_21 4 (dk_at dksX2_twoOf_6 9 rfl rfl)
theorem dX2_twoOf_151 : decode cX2_twoOf 151 = .ok (.ifCond .lt 15, 3) := dk_155 0 15 (dk_at dksX2_twoOf_6 11 rfl rfl)
theorem dX2_twoOf_154 : decode cX2_twoOf 154 = .ok (.iload 5, 2) := dk_21 5 (dk_at dksX2_twoOf_6 14 rfl rfl)
theorem dX2_twoOf_156 : decode cX2_twoOf 156 = .ok (.iload 6, 2) := dk_21 6 (dk_at dksX2_twoOf_6 16 rfl rfl)
theorem dX2_twoOf_158 : decode cX2_twoOf 158 = .ok (.iload 4, 2) := dk_21 4 (dk_at dksX2_twoOf_6 18 rfl rfl)
theorem dX2_twoOf_160 : decode cX2_twoOf 160 = .ok (.isub, 1) := dk_100 (dk_at dksX2_twoOf_6 20 rfl rfl)
theorem dX2_twoOf_161 : decode cX2_twoOf 161 = .ok (.invokestatic 237, 3) := dk_184 0 237 (dk_at dksX2_twoOf_6 21 rfl rfl)
theorem dX2_twoOf_164 : decode cX2_twoOf 164 = .ok (.istore 5, 2) := dk_54 5 (dk_at dksX2_twoOf_7 0 rfl rfl)
theorem dX2_twoOf_166 : decode cX2_twoOf 166 = .ok (.iload 6, 2) := dk_21 6 (dk_at dksX2_twoOf_7 2 rfl rfl)
theorem dX2_twoOf_168 : decode cX2_twoOf 168 = .ok (.istore 4, 2) := dk_54 4 (dk_at dksX2_twoOf_7 4 rfl rfl)
theorem dX2_twoOf_170 : decode cX2_twoOf 170 = .ok (.iinc 6 1, 3) := dk_132 6 1 (dk_at dksX2_twoOf_7 6 rfl rfl)
theorem dX2_twoOf_173 : decode cX2_twoOf 173 = .ok (.goto (-55), 3) := dk_167 255 201 (dk_at dksX2_twoOf_7 9 rfl rfl)
theorem dX2_twoOf_176 : decode cX2_twoOf 176 = .ok (.iload_n 3, 1) := dk_29 (dk_at dksX2_twoOf_7 12 rfl rfl)
theorem dX2_twoOf_177 : decode cX2_twoOf 177 = .ok (.iconst 2, 1) := dk_5 (dk_at dksX2_twoOf_7 13 rfl rfl)
theorem dX2_twoOf_178 : decode cX2_twoOf 178 = .ok (.if_icmp .ge 8, 3) := dk_162 0 8 (dk_at dksX2_twoOf_7 14 rfl rfl)
theorem dX2_twoOf_181 : decode cX2_twoOf 181 = .ok (.bipush (-2), 2) := dk_16 254 (dk_at dksX2_twoOf_7 17 rfl rfl)
theorem dX2_twoOf_183 : decode cX2_twoOf 183 = .ok (.goto 5, 3) := dk_167 0 5 (dk_at dksX2_twoOf_7 19 rfl rfl)
theorem dX2_twoOf_186 : decode cX2_twoOf 186 = .ok (.iload 5, 2) := dk_21 5 (dk_at dksX2_twoOf_7 22 rfl rfl)
theorem dX2_twoOf_188 : decode cX2_twoOf 188 = .ok (.ireturn, 1) := dk_172 (dk_at dksX2_twoOf_8 0 rfl rfl)
abbrev cX2_success : ByteArray := prog_31_method_73_code
def yX2_success : MethodName := ⟨RX2, "success", "(IIII)I"⟩
def dkwX2_success_3 : List UInt8 := [21, 4, 16, 100, 112, 182, 1, 78, 172]
abbrev dktX2_success_3 : List UInt8 := dkwX2_success_3 ++ []
def dkwX2_success_2 : List UInt8 := [156, 0, 6, 21, 5, 172, 42, 27, 182, 1, 12, 42, 28, 182, 1, 75, 42, 29, 21, 4, 16, 100, 108]
abbrev dktX2_success_2 : List UInt8 := dkwX2_success_2 ++ dktX2_success_3
def dkwX2_success_1 : List UInt8 := [153, 0, 11, 21, 4, 184, 1, 72, 154, 0, 5, 2, 172, 42, 27, 3, 182, 1, 9, 54, 5, 21, 5]
abbrev dktX2_success_1 : List UInt8 := dkwX2_success_1 ++ dktX2_success_2
def dkwX2_success_0 : List UInt8 := [27, 184, 0, 131, 153, 0, 31, 42, 28, 133, 182, 0, 137, 153, 0, 22, 29, 3, 17, 2, 87, 184, 0, 123]
abbrev dktX2_success_0 : List UInt8 := dkwX2_success_0 ++ dktX2_success_1
theorem dksX2_success_0 : cX2_success.data.toList.drop 0 = dktX2_success_0 := by decide +kernel
theorem dksX2_success_1 : cX2_success.data.toList.drop 24 = dktX2_success_1 := dk_seg dksX2_success_0 24 rfl rfl
theorem dksX2_success_2 : cX2_success.data.toList.drop 47 = dktX2_success_2 := dk_seg dksX2_success_1 23 rfl rfl
theorem dksX2_success_3 : cX2_success.data.toList.drop 70 = dktX2_success_3 := dk_seg dksX2_success_2 23 rfl rfl
theorem dX2_success_0 : decode cX2_success 0 = .ok (.iload_n 1, 1) := dk_27 (dk_at dksX2_success_0 0 rfl rfl)
theorem dX2_success_1 : decode cX2_success 1 = .ok (.invokestatic 131, 3) := dk_184 0 131 (dk_at dksX2_success_0 1 rfl rfl)
theorem dX2_success_4 : decode cX2_success 4 = .ok (.ifCond .eq 31, 3) := dk_153 0 31 (dk_at dksX2_success_0 4 rfl rfl)
theorem dX2_success_7 : decode cX2_success 7 = .ok (.aload_n 0, 1) := dk_42 (dk_at dksX2_success_0 7 rfl rfl)
theorem dX2_success_8 : decode cX2_success 8 = .ok (.iload_n 2, 1) := dk_28 (dk_at dksX2_success_0 8 rfl rfl)
theorem dX2_success_9 : decode cX2_success 9 = .ok (.i2l, 1) := dk_133 (dk_at dksX2_success_0 9 rfl rfl)
theorem dX2_success_10 : decode cX2_success 10 = .ok (.invokevirtual 137, 3) := dk_182 0 137 (dk_at dksX2_success_0 10 rfl rfl)
theorem dX2_success_13 : decode cX2_success 13 = .ok (.ifCond .eq 22, 3) := dk_153 0 22 (dk_at dksX2_success_0 13 rfl rfl)
theorem dX2_success_16 : decode cX2_success 16 = .ok (.iload_n 3, 1) := dk_29 (dk_at dksX2_success_0 16 rfl rfl)
theorem dX2_success_17 : decode cX2_success 17 = .ok (.iconst 0, 1) := dk_3 (dk_at dksX2_success_0 17 rfl rfl)
theorem dX2_success_18 : decode cX2_success 18 = .ok (.sipush 599, 3) := dk_17 2 87 (dk_at dksX2_success_0 18 rfl rfl)
theorem dX2_success_21 : decode cX2_success 21 = .ok (.invokestatic 123, 3) := dk_184 0 123 (dk_at dksX2_success_0 21 rfl rfl)
theorem dX2_success_24 : decode cX2_success 24 = .ok (.ifCond .eq 11, 3) := dk_153 0 11 (dk_at dksX2_success_1 0 rfl rfl)
theorem dX2_success_27 : decode cX2_success 27 = .ok (.iload 4, 2) := dk_21 4 (dk_at dksX2_success_1 3 rfl rfl)
theorem dX2_success_29 : decode cX2_success 29 = .ok (.invokestatic 328, 3) := dk_184 1 72 (dk_at dksX2_success_1 5 rfl rfl)
theorem dX2_success_32 : decode cX2_success 32 = .ok (.ifCond .ne 5, 3) := dk_154 0 5 (dk_at dksX2_success_1 8 rfl rfl)
theorem dX2_success_35 : decode cX2_success 35 = .ok (.iconst (-1), 1) := dk_2 (dk_at dksX2_success_1 11 rfl rfl)
theorem dX2_success_36 : decode cX2_success 36 = .ok (.ireturn, 1) := dk_172 (dk_at dksX2_success_1 12 rfl rfl)
theorem dX2_success_37 : decode cX2_success 37 = .ok (.aload_n 0, 1) := dk_42 (dk_at dksX2_success_1 13 rfl rfl)
theorem dX2_success_38 : decode cX2_success 38 = .ok (.iload_n 1, 1) := dk_27 (dk_at dksX2_success_1 14 rfl rfl)
theorem dX2_success_39 : decode cX2_success 39 = .ok (.iconst 0, 1) := dk_3 (dk_at dksX2_success_1 15 rfl rfl)
theorem dX2_success_40 : decode cX2_success 40 = .ok (.invokevirtual 265, 3) := dk_182 1 9 (dk_at dksX2_success_1 16 rfl rfl)
theorem dX2_success_43 : decode cX2_success 43 = .ok (.istore 5, 2) := dk_54 5 (dk_at dksX2_success_1 19 rfl rfl)
theorem dX2_success_45 : decode cX2_success 45 = .ok (.iload 5, 2) := dk_21 5 (dk_at dksX2_success_1 21 rfl rfl)
theorem dX2_success_47 : decode cX2_success 47 = .ok (.ifCond .ge 6, 3) := dk_156 0 6 (dk_at dksX2_success_2 0 rfl rfl)
theorem dX2_success_50 : decode cX2_success 50 = .ok (.iload 5, 2) := dk_21 5 (dk_at dksX2_success_2 3 rfl rfl)
theorem dX2_success_52 : decode cX2_success 52 = .ok (.ireturn, 1) := dk_172 (dk_at dksX2_success_2 5 rfl rfl)
theorem dX2_success_53 : decode cX2_success 53 = .ok (.aload_n 0, 1) := dk_42 (dk_at dksX2_success_2 6 rfl rfl)
theorem dX2_success_54 : decode cX2_success 54 = .ok (.iload_n 1, 1) := dk_27 (dk_at dksX2_success_2 7 rfl rfl)
theorem dX2_success_55 : decode cX2_success 55 = .ok (.invokevirtual 268, 3) := dk_182 1 12 (dk_at dksX2_success_2 8 rfl rfl)
theorem dX2_success_58 : decode cX2_success 58 = .ok (.aload_n 0, 1) := dk_42 (dk_at dksX2_success_2 11 rfl rfl)
theorem dX2_success_59 : decode cX2_success 59 = .ok (.iload_n 2, 1) := dk_28 (dk_at dksX2_success_2 12 rfl rfl)
theorem dX2_success_60 : decode cX2_success 60 = .ok (.invokevirtual 331, 3) := dk_182 1 75 (dk_at dksX2_success_2 13 rfl rfl)
theorem dX2_success_63 : decode cX2_success 63 = .ok (.aload_n 0, 1) := dk_42 (dk_at dksX2_success_2 16 rfl rfl)
theorem dX2_success_64 : decode cX2_success 64 = .ok (.iload_n 3, 1) := dk_29 (dk_at dksX2_success_2 17 rfl rfl)
theorem dX2_success_65 : decode cX2_success 65 = .ok (.iload 4, 2) := dk_21 4 (dk_at dksX2_success_2 18 rfl rfl)
theorem dX2_success_67 : decode cX2_success 67 = .ok (.bipush 100, 2) := dk_16 100 (dk_at dksX2_success_2 20 rfl rfl)
theorem dX2_success_69 : decode cX2_success 69 = .ok (.idiv, 1) := dk_108 (dk_at dksX2_success_2 22 rfl rfl)
theorem dX2_success_70 : decode cX2_success 70 = .ok (.iload 4, 2) := dk_21 4 (dk_at dksX2_success_3 0 rfl rfl)
theorem dX2_success_72 : decode cX2_success 72 = .ok (.bipush 100, 2) := dk_16 100 (dk_at dksX2_success_3 2 rfl rfl)
theorem dX2_success_74 : decode cX2_success 74 = .ok (.irem, 1) := dk_112 (dk_at dksX2_success_3 4 rfl rfl)
theorem dX2_success_75 : decode cX2_success 75 = .ok (.invokevirtual 334, 3) := dk_182 1 78 (dk_at dksX2_success_3 5 rfl rfl)
theorem dX2_success_78 : decode cX2_success 78 = .ok (.ireturn, 1) := dk_172 (dk_at dksX2_success_3 8 rfl rfl)
abbrev cX2_isMix : ByteArray := prog_31_method_72_code
def yX2_isMix : MethodName := ⟨RX2, "isMix", "(I)Z"⟩
def dkwX2_isMix_1 : List UInt8 := [3, 172]
abbrev dktX2_isMix_1 : List UInt8 := dkwX2_isMix_1 ++ []
def dkwX2_isMix_0 : List UInt8 := [26, 155, 0, 23, 26, 16, 100, 108, 16, 13, 162, 0, 14, 26, 16, 100, 112, 158, 0, 7, 4, 167, 0, 4]
abbrev dktX2_isMix_0 : List UInt8 := dkwX2_isMix_0 ++ dktX2_isMix_1
theorem dksX2_isMix_0 : cX2_isMix.data.toList.drop 0 = dktX2_isMix_0 := by decide +kernel
theorem dksX2_isMix_1 : cX2_isMix.data.toList.drop 24 = dktX2_isMix_1 := dk_seg dksX2_isMix_0 24 rfl rfl
theorem dX2_isMix_0 : decode cX2_isMix 0 = .ok (.iload_n 0, 1) := dk_26 (dk_at dksX2_isMix_0 0 rfl rfl)
theorem dX2_isMix_1 : decode cX2_isMix 1 = .ok (.ifCond .lt 23, 3) := dk_155 0 23 (dk_at dksX2_isMix_0 1 rfl rfl)
theorem dX2_isMix_4 : decode cX2_isMix 4 = .ok (.iload_n 0, 1) := dk_26 (dk_at dksX2_isMix_0 4 rfl rfl)
theorem dX2_isMix_5 : decode cX2_isMix 5 = .ok (.bipush 100, 2) := dk_16 100 (dk_at dksX2_isMix_0 5 rfl rfl)
theorem dX2_isMix_7 : decode cX2_isMix 7 = .ok (.idiv, 1) := dk_108 (dk_at dksX2_isMix_0 7 rfl rfl)
theorem dX2_isMix_8 : decode cX2_isMix 8 = .ok (.bipush 13, 2) := dk_16 13 (dk_at dksX2_isMix_0 8 rfl rfl)
theorem dX2_isMix_10 : decode cX2_isMix 10 = .ok (.if_icmp .ge 14, 3) := dk_162 0 14 (dk_at dksX2_isMix_0 10 rfl rfl)
theorem dX2_isMix_13 : decode cX2_isMix 13 = .ok (.iload_n 0, 1) := dk_26 (dk_at dksX2_isMix_0 13 rfl rfl)
theorem dX2_isMix_14 : decode cX2_isMix 14 = .ok (.bipush 100, 2) := dk_16 100 (dk_at dksX2_isMix_0 14 rfl rfl)
theorem dX2_isMix_16 : decode cX2_isMix 16 = .ok (.irem, 1) := dk_112 (dk_at dksX2_isMix_0 16 rfl rfl)
theorem dX2_isMix_17 : decode cX2_isMix 17 = .ok (.ifCond .le 7, 3) := dk_158 0 7 (dk_at dksX2_isMix_0 17 rfl rfl)
theorem dX2_isMix_20 : decode cX2_isMix 20 = .ok (.iconst 1, 1) := dk_4 (dk_at dksX2_isMix_0 20 rfl rfl)
theorem dX2_isMix_21 : decode cX2_isMix 21 = .ok (.goto 4, 3) := dk_167 0 4 (dk_at dksX2_isMix_0 21 rfl rfl)
theorem dX2_isMix_24 : decode cX2_isMix 24 = .ok (.iconst 0, 1) := dk_3 (dk_at dksX2_isMix_1 0 rfl rfl)
theorem dX2_isMix_25 : decode cX2_isMix 25 = .ok (.ireturn, 1) := dk_172 (dk_at dksX2_isMix_1 1 rfl rfl)
abbrev cX2_bothWays : ByteArray := prog_31_method_69_code
def yX2_bothWays : MethodName := ⟨RX2, "bothWays", "(I)V"⟩
def dkwX2_bothWays_3 : List UInt8 := [182, 1, 66, 177]
abbrev dktX2_bothWays_3 : List UInt8 := dkwX2_bothWays_3 ++ []
def dkwX2_bothWays_2 : List UInt8 := [42, 180, 0, 103, 17, 7, 208, 28, 96, 42, 27, 28, 182, 1, 27, 84, 132, 2, 1, 167, 255, 230, 42]
abbrev dktX2_bothWays_2 : List UInt8 := dkwX2_bothWays_2 ++ dktX2_bothWays_3
def dkwX2_bothWays_1 : List UInt8 := [84, 132, 2, 1, 167, 255, 234, 42, 182, 1, 66, 42, 182, 1, 21, 3, 61, 28, 17, 7, 208, 162, 0, 25]
abbrev dktX2_bothWays_1 : List UInt8 := dkwX2_bothWays_1 ++ dktX2_bothWays_2
def dkwX2_bothWays_0 : List UInt8 := [42, 182, 1, 21, 3, 61, 28, 17, 7, 208, 162, 0, 21, 42, 180, 0, 103, 28, 42, 27, 28, 182, 1, 27]
abbrev dktX2_bothWays_0 : List UInt8 := dkwX2_bothWays_0 ++ dktX2_bothWays_1
theorem dksX2_bothWays_0 : cX2_bothWays.data.toList.drop 0 = dktX2_bothWays_0 := by decide +kernel
theorem dksX2_bothWays_1 : cX2_bothWays.data.toList.drop 24 = dktX2_bothWays_1 := dk_seg dksX2_bothWays_0 24 rfl rfl
theorem dksX2_bothWays_2 : cX2_bothWays.data.toList.drop 48 = dktX2_bothWays_2 := dk_seg dksX2_bothWays_1 24 rfl rfl
theorem dksX2_bothWays_3 : cX2_bothWays.data.toList.drop 71 = dktX2_bothWays_3 := dk_seg dksX2_bothWays_2 23 rfl rfl
theorem dX2_bothWays_0 : decode cX2_bothWays 0 = .ok (.aload_n 0, 1) := dk_42 (dk_at dksX2_bothWays_0 0 rfl rfl)
theorem dX2_bothWays_1 : decode cX2_bothWays 1 = .ok (.invokevirtual 277, 3) := dk_182 1 21 (dk_at dksX2_bothWays_0 1 rfl rfl)
theorem dX2_bothWays_4 : decode cX2_bothWays 4 = .ok (.iconst 0, 1) := dk_3 (dk_at dksX2_bothWays_0 4 rfl rfl)
theorem dX2_bothWays_5 : decode cX2_bothWays 5 = .ok (.istore_n 2, 1) := dk_61 (dk_at dksX2_bothWays_0 5 rfl rfl)
theorem dX2_bothWays_6 : decode cX2_bothWays 6 = .ok (.iload_n 2, 1) := dk_28 (dk_at dksX2_bothWays_0 6 rfl rfl)
theorem dX2_bothWays_7 : decode cX2_bothWays 7 = .ok (.sipush 2000, 3) := dk_17 7 208 (dk_at dksX2_bothWays_0 7 rfl rfl)
theorem dX2_bothWays_10 : decode cX2_bothWays 10 = .ok (.if_icmp .ge 21, 3) := dk_162 0 21 (dk_at dksX2_bothWays_0 10 rfl rfl)
theorem dX2_bothWays_13 : decode cX2_bothWays 13 = .ok (.aload_n 0, 1) := dk_42 (dk_at dksX2_bothWays_0 13 rfl rfl)
theorem dX2_bothWays_14 : decode cX2_bothWays 14 = .ok (.getfield 103, 3) := dk_180 0 103 (dk_at dksX2_bothWays_0 14 rfl rfl)
theorem dX2_bothWays_17 : decode cX2_bothWays 17 = .ok (.iload_n 2, 1) := dk_28 (dk_at dksX2_bothWays_0 17 rfl rfl)
theorem dX2_bothWays_18 : decode cX2_bothWays 18 = .ok (.aload_n 0, 1) := dk_42 (dk_at dksX2_bothWays_0 18 rfl rfl)
theorem dX2_bothWays_19 : decode cX2_bothWays 19 = .ok (.iload_n 1, 1) := dk_27 (dk_at dksX2_bothWays_0 19 rfl rfl)
theorem dX2_bothWays_20 : decode cX2_bothWays 20 = .ok (.iload_n 2, 1) := dk_28 (dk_at dksX2_bothWays_0 20 rfl rfl)
theorem dX2_bothWays_21 : decode cX2_bothWays 21 = .ok (.invokevirtual 283, 3) := dk_182 1 27 (dk_at dksX2_bothWays_0 21 rfl rfl)
theorem dX2_bothWays_24 : decode cX2_bothWays 24 = .ok (.bastore, 1) := dk_84 (dk_at dksX2_bothWays_1 0 rfl rfl)
theorem dX2_bothWays_25 : decode cX2_bothWays 25 = .ok (.iinc 2 1, 3) := dk_132 2 1 (dk_at dksX2_bothWays_1 1 rfl rfl)
theorem dX2_bothWays_28 : decode cX2_bothWays 28 = .ok (.goto (-22), 3) := dk_167 255 234 (dk_at dksX2_bothWays_1 4 rfl rfl)
theorem dX2_bothWays_31 : decode cX2_bothWays 31 = .ok (.aload_n 0, 1) := dk_42 (dk_at dksX2_bothWays_1 7 rfl rfl)
theorem dX2_bothWays_32 : decode cX2_bothWays 32 = .ok (.invokevirtual 322, 3) := dk_182 1 66 (dk_at dksX2_bothWays_1 8 rfl rfl)
theorem dX2_bothWays_35 : decode cX2_bothWays 35 = .ok (.aload_n 0, 1) := dk_42 (dk_at dksX2_bothWays_1 11 rfl rfl)
theorem dX2_bothWays_36 : decode cX2_bothWays 36 = .ok (.invokevirtual 277, 3) := dk_182 1 21 (dk_at dksX2_bothWays_1 12 rfl rfl)
theorem dX2_bothWays_39 : decode cX2_bothWays 39 = .ok (.iconst 0, 1) := dk_3 (dk_at dksX2_bothWays_1 15 rfl rfl)
theorem dX2_bothWays_40 : decode cX2_bothWays 40 = .ok (.istore_n 2, 1) := dk_61 (dk_at dksX2_bothWays_1 16 rfl rfl)
theorem dX2_bothWays_41 : decode cX2_bothWays 41 = .ok (.iload_n 2, 1) := dk_28 (dk_at dksX2_bothWays_1 17 rfl rfl)
theorem dX2_bothWays_42 : decode cX2_bothWays 42 = .ok (.sipush 2000, 3) := dk_17 7 208 (dk_at dksX2_bothWays_1 18 rfl rfl)
theorem dX2_bothWays_45 : decode cX2_bothWays 45 = .ok (.if_icmp .ge 25, 3) := dk_162 0 25 (dk_at dksX2_bothWays_1 21 rfl rfl)
theorem dX2_bothWays_48 : decode cX2_bothWays 48 = .ok (.aload_n 0, 1) := dk_42 (dk_at dksX2_bothWays_2 0 rfl rfl)
theorem dX2_bothWays_49 : decode cX2_bothWays 49 = .ok (.getfield 103, 3) := dk_180 0 103 (dk_at dksX2_bothWays_2 1 rfl rfl)
theorem dX2_bothWays_52 : decode cX2_bothWays 52 = .ok (.sipush 2000, 3) := dk_17 7 208 (dk_at dksX2_bothWays_2 4 rfl rfl)
theorem dX2_bothWays_55 : decode cX2_bothWays 55 = .ok (.iload_n 2, 1) := dk_28 (dk_at dksX2_bothWays_2 7 rfl rfl)
theorem dX2_bothWays_56 : decode cX2_bothWays 56 = .ok (.iadd, 1) := dk_96 (dk_at dksX2_bothWays_2 8 rfl rfl)
theorem dX2_bothWays_57 : decode cX2_bothWays 57 = .ok (.aload_n 0, 1) := dk_42 (dk_at dksX2_bothWays_2 9 rfl rfl)
theorem dX2_bothWays_58 : decode cX2_bothWays 58 = .ok (.iload_n 1, 1) := dk_27 (dk_at dksX2_bothWays_2 10 rfl rfl)
theorem dX2_bothWays_59 : decode cX2_bothWays 59 = .ok (.iload_n 2, 1) := dk_28 (dk_at dksX2_bothWays_2 11 rfl rfl)
theorem dX2_bothWays_60 : decode cX2_bothWays 60 = .ok (.invokevirtual 283, 3) := dk_182 1 27 (dk_at dksX2_bothWays_2 12 rfl rfl)
theorem dX2_bothWays_63 : decode cX2_bothWays 63 = .ok (.bastore, 1) := dk_84 (dk_at dksX2_bothWays_2 15 rfl rfl)
theorem dX2_bothWays_64 : decode cX2_bothWays 64 = .ok (.iinc 2 1, 3) := dk_132 2 1 (dk_at dksX2_bothWays_2 16 rfl rfl)
theorem dX2_bothWays_67 : decode cX2_bothWays 67 = .ok (.goto (-26), 3) := dk_167 255 230 (dk_at dksX2_bothWays_2 19 rfl rfl)
theorem dX2_bothWays_70 : decode cX2_bothWays 70 = .ok (.aload_n 0, 1) := dk_42 (dk_at dksX2_bothWays_2 22 rfl rfl)
theorem dX2_bothWays_71 : decode cX2_bothWays 71 = .ok (.invokevirtual 322, 3) := dk_182 1 66 (dk_at dksX2_bothWays_3 0 rfl rfl)
theorem dX2_bothWays_74 : decode cX2_bothWays 74 = .ok (.return_, 1) := dk_177 (dk_at dksX2_bothWays_3 3 rfl rfl)
abbrev cX2_turns : ByteArray := prog_31_method_41_code
def yX2_turns : MethodName := ⟨RX2, "turns", "()V"⟩
def dkwX2_turns_2 : List UInt8 := [167, 255, 219, 177]
abbrev dktX2_turns_2 : List UInt8 := dkwX2_turns_2 ++ []
def dkwX2_turns_1 : List UInt8 := [180, 0, 91, 27, 42, 180, 0, 91, 28, 46, 79, 42, 180, 0, 91, 28, 29, 79, 132, 1, 1, 132, 2, 255]
abbrev dktX2_turns_1 : List UInt8 := dkwX2_turns_1 ++ dktX2_turns_2
def dkwX2_turns_0 : List UInt8 := [3, 60, 42, 180, 0, 231, 4, 100, 61, 27, 28, 162, 0, 38, 42, 180, 0, 91, 27, 46, 62, 42]
abbrev dktX2_turns_0 : List UInt8 := dkwX2_turns_0 ++ dktX2_turns_1
theorem dksX2_turns_0 : cX2_turns.data.toList.drop 0 = dktX2_turns_0 := by decide +kernel
theorem dksX2_turns_1 : cX2_turns.data.toList.drop 22 = dktX2_turns_1 := dk_seg dksX2_turns_0 22 rfl rfl
theorem dksX2_turns_2 : cX2_turns.data.toList.drop 46 = dktX2_turns_2 := dk_seg dksX2_turns_1 24 rfl rfl
theorem dX2_turns_0 : decode cX2_turns 0 = .ok (.iconst 0, 1) := dk_3 (dk_at dksX2_turns_0 0 rfl rfl)
theorem dX2_turns_1 : decode cX2_turns 1 = .ok (.istore_n 1, 1) := dk_60 (dk_at dksX2_turns_0 1 rfl rfl)
theorem dX2_turns_2 : decode cX2_turns 2 = .ok (.aload_n 0, 1) := dk_42 (dk_at dksX2_turns_0 2 rfl rfl)
theorem dX2_turns_3 : decode cX2_turns 3 = .ok (.getfield 231, 3) := dk_180 0 231 (dk_at dksX2_turns_0 3 rfl rfl)
theorem dX2_turns_6 : decode cX2_turns 6 = .ok (.iconst 1, 1) := dk_4 (dk_at dksX2_turns_0 6 rfl rfl)
theorem dX2_turns_7 : decode cX2_turns 7 = .ok (.isub, 1) := dk_100 (dk_at dksX2_turns_0 7 rfl rfl)
theorem dX2_turns_8 : decode cX2_turns 8 = .ok (.istore_n 2, 1) := dk_61 (dk_at dksX2_turns_0 8 rfl rfl)
theorem dX2_turns_9 : decode cX2_turns 9 = .ok (.iload_n 1, 1) := dk_27 (dk_at dksX2_turns_0 9 rfl rfl)
theorem dX2_turns_10 : decode cX2_turns 10 = .ok (.iload_n 2, 1) := dk_28 (dk_at dksX2_turns_0 10 rfl rfl)
theorem dX2_turns_11 : decode cX2_turns 11 = .ok (.if_icmp .ge 38, 3) := dk_162 0 38 (dk_at dksX2_turns_0 11 rfl rfl)
theorem dX2_turns_14 : decode cX2_turns 14 = .ok (.aload_n 0, 1) := dk_42 (dk_at dksX2_turns_0 14 rfl rfl)
theorem dX2_turns_15 : decode cX2_turns 15 = .ok (.getfield 91, 3) := dk_180 0 91 (dk_at dksX2_turns_0 15 rfl rfl)
theorem dX2_turns_18 : decode cX2_turns 18 = .ok (.iload_n 1, 1) := dk_27 (dk_at dksX2_turns_0 18 rfl rfl)
theorem dX2_turns_19 : decode cX2_turns 19 = .ok (.iaload, 1) := dk_46 (dk_at dksX2_turns_0 19 rfl rfl)
theorem dX2_turns_20 : decode cX2_turns 20 = .ok (.istore_n 3, 1) := dk_62 (dk_at dksX2_turns_0 20 rfl rfl)
theorem dX2_turns_21 : decode cX2_turns 21 = .ok (.aload_n 0, 1) := dk_42 (dk_at dksX2_turns_0 21 rfl rfl)
theorem dX2_turns_22 : decode cX2_turns 22 = .ok (.getfield 91, 3) := dk_180 0 91 (dk_at dksX2_turns_1 0 rfl rfl)
theorem dX2_turns_25 : decode cX2_turns 25 = .ok (.iload_n 1, 1) := dk_27 (dk_at dksX2_turns_1 3 rfl rfl)
theorem dX2_turns_26 : decode cX2_turns 26 = .ok (.aload_n 0, 1) := dk_42 (dk_at dksX2_turns_1 4 rfl rfl)
theorem dX2_turns_27 : decode cX2_turns 27 = .ok (.getfield 91, 3) := dk_180 0 91 (dk_at dksX2_turns_1 5 rfl rfl)
theorem dX2_turns_30 : decode cX2_turns 30 = .ok (.iload_n 2, 1) := dk_28 (dk_at dksX2_turns_1 8 rfl rfl)
theorem dX2_turns_31 : decode cX2_turns 31 = .ok (.iaload, 1) := dk_46 (dk_at dksX2_turns_1 9 rfl rfl)
theorem dX2_turns_32 : decode cX2_turns 32 = .ok (.iastore, 1) := dk_79 (dk_at dksX2_turns_1 10 rfl rfl)
theorem dX2_turns_33 : decode cX2_turns 33 = .ok (.aload_n 0, 1) := dk_42 (dk_at dksX2_turns_1 11 rfl rfl)
theorem dX2_turns_34 : decode cX2_turns 34 = .ok (.getfield 91, 3) := dk_180 0 91 (dk_at dksX2_turns_1 12 rfl rfl)
theorem dX2_turns_37 : decode cX2_turns 37 = .ok (.iload_n 2, 1) := dk_28 (dk_at dksX2_turns_1 15 rfl rfl)
theorem dX2_turns_38 : decode cX2_turns 38 = .ok (.iload_n 3, 1) := dk_29 (dk_at dksX2_turns_1 16 rfl rfl)
theorem dX2_turns_39 : decode cX2_turns 39 = .ok (.iastore, 1) := dk_79 (dk_at dksX2_turns_1 17 rfl rfl)
theorem dX2_turns_40 : decode cX2_turns 40 = .ok (.iinc 1 1, 3) := dk_132 1 1 (dk_at dksX2_turns_1 18 rfl rfl)
theorem dX2_turns_43 : decode cX2_turns 43 = .ok (.iinc 2 (-1), 3) := dk_132 2 255 (dk_at dksX2_turns_1 21 rfl rfl)
theorem dX2_turns_46 : decode cX2_turns 46 = .ok (.goto (-37), 3) := dk_167 255 219 (dk_at dksX2_turns_2 0 rfl rfl)
theorem dX2_turns_49 : decode cX2_turns 49 = .ok (.return_, 1) := dk_177 (dk_at dksX2_turns_2 3 rfl rfl)
abbrev cX2_succeeds : ByteArray := prog_31_method_71_code
def yX2_succeeds : MethodName := ⟨RX2, "succeeds", "(III)I"⟩
def dkwX2_succeeds_1 : List UInt8 := [153, 0, 10, 16, 12, 28, 100, 167, 0, 4, 3, 96, 172]
abbrev dktX2_succeeds_1 : List UInt8 := dkwX2_succeeds_1 ++ []
def dkwX2_succeeds_0 : List UInt8 := [42, 3, 27, 29, 182, 1, 69, 153, 0, 7, 28, 167, 0, 4, 3, 42, 4, 27, 29, 182, 1, 69]
abbrev dktX2_succeeds_0 : List UInt8 := dkwX2_succeeds_0 ++ dktX2_succeeds_1
theorem dksX2_succeeds_0 : cX2_succeeds.data.toList.drop 0 = dktX2_succeeds_0 := by decide +kernel
theorem dksX2_succeeds_1 : cX2_succeeds.data.toList.drop 22 = dktX2_succeeds_1 := dk_seg dksX2_succeeds_0 22 rfl rfl
theorem dX2_succeeds_0 : decode cX2_succeeds 0 = .ok (.aload_n 0, 1) := dk_42 (dk_at dksX2_succeeds_0 0 rfl rfl)
theorem dX2_succeeds_1 : decode cX2_succeeds 1 = .ok (.iconst 0, 1) := dk_3 (dk_at dksX2_succeeds_0 1 rfl rfl)
theorem dX2_succeeds_2 : decode cX2_succeeds 2 = .ok (.iload_n 1, 1) := dk_27 (dk_at dksX2_succeeds_0 2 rfl rfl)
theorem dX2_succeeds_3 : decode cX2_succeeds 3 = .ok (.iload_n 3, 1) := dk_29 (dk_at dksX2_succeeds_0 3 rfl rfl)
theorem dX2_succeeds_4 : decode cX2_succeeds 4 = .ok (.invokevirtual 325, 3) := dk_182 1 69 (dk_at dksX2_succeeds_0 4 rfl rfl)
theorem dX2_succeeds_7 : decode cX2_succeeds 7 = .ok (.ifCond .eq 7, 3) := dk_153 0 7 (dk_at dksX2_succeeds_0 7 rfl rfl)
theorem dX2_succeeds_10 : decode cX2_succeeds 10 = .ok (.iload_n 2, 1) := dk_28 (dk_at dksX2_succeeds_0 10 rfl rfl)
theorem dX2_succeeds_11 : decode cX2_succeeds 11 = .ok (.goto 4, 3) := dk_167 0 4 (dk_at dksX2_succeeds_0 11 rfl rfl)
theorem dX2_succeeds_14 : decode cX2_succeeds 14 = .ok (.iconst 0, 1) := dk_3 (dk_at dksX2_succeeds_0 14 rfl rfl)
theorem dX2_succeeds_15 : decode cX2_succeeds 15 = .ok (.aload_n 0, 1) := dk_42 (dk_at dksX2_succeeds_0 15 rfl rfl)
theorem dX2_succeeds_16 : decode cX2_succeeds 16 = .ok (.iconst 1, 1) := dk_4 (dk_at dksX2_succeeds_0 16 rfl rfl)
theorem dX2_succeeds_17 : decode cX2_succeeds 17 = .ok (.iload_n 1, 1) := dk_27 (dk_at dksX2_succeeds_0 17 rfl rfl)
theorem dX2_succeeds_18 : decode cX2_succeeds 18 = .ok (.iload_n 3, 1) := dk_29 (dk_at dksX2_succeeds_0 18 rfl rfl)
theorem dX2_succeeds_19 : decode cX2_succeeds 19 = .ok (.invokevirtual 325, 3) := dk_182 1 69 (dk_at dksX2_succeeds_0 19 rfl rfl)
theorem dX2_succeeds_22 : decode cX2_succeeds 22 = .ok (.ifCond .eq 10, 3) := dk_153 0 10 (dk_at dksX2_succeeds_1 0 rfl rfl)
theorem dX2_succeeds_25 : decode cX2_succeeds 25 = .ok (.bipush 12, 2) := dk_16 12 (dk_at dksX2_succeeds_1 3 rfl rfl)
theorem dX2_succeeds_27 : decode cX2_succeeds 27 = .ok (.iload_n 2, 1) := dk_28 (dk_at dksX2_succeeds_1 5 rfl rfl)
theorem dX2_succeeds_28 : decode cX2_succeeds 28 = .ok (.isub, 1) := dk_100 (dk_at dksX2_succeeds_1 6 rfl rfl)
theorem dX2_succeeds_29 : decode cX2_succeeds 29 = .ok (.goto 4, 3) := dk_167 0 4 (dk_at dksX2_succeeds_1 7 rfl rfl)
theorem dX2_succeeds_32 : decode cX2_succeeds 32 = .ok (.iconst 0, 1) := dk_3 (dk_at dksX2_succeeds_1 10 rfl rfl)
theorem dX2_succeeds_33 : decode cX2_succeeds 33 = .ok (.iadd, 1) := dk_96 (dk_at dksX2_succeeds_1 11 rfl rfl)
theorem dX2_succeeds_34 : decode cX2_succeeds 34 = .ok (.ireturn, 1) := dk_172 (dk_at dksX2_succeeds_1 12 rfl rfl)
abbrev cX2_isFree : ByteArray := prog_31_method_70_code
def yX2_isFree : MethodName := ⟨RX2, "isFree", "(III)Z"⟩
def dkwX2_isFree_1 : List UInt8 := [153, 0, 5, 3, 172, 132, 4, 1, 167, 255, 227, 4, 172]
abbrev dktX2_isFree_1 : List UInt8 := dkwX2_isFree_1 ++ []
def dkwX2_isFree_0 : List UInt8 := [28, 54, 4, 21, 4, 28, 29, 96, 162, 0, 27, 42, 180, 0, 103, 17, 7, 208, 27, 104, 21, 4, 96, 51]
abbrev dktX2_isFree_0 : List UInt8 := dkwX2_isFree_0 ++ dktX2_isFree_1
theorem dksX2_isFree_0 : cX2_isFree.data.toList.drop 0 = dktX2_isFree_0 := by decide +kernel
theorem dksX2_isFree_1 : cX2_isFree.data.toList.drop 24 = dktX2_isFree_1 := dk_seg dksX2_isFree_0 24 rfl rfl
theorem dX2_isFree_0 : decode cX2_isFree 0 = .ok (.iload_n 2, 1) := dk_28 (dk_at dksX2_isFree_0 0 rfl rfl)
theorem dX2_isFree_1 : decode cX2_isFree 1 = .ok (.istore 4, 2) := dk_54 4 (dk_at dksX2_isFree_0 1 rfl rfl)
theorem dX2_isFree_3 : decode cX2_isFree 3 = .ok (.iload 4, 2) := dk_21 4 (dk_at dksX2_isFree_0 3 rfl rfl)
theorem dX2_isFree_5 : decode cX2_isFree 5 = .ok (.iload_n 2, 1) := dk_28 (dk_at dksX2_isFree_0 5 rfl rfl)
theorem dX2_isFree_6 : decode cX2_isFree 6 = .ok (.iload_n 3, 1) := dk_29 (dk_at dksX2_isFree_0 6 rfl rfl)
theorem dX2_isFree_7 : decode cX2_isFree 7 = .ok (.iadd, 1) := dk_96 (dk_at dksX2_isFree_0 7 rfl rfl)
theorem dX2_isFree_8 : decode cX2_isFree 8 = .ok (.if_icmp .ge 27, 3) := dk_162 0 27 (dk_at dksX2_isFree_0 8 rfl rfl)
theorem dX2_isFree_11 : decode cX2_isFree 11 = .ok (.aload_n 0, 1) := dk_42 (dk_at dksX2_isFree_0 11 rfl rfl)
theorem dX2_isFree_12 : decode cX2_isFree 12 = .ok (.getfield 103, 3) := dk_180 0 103 (dk_at dksX2_isFree_0 12 rfl rfl)
theorem dX2_isFree_15 : decode cX2_isFree 15 = .ok (.sipush 2000, 3) := dk_17 7 208 (dk_at dksX2_isFree_0 15 rfl rfl)
theorem dX2_isFree_18 : decode cX2_isFree 18 = .ok (.iload_n 1, 1) := dk_27 (dk_at dksX2_isFree_0 18 rfl rfl)
theorem dX2_isFree_19 : decode cX2_isFree 19 = .ok (.imul, 1) := dk_104 (dk_at dksX2_isFree_0 19 rfl rfl)
theorem dX2_isFree_20 : decode cX2_isFree 20 = .ok (.iload 4, 2) := dk_21 4 (dk_at dksX2_isFree_0 20 rfl rfl)
theorem dX2_isFree_22 : decode cX2_isFree 22 = .ok (.iadd, 1) := dk_96 (dk_at dksX2_isFree_0 22 rfl rfl)
theorem dX2_isFree_23 : decode cX2_isFree 23 = .ok (.baload, 1) := dk_51 (dk_at dksX2_isFree_0 23 rfl rfl)
theorem dX2_isFree_24 : decode cX2_isFree 24 = .ok (.ifCond .eq 5, 3) := dk_153 0 5 (dk_at dksX2_isFree_1 0 rfl rfl)
theorem dX2_isFree_27 : decode cX2_isFree 27 = .ok (.iconst 0, 1) := dk_3 (dk_at dksX2_isFree_1 3 rfl rfl)
theorem dX2_isFree_28 : decode cX2_isFree 28 = .ok (.ireturn, 1) := dk_172 (dk_at dksX2_isFree_1 4 rfl rfl)
theorem dX2_isFree_29 : decode cX2_isFree 29 = .ok (.iinc 4 1, 3) := dk_132 4 1 (dk_at dksX2_isFree_1 5 rfl rfl)
theorem dX2_isFree_32 : decode cX2_isFree 32 = .ok (.goto (-29), 3) := dk_167 255 227 (dk_at dksX2_isFree_1 8 rfl rfl)
theorem dX2_isFree_35 : decode cX2_isFree 35 = .ok (.iconst 1, 1) := dk_4 (dk_at dksX2_isFree_1 11 rfl rfl)
theorem dX2_isFree_36 : decode cX2_isFree 36 = .ok (.ireturn, 1) := dk_172 (dk_at dksX2_isFree_1 12 rfl rfl)
abbrev cX2_bestMinute : ByteArray := prog_31_method_75_code
def yX2_bestMinute : MethodName := ⟨RX2, "bestMinute", "(IIII)I"⟩
def dkwX2_bestMinute_4 : List UInt8 := [16, 100, 112, 182, 1, 78, 172]
abbrev dktX2_bestMinute_4 : List UInt8 := dkwX2_bestMinute_4 ++ []
def dkwX2_bestMinute_3 : List UInt8 := [112, 182, 1, 81, 54, 6, 21, 4, 154, 0, 8, 21, 6, 167, 0, 17, 42, 21, 6, 29, 16, 100, 108, 29]
abbrev dktX2_bestMinute_3 : List UInt8 := dkwX2_bestMinute_3 ++ dktX2_bestMinute_4
def dkwX2_bestMinute_2 : List UInt8 := [156, 0, 6, 21, 5, 172, 42, 27, 182, 1, 12, 42, 28, 182, 1, 75, 42, 29, 16, 100, 108, 29, 16, 100]
abbrev dktX2_bestMinute_2 : List UInt8 := dkwX2_bestMinute_2 ++ dktX2_bestMinute_3
def dkwX2_bestMinute_1 : List UInt8 := [21, 4, 3, 4, 184, 0, 123, 154, 0, 5, 2, 172, 42, 27, 3, 182, 1, 9, 54, 5, 21, 5]
abbrev dktX2_bestMinute_1 : List UInt8 := dkwX2_bestMinute_1 ++ dktX2_bestMinute_2
def dkwX2_bestMinute_0 : List UInt8 := [27, 184, 0, 131, 153, 0, 29, 42, 28, 133, 182, 0, 137, 153, 0, 20, 29, 184, 1, 72, 153, 0, 13]
abbrev dktX2_bestMinute_0 : List UInt8 := dkwX2_bestMinute_0 ++ dktX2_bestMinute_1
theorem dksX2_bestMinute_0 : cX2_bestMinute.data.toList.drop 0 = dktX2_bestMinute_0 := by decide +kernel
theorem dksX2_bestMinute_1 : cX2_bestMinute.data.toList.drop 23 = dktX2_bestMinute_1 := dk_seg dksX2_bestMinute_0 23 rfl rfl
theorem dksX2_bestMinute_2 : cX2_bestMinute.data.toList.drop 45 = dktX2_bestMinute_2 := dk_seg dksX2_bestMinute_1 22 rfl rfl
theorem dksX2_bestMinute_3 : cX2_bestMinute.data.toList.drop 69 = dktX2_bestMinute_3 := dk_seg dksX2_bestMinute_2 24 rfl rfl
theorem dksX2_bestMinute_4 : cX2_bestMinute.data.toList.drop 93 = dktX2_bestMinute_4 := dk_seg dksX2_bestMinute_3 24 rfl rfl
theorem dX2_bestMinute_0 : decode cX2_bestMinute 0 = .ok (.iload_n 1, 1) := dk_27 (dk_at dksX2_bestMinute_0 0 rfl rfl)
theorem dX2_bestMinute_1 : decode cX2_bestMinute 1 = .ok (.invokestatic 131, 3) := dk_184 0 131 (dk_at dksX2_bestMinute_0 1 rfl rfl)
theorem dX2_bestMinute_4 : decode cX2_bestMinute 4 = .ok (.ifCond .eq 29, 3) := dk_153 0 29 (dk_at dksX2_bestMinute_0 4 rfl rfl)
theorem dX2_bestMinute_7 : decode cX2_bestMinute 7 = .ok (.aload_n 0, 1) := dk_42 (dk_at dksX2_bestMinute_0 7 rfl rfl)
theorem dX2_bestMinute_8 : decode cX2_bestMinute 8 = .ok (.iload_n 2, 1) := dk_28 (dk_at dksX2_bestMinute_0 8 rfl rfl)
theorem dX2_bestMinute_9 : decode cX2_bestMinute 9 = .ok (.i2l, 1) := dk_133 (dk_at dksX2_bestMinute_0 9 rfl rfl)
theorem dX2_bestMinute_10 : decode cX2_bestMinute 10 = .ok (.invokevirtual 137, 3) := dk_182 0 137 (dk_at dksX2_bestMinute_0 10 rfl rfl)
theorem dX2_bestMinute_13 : decode cX2_bestMinute 13 = .ok (.ifCond .eq 20, 3) := dk_153 0 20 (dk_at dksX2_bestMinute_0 13 rfl rfl)
theorem dX2_bestMinute_16 : decode cX2_bestMinute 16 = .ok (.iload_n 3, 1) := dk_29 (dk_at dksX2_bestMinute_0 16 rfl rfl)
theorem dX2_bestMinute_17 : decode cX2_bestMinute 17 = .ok (.invokestatic 328, 3) := dk_184 1 72 (dk_at dksX2_bestMinute_0 17 rfl rfl)
theorem dX2_bestMinute_20 : decode cX2_bestMinute 20 = .ok (.ifCond .eq 13, 3) := dk_153 0 13 (dk_at dksX2_bestMinute_0 20 rfl rfl)
theorem dX2_bestMinute_23 : decode cX2_bestMinute 23 = .ok (.iload 4, 2) := dk_21 4 (dk_at dksX2_bestMinute_1 0 rfl rfl)
theorem dX2_bestMinute_25 : decode cX2_bestMinute 25 = .ok (.iconst 0, 1) := dk_3 (dk_at dksX2_bestMinute_1 2 rfl rfl)
theorem dX2_bestMinute_26 : decode cX2_bestMinute 26 = .ok (.iconst 1, 1) := dk_4 (dk_at dksX2_bestMinute_1 3 rfl rfl)
theorem dX2_bestMinute_27 : decode cX2_bestMinute 27 = .ok (.invokestatic 123, 3) := dk_184 0 123 (dk_at dksX2_bestMinute_1 4 rfl rfl)
theorem dX2_bestMinute_30 : decode cX2_bestMinute 30 = .ok (.ifCond .ne 5, 3) := dk_154 0 5 (dk_at dksX2_bestMinute_1 7 rfl rfl)
theorem dX2_bestMinute_33 : decode cX2_bestMinute 33 = .ok (.iconst (-1), 1) := dk_2 (dk_at dksX2_bestMinute_1 10 rfl rfl)
theorem dX2_bestMinute_34 : decode cX2_bestMinute 34 = .ok (.ireturn, 1) := dk_172 (dk_at dksX2_bestMinute_1 11 rfl rfl)
theorem dX2_bestMinute_35 : decode cX2_bestMinute 35 = .ok (.aload_n 0, 1) := dk_42 (dk_at dksX2_bestMinute_1 12 rfl rfl)
theorem dX2_bestMinute_36 : decode cX2_bestMinute 36 = .ok (.iload_n 1, 1) := dk_27 (dk_at dksX2_bestMinute_1 13 rfl rfl)
theorem dX2_bestMinute_37 : decode cX2_bestMinute 37 = .ok (.iconst 0, 1) := dk_3 (dk_at dksX2_bestMinute_1 14 rfl rfl)
theorem dX2_bestMinute_38 : decode cX2_bestMinute 38 = .ok (.invokevirtual 265, 3) := dk_182 1 9 (dk_at dksX2_bestMinute_1 15 rfl rfl)
theorem dX2_bestMinute_41 : decode cX2_bestMinute 41 = .ok (.istore 5, 2) := dk_54 5 (dk_at dksX2_bestMinute_1 18 rfl rfl)
theorem dX2_bestMinute_43 : decode cX2_bestMinute 43 = .ok (.iload 5, 2) := dk_21 5 (dk_at dksX2_bestMinute_1 20 rfl rfl)
theorem dX2_bestMinute_45 : decode cX2_bestMinute 45 = .ok (.ifCond .ge 6, 3) := dk_156 0 6 (dk_at dksX2_bestMinute_2 0 rfl rfl)
theorem dX2_bestMinute_48 : decode cX2_bestMinute 48 = .ok (.iload 5, 2) := dk_21 5 (dk_at dksX2_bestMinute_2 3 rfl rfl)
theorem dX2_bestMinute_50 : decode cX2_bestMinute 50 = .ok (.ireturn, 1) := dk_172 (dk_at dksX2_bestMinute_2 5 rfl rfl)
theorem dX2_bestMinute_51 : decode cX2_bestMinute 51 = .ok (.aload_n 0, 1) := dk_42 (dk_at dksX2_bestMinute_2 6 rfl rfl)
theorem dX2_bestMinute_52 : decode cX2_bestMinute 52 = .ok (.iload_n 1, 1) := dk_27 (dk_at dksX2_bestMinute_2 7 rfl rfl)
theorem dX2_bestMinute_53 : decode cX2_bestMinute 53 = .ok (.invokevirtual 268, 3) := dk_182 1 12 (dk_at dksX2_bestMinute_2 8 rfl rfl)
theorem dX2_bestMinute_56 : decode cX2_bestMinute 56 = .ok (.aload_n 0, 1) := dk_42 (dk_at dksX2_bestMinute_2 11 rfl rfl)
theorem dX2_bestMinute_57 : decode cX2_bestMinute 57 = .ok (.iload_n 2, 1) := dk_28 (dk_at dksX2_bestMinute_2 12 rfl rfl)
theorem dX2_bestMinute_58 : decode cX2_bestMinute 58 = .ok (.invokevirtual 331, 3) := dk_182 1 75 (dk_at dksX2_bestMinute_2 13 rfl rfl)
theorem dX2_bestMinute_61 : decode cX2_bestMinute 61 = .ok (.aload_n 0, 1) := dk_42 (dk_at dksX2_bestMinute_2 16 rfl rfl)
theorem dX2_bestMinute_62 : decode cX2_bestMinute 62 = .ok (.iload_n 3, 1) := dk_29 (dk_at dksX2_bestMinute_2 17 rfl rfl)
theorem dX2_bestMinute_63 : decode cX2_bestMinute 63 = .ok (.bipush 100, 2) := dk_16 100 (dk_at dksX2_bestMinute_2 18 rfl rfl)
theorem dX2_bestMinute_65 : decode cX2_bestMinute 65 = .ok (.idiv, 1) := dk_108 (dk_at dksX2_bestMinute_2 20 rfl rfl)
theorem dX2_bestMinute_66 : decode cX2_bestMinute 66 = .ok (.iload_n 3, 1) := dk_29 (dk_at dksX2_bestMinute_2 21 rfl rfl)
theorem dX2_bestMinute_67 : decode cX2_bestMinute 67 = .ok (.bipush 100, 2) := dk_16 100 (dk_at dksX2_bestMinute_2 22 rfl rfl)
theorem dX2_bestMinute_69 : decode cX2_bestMinute 69 = .ok (.irem, 1) := dk_112 (dk_at dksX2_bestMinute_3 0 rfl rfl)
theorem dX2_bestMinute_70 : decode cX2_bestMinute 70 = .ok (.invokevirtual 337, 3) := dk_182 1 81 (dk_at dksX2_bestMinute_3 1 rfl rfl)
theorem dX2_bestMinute_73 : decode cX2_bestMinute 73 = .ok (.istore 6, 2) := dk_54 6 (dk_at dksX2_bestMinute_3 4 rfl rfl)
theorem dX2_bestMinute_75 : decode cX2_bestMinute 75 = .ok (.iload 4, 2) := dk_21 4 (dk_at dksX2_bestMinute_3 6 rfl rfl)
theorem dX2_bestMinute_77 : decode cX2_bestMinute 77 = .ok (.ifCond .ne 8, 3) := dk_154 0 8 (dk_at dksX2_bestMinute_3 8 rfl rfl)
theorem dX2_bestMinute_80 : decode cX2_bestMinute 80 = .ok (.iload 6, 2) := dk_21 6 (dk_at dksX2_bestMinute_3 11 rfl rfl)
theorem dX2_bestMinute_82 : decode cX2_bestMinute 82 = .ok (.goto 17, 3) := dk_167 0 17 (dk_at dksX2_bestMinute_3 13 rfl rfl)
theorem dX2_bestMinute_85 : decode cX2_bestMinute 85 = .ok (.aload_n 0, 1) := dk_42 (dk_at dksX2_bestMinute_3 16 rfl rfl)
theorem dX2_bestMinute_86 : decode cX2_bestMinute 86 = .ok (.iload 6, 2) := dk_21 6 (dk_at dksX2_bestMinute_3 17 rfl rfl)
theorem dX2_bestMinute_88 : decode cX2_bestMinute 88 = .ok (.iload_n 3, 1) := dk_29 (dk_at dksX2_bestMinute_3 19 rfl rfl)
theorem dX2_bestMinute_89 : decode cX2_bestMinute 89 = .ok (.bipush 100, 2) := dk_16 100 (dk_at dksX2_bestMinute_3 20 rfl rfl)
theorem dX2_bestMinute_91 : decode cX2_bestMinute 91 = .ok (.idiv, 1) := dk_108 (dk_at dksX2_bestMinute_3 22 rfl rfl)
theorem dX2_bestMinute_92 : decode cX2_bestMinute 92 = .ok (.iload_n 3, 1) := dk_29 (dk_at dksX2_bestMinute_3 23 rfl rfl)
theorem dX2_bestMinute_93 : decode cX2_bestMinute 93 = .ok (.bipush 100, 2) := dk_16 100 (dk_at dksX2_bestMinute_4 0 rfl rfl)
theorem dX2_bestMinute_95 : decode cX2_bestMinute 95 = .ok (.irem, 1) := dk_112 (dk_at dksX2_bestMinute_4 2 rfl rfl)
theorem dX2_bestMinute_96 : decode cX2_bestMinute 96 = .ok (.invokevirtual 334, 3) := dk_182 1 78 (dk_at dksX2_bestMinute_4 3 rfl rfl)
theorem dX2_bestMinute_99 : decode cX2_bestMinute 99 = .ok (.ireturn, 1) := dk_172 (dk_at dksX2_bestMinute_4 6 rfl rfl)
abbrev cX2_bestMinute_2 : ByteArray := prog_31_method_74_code
def yX2_bestMinute_2 : MethodName := ⟨RX2, "bestMinute", "(II)I"⟩
def dkwX2_bestMinute_2_2 : List UInt8 := [167, 255, 218, 29, 172]
abbrev dktX2_bestMinute_2_2 : List UInt8 := dkwX2_bestMinute_2_2 ++ []
def dkwX2_bestMinute_2_1 : List UInt8 := [54, 6, 21, 6, 21, 4, 163, 0, 6, 167, 0, 10, 21, 6, 54, 4, 21, 5, 62, 132, 5, 1]
abbrev dktX2_bestMinute_2_1 : List UInt8 := dkwX2_bestMinute_2_1 ++ dktX2_bestMinute_2_2
def dkwX2_bestMinute_2_0 : List UInt8 := [3, 62, 2, 54, 4, 3, 54, 5, 21, 5, 17, 2, 88, 162, 0, 36, 42, 21, 5, 27, 28, 182, 1, 78]
abbrev dktX2_bestMinute_2_0 : List UInt8 := dkwX2_bestMinute_2_0 ++ dktX2_bestMinute_2_1
theorem dksX2_bestMinute_2_0 : cX2_bestMinute_2.data.toList.drop 0 = dktX2_bestMinute_2_0 := by decide +kernel
theorem dksX2_bestMinute_2_1 : cX2_bestMinute_2.data.toList.drop 24 = dktX2_bestMinute_2_1 := dk_seg dksX2_bestMinute_2_0 24 rfl rfl
theorem dksX2_bestMinute_2_2 : cX2_bestMinute_2.data.toList.drop 46 = dktX2_bestMinute_2_2 := dk_seg dksX2_bestMinute_2_1 22 rfl rfl
theorem dX2_bestMinute_2_0 : decode cX2_bestMinute_2 0 = .ok (.iconst 0, 1) := dk_3 (dk_at dksX2_bestMinute_2_0 0 rfl rfl)
theorem dX2_bestMinute_2_1 : decode cX2_bestMinute_2 1 = .ok (.istore_n 3, 1) := dk_62 (dk_at dksX2_bestMinute_2_0 1 rfl rfl)
theorem dX2_bestMinute_2_2 : decode cX2_bestMinute_2 2 = .ok (.iconst (-1), 1) := dk_2 (dk_at dksX2_bestMinute_2_0 2 rfl rfl)
theorem dX2_bestMinute_2_3 : decode cX2_bestMinute_2 3 = .ok (.istore 4, 2) := dk_54 4 (dk_at dksX2_bestMinute_2_0 3 rfl rfl)
theorem dX2_bestMinute_2_5 : decode cX2_bestMinute_2 5 = .ok (.iconst 0, 1) := dk_3 (dk_at dksX2_bestMinute_2_0 5 rfl rfl)
theorem dX2_bestMinute_2_6 : decode cX2_bestMinute_2 6 = .ok (.istore 5, 2) := dk_54 5 (dk_at dksX2_bestMinute_2_0 6 rfl rfl)
theorem dX2_bestMinute_2_8 : decode cX2_bestMinute_2 8 = .ok (.iload 5, 2) := dk_21 5 (dk_at dksX2_bestMinute_2_0 8 rfl rfl)
theorem dX2_bestMinute_2_10 : decode cX2_bestMinute_2 10 = .ok (.sipush 600, 3) := dk_17 2 88 (dk_at dksX2_bestMinute_2_0 10 rfl rfl)
theorem dX2_bestMinute_2_13 : decode cX2_bestMinute_2 13 = .ok (.if_icmp .ge 36, 3) := dk_162 0 36 (dk_at dksX2_bestMinute_2_0 13 rfl rfl)
theorem dX2_bestMinute_2_16 : decode cX2_bestMinute_2 16 = .ok (.aload_n 0, 1) := dk_42 (dk_at dksX2_bestMinute_2_0 16 rfl rfl)
theorem dX2_bestMinute_2_17 : decode cX2_bestMinute_2 17 = .ok (.iload 5, 2) := dk_21 5 (dk_at dksX2_bestMinute_2_0 17 rfl rfl)
theorem dX2_bestMinute_2_19 : decode cX2_bestMinute_2 19 = .ok (.iload_n 1, 1) := dk_27 (dk_at dksX2_bestMinute_2_0 19 rfl rfl)
theorem dX2_bestMinute_2_20 : decode cX2_bestMinute_2 20 = .ok (.iload_n 2, 1) := dk_28 (dk_at dksX2_bestMinute_2_0 20 rfl rfl)
theorem dX2_bestMinute_2_21 : decode cX2_bestMinute_2 21 = .ok (.invokevirtual 334, 3) := dk_182 1 78 (dk_at dksX2_bestMinute_2_0 21 rfl rfl)
theorem dX2_bestMinute_2_24 : decode cX2_bestMinute_2 24 = .ok (.istore 6, 2) := dk_54 6 (dk_at dksX2_bestMinute_2_1 0 rfl rfl)
theorem dX2_bestMinute_2_26 : decode cX2_bestMinute_2 26 = .ok (.iload 6, 2) := dk_21 6 (dk_at dksX2_bestMinute_2_1 2 rfl rfl)
theorem dX2_bestMinute_2_28 : decode cX2_bestMinute_2 28 = .ok (.iload 4, 2) := dk_21 4 (dk_at dksX2_bestMinute_2_1 4 rfl rfl)
theorem dX2_bestMinute_2_30 : decode cX2_bestMinute_2 30 = .ok (.if_icmp .gt 6, 3) := dk_163 0 6 (dk_at dksX2_bestMinute_2_1 6 rfl rfl)
theorem dX2_bestMinute_2_33 : decode cX2_bestMinute_2 33 = .ok (.goto 10, 3) := dk_167 0 10 (dk_at dksX2_bestMinute_2_1 9 rfl rfl)
theorem dX2_bestMinute_2_36 : decode cX2_bestMinute_2 36 = .ok (.iload 6, 2) := dk_21 6 (dk_at dksX2_bestMinute_2_1 12 rfl rfl)
theorem dX2_bestMinute_2_38 : decode cX2_bestMinute_2 38 = .ok (.istore 4, 2) := dk_54 4 (dk_at dksX2_bestMinute_2_1 14 rfl rfl)
theorem dX2_bestMinute_2_40 : decode cX2_bestMinute_2 40 = .ok (.iload 5, 2) := dk_21 5 (dk_at dksX2_bestMinute_2_1 16 rfl rfl)
theorem dX2_bestMinute_2_42 : decode cX2_bestMinute_2 42 = .ok (.istore_n 3, 1) := dk_62 (dk_at dksX2_bestMinute_2_1 18 rfl rfl)
theorem dX2_bestMinute_2_43 : decode cX2_bestMinute_2 43 = .ok (.iinc 5 1, 3) := dk_132 5 1 (dk_at dksX2_bestMinute_2_1 19 rfl rfl)
theorem dX2_bestMinute_2_46 : decode cX2_bestMinute_2 46 = .ok (.goto (-38), 3) := dk_167 255 218 (dk_at dksX2_bestMinute_2_2 0 rfl rfl)
theorem dX2_bestMinute_2_49 : decode cX2_bestMinute_2 49 = .ok (.iload_n 3, 1) := dk_29 (dk_at dksX2_bestMinute_2_2 3 rfl rfl)
theorem dX2_bestMinute_2_50 : decode cX2_bestMinute_2 50 = .ok (.ireturn, 1) := dk_172 (dk_at dksX2_bestMinute_2_2 4 rfl rfl)
abbrev cX2_mix : ByteArray := prog_31_method_76_code
def yX2_mix : MethodName := ⟨RX2, "mix", "(III)I"⟩
def dkwX2_mix_4 : List UInt8 := [161, 0, 6, 167, 0, 11, 21, 8, 54, 6, 21, 7, 54, 5, 132, 7, 1, 167, 255, 212, 21, 5, 172]
abbrev dktX2_mix_4 : List UInt8 := dkwX2_mix_4 ++ []
def dkwX2_mix_3 : List UInt8 := [162, 0, 43, 42, 42, 21, 7, 29, 182, 1, 81, 21, 7, 29, 182, 1, 78, 54, 8, 21, 8, 21, 6]
abbrev dktX2_mix_3 : List UInt8 := dkwX2_mix_3 ++ dktX2_mix_4
def dkwX2_mix_2 : List UInt8 := [182, 1, 12, 42, 28, 182, 1, 75, 3, 54, 5, 16, 99, 54, 6, 3, 54, 7, 21, 7, 16, 13]
abbrev dktX2_mix_2 : List UInt8 := dkwX2_mix_2 ++ dktX2_mix_3
def dkwX2_mix_1 : List UInt8 := [154, 0, 5, 2, 172, 42, 27, 3, 182, 1, 9, 54, 4, 21, 4, 156, 0, 6, 21, 4, 172, 42, 27]
abbrev dktX2_mix_1 : List UInt8 := dkwX2_mix_1 ++ dktX2_mix_2
def dkwX2_mix_0 : List UInt8 := [27, 184, 0, 131, 153, 0, 22, 42, 28, 133, 182, 0, 137, 153, 0, 13, 29, 4, 16, 99, 184, 0, 123]
abbrev dktX2_mix_0 : List UInt8 := dkwX2_mix_0 ++ dktX2_mix_1
theorem dksX2_mix_0 : cX2_mix.data.toList.drop 0 = dktX2_mix_0 := by decide +kernel
theorem dksX2_mix_1 : cX2_mix.data.toList.drop 23 = dktX2_mix_1 := dk_seg dksX2_mix_0 23 rfl rfl
theorem dksX2_mix_2 : cX2_mix.data.toList.drop 46 = dktX2_mix_2 := dk_seg dksX2_mix_1 23 rfl rfl
theorem dksX2_mix_3 : cX2_mix.data.toList.drop 68 = dktX2_mix_3 := dk_seg dksX2_mix_2 22 rfl rfl
theorem dksX2_mix_4 : cX2_mix.data.toList.drop 91 = dktX2_mix_4 := dk_seg dksX2_mix_3 23 rfl rfl
theorem dX2_mix_0 : decode cX2_mix 0 = .ok (.iload_n 1, 1) := dk_27 (dk_at dksX2_mix_0 0 rfl rfl)
theorem dX2_mix_1 : decode cX2_mix 1 = .ok (.invokestatic 131, 3) := dk_184 0 131 (dk_at dksX2_mix_0 1 rfl rfl)
theorem dX2_mix_4 : decode cX2_mix 4 = .ok (.ifCond .eq 22, 3) := dk_153 0 22 (dk_at dksX2_mix_0 4 rfl rfl)
theorem dX2_mix_7 : decode cX2_mix 7 = .ok (.aload_n 0, 1) := dk_42 (dk_at dksX2_mix_0 7 rfl rfl)
theorem dX2_mix_8 : decode cX2_mix 8 = .ok (.iload_n 2, 1) := dk_28 (dk_at dksX2_mix_0 8 rfl rfl)
theorem dX2_mix_9 : decode cX2_mix 9 = .ok (.i2l, 1) := dk_133 (dk_at dksX2_mix_0 9 rfl rfl)
theorem dX2_mix_10 : decode cX2_mix 10 = .ok (.invokevirtual 137, 3) := dk_182 0 137 (dk_at dksX2_mix_0 10 rfl rfl)
theorem dX2_mix_13 : decode cX2_mix 13 = .ok (.ifCond .eq 13, 3) := dk_153 0 13 (dk_at dksX2_mix_0 13 rfl rfl)
theorem dX2_mix_16 : decode cX2_mix 16 = .ok (.iload_n 3, 1) := dk_29 (dk_at dksX2_mix_0 16 rfl rfl)
theorem dX2_mix_17 : decode cX2_mix 17 = .ok (.iconst 1, 1) := dk_4 (dk_at dksX2_mix_0 17 rfl rfl)
theorem dX2_mix_18 : decode cX2_mix 18 = .ok (.bipush 99, 2) := dk_16 99 (dk_at dksX2_mix_0 18 rfl rfl)
theorem dX2_mix_20 : decode cX2_mix 20 = .ok (.invokestatic 123, 3) := dk_184 0 123 (dk_at dksX2_mix_0 20 rfl rfl)
theorem dX2_mix_23 : decode cX2_mix 23 = .ok (.ifCond .ne 5, 3) := dk_154 0 5 (dk_at dksX2_mix_1 0 rfl rfl)
theorem dX2_mix_26 : decode cX2_mix 26 = .ok (.iconst (-1), 1) := dk_2 (dk_at dksX2_mix_1 3 rfl rfl)
theorem dX2_mix_27 : decode cX2_mix 27 = .ok (.ireturn, 1) := dk_172 (dk_at dksX2_mix_1 4 rfl rfl)
theorem dX2_mix_28 : decode cX2_mix 28 = .ok (.aload_n 0, 1) := dk_42 (dk_at dksX2_mix_1 5 rfl rfl)
theorem dX2_mix_29 : decode cX2_mix 29 = .ok (.iload_n 1, 1) := dk_27 (dk_at dksX2_mix_1 6 rfl rfl)
theorem dX2_mix_30 : decode cX2_mix 30 = .ok (.iconst 0, 1) := dk_3 (dk_at dksX2_mix_1 7 rfl rfl)
theorem dX2_mix_31 : decode cX2_mix 31 = .ok (.invokevirtual 265, 3) := dk_182 1 9 (dk_at dksX2_mix_1 8 rfl rfl)
theorem dX2_mix_34 : decode cX2_mix 34 = .ok (.istore 4, 2) := dk_54 4 (dk_at dksX2_mix_1 11 rfl rfl)
theorem dX2_mix_36 : decode cX2_mix 36 = .ok (.iload 4, 2) := dk_21 4 (dk_at dksX2_mix_1 13 rfl rfl)
theorem dX2_mix_38 : decode cX2_mix 38 = .ok (.ifCond .ge 6, 3) := dk_156 0 6 (dk_at dksX2_mix_1 15 rfl rfl)
theorem dX2_mix_41 : decode cX2_mix 41 = .ok (.iload 4, 2) := dk_21 4 (dk_at dksX2_mix_1 18 rfl rfl)
theorem dX2_mix_43 : decode cX2_mix 43 = .ok (.ireturn, 1) := dk_172 (dk_at dksX2_mix_1 20 rfl rfl)
theorem dX2_mix_44 : decode cX2_mix 44 = .ok (.aload_n 0, 1) := dk_42 (dk_at dksX2_mix_1 21 rfl rfl)
theorem dX2_mix_45 : decode cX2_mix 45 = .ok (.iload_n 1, 1) := dk_27 (dk_at dksX2_mix_1 22 rfl rfl)
theorem dX2_mix_46 : decode cX2_mix 46 = .ok (.invokevirtual 268, 3) := dk_182 1 12 (dk_at dksX2_mix_2 0 rfl rfl)
theorem dX2_mix_49 : decode cX2_mix 49 = .ok (.aload_n 0, 1) := dk_42 (dk_at dksX2_mix_2 3 rfl rfl)
theorem dX2_mix_50 : decode cX2_mix 50 = .ok (.iload_n 2, 1) := dk_28 (dk_at dksX2_mix_2 4 rfl rfl)
theorem dX2_mix_51 : decode cX2_mix 51 = .ok (.invokevirtual 331, 3) := dk_182 1 75 (dk_at dksX2_mix_2 5 rfl rfl)
theorem dX2_mix_54 : decode cX2_mix 54 = .ok (.iconst 0, 1) := dk_3 (dk_at dksX2_mix_2 8 rfl rfl)
theorem dX2_mix_55 : decode cX2_mix 55 = .ok (.istore 5, 2) := dk_54 5 (dk_at dksX2_mix_2 9 rfl rfl)
theorem dX2_mix_57 : decode cX2_mix 57 = .ok (.bipush 99, 2) := dk_16 99 (dk_at dksX2_mix_2 11 rfl rfl)
theorem dX2_mix_59 : decode cX2_mix 59 = .ok (.istore 6, 2) := dk_54 6 (dk_at dksX2_mix_2 13 rfl rfl)
theorem dX2_mix_61 : decode cX2_mix 61 = .ok (.iconst 0, 1) := dk_3 (dk_at dksX2_mix_2 15 rfl rfl)
theorem dX2_mix_62 : decode cX2_mix 62 = .ok (.istore 7, 2) := dk_54 7 (dk_at dksX2_mix_2 16 rfl rfl)
theorem dX2_mix_64 : decode cX2_mix 64 = .ok (.iload 7, 2) := dk_21 7 (dk_at dksX2_mix_2 18 rfl rfl)
theorem dX2_mix_66 : decode cX2_mix 66 = .ok (.bipush 13, 2) := dk_16 13 (dk_at dksX2_mix_2 20 rfl rfl)
theorem dX2_mix_68 : decode cX2_mix 68 = .ok (.if_icmp .ge 43, 3) := dk_162 0 43 (dk_at dksX2_mix_3 0 rfl rfl)
theorem dX2_mix_71 : decode cX2_mix 71 = .ok (.aload_n 0, 1) := dk_42 (dk_at dksX2_mix_3 3 rfl rfl)
theorem dX2_mix_72 : decode cX2_mix 72 = .ok (.aload_n 0, 1) := dk_42 (dk_at dksX2_mix_3 4 rfl rfl)
theorem dX2_mix_73 : decode cX2_mix 73 = .ok (.iload 7, 2) := dk_21 7 (dk_at dksX2_mix_3 5 rfl rfl)
theorem dX2_mix_75 : decode cX2_mix 75 = .ok (.iload_n 3, 1) := dk_29 (dk_at dksX2_mix_3 7 rfl rfl)
theorem dX2_mix_76 : decode cX2_mix 76 = .ok (.invokevirtual 337, 3) := dk_182 1 81 (dk_at dksX2_mix_3 8 rfl rfl)
theorem dX2_mix_79 : decode cX2_mix 79 = .ok (.iload 7, 2) := dk_21 7 (dk_at dksX2_mix_3 11 rfl rfl)
theorem dX2_mix_81 : decode cX2_mix 81 = .ok (.iload_n 3, 1) := dk_29 (dk_at dksX2_mix_3 13 rfl rfl)
theorem dX2_mix_82 : decode cX2_mix 82 = .ok (.invokevirtual 334, 3) := dk_182 1 78 (dk_at dksX2_mix_3 14 rfl rfl)
theorem dX2_mix_85 : decode cX2_mix 85 = .ok (.istore 8, 2) := dk_54 8 (dk_at dksX2_mix_3 17 rfl rfl)
theorem dX2_mix_87 : decode cX2_mix 87 = .ok (.iload 8, 2) := dk_21 8 (dk_at dksX2_mix_3 19 rfl rfl)
theorem dX2_mix_89 : decode cX2_mix 89 = .ok (.iload 6, 2) := dk_21 6 (dk_at dksX2_mix_3 21 rfl rfl)
theorem dX2_mix_91 : decode cX2_mix 91 = .ok (.if_icmp .lt 6, 3) := dk_161 0 6 (dk_at dksX2_mix_4 0 rfl rfl)
theorem dX2_mix_94 : decode cX2_mix 94 = .ok (.goto 11, 3) := dk_167 0 11 (dk_at dksX2_mix_4 3 rfl rfl)
theorem dX2_mix_97 : decode cX2_mix 97 = .ok (.iload 8, 2) := dk_21 8 (dk_at dksX2_mix_4 6 rfl rfl)
theorem dX2_mix_99 : decode cX2_mix 99 = .ok (.istore 6, 2) := dk_54 6 (dk_at dksX2_mix_4 8 rfl rfl)
theorem dX2_mix_101 : decode cX2_mix 101 = .ok (.iload 7, 2) := dk_21 7 (dk_at dksX2_mix_4 10 rfl rfl)
theorem dX2_mix_103 : decode cX2_mix 103 = .ok (.istore 5, 2) := dk_54 5 (dk_at dksX2_mix_4 12 rfl rfl)
theorem dX2_mix_105 : decode cX2_mix 105 = .ok (.iinc 7 1, 3) := dk_132 7 1 (dk_at dksX2_mix_4 14 rfl rfl)
theorem dX2_mix_108 : decode cX2_mix 108 = .ok (.goto (-44), 3) := dk_167 255 212 (dk_at dksX2_mix_4 17 rfl rfl)
theorem dX2_mix_111 : decode cX2_mix 111 = .ok (.iload 5, 2) := dk_21 5 (dk_at dksX2_mix_4 20 rfl rfl)
theorem dX2_mix_113 : decode cX2_mix 113 = .ok (.ireturn, 1) := dk_172 (dk_at dksX2_mix_4 22 rfl rfl)
abbrev cX2_paper : ByteArray := prog_31_method_78_code
def yX2_paper : MethodName := ⟨RX2, "paper", "(II)I"⟩
def dkwX2_paper_7 : List UInt8 := [21, 8, 172]
abbrev dktX2_paper_7 : List UInt8 := dkwX2_paper_7 ++ []
def dkwX2_paper_6 : List UInt8 := [167, 0, 25, 28, 4, 160, 0, 8, 21, 5, 167, 0, 15, 28, 5, 160, 0, 8, 21, 7, 167, 0, 5]
abbrev dktX2_paper_6 : List UInt8 := dkwX2_paper_6 ++ dktX2_paper_7
def dkwX2_paper_5 : List UInt8 := [167, 0, 11, 21, 10, 54, 6, 21, 9, 54, 7, 132, 9, 1, 167, 255, 177, 28, 154, 0, 8, 21, 4]
abbrev dktX2_paper_5 : List UInt8 := dkwX2_paper_5 ++ dktX2_paper_6
def dkwX2_paper_4 : List UInt8 := [16, 254, 159, 0, 6, 167, 0, 28, 21, 5, 21, 10, 96, 54, 5, 21, 10, 21, 6, 163, 0, 6]
abbrev dktX2_paper_4 : List UInt8 := dkwX2_paper_4 ++ dktX2_paper_5
def dkwX2_paper_3 : List UInt8 := [54, 10, 21, 10, 156, 0, 17, 132, 8, 1, 21, 4, 16, 254, 160, 0, 7, 21, 9, 54, 4, 21, 4]
abbrev dktX2_paper_3 : List UInt8 := dkwX2_paper_3 ++ dktX2_paper_4
def dkwX2_paper_2 : List UInt8 := [3, 54, 9, 5, 21, 9, 104, 42, 180, 0, 84, 27, 46, 162, 0, 72, 42, 27, 21, 9, 182, 1, 84]
abbrev dktX2_paper_2 : List UInt8 := dkwX2_paper_2 ++ dktX2_paper_3
def dkwX2_paper_1 : List UInt8 := [62, 29, 156, 0, 5, 29, 172, 16, 254, 54, 4, 3, 54, 5, 3, 54, 6, 16, 254, 54, 7, 3, 54, 8]
abbrev dktX2_paper_1 : List UInt8 := dkwX2_paper_1 ++ dktX2_paper_2
def dkwX2_paper_0 : List UInt8 := [27, 184, 0, 131, 153, 0, 12, 28, 3, 6, 184, 0, 123, 154, 0, 5, 2, 172, 42, 27, 4, 182, 1, 9]
abbrev dktX2_paper_0 : List UInt8 := dkwX2_paper_0 ++ dktX2_paper_1
theorem dksX2_paper_0 : cX2_paper.data.toList.drop 0 = dktX2_paper_0 := by decide +kernel
theorem dksX2_paper_1 : cX2_paper.data.toList.drop 24 = dktX2_paper_1 := dk_seg dksX2_paper_0 24 rfl rfl
theorem dksX2_paper_2 : cX2_paper.data.toList.drop 48 = dktX2_paper_2 := dk_seg dksX2_paper_1 24 rfl rfl
theorem dksX2_paper_3 : cX2_paper.data.toList.drop 71 = dktX2_paper_3 := dk_seg dksX2_paper_2 23 rfl rfl
theorem dksX2_paper_4 : cX2_paper.data.toList.drop 94 = dktX2_paper_4 := dk_seg dksX2_paper_3 23 rfl rfl
theorem dksX2_paper_5 : cX2_paper.data.toList.drop 116 = dktX2_paper_5 := dk_seg dksX2_paper_4 22 rfl rfl
theorem dksX2_paper_6 : cX2_paper.data.toList.drop 139 = dktX2_paper_6 := dk_seg dksX2_paper_5 23 rfl rfl
theorem dksX2_paper_7 : cX2_paper.data.toList.drop 162 = dktX2_paper_7 := dk_seg dksX2_paper_6 23 rfl rfl
theorem dX2_paper_0 : decode cX2_paper 0 = .ok (.iload_n 1, 1) := dk_27 (dk_at dksX2_paper_0 0 rfl rfl)
theorem dX2_paper_1 : decode cX2_paper 1 = .ok (.invokestatic 131, 3) := dk_184 0 131 (dk_at dksX2_paper_0 1 rfl rfl)
theorem dX2_paper_4 : decode cX2_paper 4 = .ok (.ifCond .eq 12, 3) := dk_153 0 12 (dk_at dksX2_paper_0 4 rfl rfl)
theorem dX2_paper_7 : decode cX2_paper 7 = .ok (.iload_n 2, 1) := dk_28 (dk_at dksX2_paper_0 7 rfl rfl)
theorem dX2_paper_8 : decode cX2_paper 8 = .ok (.iconst 0, 1) := dk_3 (dk_at dksX2_paper_0 8 rfl rfl)
theorem dX2_paper_9 : decode cX2_paper 9 = .ok (.iconst 3, 1) := dk_6 (dk_at dksX2_paper_0 9 rfl rfl)
theorem dX2_paper_10 : decode cX2_paper 10 = .ok (.invokestatic 123, 3) := dk_184 0 123 (dk_at dksX2_paper_0 10 rfl rfl)
theorem dX2_paper_13 : decode cX2_paper 13 = .ok (.ifCond .ne 5, 3) := dk_154 0 5 (dk_at dksX2_paper_0 13 rfl rfl)
theorem dX2_paper_16 : decode cX2_paper 16 = .ok (.iconst (-1), 1) := dk_2 (dk_at dksX2_paper_0 16 rfl rfl)
theorem dX2_paper_17 : decode cX2_paper 17 = .ok (.ireturn, 1) := dk_172 (dk_at dksX2_paper_0 17 rfl rfl)
theorem dX2_paper_18 : decode cX2_paper 18 = .ok (.aload_n 0, 1) := dk_42 (dk_at dksX2_paper_0 18 rfl rfl)
theorem dX2_paper_19 : decode cX2_paper 19 = .ok (.iload_n 1, 1) := dk_27 (dk_at dksX2_paper_0 19 rfl rfl)
theorem dX2_paper_20 : decode cX2_paper 20 = .ok (.iconst 1, 1) := dk_4 (dk_at dksX2_paper_0 20 rfl rfl)
theorem dX2_paper_21 : decode cX2_paper 21 = .ok (.invokevirtual 265, 3) := dk_182 1 9 (dk_at dksX2_paper_0 21 rfl rfl)
theorem dX2_paper_24 : decode cX2_paper 24 = .ok (.istore_n 3, 1) := dk_62 (dk_at dksX2_paper_1 0 rfl rfl)
theorem dX2_paper_25 : decode cX2_paper 25 = .ok (.iload_n 3, 1) := dk_29 (dk_at dksX2_paper_1 1 rfl rfl)
theorem dX2_paper_26 : decode cX2_paper 26 = .ok (.ifCond .ge 5, 3) := dk_156 0 5 (dk_at dksX2_paper_1 2 rfl rfl)
theorem dX2_paper_29 : decode cX2_paper 29 = .ok (.iload_n 3, 1) := dk_29 (dk_at dksX2_paper_1 5 rfl rfl)
theorem dX2_paper_30 : decode cX2_paper 30 = .ok (.ireturn, 1) := dk_172 (dk_at dksX2_paper_1 6 rfl rfl)
theorem dX2_paper_31 : decode cX2_paper 31 = .ok (.bipush (-2), 2) := dk_16 254 (dk_at dksX2_paper_1 7 rfl rfl)
theorem dX2_paper_33 : decode cX2_paper 33 = .ok (.istore 4, 2) := dk_54 4 (dk_at dksX2_paper_1 9 rfl rfl)
theorem dX2_paper_35 : decode cX2_paper 35 = .ok (.iconst 0, 1) := dk_3 (dk_at dksX2_paper_1 11 rfl rfl)
theorem dX2_paper_36 : decode cX2_paper 36 = .ok (.istore 5, 2) := dk_54 5 (dk_at dksX2_paper_1 12 rfl rfl)
theorem dX2_paper_38 : decode cX2_paper 38 = .ok (.iconst 0, 1) := dk_3 (dk_at dksX2_paper_1 14 rfl rfl)
theorem dX2_paper_39 : decode cX2_paper 39 = .ok (.istore 6, 2) := dk_54 6 (dk_at dksX2_paper_1 15 rfl rfl)
theorem dX2_paper_41 : decode cX2_paper 41 = .ok (.bipush (-2), 2) := dk_16 254 (dk_at dksX2_paper_1 17 rfl rfl)
theorem dX2_paper_43 : decode cX2_paper 43 = .ok (.istore 7, 2) := dk_54 7 (dk_at dksX2_paper_1 19 rfl rfl)
theorem dX2_paper_45 : decode cX2_paper 45 = .ok (.iconst 0, 1) := dk_3 (dk_at dksX2_paper_1 21 rfl rfl)
theorem dX2_paper_46 : decode cX2_paper 46 = .ok (.istore 8, 2) := dk_54 8 (dk_at dksX2_paper_1 22 rfl rfl)
theorem dX2_paper_48 : decode cX2_paper 48 = .ok (.iconst 0, 1) := dk_3 (dk_at dksX2_paper_2 0 rfl rfl)
theorem dX2_paper_49 : decode cX2_paper 49 = .ok (.istore 9, 2) := dk_54 9 (dk_at dksX2_paper_2 1 rfl rfl)
theorem dX2_paper_51 : decode cX2_paper 51 = .ok (.iconst 2, 1) := dk_5 (dk_at dksX2_paper_2 3 rfl rfl)
theorem dX2_paper_52 : decode cX2_paper 52 = .ok (.iload 9, 2) := dk_21 9 (dk_at dksX2_paper_2 4 rfl rfl)
theorem dX2_paper_54 : decode cX2_paper 54 = .ok (.imul, 1) := dk_104 (dk_at dksX2_paper_2 6 rfl rfl)
theorem dX2_paper_55 : decode cX2_paper 55 = .ok (.aload_n 0, 1) := dk_42 (dk_at dksX2_paper_2 7 rfl rfl)
theorem dX2_paper_56 : decode cX2_paper 56 = .ok (.getfield 84, 3) := dk_180 0 84 (dk_at dksX2_paper_2 8 rfl rfl)
theorem dX2_paper_59 : decode cX2_paper 59 = .ok (.iload_n 1, 1) := dk_27 (dk_at dksX2_paper_2 11 rfl rfl)
theorem dX2_paper_60 : decode cX2_paper 60 = .ok (.iaload, 1) := dk_46 (dk_at dksX2_paper_2 12 rfl rfl)
theorem dX2_paper_61 : decode cX2_paper 61 = .ok (.if_icmp .ge 72, 3) := dk_162 0 72 (dk_at dksX2_paper_2 13 rfl rfl)
theorem dX2_paper_64 : decode cX2_paper 64 = .ok (.aload_n 0, 1) := dk_42 (dk_at dksX2_paper_2 16 rfl rfl)
theorem dX2_paper_65 : decode cX2_paper 65 = .ok (.iload_n 1, 1) := dk_27 (dk_at dksX2_paper_2 17 rfl rfl)
theorem dX2_paper_66 : decode cX2_paper 66 = .ok (.iload 9, 2) := dk_21 9 (dk_at dksX2_paper_2 18 rfl rfl)
theorem dX2_paper_68 : decode cX2_paper 68 = .ok (.invokevirtual 340, 3) := dk_182 1 84 (dk_at dksX2_paper_2 20 rfl rfl)
theorem dX2_paper_71 : decode cX2_paper 71 = .ok (.istore 10, 2) := dk_54 10 (dk_at dksX2_paper_3 0 rfl rfl)
theorem dX2_paper_73 : decode cX2_paper 73 = .ok (.iload 10, 2) := dk_21 10 (dk_at dksX2_paper_3 2 rfl rfl)
theorem dX2_paper_75 : decode cX2_paper 75 = .ok (.ifCond .ge 17, 3) := dk_156 0 17 (dk_at dksX2_paper_3 4 rfl rfl)
theorem dX2_paper_78 : decode cX2_paper 78 = .ok (.iinc 8 1, 3) := dk_132 8 1 (dk_at dksX2_paper_3 7 rfl rfl)
theorem dX2_paper_81 : decode cX2_paper 81 = .ok (.iload 4, 2) := dk_21 4 (dk_at dksX2_paper_3 10 rfl rfl)
theorem dX2_paper_83 : decode cX2_paper 83 = .ok (.bipush (-2), 2) := dk_16 254 (dk_at dksX2_paper_3 12 rfl rfl)
theorem dX2_paper_85 : decode cX2_paper 85 = .ok (.if_icmp .ne 7, 3) := dk_160 0 7 (dk_at dksX2_paper_3 14 rfl rfl)
theorem dX2_paper_88 : decode cX2_paper 88 = .ok (.iload 9, 2) := dk_21 9 (dk_at dksX2_paper_3 17 rfl rfl)
theorem dX2_paper_90 : decode cX2_paper 90 = .ok (.istore 4, 2) := dk_54 4 (dk_at dksX2_paper_3 19 rfl rfl)
theorem dX2_paper_92 : decode cX2_paper 92 = .ok (.iload 4, 2) := dk_21 4 (dk_at dksX2_paper_3 21 rfl rfl)
theorem dX2_paper_94 : decode cX2_paper 94 = .ok (.bipush (-2), 2) := dk_16 254 (dk_at dksX2_paper_4 0 rfl rfl)
theorem dX2_paper_96 : decode cX2_paper 96 = .ok (.if_icmp .eq 6, 3) := dk_159 0 6 (dk_at dksX2_paper_4 2 rfl rfl)
theorem dX2_paper_99 : decode cX2_paper 99 = .ok (.goto 28, 3) := dk_167 0 28 (dk_at dksX2_paper_4 5 rfl rfl)
theorem dX2_paper_102 : decode cX2_paper 102 = .ok (.iload 5, 2) := dk_21 5 (dk_at dksX2_paper_4 8 rfl rfl)
theorem dX2_paper_104 : decode cX2_paper 104 = .ok (.iload 10, 2) := dk_21 10 (dk_at dksX2_paper_4 10 rfl rfl)
theorem dX2_paper_106 : decode cX2_paper 106 = .ok (.iadd, 1) := dk_96 (dk_at dksX2_paper_4 12 rfl rfl)
theorem dX2_paper_107 : decode cX2_paper 107 = .ok (.istore 5, 2) := dk_54 5 (dk_at dksX2_paper_4 13 rfl rfl)
theorem dX2_paper_109 : decode cX2_paper 109 = .ok (.iload 10, 2) := dk_21 10 (dk_at dksX2_paper_4 15 rfl rfl)
theorem dX2_paper_111 : decode cX2_paper 111 = .ok (.iload 6, 2) := dk_21 6 (dk_at dksX2_paper_4 17 rfl rfl)
theorem dX2_paper_113 : decode cX2_paper 113 = .ok (.if_icmp .gt 6, 3) := dk_163 0 6 (dk_at dksX2_paper_4 19 rfl rfl)
theorem dX2_paper_116 : decode cX2_paper 116 = .ok (.goto 11, 3) := dk_167 0 11 (dk_at dksX2_paper_5 0 rfl rfl)
theorem dX2_paper_119 : decode cX2_paper 119 = .ok (.iload 10, 2) := dk_21 10 (dk_at dksX2_paper_5 3 rfl rfl)
theorem dX2_paper_121 : decode cX2_paper 121 = .ok (.istore 6, 2) := dk_54 6 (dk_at dksX2_paper_5 5 rfl rfl)
theorem dX2_paper_123 : decode cX2_paper 123 = .ok (.iload 9, 2) := dk_21 9 (dk_at dksX2_paper_5 7 rfl rfl)
theorem dX2_paper_125 : decode cX2_paper 125 = .ok (.istore 7, 2) := dk_54 7 (dk_at dksX2_paper_5 9 rfl rfl)
theorem dX2_paper_127 : decode cX2_paper 127 = .ok (.iinc 9 1, 3) := dk_132 9 1 (dk_at dksX2_paper_5 11 rfl rfl)
theorem dX2_paper_130 : decode cX2_paper 130 = .ok (.goto (-79), 3) := dk_167 255 177 (dk_at dksX2_paper_5 14 rfl rfl)
theorem dX2_paper_133 : decode cX2_paper 133 = .ok (.iload_n 2, 1) := dk_28 (dk_at dksX2_paper_5 17 rfl rfl)
theorem dX2_paper_134 : decode cX2_paper 134 = .ok (.ifCond .ne 8, 3) := dk_154 0 8 (dk_at dksX2_paper_5 18 rfl rfl)
theorem dX2_paper_137 : decode cX2_paper 137 = .ok (.iload 4, 2) := dk_21 4 (dk_at dksX2_paper_5 21 rfl rfl)
theorem dX2_paper_139 : decode cX2_paper 139 = .ok (.goto 25, 3) := dk_167 0 25 (dk_at dksX2_paper_6 0 rfl rfl)
theorem dX2_paper_142 : decode cX2_paper 142 = .ok (.iload_n 2, 1) := dk_28 (dk_at dksX2_paper_6 3 rfl rfl)
theorem dX2_paper_143 : decode cX2_paper 143 = .ok (.iconst 1, 1) := dk_4 (dk_at dksX2_paper_6 4 rfl rfl)
theorem dX2_paper_144 : decode cX2_paper 144 = .ok (.if_icmp .ne 8, 3) := dk_160 0 8 (dk_at dksX2_paper_6 5 rfl rfl)
theorem dX2_paper_147 : decode cX2_paper 147 = .ok (.iload 5, 2) := dk_21 5 (dk_at dksX2_paper_6 8 rfl rfl)
theorem dX2_paper_149 : decode cX2_paper 149 = .ok (.goto 15, 3) := dk_167 0 15 (dk_at dksX2_paper_6 10 rfl rfl)
theorem dX2_paper_152 : decode cX2_paper 152 = .ok (.iload_n 2, 1) := dk_28 (dk_at dksX2_paper_6 13 rfl rfl)
theorem dX2_paper_153 : decode cX2_paper 153 = .ok (.iconst 2, 1) := dk_5 (dk_at dksX2_paper_6 14 rfl rfl)
theorem dX2_paper_154 : decode cX2_paper 154 = .ok (.if_icmp .ne 8, 3) := dk_160 0 8 (dk_at dksX2_paper_6 15 rfl rfl)
theorem dX2_paper_157 : decode cX2_paper 157 = .ok (.iload 7, 2) := dk_21 7 (dk_at dksX2_paper_6 18 rfl rfl)
theorem dX2_paper_159 : decode cX2_paper 159 = .ok (.goto 5, 3) := dk_167 0 5 (dk_at dksX2_paper_6 20 rfl rfl)
theorem dX2_paper_162 : decode cX2_paper 162 = .ok (.iload 8, 2) := dk_21 8 (dk_at dksX2_paper_7 0 rfl rfl)
theorem dX2_paper_164 : decode cX2_paper 164 = .ok (.ireturn, 1) := dk_172 (dk_at dksX2_paper_7 2 rfl rfl)
abbrev cX2_later : ByteArray := prog_31_method_77_code
def yX2_later : MethodName := ⟨RX2, "later", "(II)I"⟩
def dkwX2_later_5 : List UInt8 := [167, 0, 6, 17, 216, 241, 172]
abbrev dktX2_later_5 : List UInt8 := dkwX2_later_5 ++ []
def dkwX2_later_4 : List UInt8 := [28, 104, 4, 100, 182, 0, 252, 100, 42, 180, 0, 24, 6, 46, 100, 42, 21, 5, 29, 182, 1, 2, 100]
abbrev dktX2_later_4 : List UInt8 := dkwX2_later_4 ++ dktX2_later_5
def dkwX2_later_3 : List UInt8 := [28, 104, 5, 100, 182, 0, 252, 54, 5, 42, 21, 5, 133, 182, 0, 137, 153, 0, 34, 21, 4, 42, 27, 5]
abbrev dktX2_later_3 : List UInt8 := dkwX2_later_3 ++ dktX2_later_4
def dkwX2_later_2 : List UInt8 := [154, 0, 7, 17, 216, 241, 172, 28, 154, 0, 13, 21, 4, 42, 2, 29, 182, 1, 2, 100, 172, 42, 27, 5]
abbrev dktX2_later_2 : List UInt8 := dkwX2_later_2 ++ dktX2_later_3
def dkwX2_later_1 : List UInt8 := [182, 0, 252, 62, 42, 27, 5, 28, 104, 4, 96, 182, 0, 252, 54, 4, 42, 29, 133, 182, 0, 137]
abbrev dktX2_later_1 : List UInt8 := dkwX2_later_1 ++ dktX2_later_2
def dkwX2_later_0 : List UInt8 := [5, 28, 104, 4, 96, 42, 180, 0, 84, 27, 46, 161, 0, 7, 17, 216, 241, 172, 42, 27, 5, 28, 104]
abbrev dktX2_later_0 : List UInt8 := dkwX2_later_0 ++ dktX2_later_1
theorem dksX2_later_0 : cX2_later.data.toList.drop 0 = dktX2_later_0 := by decide +kernel
theorem dksX2_later_1 : cX2_later.data.toList.drop 23 = dktX2_later_1 := dk_seg dksX2_later_0 23 rfl rfl
theorem dksX2_later_2 : cX2_later.data.toList.drop 45 = dktX2_later_2 := dk_seg dksX2_later_1 22 rfl rfl
theorem dksX2_later_3 : cX2_later.data.toList.drop 69 = dktX2_later_3 := dk_seg dksX2_later_2 24 rfl rfl
theorem dksX2_later_4 : cX2_later.data.toList.drop 93 = dktX2_later_4 := dk_seg dksX2_later_3 24 rfl rfl
theorem dksX2_later_5 : cX2_later.data.toList.drop 116 = dktX2_later_5 := dk_seg dksX2_later_4 23 rfl rfl
theorem dX2_later_0 : decode cX2_later 0 = .ok (.iconst 2, 1) := dk_5 (dk_at dksX2_later_0 0 rfl rfl)
theorem dX2_later_1 : decode cX2_later 1 = .ok (.iload_n 2, 1) := dk_28 (dk_at dksX2_later_0 1 rfl rfl)
theorem dX2_later_2 : decode cX2_later 2 = .ok (.imul, 1) := dk_104 (dk_at dksX2_later_0 2 rfl rfl)
theorem dX2_later_3 : decode cX2_later 3 = .ok (.iconst 1, 1) := dk_4 (dk_at dksX2_later_0 3 rfl rfl)
theorem dX2_later_4 : decode cX2_later 4 = .ok (.iadd, 1) := dk_96 (dk_at dksX2_later_0 4 rfl rfl)
theorem dX2_later_5 : decode cX2_later 5 = .ok (.aload_n 0, 1) := dk_42 (dk_at dksX2_later_0 5 rfl rfl)
theorem dX2_later_6 : decode cX2_later 6 = .ok (.getfield 84, 3) := dk_180 0 84 (dk_at dksX2_later_0 6 rfl rfl)
theorem dX2_later_9 : decode cX2_later 9 = .ok (.iload_n 1, 1) := dk_27 (dk_at dksX2_later_0 9 rfl rfl)
theorem dX2_later_10 : decode cX2_later 10 = .ok (.iaload, 1) := dk_46 (dk_at dksX2_later_0 10 rfl rfl)
theorem dX2_later_11 : decode cX2_later 11 = .ok (.if_icmp .lt 7, 3) := dk_161 0 7 (dk_at dksX2_later_0 11 rfl rfl)
theorem dX2_later_14 : decode cX2_later 14 = .ok (.sipush (-9999), 3) := dk_17 216 241 (dk_at dksX2_later_0 14 rfl rfl)
theorem dX2_later_17 : decode cX2_later 17 = .ok (.ireturn, 1) := dk_172 (dk_at dksX2_later_0 17 rfl rfl)
theorem dX2_later_18 : decode cX2_later 18 = .ok (.aload_n 0, 1) := dk_42 (dk_at dksX2_later_0 18 rfl rfl)
theorem dX2_later_19 : decode cX2_later 19 = .ok (.iload_n 1, 1) := dk_27 (dk_at dksX2_later_0 19 rfl rfl)
theorem dX2_later_20 : decode cX2_later 20 = .ok (.iconst 2, 1) := dk_5 (dk_at dksX2_later_0 20 rfl rfl)
theorem dX2_later_21 : decode cX2_later 21 = .ok (.iload_n 2, 1) := dk_28 (dk_at dksX2_later_0 21 rfl rfl)
theorem dX2_later_22 : decode cX2_later 22 = .ok (.imul, 1) := dk_104 (dk_at dksX2_later_0 22 rfl rfl)
theorem dX2_later_23 : decode cX2_later 23 = .ok (.invokevirtual 252, 3) := dk_182 0 252 (dk_at dksX2_later_1 0 rfl rfl)
theorem dX2_later_26 : decode cX2_later 26 = .ok (.istore_n 3, 1) := dk_62 (dk_at dksX2_later_1 3 rfl rfl)
theorem dX2_later_27 : decode cX2_later 27 = .ok (.aload_n 0, 1) := dk_42 (dk_at dksX2_later_1 4 rfl rfl)
theorem dX2_later_28 : decode cX2_later 28 = .ok (.iload_n 1, 1) := dk_27 (dk_at dksX2_later_1 5 rfl rfl)
theorem dX2_later_29 : decode cX2_later 29 = .ok (.iconst 2, 1) := dk_5 (dk_at dksX2_later_1 6 rfl rfl)
theorem dX2_later_30 : decode cX2_later 30 = .ok (.iload_n 2, 1) := dk_28 (dk_at dksX2_later_1 7 rfl rfl)
theorem dX2_later_31 : decode cX2_later 31 = .ok (.imul, 1) := dk_104 (dk_at dksX2_later_1 8 rfl rfl)
theorem dX2_later_32 : decode cX2_later 32 = .ok (.iconst 1, 1) := dk_4 (dk_at dksX2_later_1 9 rfl rfl)
theorem dX2_later_33 : decode cX2_later 33 = .ok (.iadd, 1) := dk_96 (dk_at dksX2_later_1 10 rfl rfl)
theorem dX2_later_34 : decode cX2_later 34 = .ok (.invokevirtual 252, 3) := dk_182 0 252 (dk_at dksX2_later_1 11 rfl rfl)
theorem dX2_later_37 : decode cX2_later 37 = .ok (.istore 4, 2) := dk_54 4 (dk_at dksX2_later_1 14 rfl rfl)
theorem dX2_later_39 : decode cX2_later 39 = .ok (.aload_n 0, 1) := dk_42 (dk_at dksX2_later_1 16 rfl rfl)
theorem dX2_later_40 : decode cX2_later 40 = .ok (.iload_n 3, 1) := dk_29 (dk_at dksX2_later_1 17 rfl rfl)
theorem dX2_later_41 : decode cX2_later 41 = .ok (.i2l, 1) := dk_133 (dk_at dksX2_later_1 18 rfl rfl)
theorem dX2_later_42 : decode cX2_later 42 = .ok (.invokevirtual 137, 3) := dk_182 0 137 (dk_at dksX2_later_1 19 rfl rfl)
theorem dX2_later_45 : decode cX2_later 45 = .ok (.ifCond .ne 7, 3) := dk_154 0 7 (dk_at dksX2_later_2 0 rfl rfl)
theorem dX2_later_48 : decode cX2_later 48 = .ok (.sipush (-9999), 3) := dk_17 216 241 (dk_at dksX2_later_2 3 rfl rfl)
theorem dX2_later_51 : decode cX2_later 51 = .ok (.ireturn, 1) := dk_172 (dk_at dksX2_later_2 6 rfl rfl)
theorem dX2_later_52 : decode cX2_later 52 = .ok (.iload_n 2, 1) := dk_28 (dk_at dksX2_later_2 7 rfl rfl)
theorem dX2_later_53 : decode cX2_later 53 = .ok (.ifCond .ne 13, 3) := dk_154 0 13 (dk_at dksX2_later_2 8 rfl rfl)
theorem dX2_later_56 : decode cX2_later 56 = .ok (.iload 4, 2) := dk_21 4 (dk_at dksX2_later_2 11 rfl rfl)
theorem dX2_later_58 : decode cX2_later 58 = .ok (.aload_n 0, 1) := dk_42 (dk_at dksX2_later_2 13 rfl rfl)
theorem dX2_later_59 : decode cX2_later 59 = .ok (.iconst (-1), 1) := dk_2 (dk_at dksX2_later_2 14 rfl rfl)
theorem dX2_later_60 : decode cX2_later 60 = .ok (.iload_n 3, 1) := dk_29 (dk_at dksX2_later_2 15 rfl rfl)
theorem dX2_later_61 : decode cX2_later 61 = .ok (.invokevirtual 258, 3) := dk_182 1 2 (dk_at dksX2_later_2 16 rfl rfl)
theorem dX2_later_64 : decode cX2_later 64 = .ok (.isub, 1) := dk_100 (dk_at dksX2_later_2 19 rfl rfl)
theorem dX2_later_65 : decode cX2_later 65 = .ok (.ireturn, 1) := dk_172 (dk_at dksX2_later_2 20 rfl rfl)
theorem dX2_later_66 : decode cX2_later 66 = .ok (.aload_n 0, 1) := dk_42 (dk_at dksX2_later_2 21 rfl rfl)
theorem dX2_later_67 : decode cX2_later 67 = .ok (.iload_n 1, 1) := dk_27 (dk_at dksX2_later_2 22 rfl rfl)
theorem dX2_later_68 : decode cX2_later 68 = .ok (.iconst 2, 1) := dk_5 (dk_at dksX2_later_2 23 rfl rfl)
theorem dX2_later_69 : decode cX2_later 69 = .ok (.iload_n 2, 1) := dk_28 (dk_at dksX2_later_3 0 rfl rfl)
theorem dX2_later_70 : decode cX2_later 70 = .ok (.imul, 1) := dk_104 (dk_at dksX2_later_3 1 rfl rfl)
theorem dX2_later_71 : decode cX2_later 71 = .ok (.iconst 2, 1) := dk_5 (dk_at dksX2_later_3 2 rfl rfl)
theorem dX2_later_72 : decode cX2_later 72 = .ok (.isub, 1) := dk_100 (dk_at dksX2_later_3 3 rfl rfl)
theorem dX2_later_73 : decode cX2_later 73 = .ok (.invokevirtual 252, 3) := dk_182 0 252 (dk_at dksX2_later_3 4 rfl rfl)
theorem dX2_later_76 : decode cX2_later 76 = .ok (.istore 5, 2) := dk_54 5 (dk_at dksX2_later_3 7 rfl rfl)
theorem dX2_later_78 : decode cX2_later 78 = .ok (.aload_n 0, 1) := dk_42 (dk_at dksX2_later_3 9 rfl rfl)
theorem dX2_later_79 : decode cX2_later 79 = .ok (.iload 5, 2) := dk_21 5 (dk_at dksX2_later_3 10 rfl rfl)
theorem dX2_later_81 : decode cX2_later 81 = .ok (.i2l, 1) := dk_133 (dk_at dksX2_later_3 12 rfl rfl)
theorem dX2_later_82 : decode cX2_later 82 = .ok (.invokevirtual 137, 3) := dk_182 0 137 (dk_at dksX2_later_3 13 rfl rfl)
theorem dX2_later_85 : decode cX2_later 85 = .ok (.ifCond .eq 34, 3) := dk_153 0 34 (dk_at dksX2_later_3 16 rfl rfl)
theorem dX2_later_88 : decode cX2_later 88 = .ok (.iload 4, 2) := dk_21 4 (dk_at dksX2_later_3 19 rfl rfl)
theorem dX2_later_90 : decode cX2_later 90 = .ok (.aload_n 0, 1) := dk_42 (dk_at dksX2_later_3 21 rfl rfl)
theorem dX2_later_91 : decode cX2_later 91 = .ok (.iload_n 1, 1) := dk_27 (dk_at dksX2_later_3 22 rfl rfl)
theorem dX2_later_92 : decode cX2_later 92 = .ok (.iconst 2, 1) := dk_5 (dk_at dksX2_later_3 23 rfl rfl)
theorem dX2_later_93 : decode cX2_later 93 = .ok (.iload_n 2, 1) := dk_28 (dk_at dksX2_later_4 0 rfl rfl)
theorem dX2_later_94 : decode cX2_later 94 = .ok (.imul, 1) := dk_104 (dk_at dksX2_later_4 1 rfl rfl)
theorem dX2_later_95 : decode cX2_later 95 = .ok (.iconst 1, 1) := dk_4 (dk_at dksX2_later_4 2 rfl rfl)
theorem dX2_later_96 : decode cX2_later 96 = .ok (.isub, 1) := dk_100 (dk_at dksX2_later_4 3 rfl rfl)
theorem dX2_later_97 : decode cX2_later 97 = .ok (.invokevirtual 252, 3) := dk_182 0 252 (dk_at dksX2_later_4 4 rfl rfl)
theorem dX2_later_100 : decode cX2_later 100 = .ok (.isub, 1) := dk_100 (dk_at dksX2_later_4 7 rfl rfl)
theorem dX2_later_101 : decode cX2_later 101 = .ok (.aload_n 0, 1) := dk_42 (dk_at dksX2_later_4 8 rfl rfl)
theorem dX2_later_102 : decode cX2_later 102 = .ok (.getfield 24, 3) := dk_180 0 24 (dk_at dksX2_later_4 9 rfl rfl)
theorem dX2_later_105 : decode cX2_later 105 = .ok (.iconst 3, 1) := dk_6 (dk_at dksX2_later_4 12 rfl rfl)
theorem dX2_later_106 : decode cX2_later 106 = .ok (.iaload, 1) := dk_46 (dk_at dksX2_later_4 13 rfl rfl)
theorem dX2_later_107 : decode cX2_later 107 = .ok (.isub, 1) := dk_100 (dk_at dksX2_later_4 14 rfl rfl)
theorem dX2_later_108 : decode cX2_later 108 = .ok (.aload_n 0, 1) := dk_42 (dk_at dksX2_later_4 15 rfl rfl)
theorem dX2_later_109 : decode cX2_later 109 = .ok (.iload 5, 2) := dk_21 5 (dk_at dksX2_later_4 16 rfl rfl)
theorem dX2_later_111 : decode cX2_later 111 = .ok (.iload_n 3, 1) := dk_29 (dk_at dksX2_later_4 18 rfl rfl)
theorem dX2_later_112 : decode cX2_later 112 = .ok (.invokevirtual 258, 3) := dk_182 1 2 (dk_at dksX2_later_4 19 rfl rfl)
theorem dX2_later_115 : decode cX2_later 115 = .ok (.isub, 1) := dk_100 (dk_at dksX2_later_4 22 rfl rfl)
theorem dX2_later_116 : decode cX2_later 116 = .ok (.goto 6, 3) := dk_167 0 6 (dk_at dksX2_later_5 0 rfl rfl)
theorem dX2_later_119 : decode cX2_later 119 = .ok (.sipush (-9999), 3) := dk_17 216 241 (dk_at dksX2_later_5 3 rfl rfl)
theorem dX2_later_122 : decode cX2_later 122 = .ok (.ireturn, 1) := dk_172 (dk_at dksX2_later_5 6 rfl rfl)
abbrev cX2_which : ByteArray := prog_31_method_80_code
def yX2_which : MethodName := ⟨RX2, "which", "(I)I"⟩
def dkwX2_which_5 : List UInt8 := [182, 1, 87, 153, 0, 7, 5, 167, 0, 4, 3, 96, 172]
abbrev dktX2_which_5 : List UInt8 := dkwX2_which_5 ++ []
def dkwX2_which_4 : List UInt8 := [182, 1, 87, 153, 0, 7, 4, 167, 0, 4, 3, 61, 42, 182, 1, 66, 28, 42, 27, 16, 10, 112]
abbrev dktX2_which_4 : List UInt8 := dkwX2_which_4 ++ dktX2_which_5
def dkwX2_which_3 : List UInt8 := [16, 10, 112, 46, 4, 159, 0, 6, 16, 244, 172, 42, 27, 16, 10, 108, 182, 1, 12, 42, 27, 16, 10, 112]
abbrev dktX2_which_3 : List UInt8 := dkwX2_which_3 ++ dktX2_which_4
def dkwX2_which_2 : List UInt8 := [2, 160, 0, 6, 16, 245, 172, 42, 180, 0, 81, 27, 16, 10, 108, 46, 154, 0, 16, 42, 180, 0, 81, 27]
abbrev dktX2_which_2 : List UInt8 := dkwX2_which_2 ++ dktX2_which_3
def dkwX2_which_1 : List UInt8 := [2, 172, 42, 180, 0, 81, 27, 16, 10, 108, 46, 2, 159, 0, 16, 42, 180, 0, 81, 27, 16, 10, 112, 46]
abbrev dktX2_which_1 : List UInt8 := dkwX2_which_1 ++ dktX2_which_2
def dkwX2_which_0 : List UInt8 := [27, 155, 0, 23, 27, 16, 10, 108, 184, 0, 131, 153, 0, 13, 27, 16, 10, 112, 184, 0, 131, 154, 0, 5]
abbrev dktX2_which_0 : List UInt8 := dkwX2_which_0 ++ dktX2_which_1
theorem dksX2_which_0 : cX2_which.data.toList.drop 0 = dktX2_which_0 := by decide +kernel
theorem dksX2_which_1 : cX2_which.data.toList.drop 24 = dktX2_which_1 := dk_seg dksX2_which_0 24 rfl rfl
theorem dksX2_which_2 : cX2_which.data.toList.drop 48 = dktX2_which_2 := dk_seg dksX2_which_1 24 rfl rfl
theorem dksX2_which_3 : cX2_which.data.toList.drop 72 = dktX2_which_3 := dk_seg dksX2_which_2 24 rfl rfl
theorem dksX2_which_4 : cX2_which.data.toList.drop 96 = dktX2_which_4 := dk_seg dksX2_which_3 24 rfl rfl
theorem dksX2_which_5 : cX2_which.data.toList.drop 118 = dktX2_which_5 := dk_seg dksX2_which_4 22 rfl rfl
theorem dX2_which_0 : decode cX2_which 0 = .ok (.iload_n 1, 1) := dk_27 (dk_at dksX2_which_0 0 rfl rfl)
theorem dX2_which_1 : decode cX2_which 1 = .ok (.ifCond .lt 23, 3) := dk_155 0 23 (dk_at dksX2_which_0 1 rfl rfl)
theorem dX2_which_4 : decode cX2_which 4 = .ok (.iload_n 1, 1) := dk_27 (dk_at dksX2_which_0 4 rfl rfl)
theorem dX2_which_5 : decode cX2_which 5 = .ok (.bipush 10, 2) := dk_16 10 (dk_at dksX2_which_0 5 rfl rfl)
theorem dX2_which_7 : decode cX2_which 7 = .ok (.idiv, 1) := dk_108 (dk_at dksX2_which_0 7 rfl rfl)
theorem dX2_which_8 : decode cX2_which 8 = .ok (.invokestatic 131, 3) := dk_184 0 131 (dk_at dksX2_which_0 8 rfl rfl)
theorem dX2_which_11 : decode cX2_which 11 = .ok (.ifCond .eq 13, 3) := dk_153 0 13 (dk_at dksX2_which_0 11 rfl rfl)
theorem dX2_which_14 : decode cX2_which 14 = .ok (.iload_n 1, 1) := dk_27 (dk_at dksX2_which_0 14 rfl rfl)
theorem dX2_which_15 : decode cX2_which 15 = .ok (.bipush 10, 2) := dk_16 10 (dk_at dksX2_which_0 15 rfl rfl)
theorem dX2_which_17 : decode cX2_which 17 = .ok (.irem, 1) := dk_112 (dk_at dksX2_which_0 17 rfl rfl)
theorem dX2_which_18 : decode cX2_which 18 = .ok (.invokestatic 131, 3) := dk_184 0 131 (dk_at dksX2_which_0 18 rfl rfl)
theorem dX2_which_21 : decode cX2_which 21 = .ok (.ifCond .ne 5, 3) := dk_154 0 5 (dk_at dksX2_which_0 21 rfl rfl)
theorem dX2_which_24 : decode cX2_which 24 = .ok (.iconst (-1), 1) := dk_2 (dk_at dksX2_which_1 0 rfl rfl)
theorem dX2_which_25 : decode cX2_which 25 = .ok (.ireturn, 1) := dk_172 (dk_at dksX2_which_1 1 rfl rfl)
theorem dX2_which_26 : decode cX2_which 26 = .ok (.aload_n 0, 1) := dk_42 (dk_at dksX2_which_1 2 rfl rfl)
theorem dX2_which_27 : decode cX2_which 27 = .ok (.getfield 81, 3) := dk_180 0 81 (dk_at dksX2_which_1 3 rfl rfl)
theorem dX2_which_30 : decode cX2_which 30 = .ok (.iload_n 1, 1) := dk_27 (dk_at dksX2_which_1 6 rfl rfl)
theorem dX2_which_31 : decode cX2_which 31 = .ok (.bipush 10, 2) := dk_16 10 (dk_at dksX2_which_1 7 rfl rfl)
theorem dX2_which_33 : decode cX2_which 33 = .ok (.idiv, 1) := dk_108 (dk_at dksX2_which_1 9 rfl rfl)
theorem dX2_which_34 : decode cX2_which 34 = .ok (.iaload, 1) := dk_46 (dk_at dksX2_which_1 10 rfl rfl)
theorem dX2_which_35 : decode cX2_which 35 = .ok (.iconst (-1), 1) := dk_2 (dk_at dksX2_which_1 11 rfl rfl)
theorem dX2_which_36 : decode cX2_which 36 = .ok (.if_icmp .eq 16, 3) := dk_159 0 16 (dk_at dksX2_which_1 12 rfl rfl)
theorem dX2_which_39 : decode cX2_which 39 = .ok (.aload_n 0, 1) := dk_42 (dk_at dksX2_which_1 15 rfl rfl)
theorem dX2_which_40 : decode cX2_which 40 = .ok (.getfield 81, 3) := dk_180 0 81 (dk_at dksX2_which_1 16 rfl rfl)
theorem dX2_which_43 : decode cX2_which 43 = .ok (.iload_n 1, 1) := dk_27 (dk_at dksX2_which_1 19 rfl rfl)
theorem dX2_which_44 : decode cX2_which 44 = .ok (.bipush 10, 2) := dk_16 10 (dk_at dksX2_which_1 20 rfl rfl)
theorem dX2_which_46 : decode cX2_which 46 = .ok (.irem, 1) := dk_112 (dk_at dksX2_which_1 22 rfl rfl)
theorem dX2_which_47 : decode cX2_which 47 = .ok (.iaload, 1) := dk_46 (dk_at dksX2_which_1 23 rfl rfl)
theorem dX2_which_48 : decode cX2_which 48 = .ok (.iconst (-1), 1) := dk_2 (dk_at dksX2_which_2 0 rfl rfl)
theorem dX2_which_49 : decode cX2_which 49 = .ok (.if_icmp .ne 6, 3) := dk_160 0 6 (dk_at dksX2_which_2 1 rfl rfl)
theorem dX2_which_52 : decode cX2_which 52 = .ok (.bipush (-11), 2) := dk_16 245 (dk_at dksX2_which_2 4 rfl rfl)
theorem dX2_which_54 : decode cX2_which 54 = .ok (.ireturn, 1) := dk_172 (dk_at dksX2_which_2 6 rfl rfl)
theorem dX2_which_55 : decode cX2_which 55 = .ok (.aload_n 0, 1) := dk_42 (dk_at dksX2_which_2 7 rfl rfl)
theorem dX2_which_56 : decode cX2_which 56 = .ok (.getfield 81, 3) := dk_180 0 81 (dk_at dksX2_which_2 8 rfl rfl)
theorem dX2_which_59 : decode cX2_which 59 = .ok (.iload_n 1, 1) := dk_27 (dk_at dksX2_which_2 11 rfl rfl)
theorem dX2_which_60 : decode cX2_which 60 = .ok (.bipush 10, 2) := dk_16 10 (dk_at dksX2_which_2 12 rfl rfl)
theorem dX2_which_62 : decode cX2_which 62 = .ok (.idiv, 1) := dk_108 (dk_at dksX2_which_2 14 rfl rfl)
theorem dX2_which_63 : decode cX2_which 63 = .ok (.iaload, 1) := dk_46 (dk_at dksX2_which_2 15 rfl rfl)
theorem dX2_which_64 : decode cX2_which 64 = .ok (.ifCond .ne 16, 3) := dk_154 0 16 (dk_at dksX2_which_2 16 rfl rfl)
theorem dX2_which_67 : decode cX2_which 67 = .ok (.aload_n 0, 1) := dk_42 (dk_at dksX2_which_2 19 rfl rfl)
theorem dX2_which_68 : decode cX2_which 68 = .ok (.getfield 81, 3) := dk_180 0 81 (dk_at dksX2_which_2 20 rfl rfl)
theorem dX2_which_71 : decode cX2_which 71 = .ok (.iload_n 1, 1) := dk_27 (dk_at dksX2_which_2 23 rfl rfl)
theorem dX2_which_72 : decode cX2_which 72 = .ok (.bipush 10, 2) := dk_16 10 (dk_at dksX2_which_3 0 rfl rfl)
theorem dX2_which_74 : decode cX2_which 74 = .ok (.irem, 1) := dk_112 (dk_at dksX2_which_3 2 rfl rfl)
theorem dX2_which_75 : decode cX2_which 75 = .ok (.iaload, 1) := dk_46 (dk_at dksX2_which_3 3 rfl rfl)
theorem dX2_which_76 : decode cX2_which 76 = .ok (.iconst 1, 1) := dk_4 (dk_at dksX2_which_3 4 rfl rfl)
theorem dX2_which_77 : decode cX2_which 77 = .ok (.if_icmp .eq 6, 3) := dk_159 0 6 (dk_at dksX2_which_3 5 rfl rfl)
theorem dX2_which_80 : decode cX2_which 80 = .ok (.bipush (-12), 2) := dk_16 244 (dk_at dksX2_which_3 8 rfl rfl)
theorem dX2_which_82 : decode cX2_which 82 = .ok (.ireturn, 1) := dk_172 (dk_at dksX2_which_3 10 rfl rfl)
theorem dX2_which_83 : decode cX2_which 83 = .ok (.aload_n 0, 1) := dk_42 (dk_at dksX2_which_3 11 rfl rfl)
theorem dX2_which_84 : decode cX2_which 84 = .ok (.iload_n 1, 1) := dk_27 (dk_at dksX2_which_3 12 rfl rfl)
theorem dX2_which_85 : decode cX2_which 85 = .ok (.bipush 10, 2) := dk_16 10 (dk_at dksX2_which_3 13 rfl rfl)
theorem dX2_which_87 : decode cX2_which 87 = .ok (.idiv, 1) := dk_108 (dk_at dksX2_which_3 15 rfl rfl)
theorem dX2_which_88 : decode cX2_which 88 = .ok (.invokevirtual 268, 3) := dk_182 1 12 (dk_at dksX2_which_3 16 rfl rfl)
theorem dX2_which_91 : decode cX2_which 91 = .ok (.aload_n 0, 1) := dk_42 (dk_at dksX2_which_3 19 rfl rfl)
theorem dX2_which_92 : decode cX2_which 92 = .ok (.iload_n 1, 1) := dk_27 (dk_at dksX2_which_3 20 rfl rfl)
theorem dX2_which_93 : decode cX2_which 93 = .ok (.bipush 10, 2) := dk_16 10 (dk_at dksX2_which_3 21 rfl rfl)
theorem dX2_which_95 : decode cX2_which 95 = .ok (.irem, 1) := dk_112 (dk_at dksX2_which_3 23 rfl rfl)
theorem dX2_which_96 : decode cX2_which 96 = .ok (.invokevirtual 343, 3) := dk_182 1 87 (dk_at dksX2_which_4 0 rfl rfl)
theorem dX2_which_99 : decode cX2_which 99 = .ok (.ifCond .eq 7, 3) := dk_153 0 7 (dk_at dksX2_which_4 3 rfl rfl)
theorem dX2_which_102 : decode cX2_which 102 = .ok (.iconst 1, 1) := dk_4 (dk_at dksX2_which_4 6 rfl rfl)
theorem dX2_which_103 : decode cX2_which 103 = .ok (.goto 4, 3) := dk_167 0 4 (dk_at dksX2_which_4 7 rfl rfl)
theorem dX2_which_106 : decode cX2_which 106 = .ok (.iconst 0, 1) := dk_3 (dk_at dksX2_which_4 10 rfl rfl)
theorem dX2_which_107 : decode cX2_which 107 = .ok (.istore_n 2, 1) := dk_61 (dk_at dksX2_which_4 11 rfl rfl)
theorem dX2_which_108 : decode cX2_which 108 = .ok (.aload_n 0, 1) := dk_42 (dk_at dksX2_which_4 12 rfl rfl)
theorem dX2_which_109 : decode cX2_which 109 = .ok (.invokevirtual 322, 3) := dk_182 1 66 (dk_at dksX2_which_4 13 rfl rfl)
theorem dX2_which_112 : decode cX2_which 112 = .ok (.iload_n 2, 1) := dk_28 (dk_at dksX2_which_4 16 rfl rfl)
theorem dX2_which_113 : decode cX2_which 113 = .ok (.aload_n 0, 1) := dk_42 (dk_at dksX2_which_4 17 rfl rfl)
theorem dX2_which_114 : decode cX2_which 114 = .ok (.iload_n 1, 1) := dk_27 (dk_at dksX2_which_4 18 rfl rfl)
theorem dX2_which_115 : decode cX2_which 115 = .ok (.bipush 10, 2) := dk_16 10 (dk_at dksX2_which_4 19 rfl rfl)
theorem dX2_which_117 : decode cX2_which 117 = .ok (.irem, 1) := dk_112 (dk_at dksX2_which_4 21 rfl rfl)
theorem dX2_which_118 : decode cX2_which 118 = .ok (.invokevirtual 343, 3) := dk_182 1 87 (dk_at dksX2_which_5 0 rfl rfl)
theorem dX2_which_121 : decode cX2_which 121 = .ok (.ifCond .eq 7, 3) := dk_153 0 7 (dk_at dksX2_which_5 3 rfl rfl)
theorem dX2_which_124 : decode cX2_which 124 = .ok (.iconst 2, 1) := dk_5 (dk_at dksX2_which_5 6 rfl rfl)
theorem dX2_which_125 : decode cX2_which 125 = .ok (.goto 4, 3) := dk_167 0 4 (dk_at dksX2_which_5 7 rfl rfl)
theorem dX2_which_128 : decode cX2_which 128 = .ok (.iconst 0, 1) := dk_3 (dk_at dksX2_which_5 10 rfl rfl)
theorem dX2_which_129 : decode cX2_which 129 = .ok (.iadd, 1) := dk_96 (dk_at dksX2_which_5 11 rfl rfl)
theorem dX2_which_130 : decode cX2_which 130 = .ok (.ireturn, 1) := dk_172 (dk_at dksX2_which_5 12 rfl rfl)
abbrev cX2_isPaper : ByteArray := prog_31_method_79_code
def yX2_isPaper : MethodName := ⟨RX2, "isPaper", "(I)Z"⟩
def dkwX2_isPaper_3 : List UInt8 := [180, 0, 94, 28, 46, 159, 0, 5, 3, 172, 132, 2, 1, 167, 255, 179, 4, 172]
abbrev dktX2_isPaper_3 : List UInt8 := dkwX2_isPaper_3 ++ []
def dkwX2_isPaper_2 : List UInt8 := [104, 182, 0, 252, 42, 180, 0, 97, 28, 46, 160, 0, 22, 42, 27, 5, 28, 104, 4, 96, 182, 0, 252, 42]
abbrev dktX2_isPaper_2 : List UInt8 := dkwX2_isPaper_2 ++ dktX2_isPaper_3
def dkwX2_isPaper_1 : List UInt8 := [96, 42, 180, 0, 84, 27, 46, 162, 0, 11, 28, 42, 180, 0, 255, 161, 0, 5, 3, 172, 42, 27, 5, 28]
abbrev dktX2_isPaper_1 : List UInt8 := dkwX2_isPaper_1 ++ dktX2_isPaper_2
def dkwX2_isPaper_0 : List UInt8 := [42, 16, 30, 182, 1, 5, 3, 61, 5, 28, 104, 42, 180, 0, 84, 27, 46, 162, 0, 71, 5, 28, 104, 4]
abbrev dktX2_isPaper_0 : List UInt8 := dkwX2_isPaper_0 ++ dktX2_isPaper_1
theorem dksX2_isPaper_0 : cX2_isPaper.data.toList.drop 0 = dktX2_isPaper_0 := by decide +kernel
theorem dksX2_isPaper_1 : cX2_isPaper.data.toList.drop 24 = dktX2_isPaper_1 := dk_seg dksX2_isPaper_0 24 rfl rfl
theorem dksX2_isPaper_2 : cX2_isPaper.data.toList.drop 48 = dktX2_isPaper_2 := dk_seg dksX2_isPaper_1 24 rfl rfl
theorem dksX2_isPaper_3 : cX2_isPaper.data.toList.drop 72 = dktX2_isPaper_3 := dk_seg dksX2_isPaper_2 24 rfl rfl
theorem dX2_isPaper_0 : decode cX2_isPaper 0 = .ok (.aload_n 0, 1) := dk_42 (dk_at dksX2_isPaper_0 0 rfl rfl)
theorem dX2_isPaper_1 : decode cX2_isPaper 1 = .ok (.bipush 30, 2) := dk_16 30 (dk_at dksX2_isPaper_0 1 rfl rfl)
theorem dX2_isPaper_3 : decode cX2_isPaper 3 = .ok (.invokevirtual 261, 3) := dk_182 1 5 (dk_at dksX2_isPaper_0 3 rfl rfl)
theorem dX2_isPaper_6 : decode cX2_isPaper 6 = .ok (.iconst 0, 1) := dk_3 (dk_at dksX2_isPaper_0 6 rfl rfl)
theorem dX2_isPaper_7 : decode cX2_isPaper 7 = .ok (.istore_n 2, 1) := dk_61 (dk_at dksX2_isPaper_0 7 rfl rfl)
theorem dX2_isPaper_8 : decode cX2_isPaper 8 = .ok (.iconst 2, 1) := dk_5 (dk_at dksX2_isPaper_0 8 rfl rfl)
theorem dX2_isPaper_9 : decode cX2_isPaper 9 = .ok (.iload_n 2, 1) := dk_28 (dk_at dksX2_isPaper_0 9 rfl rfl)
theorem dX2_isPaper_10 : decode cX2_isPaper 10 = .ok (.imul, 1) := dk_104 (dk_at dksX2_isPaper_0 10 rfl rfl)
theorem dX2_isPaper_11 : decode cX2_isPaper 11 = .ok (.aload_n 0, 1) := dk_42 (dk_at dksX2_isPaper_0 11 rfl rfl)
theorem dX2_isPaper_12 : decode cX2_isPaper 12 = .ok (.getfield 84, 3) := dk_180 0 84 (dk_at dksX2_isPaper_0 12 rfl rfl)
theorem dX2_isPaper_15 : decode cX2_isPaper 15 = .ok (.iload_n 1, 1) := dk_27 (dk_at dksX2_isPaper_0 15 rfl rfl)
theorem dX2_isPaper_16 : decode cX2_isPaper 16 = .ok (.iaload, 1) := dk_46 (dk_at dksX2_isPaper_0 16 rfl rfl)
theorem dX2_isPaper_17 : decode cX2_isPaper 17 = .ok (.if_icmp .ge 71, 3) := dk_162 0 71 (dk_at dksX2_isPaper_0 17 rfl rfl)
theorem dX2_isPaper_20 : decode cX2_isPaper 20 = .ok (.iconst 2, 1) := dk_5 (dk_at dksX2_isPaper_0 20 rfl rfl)
theorem dX2_isPaper_21 : decode cX2_isPaper 21 = .ok (.iload_n 2, 1) := dk_28 (dk_at dksX2_isPaper_0 21 rfl rfl)
theorem dX2_isPaper_22 : decode cX2_isPaper 22 = .ok (.imul, 1) := dk_104 (dk_at dksX2_isPaper_0 22 rfl rfl)
theorem dX2_isPaper_23 : decode cX2_isPaper 23 = .ok (.iconst 1, 1) := dk_4 (dk_at dksX2_isPaper_0 23 rfl rfl)
theorem dX2_isPaper_24 : decode cX2_isPaper 24 = .ok (.iadd, 1) := dk_96 (dk_at dksX2_isPaper_1 0 rfl rfl)
theorem dX2_isPaper_25 : decode cX2_isPaper 25 = .ok (.aload_n 0, 1) := dk_42 (dk_at dksX2_isPaper_1 1 rfl rfl)
theorem dX2_isPaper_26 : decode cX2_isPaper 26 = .ok (.getfield 84, 3) := dk_180 0 84 (dk_at dksX2_isPaper_1 2 rfl rfl)
theorem dX2_isPaper_29 : decode cX2_isPaper 29 = .ok (.iload_n 1, 1) := dk_27 (dk_at dksX2_isPaper_1 5 rfl rfl)
theorem dX2_isPaper_30 : decode cX2_isPaper 30 = .ok (.iaload, 1) := dk_46 (dk_at dksX2_isPaper_1 6 rfl rfl)
theorem dX2_isPaper_31 : decode cX2_isPaper 31 = .ok (.if_icmp .ge 11, 3) := dk_162 0 11 (dk_at dksX2_isPaper_1 7 rfl rfl)
theorem dX2_isPaper_34 : decode cX2_isPaper 34 = .ok (.iload_n 2, 1) := dk_28 (dk_at dksX2_isPaper_1 10 rfl rfl)
theorem dX2_isPaper_35 : decode cX2_isPaper 35 = .ok (.aload_n 0, 1) := dk_42 (dk_at dksX2_isPaper_1 11 rfl rfl)
theorem dX2_isPaper_36 : decode cX2_isPaper 36 = .ok (.getfield 255, 3) := dk_180 0 255 (dk_at dksX2_isPaper_1 12 rfl rfl)
theorem dX2_isPaper_39 : decode cX2_isPaper 39 = .ok (.if_icmp .lt 5, 3) := dk_161 0 5 (dk_at dksX2_isPaper_1 15 rfl rfl)
theorem dX2_isPaper_42 : decode cX2_isPaper 42 = .ok (.iconst 0, 1) := dk_3 (dk_at dksX2_isPaper_1 18 rfl rfl)
theorem dX2_isPaper_43 : decode cX2_isPaper 43 = .ok (.ireturn, 1) := dk_172 (dk_at dksX2_isPaper_1 19 rfl rfl)
theorem dX2_isPaper_44 : decode cX2_isPaper 44 = .ok (.aload_n 0, 1) := dk_42 (dk_at dksX2_isPaper_1 20 rfl rfl)
theorem dX2_isPaper_45 : decode cX2_isPaper 45 = .ok (.iload_n 1, 1) := dk_27 (dk_at dksX2_isPaper_1 21 rfl rfl)
theorem dX2_isPaper_46 : decode cX2_isPaper 46 = .ok (.iconst 2, 1) := dk_5 (dk_at dksX2_isPaper_1 22 rfl rfl)
theorem dX2_isPaper_47 : decode cX2_isPaper 47 = .ok (.iload_n 2, 1) := dk_28 (dk_at dksX2_isPaper_1 23 rfl rfl)
theorem dX2_isPaper_48 : decode cX2_isPaper 48 = .ok (.imul, 1) := dk_104 (dk_at dksX2_isPaper_2 0 rfl rfl)
theorem dX2_isPaper_49 : decode cX2_isPaper 49 = .ok (.invokevirtual 252, 3) := dk_182 0 252 (dk_at dksX2_isPaper_2 1 rfl rfl)
theorem dX2_isPaper_52 : decode cX2_isPaper 52 = .ok (.aload_n 0, 1) := dk_42 (dk_at dksX2_isPaper_2 4 rfl rfl)
theorem dX2_isPaper_53 : decode cX2_isPaper 53 = .ok (.getfield 97, 3) := dk_180 0 97 (dk_at dksX2_isPaper_2 5 rfl rfl)
theorem dX2_isPaper_56 : decode cX2_isPaper 56 = .ok (.iload_n 2, 1) := dk_28 (dk_at dksX2_isPaper_2 8 rfl rfl)
theorem dX2_isPaper_57 : decode cX2_isPaper 57 = .ok (.iaload, 1) := dk_46 (dk_at dksX2_isPaper_2 9 rfl rfl)
theorem dX2_isPaper_58 : decode cX2_isPaper 58 = .ok (.if_icmp .ne 22, 3) := dk_160 0 22 (dk_at dksX2_isPaper_2 10 rfl rfl)
theorem dX2_isPaper_61 : decode cX2_isPaper 61 = .ok (.aload_n 0, 1) := dk_42 (dk_at dksX2_isPaper_2 13 rfl rfl)
theorem dX2_isPaper_62 : decode cX2_isPaper 62 = .ok (.iload_n 1, 1) := dk_27 (dk_at dksX2_isPaper_2 14 rfl rfl)
theorem dX2_isPaper_63 : decode cX2_isPaper 63 = .ok (.iconst 2, 1) := dk_5 (dk_at dksX2_isPaper_2 15 rfl rfl)
theorem dX2_isPaper_64 : decode cX2_isPaper 64 = .ok (.iload_n 2, 1) := dk_28 (dk_at dksX2_isPaper_2 16 rfl rfl)
theorem dX2_isPaper_65 : decode cX2_isPaper 65 = .ok (.imul, 1) := dk_104 (dk_at dksX2_isPaper_2 17 rfl rfl)
theorem dX2_isPaper_66 : decode cX2_isPaper 66 = .ok (.iconst 1, 1) := dk_4 (dk_at dksX2_isPaper_2 18 rfl rfl)
theorem dX2_isPaper_67 : decode cX2_isPaper 67 = .ok (.iadd, 1) := dk_96 (dk_at dksX2_isPaper_2 19 rfl rfl)
theorem dX2_isPaper_68 : decode cX2_isPaper 68 = .ok (.invokevirtual 252, 3) := dk_182 0 252 (dk_at dksX2_isPaper_2 20 rfl rfl)
theorem dX2_isPaper_71 : decode cX2_isPaper 71 = .ok (.aload_n 0, 1) := dk_42 (dk_at dksX2_isPaper_2 23 rfl rfl)
theorem dX2_isPaper_72 : decode cX2_isPaper 72 = .ok (.getfield 94, 3) := dk_180 0 94 (dk_at dksX2_isPaper_3 0 rfl rfl)
theorem dX2_isPaper_75 : decode cX2_isPaper 75 = .ok (.iload_n 2, 1) := dk_28 (dk_at dksX2_isPaper_3 3 rfl rfl)
theorem dX2_isPaper_76 : decode cX2_isPaper 76 = .ok (.iaload, 1) := dk_46 (dk_at dksX2_isPaper_3 4 rfl rfl)
theorem dX2_isPaper_77 : decode cX2_isPaper 77 = .ok (.if_icmp .eq 5, 3) := dk_159 0 5 (dk_at dksX2_isPaper_3 5 rfl rfl)
theorem dX2_isPaper_80 : decode cX2_isPaper 80 = .ok (.iconst 0, 1) := dk_3 (dk_at dksX2_isPaper_3 8 rfl rfl)
theorem dX2_isPaper_81 : decode cX2_isPaper 81 = .ok (.ireturn, 1) := dk_172 (dk_at dksX2_isPaper_3 9 rfl rfl)
theorem dX2_isPaper_82 : decode cX2_isPaper 82 = .ok (.iinc 2 1, 3) := dk_132 2 1 (dk_at dksX2_isPaper_3 10 rfl rfl)
theorem dX2_isPaper_85 : decode cX2_isPaper 85 = .ok (.goto (-77), 3) := dk_167 255 179 (dk_at dksX2_isPaper_3 13 rfl rfl)
theorem dX2_isPaper_88 : decode cX2_isPaper 88 = .ok (.iconst 1, 1) := dk_4 (dk_at dksX2_isPaper_3 16 rfl rfl)
theorem dX2_isPaper_89 : decode cX2_isPaper 89 = .ok (.ireturn, 1) := dk_172 (dk_at dksX2_isPaper_3 17 rfl rfl)
abbrev cX2_fit : ByteArray := prog_31_method_81_code
def yX2_fit : MethodName := ⟨RX2, "fit", "(II)I"⟩
def dkwX2_fit_9 : List UInt8 := [167, 0, 5, 16, 254, 172]
abbrev dktX2_fit_9 : List UInt8 := dkwX2_fit_9 ++ []
def dkwX2_fit_8 : List UInt8 := [167, 0, 27, 21, 4, 158, 0, 20, 28, 42, 180, 0, 120, 162, 0, 12, 42, 180, 0, 113, 28, 46]
abbrev dktX2_fit_8 : List UInt8 := dkwX2_fit_8 ++ dktX2_fit_9
def dkwX2_fit_7 : List UInt8 := [167, 255, 230, 42, 42, 180, 0, 120, 182, 1, 43, 54, 5, 167, 255, 153, 28, 2, 160, 0, 8, 21, 4]
abbrev dktX2_fit_7 : List UInt8 := dkwX2_fit_7 ++ dktX2_fit_8
def dkwX2_fit_6 : List UInt8 := [42, 180, 0, 120, 162, 0, 23, 42, 180, 0, 113, 21, 6, 42, 180, 0, 110, 21, 6, 46, 79, 132, 6, 1]
abbrev dktX2_fit_6 : List UInt8 := dkwX2_fit_6 ++ dktX2_fit_7
def dkwX2_fit_5 : List UInt8 := [167, 255, 230, 42, 27, 182, 1, 87, 153, 0, 43, 21, 4, 132, 4, 1, 154, 0, 35, 3, 54, 6, 21, 6]
abbrev dktX2_fit_5 : List UInt8 := dkwX2_fit_5 ++ dktX2_fit_6
def dkwX2_fit_4 : List UInt8 := [180, 0, 120, 162, 0, 23, 42, 180, 0, 91, 21, 6, 42, 180, 0, 110, 21, 6, 46, 79, 132, 6, 1]
abbrev dktX2_fit_4 : List UInt8 := dkwX2_fit_4 ++ dktX2_fit_5
def dkwX2_fit_3 : List UInt8 := [4, 54, 5, 21, 5, 153, 0, 104, 42, 42, 180, 0, 120, 181, 0, 231, 3, 54, 6, 21, 6, 42]
abbrev dktX2_fit_3 : List UInt8 := dkwX2_fit_3 ++ dktX2_fit_4
def dkwX2_fit_2 : List UInt8 := [180, 0, 120, 162, 0, 18, 42, 180, 0, 110, 21, 4, 21, 4, 79, 132, 4, 1, 167, 255, 235, 3, 54, 4]
abbrev dktX2_fit_2 : List UInt8 := dkwX2_fit_2 ++ dktX2_fit_3
def dkwX2_fit_1 : List UInt8 := [156, 0, 5, 29, 172, 42, 180, 0, 120, 16, 6, 164, 0, 6, 16, 251, 172, 3, 54, 4, 21, 4, 42]
abbrev dktX2_fit_1 : List UInt8 := dkwX2_fit_1 ++ dktX2_fit_2
def dkwX2_fit_0 : List UInt8 := [27, 184, 0, 131, 153, 0, 8, 28, 2, 162, 0, 5, 2, 172, 42, 27, 4, 182, 1, 9, 62, 29]
abbrev dktX2_fit_0 : List UInt8 := dkwX2_fit_0 ++ dktX2_fit_1
theorem dksX2_fit_0 : cX2_fit.data.toList.drop 0 = dktX2_fit_0 := by decide +kernel
theorem dksX2_fit_1 : cX2_fit.data.toList.drop 22 = dktX2_fit_1 := dk_seg dksX2_fit_0 22 rfl rfl
theorem dksX2_fit_2 : cX2_fit.data.toList.drop 45 = dktX2_fit_2 := dk_seg dksX2_fit_1 23 rfl rfl
theorem dksX2_fit_3 : cX2_fit.data.toList.drop 69 = dktX2_fit_3 := dk_seg dksX2_fit_2 24 rfl rfl
theorem dksX2_fit_4 : cX2_fit.data.toList.drop 91 = dktX2_fit_4 := dk_seg dksX2_fit_3 22 rfl rfl
theorem dksX2_fit_5 : cX2_fit.data.toList.drop 114 = dktX2_fit_5 := dk_seg dksX2_fit_4 23 rfl rfl
theorem dksX2_fit_6 : cX2_fit.data.toList.drop 138 = dktX2_fit_6 := dk_seg dksX2_fit_5 24 rfl rfl
theorem dksX2_fit_7 : cX2_fit.data.toList.drop 162 = dktX2_fit_7 := dk_seg dksX2_fit_6 24 rfl rfl
theorem dksX2_fit_8 : cX2_fit.data.toList.drop 185 = dktX2_fit_8 := dk_seg dksX2_fit_7 23 rfl rfl
theorem dksX2_fit_9 : cX2_fit.data.toList.drop 207 = dktX2_fit_9 := dk_seg dksX2_fit_8 22 rfl rfl
theorem dX2_fit_0 : decode cX2_fit 0 = .ok (.iload_n 1, 1) := dk_27 (dk_at dksX2_fit_0 0 rfl rfl)
theorem dX2_fit_1 : decode cX2_fit 1 = .ok (.invokestatic 131, 3) := dk_184 0 131 (dk_at dksX2_fit_0 1 rfl rfl)
theorem dX2_fit_4 : decode cX2_fit 4 = .ok (.ifCond .eq 8, 3) := dk_153 0 8 (dk_at dksX2_fit_0 4 rfl rfl)
theorem dX2_fit_7 : decode cX2_fit 7 = .ok (.iload_n 2, 1) := dk_28 (dk_at dksX2_fit_0 7 rfl rfl)
theorem dX2_fit_8 : decode cX2_fit 8 = .ok (.iconst (-1), 1) := dk_2 (dk_at dksX2_fit_0 8 rfl rfl)
theorem dX2_fit_9 : decode cX2_fit 9 = .ok (.if_icmp .ge 5, 3) := dk_162 0 5 (dk_at dksX2_fit_0 9 rfl rfl)
theorem dX2_fit_12 : decode cX2_fit 12 = .ok (.iconst (-1), 1) := dk_2 (dk_at dksX2_fit_0 12 rfl rfl)
theorem dX2_fit_13 : decode cX2_fit 13 = .ok (.ireturn, 1) := dk_172 (dk_at dksX2_fit_0 13 rfl rfl)
theorem dX2_fit_14 : decode cX2_fit 14 = .ok (.aload_n 0, 1) := dk_42 (dk_at dksX2_fit_0 14 rfl rfl)
theorem dX2_fit_15 : decode cX2_fit 15 = .ok (.iload_n 1, 1) := dk_27 (dk_at dksX2_fit_0 15 rfl rfl)
theorem dX2_fit_16 : decode cX2_fit 16 = .ok (.iconst 1, 1) := dk_4 (dk_at dksX2_fit_0 16 rfl rfl)
theorem dX2_fit_17 : decode cX2_fit 17 = .ok (.invokevirtual 265, 3) := dk_182 1 9 (dk_at dksX2_fit_0 17 rfl rfl)
theorem dX2_fit_20 : decode cX2_fit 20 = .ok (.istore_n 3, 1) := dk_62 (dk_at dksX2_fit_0 20 rfl rfl)
theorem dX2_fit_21 : decode cX2_fit 21 = .ok (.iload_n 3, 1) := dk_29 (dk_at dksX2_fit_0 21 rfl rfl)
theorem dX2_fit_22 : decode cX2_fit 22 = .ok (.ifCond .ge 5, 3) := dk_156 0 5 (dk_at dksX2_fit_1 0 rfl rfl)
theorem dX2_fit_25 : decode cX2_fit 25 = .ok (.iload_n 3, 1) := dk_29 (dk_at dksX2_fit_1 3 rfl rfl)
theorem dX2_fit_26 : decode cX2_fit 26 = .ok (.ireturn, 1) := dk_172 (dk_at dksX2_fit_1 4 rfl rfl)
theorem dX2_fit_27 : decode cX2_fit 27 = .ok (.aload_n 0, 1) := dk_42 (dk_at dksX2_fit_1 5 rfl rfl)
theorem dX2_fit_28 : decode cX2_fit 28 = .ok (.getfield 120, 3) := dk_180 0 120 (dk_at dksX2_fit_1 6 rfl rfl)
theorem dX2_fit_31 : decode cX2_fit 31 = .ok (.bipush 6, 2) := dk_16 6 (dk_at dksX2_fit_1 9 rfl rfl)
theorem dX2_fit_33 : decode cX2_fit 33 = .ok (.if_icmp .le 6, 3) := dk_164 0 6 (dk_at dksX2_fit_1 11 rfl rfl)
theorem dX2_fit_36 : decode cX2_fit 36 = .ok (.bipush (-5), 2) := dk_16 251 (dk_at dksX2_fit_1 14 rfl rfl)
theorem dX2_fit_38 : decode cX2_fit 38 = .ok (.ireturn, 1) := dk_172 (dk_at dksX2_fit_1 16 rfl rfl)
theorem dX2_fit_39 : decode cX2_fit 39 = .ok (.iconst 0, 1) := dk_3 (dk_at dksX2_fit_1 17 rfl rfl)
theorem dX2_fit_40 : decode cX2_fit 40 = .ok (.istore 4, 2) := dk_54 4 (dk_at dksX2_fit_1 18 rfl rfl)
theorem dX2_fit_42 : decode cX2_fit 42 = .ok (.iload 4, 2) := dk_21 4 (dk_at dksX2_fit_1 20 rfl rfl)
theorem dX2_fit_44 : decode cX2_fit 44 = .ok (.aload_n 0, 1) := dk_42 (dk_at dksX2_fit_1 22 rfl rfl)
theorem dX2_fit_45 : decode cX2_fit 45 = .ok (.getfield 120, 3) := dk_180 0 120 (dk_at dksX2_fit_2 0 rfl rfl)
theorem dX2_fit_48 : decode cX2_fit 48 = .ok (.if_icmp .ge 18, 3) := dk_162 0 18 (dk_at dksX2_fit_2 3 rfl rfl)
theorem dX2_fit_51 : decode cX2_fit 51 = .ok (.aload_n 0, 1) := dk_42 (dk_at dksX2_fit_2 6 rfl rfl)
theorem dX2_fit_52 : decode cX2_fit 52 = .ok (.getfield 110, 3) := dk_180 0 110 (dk_at dksX2_fit_2 7 rfl rfl)
theorem dX2_fit_55 : decode cX2_fit 55 = .ok (.iload 4, 2) := dk_21 4 (dk_at dksX2_fit_2 10 rfl rfl)
theorem dX2_fit_57 : decode cX2_fit 57 = .ok (.iload 4, 2) := dk_21 4 (dk_at dksX2_fit_2 12 rfl rfl)
theorem dX2_fit_59 : decode cX2_fit 59 = .ok (.iastore, 1) := dk_79 (dk_at dksX2_fit_2 14 rfl rfl)
theorem dX2_fit_60 : decode cX2_fit 60 = .ok (.iinc 4 1, 3) := dk_132 4 1 (dk_at dksX2_fit_2 15 rfl rfl)
theorem dX2_fit_63 : decode cX2_fit 63 = .ok (.goto (-21), 3) := dk_167 255 235 (dk_at dksX2_fit_2 18 rfl rfl)
theorem dX2_fit_66 : decode cX2_fit 66 = .ok (.iconst 0, 1) := dk_3 (dk_at dksX2_fit_2 21 rfl rfl)
theorem dX2_fit_67 : decode cX2_fit 67 = .ok (.istore 4, 2) := dk_54 4 (dk_at dksX2_fit_2 22 rfl rfl)
theorem dX2_fit_69 : decode cX2_fit 69 = .ok (.iconst 1, 1) := dk_4 (dk_at dksX2_fit_3 0 rfl rfl)
theorem dX2_fit_70 : decode cX2_fit 70 = .ok (.istore 5, 2) := dk_54 5 (dk_at dksX2_fit_3 1 rfl rfl)
theorem dX2_fit_72 : decode cX2_fit 72 = .ok (.iload 5, 2) := dk_21 5 (dk_at dksX2_fit_3 3 rfl rfl)
theorem dX2_fit_74 : decode cX2_fit 74 = .ok (.ifCond .eq 104, 3) := dk_153 0 104 (dk_at dksX2_fit_3 5 rfl rfl)
theorem dX2_fit_77 : decode cX2_fit 77 = .ok (.aload_n 0, 1) := dk_42 (dk_at dksX2_fit_3 8 rfl rfl)
theorem dX2_fit_78 : decode cX2_fit 78 = .ok (.aload_n 0, 1) := dk_42 (dk_at dksX2_fit_3 9 rfl rfl)
theorem dX2_fit_79 : decode cX2_fit 79 = .ok (.getfield 120, 3) := dk_180 0 120 (dk_at dksX2_fit_3 10 rfl rfl)
theorem dX2_fit_82 : decode cX2_fit 82 = .ok (.putfield 231, 3) := dk_181 0 231 (dk_at dksX2_fit_3 13 rfl rfl)
theorem dX2_fit_85 : decode cX2_fit 85 = .ok (.iconst 0, 1) := dk_3 (dk_at dksX2_fit_3 16 rfl rfl)
theorem dX2_fit_86 : decode cX2_fit 86 = .ok (.istore 6, 2) := dk_54 6 (dk_at dksX2_fit_3 17 rfl rfl)
theorem dX2_fit_88 : decode cX2_fit 88 = .ok (.iload 6, 2) := dk_21 6 (dk_at dksX2_fit_3 19 rfl rfl)
theorem dX2_fit_90 : decode cX2_fit 90 = .ok (.aload_n 0, 1) := dk_42 (dk_at dksX2_fit_3 21 rfl rfl)
theorem dX2_fit_91 : decode cX2_fit 91 = .ok (.getfield 120, 3) := dk_180 0 120 (dk_at dksX2_fit_4 0 rfl rfl)
theorem dX2_fit_94 : decode cX2_fit 94 = .ok (.if_icmp .ge 23, 3) := dk_162 0 23 (dk_at dksX2_fit_4 3 rfl rfl)
theorem dX2_fit_97 : decode cX2_fit 97 = .ok (.aload_n 0, 1) := dk_42 (dk_at dksX2_fit_4 6 rfl rfl)
theorem dX2_fit_98 : decode cX2_fit 98 = .ok (.getfield 91, 3) := dk_180 0 91 (dk_at dksX2_fit_4 7 rfl rfl)
theorem dX2_fit_101 : decode cX2_fit 101 = .ok (.iload 6, 2) := dk_21 6 (dk_at dksX2_fit_4 10 rfl rfl)
theorem dX2_fit_103 : decode cX2_fit 103 = .ok (.aload_n 0, 1) := dk_42 (dk_at dksX2_fit_4 12 rfl rfl)
theorem dX2_fit_104 : decode cX2_fit 104 = .ok (.getfield 110, 3) := dk_180 0 110 (dk_at dksX2_fit_4 13 rfl rfl)
theorem dX2_fit_107 : decode cX2_fit 107 = .ok (.iload 6, 2) := dk_21 6 (dk_at dksX2_fit_4 16 rfl rfl)
theorem dX2_fit_109 : decode cX2_fit 109 = .ok (.iaload, 1) := dk_46 (dk_at dksX2_fit_4 18 rfl rfl)
theorem dX2_fit_110 : decode cX2_fit 110 = .ok (.iastore, 1) := dk_79 (dk_at dksX2_fit_4 19 rfl rfl)
theorem dX2_fit_111 : decode cX2_fit 111 = .ok (.iinc 6 1, 3) := dk_132 6 1 (dk_at dksX2_fit_4 20 rfl rfl)
theorem dX2_fit_114 : decode cX2_fit 114 = .ok (.goto (-26), 3) := dk_167 255 230 (dk_at dksX2_fit_5 0 rfl rfl)
theorem dX2_fit_117 : decode cX2_fit 117 = .ok (.aload_n 0, 1) := dk_42 (dk_at dksX2_fit_5 3 rfl rfl)
theorem dX2_fit_118 : decode cX2_fit 118 = .ok (.iload_n 1, 1) := dk_27 (dk_at dksX2_fit_5 4 rfl rfl)
theorem dX2_fit_119 : decode cX2_fit 119 = .ok (.invokevirtual 343, 3) := dk_182 1 87 (dk_at dksX2_fit_5 5 rfl rfl)
theorem dX2_fit_122 : decode cX2_fit 122 = .ok (.ifCond .eq 43, 3) := dk_153 0 43 (dk_at dksX2_fit_5 8 rfl rfl)
theorem dX2_fit_125 : decode cX2_fit 125 = .ok (.iload 4, 2) := dk_21 4 (dk_at dksX2_fit_5 11 rfl rfl)
theorem dX2_fit_127 : decode cX2_fit 127 = .ok (.iinc 4 1, 3) := dk_132 4 1 (dk_at dksX2_fit_5 13 rfl rfl)
theorem dX2_fit_130 : decode cX2_fit 130 = .ok (.ifCond .ne 35, 3) := dk_154 0 35 (dk_at dksX2_fit_5 16 rfl rfl)
theorem dX2_fit_133 : decode cX2_fit 133 = .ok (.iconst 0, 1) := dk_3 (dk_at dksX2_fit_5 19 rfl rfl)
theorem dX2_fit_134 : decode cX2_fit 134 = .ok (.istore 6, 2) := dk_54 6 (dk_at dksX2_fit_5 20 rfl rfl)
theorem dX2_fit_136 : decode cX2_fit 136 = .ok (.iload 6, 2) := dk_21 6 (dk_at dksX2_fit_5 22 rfl rfl)
theorem dX2_fit_138 : decode cX2_fit 138 = .ok (.aload_n 0, 1) := dk_42 (dk_at dksX2_fit_6 0 rfl rfl)
theorem dX2_fit_139 : decode cX2_fit 139 = .ok (.getfield 120, 3) := dk_180 0 120 (dk_at dksX2_fit_6 1 rfl rfl)
theorem dX2_fit_142 : decode cX2_fit 142 = .ok (.if_icmp .ge 23, 3) := dk_162 0 23 (dk_at dksX2_fit_6 4 rfl rfl)
theorem dX2_fit_145 : decode cX2_fit 145 = .ok (.aload_n 0, 1) := dk_42 (dk_at dksX2_fit_6 7 rfl rfl)
theorem dX2_fit_146 : decode cX2_fit 146 = .ok (.getfield 113, 3) := dk_180 0 113 (dk_at dksX2_fit_6 8 rfl rfl)
theorem dX2_fit_149 : decode cX2_fit 149 = .ok (.iload 6, 2) := dk_21 6 (dk_at dksX2_fit_6 11 rfl rfl)
theorem dX2_fit_151 : decode cX2_fit 151 = .ok (.aload_n 0, 1) := dk_42 (dk_at dksX2_fit_6 13 rfl rfl)
theorem dX2_fit_152 : decode cX2_fit 152 = .ok (.getfield 110, 3) := dk_180 0 110 (dk_at dksX2_fit_6 14 rfl rfl)
theorem dX2_fit_155 : decode cX2_fit 155 = .ok (.iload 6, 2) := dk_21 6 (dk_at dksX2_fit_6 17 rfl rfl)
theorem dX2_fit_157 : decode cX2_fit 157 = .ok (.iaload, 1) := dk_46 (dk_at dksX2_fit_6 19 rfl rfl)
theorem dX2_fit_158 : decode cX2_fit 158 = .ok (.iastore, 1) := dk_79 (dk_at dksX2_fit_6 20 rfl rfl)
theorem dX2_fit_159 : decode cX2_fit 159 = .ok (.iinc 6 1, 3) := dk_132 6 1 (dk_at dksX2_fit_6 21 rfl rfl)
theorem dX2_fit_162 : decode cX2_fit 162 = .ok (.goto (-26), 3) := dk_167 255 230 (dk_at dksX2_fit_7 0 rfl rfl)
theorem dX2_fit_165 : decode cX2_fit 165 = .ok (.aload_n 0, 1) := dk_42 (dk_at dksX2_fit_7 3 rfl rfl)
theorem dX2_fit_166 : decode cX2_fit 166 = .ok (.aload_n 0, 1) := dk_42 (dk_at dksX2_fit_7 4 rfl rfl)
theorem dX2_fit_167 : decode cX2_fit 167 = .ok (.getfield 120, 3) := dk_180 0 120 (dk_at dksX2_fit_7 5 rfl rfl)
theorem dX2_fit_170 : decode cX2_fit 170 = .ok (.invokevirtual 299, 3) := dk_182 1 43 (dk_at dksX2_fit_7 8 rfl rfl)
theorem dX2_fit_173 : decode cX2_fit 173 = .ok (.istore 5, 2) := dk_54 5 (dk_at dksX2_fit_7 11 rfl rfl)
theorem dX2_fit_175 : decode cX2_fit 175 = .ok (.goto (-103), 3) := dk_167 255 153 (dk_at dksX2_fit_7 13 rfl rfl)
theorem dX2_fit_178 : decode cX2_fit 178 = .ok (.iload_n 2, 1) := dk_28 (dk_at dksX2_fit_7 16 rfl rfl)
theorem dX2_fit_179 : decode cX2_fit 179 = .ok (.iconst (-1), 1) := dk_2 (dk_at dksX2_fit_7 17 rfl rfl)
theorem dX2_fit_180 : decode cX2_fit 180 = .ok (.if_icmp .ne 8, 3) := dk_160 0 8 (dk_at dksX2_fit_7 18 rfl rfl)
theorem dX2_fit_183 : decode cX2_fit 183 = .ok (.iload 4, 2) := dk_21 4 (dk_at dksX2_fit_7 21 rfl rfl)
theorem dX2_fit_185 : decode cX2_fit 185 = .ok (.goto 27, 3) := dk_167 0 27 (dk_at dksX2_fit_8 0 rfl rfl)
theorem dX2_fit_188 : decode cX2_fit 188 = .ok (.iload 4, 2) := dk_21 4 (dk_at dksX2_fit_8 3 rfl rfl)
theorem dX2_fit_190 : decode cX2_fit 190 = .ok (.ifCond .le 20, 3) := dk_158 0 20 (dk_at dksX2_fit_8 5 rfl rfl)
theorem dX2_fit_193 : decode cX2_fit 193 = .ok (.iload_n 2, 1) := dk_28 (dk_at dksX2_fit_8 8 rfl rfl)
theorem dX2_fit_194 : decode cX2_fit 194 = .ok (.aload_n 0, 1) := dk_42 (dk_at dksX2_fit_8 9 rfl rfl)
theorem dX2_fit_195 : decode cX2_fit 195 = .ok (.getfield 120, 3) := dk_180 0 120 (dk_at dksX2_fit_8 10 rfl rfl)
theorem dX2_fit_198 : decode cX2_fit 198 = .ok (.if_icmp .ge 12, 3) := dk_162 0 12 (dk_at dksX2_fit_8 13 rfl rfl)
theorem dX2_fit_201 : decode cX2_fit 201 = .ok (.aload_n 0, 1) := dk_42 (dk_at dksX2_fit_8 16 rfl rfl)
theorem dX2_fit_202 : decode cX2_fit 202 = .ok (.getfield 113, 3) := dk_180 0 113 (dk_at dksX2_fit_8 17 rfl rfl)
theorem dX2_fit_205 : decode cX2_fit 205 = .ok (.iload_n 2, 1) := dk_28 (dk_at dksX2_fit_8 20 rfl rfl)
theorem dX2_fit_206 : decode cX2_fit 206 = .ok (.iaload, 1) := dk_46 (dk_at dksX2_fit_8 21 rfl rfl)
theorem dX2_fit_207 : decode cX2_fit 207 = .ok (.goto 5, 3) := dk_167 0 5 (dk_at dksX2_fit_9 0 rfl rfl)
theorem dX2_fit_210 : decode cX2_fit 210 = .ok (.bipush (-2), 2) := dk_16 254 (dk_at dksX2_fit_9 3 rfl rfl)
theorem dX2_fit_212 : decode cX2_fit 212 = .ok (.ireturn, 1) := dk_172 (dk_at dksX2_fit_9 5 rfl rfl)
abbrev cX2_hang : ByteArray := prog_31_method_84_code
def yX2_hang : MethodName := ⟨RX2, "hang", "(II)I"⟩
def dkwX2_hang_3 : List UInt8 := [62, 132, 5, 1, 167, 255, 209, 28, 154, 0, 7, 29, 167, 0, 5, 21, 4, 172]
abbrev dktX2_hang_3 : List UInt8 := dkwX2_hang_3 ++ []
def dkwX2_hang_2 : List UInt8 := [42, 21, 5, 182, 1, 93, 21, 4, 163, 0, 6, 167, 0, 14, 42, 21, 5, 182, 1, 93, 54, 4, 21, 5]
abbrev dktX2_hang_2 : List UInt8 := dkwX2_hang_2 ++ dktX2_hang_3
def dkwX2_hang_1 : List UInt8 := [54, 4, 3, 54, 5, 21, 5, 17, 1, 0, 162, 0, 45, 42, 2, 21, 5, 182, 1, 90, 27, 163, 0, 28]
abbrev dktX2_hang_1 : List UInt8 := dkwX2_hang_1 ++ dktX2_hang_2
def dkwX2_hang_0 : List UInt8 := [27, 3, 16, 30, 184, 0, 123, 153, 0, 12, 28, 3, 4, 184, 0, 123, 154, 0, 5, 2, 172, 3, 62, 2]
abbrev dktX2_hang_0 : List UInt8 := dkwX2_hang_0 ++ dktX2_hang_1
theorem dksX2_hang_0 : cX2_hang.data.toList.drop 0 = dktX2_hang_0 := by decide +kernel
theorem dksX2_hang_1 : cX2_hang.data.toList.drop 24 = dktX2_hang_1 := dk_seg dksX2_hang_0 24 rfl rfl
theorem dksX2_hang_2 : cX2_hang.data.toList.drop 48 = dktX2_hang_2 := dk_seg dksX2_hang_1 24 rfl rfl
theorem dksX2_hang_3 : cX2_hang.data.toList.drop 72 = dktX2_hang_3 := dk_seg dksX2_hang_2 24 rfl rfl
theorem dX2_hang_0 : decode cX2_hang 0 = .ok (.iload_n 1, 1) := dk_27 (dk_at dksX2_hang_0 0 rfl rfl)
theorem dX2_hang_1 : decode cX2_hang 1 = .ok (.iconst 0, 1) := dk_3 (dk_at dksX2_hang_0 1 rfl rfl)
theorem dX2_hang_2 : decode cX2_hang 2 = .ok (.bipush 30, 2) := dk_16 30 (dk_at dksX2_hang_0 2 rfl rfl)
theorem dX2_hang_4 : decode cX2_hang 4 = .ok (.invokestatic 123, 3) := dk_184 0 123 (dk_at dksX2_hang_0 4 rfl rfl)
theorem dX2_hang_7 : decode cX2_hang 7 = .ok (.ifCond .eq 12, 3) := dk_153 0 12 (dk_at dksX2_hang_0 7 rfl rfl)
theorem dX2_hang_10 : decode cX2_hang 10 = .ok (.iload_n 2, 1) := dk_28 (dk_at dksX2_hang_0 10 rfl rfl)
theorem dX2_hang_11 : decode cX2_hang 11 = .ok (.iconst 0, 1) := dk_3 (dk_at dksX2_hang_0 11 rfl rfl)
theorem dX2_hang_12 : decode cX2_hang 12 = .ok (.iconst 1, 1) := dk_4 (dk_at dksX2_hang_0 12 rfl rfl)
theorem dX2_hang_13 : decode cX2_hang 13 = .ok (.invokestatic 123, 3) := dk_184 0 123 (dk_at dksX2_hang_0 13 rfl rfl)
theorem dX2_hang_16 : decode cX2_hang 16 = .ok (.ifCond .ne 5, 3) := dk_154 0 5 (dk_at dksX2_hang_0 16 rfl rfl)
theorem dX2_hang_19 : decode cX2_hang 19 = .ok (.iconst (-1), 1) := dk_2 (dk_at dksX2_hang_0 19 rfl rfl)
theorem dX2_hang_20 : decode cX2_hang 20 = .ok (.ireturn, 1) := dk_172 (dk_at dksX2_hang_0 20 rfl rfl)
theorem dX2_hang_21 : decode cX2_hang 21 = .ok (.iconst 0, 1) := dk_3 (dk_at dksX2_hang_0 21 rfl rfl)
theorem dX2_hang_22 : decode cX2_hang 22 = .ok (.istore_n 3, 1) := dk_62 (dk_at dksX2_hang_0 22 rfl rfl)
theorem dX2_hang_23 : decode cX2_hang 23 = .ok (.iconst (-1), 1) := dk_2 (dk_at dksX2_hang_0 23 rfl rfl)
theorem dX2_hang_24 : decode cX2_hang 24 = .ok (.istore 4, 2) := dk_54 4 (dk_at dksX2_hang_1 0 rfl rfl)
theorem dX2_hang_26 : decode cX2_hang 26 = .ok (.iconst 0, 1) := dk_3 (dk_at dksX2_hang_1 2 rfl rfl)
theorem dX2_hang_27 : decode cX2_hang 27 = .ok (.istore 5, 2) := dk_54 5 (dk_at dksX2_hang_1 3 rfl rfl)
theorem dX2_hang_29 : decode cX2_hang 29 = .ok (.iload 5, 2) := dk_21 5 (dk_at dksX2_hang_1 5 rfl rfl)
theorem dX2_hang_31 : decode cX2_hang 31 = .ok (.sipush 256, 3) := dk_17 1 0 (dk_at dksX2_hang_1 7 rfl rfl)
theorem dX2_hang_34 : decode cX2_hang 34 = .ok (.if_icmp .ge 45, 3) := dk_162 0 45 (dk_at dksX2_hang_1 10 rfl rfl)
theorem dX2_hang_37 : decode cX2_hang 37 = .ok (.aload_n 0, 1) := dk_42 (dk_at dksX2_hang_1 13 rfl rfl)
theorem dX2_hang_38 : decode cX2_hang 38 = .ok (.iconst (-1), 1) := dk_2 (dk_at dksX2_hang_1 14 rfl rfl)
theorem dX2_hang_39 : decode cX2_hang 39 = .ok (.iload 5, 2) := dk_21 5 (dk_at dksX2_hang_1 15 rfl rfl)
theorem dX2_hang_41 : decode cX2_hang 41 = .ok (.invokevirtual 346, 3) := dk_182 1 90 (dk_at dksX2_hang_1 17 rfl rfl)
theorem dX2_hang_44 : decode cX2_hang 44 = .ok (.iload_n 1, 1) := dk_27 (dk_at dksX2_hang_1 20 rfl rfl)
theorem dX2_hang_45 : decode cX2_hang 45 = .ok (.if_icmp .gt 28, 3) := dk_163 0 28 (dk_at dksX2_hang_1 21 rfl rfl)
theorem dX2_hang_48 : decode cX2_hang 48 = .ok (.aload_n 0, 1) := dk_42 (dk_at dksX2_hang_2 0 rfl rfl)
theorem dX2_hang_49 : decode cX2_hang 49 = .ok (.iload 5, 2) := dk_21 5 (dk_at dksX2_hang_2 1 rfl rfl)
theorem dX2_hang_51 : decode cX2_hang 51 = .ok (.invokevirtual 349, 3) := dk_182 1 93 (dk_at dksX2_hang_2 3 rfl rfl)
theorem dX2_hang_54 : decode cX2_hang 54 = .ok (.iload 4, 2) := dk_21 4 (dk_at dksX2_hang_2 6 rfl rfl)
theorem dX2_hang_56 : decode cX2_hang 56 = .ok (.if_icmp .gt 6, 3) := dk_163 0 6 (dk_at dksX2_hang_2 8 rfl rfl)
theorem dX2_hang_59 : decode cX2_hang 59 = .ok (.goto 14, 3) := dk_167 0 14 (dk_at dksX2_hang_2 11 rfl rfl)
theorem dX2_hang_62 : decode cX2_hang 62 = .ok (.aload_n 0, 1) := dk_42 (dk_at dksX2_hang_2 14 rfl rfl)
theorem dX2_hang_63 : decode cX2_hang 63 = .ok (.iload 5, 2) := dk_21 5 (dk_at dksX2_hang_2 15 rfl rfl)
theorem dX2_hang_65 : decode cX2_hang 65 = .ok (.invokevirtual 349, 3) := dk_182 1 93 (dk_at dksX2_hang_2 17 rfl rfl)
theorem dX2_hang_68 : decode cX2_hang 68 = .ok (.istore 4, 2) := dk_54 4 (dk_at dksX2_hang_2 20 rfl rfl)
theorem dX2_hang_70 : decode cX2_hang 70 = .ok (.iload 5, 2) := dk_21 5 (dk_at dksX2_hang_2 22 rfl rfl)
theorem dX2_hang_72 : decode cX2_hang 72 = .ok (.istore_n 3, 1) := dk_62 (dk_at dksX2_hang_3 0 rfl rfl)
theorem dX2_hang_73 : decode cX2_hang 73 = .ok (.iinc 5 1, 3) := dk_132 5 1 (dk_at dksX2_hang_3 1 rfl rfl)
theorem dX2_hang_76 : decode cX2_hang 76 = .ok (.goto (-47), 3) := dk_167 255 209 (dk_at dksX2_hang_3 4 rfl rfl)
theorem dX2_hang_79 : decode cX2_hang 79 = .ok (.iload_n 2, 1) := dk_28 (dk_at dksX2_hang_3 7 rfl rfl)
theorem dX2_hang_80 : decode cX2_hang 80 = .ok (.ifCond .ne 7, 3) := dk_154 0 7 (dk_at dksX2_hang_3 8 rfl rfl)
theorem dX2_hang_83 : decode cX2_hang 83 = .ok (.iload_n 3, 1) := dk_29 (dk_at dksX2_hang_3 11 rfl rfl)
theorem dX2_hang_84 : decode cX2_hang 84 = .ok (.goto 5, 3) := dk_167 0 5 (dk_at dksX2_hang_3 12 rfl rfl)
theorem dX2_hang_87 : decode cX2_hang 87 = .ok (.iload 4, 2) := dk_21 4 (dk_at dksX2_hang_3 15 rfl rfl)
theorem dX2_hang_89 : decode cX2_hang 89 = .ok (.ireturn, 1) := dk_172 (dk_at dksX2_hang_3 17 rfl rfl)
abbrev cX2_apartFrom : ByteArray := prog_31_method_82_code
def yX2_apartFrom : MethodName := ⟨RX2, "apartFrom", "(II)I"⟩
def dkwX2_apartFrom_1 : List UInt8 := [184, 0, 243, 96, 172]
abbrev dktX2_apartFrom_1 : List UInt8 := dkwX2_apartFrom_1 ++ []
def dkwX2_apartFrom_0 : List UInt8 := [42, 27, 182, 0, 240, 28, 16, 16, 112, 100, 184, 0, 243, 42, 27, 182, 0, 246, 28, 16, 16, 108, 100]
abbrev dktX2_apartFrom_0 : List UInt8 := dkwX2_apartFrom_0 ++ dktX2_apartFrom_1
theorem dksX2_apartFrom_0 : cX2_apartFrom.data.toList.drop 0 = dktX2_apartFrom_0 := by decide +kernel
theorem dksX2_apartFrom_1 : cX2_apartFrom.data.toList.drop 23 = dktX2_apartFrom_1 := dk_seg dksX2_apartFrom_0 23 rfl rfl
theorem dX2_apartFrom_0 : decode cX2_apartFrom 0 = .ok (.aload_n 0, 1) := dk_42 (dk_at dksX2_apartFrom_0 0 rfl rfl)
theorem dX2_apartFrom_1 : decode cX2_apartFrom 1 = .ok (.iload_n 1, 1) := dk_27 (dk_at dksX2_apartFrom_0 1 rfl rfl)
theorem dX2_apartFrom_2 : decode cX2_apartFrom 2 = .ok (.invokevirtual 240, 3) := dk_182 0 240 (dk_at dksX2_apartFrom_0 2 rfl rfl)
theorem dX2_apartFrom_5 : decode cX2_apartFrom 5 = .ok (.iload_n 2, 1) := dk_28 (dk_at dksX2_apartFrom_0 5 rfl rfl)
theorem dX2_apartFrom_6 : decode cX2_apartFrom 6 = .ok (.bipush 16, 2) := dk_16 16 (dk_at dksX2_apartFrom_0 6 rfl rfl)
theorem dX2_apartFrom_8 : decode cX2_apartFrom 8 = .ok (.irem, 1) := dk_112 (dk_at dksX2_apartFrom_0 8 rfl rfl)
theorem dX2_apartFrom_9 : decode cX2_apartFrom 9 = .ok (.isub, 1) := dk_100 (dk_at dksX2_apartFrom_0 9 rfl rfl)
theorem dX2_apartFrom_10 : decode cX2_apartFrom 10 = .ok (.invokestatic 243, 3) := dk_184 0 243 (dk_at dksX2_apartFrom_0 10 rfl rfl)
theorem dX2_apartFrom_13 : decode cX2_apartFrom 13 = .ok (.aload_n 0, 1) := dk_42 (dk_at dksX2_apartFrom_0 13 rfl rfl)
theorem dX2_apartFrom_14 : decode cX2_apartFrom 14 = .ok (.iload_n 1, 1) := dk_27 (dk_at dksX2_apartFrom_0 14 rfl rfl)
theorem dX2_apartFrom_15 : decode cX2_apartFrom 15 = .ok (.invokevirtual 246, 3) := dk_182 0 246 (dk_at dksX2_apartFrom_0 15 rfl rfl)
theorem dX2_apartFrom_18 : decode cX2_apartFrom 18 = .ok (.iload_n 2, 1) := dk_28 (dk_at dksX2_apartFrom_0 18 rfl rfl)
theorem dX2_apartFrom_19 : decode cX2_apartFrom 19 = .ok (.bipush 16, 2) := dk_16 16 (dk_at dksX2_apartFrom_0 19 rfl rfl)
theorem dX2_apartFrom_21 : decode cX2_apartFrom 21 = .ok (.idiv, 1) := dk_108 (dk_at dksX2_apartFrom_0 21 rfl rfl)
theorem dX2_apartFrom_22 : decode cX2_apartFrom 22 = .ok (.isub, 1) := dk_100 (dk_at dksX2_apartFrom_0 22 rfl rfl)
theorem dX2_apartFrom_23 : decode cX2_apartFrom 23 = .ok (.invokestatic 243, 3) := dk_184 0 243 (dk_at dksX2_apartFrom_1 0 rfl rfl)
theorem dX2_apartFrom_26 : decode cX2_apartFrom 26 = .ok (.iadd, 1) := dk_96 (dk_at dksX2_apartFrom_1 3 rfl rfl)
theorem dX2_apartFrom_27 : decode cX2_apartFrom 27 = .ok (.ireturn, 1) := dk_172 (dk_at dksX2_apartFrom_1 4 rfl rfl)
abbrev cX2_nearest : ByteArray := prog_31_method_83_code
def yX2_nearest : MethodName := ⟨RX2, "nearest", "(I)I"⟩
def dkwX2_nearest_1 : List UInt8 := [167, 0, 13, 28, 42, 29, 27, 182, 1, 90, 184, 0, 226, 61, 132, 3, 1, 167, 255, 221, 28, 172]
abbrev dktX2_nearest_1 : List UInt8 := dkwX2_nearest_1 ++ []
def dkwX2_nearest_0 : List UInt8 := [3, 61, 3, 62, 29, 42, 180, 0, 120, 162, 0, 33, 29, 154, 0, 12, 42, 29, 27, 182, 1, 90]
abbrev dktX2_nearest_0 : List UInt8 := dkwX2_nearest_0 ++ dktX2_nearest_1
theorem dksX2_nearest_0 : cX2_nearest.data.toList.drop 0 = dktX2_nearest_0 := by decide +kernel
theorem dksX2_nearest_1 : cX2_nearest.data.toList.drop 22 = dktX2_nearest_1 := dk_seg dksX2_nearest_0 22 rfl rfl
theorem dX2_nearest_0 : decode cX2_nearest 0 = .ok (.iconst 0, 1) := dk_3 (dk_at dksX2_nearest_0 0 rfl rfl)
theorem dX2_nearest_1 : decode cX2_nearest 1 = .ok (.istore_n 2, 1) := dk_61 (dk_at dksX2_nearest_0 1 rfl rfl)
theorem dX2_nearest_2 : decode cX2_nearest 2 = .ok (.iconst 0, 1) := dk_3 (dk_at dksX2_nearest_0 2 rfl rfl)
theorem dX2_nearest_3 : decode cX2_nearest 3 = .ok (.istore_n 3, 1) := dk_62 (dk_at dksX2_nearest_0 3 rfl rfl)
theorem dX2_nearest_4 : decode cX2_nearest 4 = .ok (.iload_n 3, 1) := dk_29 (dk_at dksX2_nearest_0 4 rfl rfl)
theorem dX2_nearest_5 : decode cX2_nearest 5 = .ok (.aload_n 0, 1) := dk_42 (dk_at dksX2_nearest_0 5 rfl rfl)
theorem dX2_nearest_6 : decode cX2_nearest 6 = .ok (.getfield 120, 3) := dk_180 0 120 (dk_at dksX2_nearest_0 6 rfl rfl)
theorem dX2_nearest_9 : decode cX2_nearest 9 = .ok (.if_icmp .ge 33, 3) := dk_162 0 33 (dk_at dksX2_nearest_0 9 rfl rfl)
theorem dX2_nearest_12 : decode cX2_nearest 12 = .ok (.iload_n 3, 1) := dk_29 (dk_at dksX2_nearest_0 12 rfl rfl)
theorem dX2_nearest_13 : decode cX2_nearest 13 = .ok (.ifCond .ne 12, 3) := dk_154 0 12 (dk_at dksX2_nearest_0 13 rfl rfl)
theorem dX2_nearest_16 : decode cX2_nearest 16 = .ok (.aload_n 0, 1) := dk_42 (dk_at dksX2_nearest_0 16 rfl rfl)
theorem dX2_nearest_17 : decode cX2_nearest 17 = .ok (.iload_n 3, 1) := dk_29 (dk_at dksX2_nearest_0 17 rfl rfl)
theorem dX2_nearest_18 : decode cX2_nearest 18 = .ok (.iload_n 1, 1) := dk_27 (dk_at dksX2_nearest_0 18 rfl rfl)
theorem dX2_nearest_19 : decode cX2_nearest 19 = .ok (.invokevirtual 346, 3) := dk_182 1 90 (dk_at dksX2_nearest_0 19 rfl rfl)
theorem dX2_nearest_22 : decode cX2_nearest 22 = .ok (.goto 13, 3) := dk_167 0 13 (dk_at dksX2_nearest_1 0 rfl rfl)
theorem dX2_nearest_25 : decode cX2_nearest 25 = .ok (.iload_n 2, 1) := dk_28 (dk_at dksX2_nearest_1 3 rfl rfl)
theorem dX2_nearest_26 : decode cX2_nearest 26 = .ok (.aload_n 0, 1) := dk_42 (dk_at dksX2_nearest_1 4 rfl rfl)
theorem dX2_nearest_27 : decode cX2_nearest 27 = .ok (.iload_n 3, 1) := dk_29 (dk_at dksX2_nearest_1 5 rfl rfl)
theorem dX2_nearest_28 : decode cX2_nearest 28 = .ok (.iload_n 1, 1) := dk_27 (dk_at dksX2_nearest_1 6 rfl rfl)
theorem dX2_nearest_29 : decode cX2_nearest 29 = .ok (.invokevirtual 346, 3) := dk_182 1 90 (dk_at dksX2_nearest_1 7 rfl rfl)
theorem dX2_nearest_32 : decode cX2_nearest 32 = .ok (.invokestatic 226, 3) := dk_184 0 226 (dk_at dksX2_nearest_1 10 rfl rfl)
theorem dX2_nearest_35 : decode cX2_nearest 35 = .ok (.istore_n 2, 1) := dk_61 (dk_at dksX2_nearest_1 13 rfl rfl)
theorem dX2_nearest_36 : decode cX2_nearest 36 = .ok (.iinc 3 1, 3) := dk_132 3 1 (dk_at dksX2_nearest_1 14 rfl rfl)
theorem dX2_nearest_39 : decode cX2_nearest 39 = .ok (.goto (-35), 3) := dk_167 255 221 (dk_at dksX2_nearest_1 17 rfl rfl)
theorem dX2_nearest_42 : decode cX2_nearest 42 = .ok (.iload_n 2, 1) := dk_28 (dk_at dksX2_nearest_1 20 rfl rfl)
theorem dX2_nearest_43 : decode cX2_nearest 43 = .ok (.ireturn, 1) := dk_172 (dk_at dksX2_nearest_1 21 rfl rfl)
abbrev cX2_drawn : ByteArray := prog_31_method_85_code
def yX2_drawn : MethodName := ⟨RX2, "drawn", "(III)I"⟩
def dkwX2_drawn_9 : List UInt8 := [154, 0, 8, 21, 5, 167, 0, 5, 21, 6, 172]
abbrev dktX2_drawn_9 : List UInt8 := dkwX2_drawn_9 ++ []
def dkwX2_drawn_8 : List UInt8 := [21, 5, 21, 8, 96, 54, 5, 21, 6, 21, 8, 184, 0, 237, 54, 6, 132, 7, 1, 167, 255, 96, 29]
abbrev dktX2_drawn_8 : List UInt8 := dkwX2_drawn_8 ++ dktX2_drawn_9
def dkwX2_drawn_7 : List UInt8 := [21, 11, 21, 12, 96, 42, 180, 0, 120, 112, 54, 11, 132, 13, 1, 167, 255, 208, 132, 10, 1, 167, 255, 143]
abbrev dktX2_drawn_7 : List UInt8 := dkwX2_drawn_7 ++ dktX2_drawn_8
def dkwX2_drawn_6 : List UInt8 := [21, 8, 42, 21, 9, 21, 11, 182, 1, 2, 42, 180, 0, 24, 6, 46, 96, 96, 54, 8, 21, 11, 54, 9]
abbrev dktX2_drawn_6 : List UInt8 := dkwX2_drawn_6 ++ dktX2_drawn_7
def dkwX2_drawn_5 : List UInt8 := [180, 0, 120, 4, 100, 167, 0, 4, 4, 54, 12, 3, 54, 13, 21, 13, 42, 180, 0, 120, 162, 0, 45]
abbrev dktX2_drawn_5 : List UInt8 := dkwX2_drawn_5 ++ dktX2_drawn_6
def dkwX2_drawn_4 : List UInt8 := [21, 4, 16, 8, 124, 42, 180, 0, 120, 112, 54, 11, 21, 4, 16, 16, 124, 4, 126, 4, 160, 0, 12, 42]
abbrev dktX2_drawn_4 : List UInt8 := dkwX2_drawn_4 ++ dktX2_drawn_5
def dkwX2_drawn_3 : List UInt8 := [54, 10, 21, 10, 28, 16, 10, 112, 162, 0, 110, 21, 4, 19, 1, 96, 104, 17, 48, 57, 96, 54, 4]
abbrev dktX2_drawn_3 : List UInt8 := dkwX2_drawn_3 ++ dktX2_drawn_4
def dkwX2_drawn_2 : List UInt8 := [21, 7, 28, 16, 10, 108, 162, 0, 157, 42, 180, 0, 120, 158, 0, 150, 3, 54, 8, 2, 54, 9, 3]
abbrev dktX2_drawn_2 : List UInt8 := dkwX2_drawn_2 ++ dktX2_drawn_3
def dkwX2_drawn_1 : List UInt8 := [29, 3, 4, 184, 0, 123, 154, 0, 5, 2, 172, 27, 54, 4, 3, 54, 5, 3, 54, 6, 3, 54, 7]
abbrev dktX2_drawn_1 : List UInt8 := dkwX2_drawn_1 ++ dktX2_drawn_2
def dkwX2_drawn_0 : List UInt8 := [28, 155, 0, 32, 28, 16, 10, 108, 4, 16, 30, 184, 0, 123, 153, 0, 19, 28, 16, 10, 112, 153, 0, 12]
abbrev dktX2_drawn_0 : List UInt8 := dkwX2_drawn_0 ++ dktX2_drawn_1
theorem dksX2_drawn_0 : cX2_drawn.data.toList.drop 0 = dktX2_drawn_0 := by decide +kernel
theorem dksX2_drawn_1 : cX2_drawn.data.toList.drop 24 = dktX2_drawn_1 := dk_seg dksX2_drawn_0 24 rfl rfl
theorem dksX2_drawn_2 : cX2_drawn.data.toList.drop 47 = dktX2_drawn_2 := dk_seg dksX2_drawn_1 23 rfl rfl
theorem dksX2_drawn_3 : cX2_drawn.data.toList.drop 70 = dktX2_drawn_3 := dk_seg dksX2_drawn_2 23 rfl rfl
theorem dksX2_drawn_4 : cX2_drawn.data.toList.drop 93 = dktX2_drawn_4 := dk_seg dksX2_drawn_3 23 rfl rfl
theorem dksX2_drawn_5 : cX2_drawn.data.toList.drop 117 = dktX2_drawn_5 := dk_seg dksX2_drawn_4 24 rfl rfl
theorem dksX2_drawn_6 : cX2_drawn.data.toList.drop 140 = dktX2_drawn_6 := dk_seg dksX2_drawn_5 23 rfl rfl
theorem dksX2_drawn_7 : cX2_drawn.data.toList.drop 164 = dktX2_drawn_7 := dk_seg dksX2_drawn_6 24 rfl rfl
theorem dksX2_drawn_8 : cX2_drawn.data.toList.drop 188 = dktX2_drawn_8 := dk_seg dksX2_drawn_7 24 rfl rfl
theorem dksX2_drawn_9 : cX2_drawn.data.toList.drop 211 = dktX2_drawn_9 := dk_seg dksX2_drawn_8 23 rfl rfl
theorem dX2_drawn_0 : decode cX2_drawn 0 = .ok (.iload_n 2, 1) := dk_28 (dk_at dksX2_drawn_0 0 rfl rfl)
theorem dX2_drawn_1 : decode cX2_drawn 1 = .ok (.ifCond .lt 32, 3) := dk_155 0 32 (dk_at dksX2_drawn_0 1 rfl rfl)
theorem dX2_drawn_4 : decode cX2_drawn 4 = .ok (.iload_n 2, 1) := dk_28 (dk_at dksX2_drawn_0 4 rfl rfl)
theorem dX2_drawn_5 : decode cX2_drawn 5 = .ok (.bipush 10, 2) := dk_16 10 (dk_at dksX2_drawn_0 5 rfl rfl)
theorem dX2_drawn_7 : decode cX2_drawn 7 = .ok (.idiv, 1) := dk_108 (dk_at dksX2_drawn_0 7 rfl rfl)
theorem dX2_drawn_8 : decode cX2_drawn 8 = .ok (.iconst 1, 1) := dk_4 (dk_at dksX2_drawn_0 8 rfl rfl)
theorem dX2_drawn_9 : decode cX2_drawn 9 = .ok (.bipush 30, 2) := dk_16 30 (dk_at dksX2_drawn_0 9 rfl rfl)
theorem dX2_drawn_11 : decode cX2_drawn 11 = .ok (.invokestatic 123, 3) := dk_184 0 123 (dk_at dksX2_drawn_0 11 rfl rfl)
theorem dX2_drawn_14 : decode cX2_drawn 14 = .ok (.ifCond .eq 19, 3) := dk_153 0 19 (dk_at dksX2_drawn_0 14 rfl rfl)
theorem dX2_drawn_17 : decode cX2_drawn 17 = .ok (.iload_n 2, 1) := dk_28 (dk_at dksX2_drawn_0 17 rfl rfl)
theorem dX2_drawn_18 : decode cX2_drawn 18 = .ok (.bipush 10, 2) := dk_16 10 (dk_at dksX2_drawn_0 18 rfl rfl)
theorem dX2_drawn_20 : decode cX2_drawn 20 = .ok (.irem, 1) := dk_112 (dk_at dksX2_drawn_0 20 rfl rfl)
theorem dX2_drawn_21 : decode cX2_drawn 21 = .ok (.ifCond .eq 12, 3) := dk_153 0 12 (dk_at dksX2_drawn_0 21 rfl rfl)
theorem dX2_drawn_24 : decode cX2_drawn 24 = .ok (.iload_n 3, 1) := dk_29 (dk_at dksX2_drawn_1 0 rfl rfl)
theorem dX2_drawn_25 : decode cX2_drawn 25 = .ok (.iconst 0, 1) := dk_3 (dk_at dksX2_drawn_1 1 rfl rfl)
theorem dX2_drawn_26 : decode cX2_drawn 26 = .ok (.iconst 1, 1) := dk_4 (dk_at dksX2_drawn_1 2 rfl rfl)
theorem dX2_drawn_27 : decode cX2_drawn 27 = .ok (.invokestatic 123, 3) := dk_184 0 123 (dk_at dksX2_drawn_1 3 rfl rfl)
theorem dX2_drawn_30 : decode cX2_drawn 30 = .ok (.ifCond .ne 5, 3) := dk_154 0 5 (dk_at dksX2_drawn_1 6 rfl rfl)
theorem dX2_drawn_33 : decode cX2_drawn 33 = .ok (.iconst (-1), 1) := dk_2 (dk_at dksX2_drawn_1 9 rfl rfl)
theorem dX2_drawn_34 : decode cX2_drawn 34 = .ok (.ireturn, 1) := dk_172 (dk_at dksX2_drawn_1 10 rfl rfl)
theorem dX2_drawn_35 : decode cX2_drawn 35 = .ok (.iload_n 1, 1) := dk_27 (dk_at dksX2_drawn_1 11 rfl rfl)
theorem dX2_drawn_36 : decode cX2_drawn 36 = .ok (.istore 4, 2) := dk_54 4 (dk_at dksX2_drawn_1 12 rfl rfl)
theorem dX2_drawn_38 : decode cX2_drawn 38 = .ok (.iconst 0, 1) := dk_3 (dk_at dksX2_drawn_1 14 rfl rfl)
theorem dX2_drawn_39 : decode cX2_drawn 39 = .ok (.istore 5, 2) := dk_54 5 (dk_at dksX2_drawn_1 15 rfl rfl)
theorem dX2_drawn_41 : decode cX2_drawn 41 = .ok (.iconst 0, 1) := dk_3 (dk_at dksX2_drawn_1 17 rfl rfl)
theorem dX2_drawn_42 : decode cX2_drawn 42 = .ok (.istore 6, 2) := dk_54 6 (dk_at dksX2_drawn_1 18 rfl rfl)
theorem dX2_drawn_44 : decode cX2_drawn 44 = .ok (.iconst 0, 1) := dk_3 (dk_at dksX2_drawn_1 20 rfl rfl)
theorem dX2_drawn_45 : decode cX2_drawn 45 = .ok (.istore 7, 2) := dk_54 7 (dk_at dksX2_drawn_1 21 rfl rfl)
theorem dX2_drawn_47 : decode cX2_drawn 47 = .ok (.iload 7, 2) := dk_21 7 (dk_at dksX2_drawn_2 0 rfl rfl)
theorem dX2_drawn_49 : decode cX2_drawn 49 = .ok (.iload_n 2, 1) := dk_28 (dk_at dksX2_drawn_2 2 rfl rfl)
theorem dX2_drawn_50 : decode cX2_drawn 50 = .ok (.bipush 10, 2) := dk_16 10 (dk_at dksX2_drawn_2 3 rfl rfl)
theorem dX2_drawn_52 : decode cX2_drawn 52 = .ok (.idiv, 1) := dk_108 (dk_at dksX2_drawn_2 5 rfl rfl)
theorem dX2_drawn_53 : decode cX2_drawn 53 = .ok (.if_icmp .ge 157, 3) := dk_162 0 157 (dk_at dksX2_drawn_2 6 rfl rfl)
theorem dX2_drawn_56 : decode cX2_drawn 56 = .ok (.aload_n 0, 1) := dk_42 (dk_at dksX2_drawn_2 9 rfl rfl)
theorem dX2_drawn_57 : decode cX2_drawn 57 = .ok (.getfield 120, 3) := dk_180 0 120 (dk_at dksX2_drawn_2 10 rfl rfl)
theorem dX2_drawn_60 : decode cX2_drawn 60 = .ok (.ifCond .le 150, 3) := dk_158 0 150 (dk_at dksX2_drawn_2 13 rfl rfl)
theorem dX2_drawn_63 : decode cX2_drawn 63 = .ok (.iconst 0, 1) := dk_3 (dk_at dksX2_drawn_2 16 rfl rfl)
theorem dX2_drawn_64 : decode cX2_drawn 64 = .ok (.istore 8, 2) := dk_54 8 (dk_at dksX2_drawn_2 17 rfl rfl)
theorem dX2_drawn_66 : decode cX2_drawn 66 = .ok (.iconst (-1), 1) := dk_2 (dk_at dksX2_drawn_2 19 rfl rfl)
theorem dX2_drawn_67 : decode cX2_drawn 67 = .ok (.istore 9, 2) := dk_54 9 (dk_at dksX2_drawn_2 20 rfl rfl)
theorem dX2_drawn_69 : decode cX2_drawn 69 = .ok (.iconst 0, 1) := dk_3 (dk_at dksX2_drawn_2 22 rfl rfl)
theorem dX2_drawn_70 : decode cX2_drawn 70 = .ok (.istore 10, 2) := dk_54 10 (dk_at dksX2_drawn_3 0 rfl rfl)
theorem dX2_drawn_72 : decode cX2_drawn 72 = .ok (.iload 10, 2) := dk_21 10 (dk_at dksX2_drawn_3 2 rfl rfl)
theorem dX2_drawn_74 : decode cX2_drawn 74 = .ok (.iload_n 2, 1) := dk_28 (dk_at dksX2_drawn_3 4 rfl rfl)
theorem dX2_drawn_75 : decode cX2_drawn 75 = .ok (.bipush 10, 2) := dk_16 10 (dk_at dksX2_drawn_3 5 rfl rfl)
theorem dX2_drawn_77 : decode cX2_drawn 77 = .ok (.irem, 1) := dk_112 (dk_at dksX2_drawn_3 7 rfl rfl)
theorem dX2_drawn_78 : decode cX2_drawn 78 = .ok (.if_icmp .ge 110, 3) := dk_162 0 110 (dk_at dksX2_drawn_3 8 rfl rfl)
theorem dX2_drawn_81 : decode cX2_drawn 81 = .ok (.iload 4, 2) := dk_21 4 (dk_at dksX2_drawn_3 11 rfl rfl)
theorem dX2_drawn_83 : decode cX2_drawn 83 = .ok (.ldc_w 352, 3) := dk_19 1 96 (dk_at dksX2_drawn_3 13 rfl rfl)
theorem dX2_drawn_86 : decode cX2_drawn 86 = .ok (.imul, 1) := dk_104 (dk_at dksX2_drawn_3 16 rfl rfl)
theorem dX2_drawn_87 : decode cX2_drawn 87 = .ok (.sipush 12345, 3) := dk_17 48 57 (dk_at dksX2_drawn_3 17 rfl rfl)
theorem dX2_drawn_90 : decode cX2_drawn 90 = .ok (.iadd, 1) := dk_96 (dk_at dksX2_drawn_3 20 rfl rfl)
theorem dX2_drawn_91 : decode cX2_drawn 91 = .ok (.istore 4, 2) := dk_54 4 (dk_at dksX2_drawn_3 21 rfl rfl)
theorem dX2_drawn_93 : decode cX2_drawn 93 = .ok (.iload 4, 2) := dk_21 4 (dk_at dksX2_drawn_4 0 rfl rfl)
theorem dX2_drawn_95 : decode cX2_drawn 95 = .ok (.bipush 8, 2) := dk_16 8 (dk_at dksX2_drawn_4 2 rfl rfl)
theorem dX2_drawn_97 : decode cX2_drawn 97 = .ok (.iushr, 1) := dk_124 (dk_at dksX2_drawn_4 4 rfl rfl)
theorem dX2_drawn_98 : decode cX2_drawn 98 = .ok (.aload_n 0, 1) := dk_42 (dk_at dksX2_drawn_4 5 rfl rfl)
theorem dX2_drawn_99 : decode cX2_drawn 99 = .ok (.getfield 120, 3) := dk_180 0 120 (dk_at dksX2_drawn_4 6 rfl rfl)
theorem dX2_drawn_102 : decode cX2_drawn 102 = .ok (.irem, 1) := dk_112 (dk_at dksX2_drawn_4 9 rfl rfl)
theorem dX2_drawn_103 : decode cX2_drawn 103 = .ok (.istore 11, 2) := dk_54 11 (dk_at dksX2_drawn_4 10 rfl rfl)
theorem dX2_drawn_105 : decode cX2_drawn 105 = .ok (.iload 4, 2) := dk_21 4 (dk_at dksX2_drawn_4 12 rfl rfl)
theorem dX2_drawn_107 : decode cX2_drawn 107 = .ok (.bipush 16, 2) := dk_16 16 (dk_at dksX2_drawn_4 14 rfl rfl)
theorem dX2_drawn_109 : decode cX2_drawn 109 = .ok (.iushr, 1) := dk_124 (dk_at dksX2_drawn_4 16 rfl rfl)
theorem dX2_drawn_110 : decode cX2_drawn 110 = .ok (.iconst 1, 1) := dk_4 (dk_at dksX2_drawn_4 17 rfl rfl)
theorem dX2_drawn_111 : decode cX2_drawn 111 = .ok (.iand, 1) := dk_126 (dk_at dksX2_drawn_4 18 rfl rfl)
theorem dX2_drawn_112 : decode cX2_drawn 112 = .ok (.iconst 1, 1) := dk_4 (dk_at dksX2_drawn_4 19 rfl rfl)
theorem dX2_drawn_113 : decode cX2_drawn 113 = .ok (.if_icmp .ne 12, 3) := dk_160 0 12 (dk_at dksX2_drawn_4 20 rfl rfl)
theorem dX2_drawn_116 : decode cX2_drawn 116 = .ok (.aload_n 0, 1) := dk_42 (dk_at dksX2_drawn_4 23 rfl rfl)
theorem dX2_drawn_117 : decode cX2_drawn 117 = .ok (.getfield 120, 3) := dk_180 0 120 (dk_at dksX2_drawn_5 0 rfl rfl)
theorem dX2_drawn_120 : decode cX2_drawn 120 = .ok (.iconst 1, 1) := dk_4 (dk_at dksX2_drawn_5 3 rfl rfl)
theorem dX2_drawn_121 : decode cX2_drawn 121 = .ok (.isub, 1) := dk_100 (dk_at dksX2_drawn_5 4 rfl rfl)
theorem dX2_drawn_122 : decode cX2_drawn 122 = .ok (.goto 4, 3) := dk_167 0 4 (dk_at dksX2_drawn_5 5 rfl rfl)
theorem dX2_drawn_125 : decode cX2_drawn 125 = .ok (.iconst 1, 1) := dk_4 (dk_at dksX2_drawn_5 8 rfl rfl)
theorem dX2_drawn_126 : decode cX2_drawn 126 = .ok (.istore 12, 2) := dk_54 12 (dk_at dksX2_drawn_5 9 rfl rfl)
theorem dX2_drawn_128 : decode cX2_drawn 128 = .ok (.iconst 0, 1) := dk_3 (dk_at dksX2_drawn_5 11 rfl rfl)
theorem dX2_drawn_129 : decode cX2_drawn 129 = .ok (.istore 13, 2) := dk_54 13 (dk_at dksX2_drawn_5 12 rfl rfl)
theorem dX2_drawn_131 : decode cX2_drawn 131 = .ok (.iload 13, 2) := dk_21 13 (dk_at dksX2_drawn_5 14 rfl rfl)
theorem dX2_drawn_133 : decode cX2_drawn 133 = .ok (.aload_n 0, 1) := dk_42 (dk_at dksX2_drawn_5 16 rfl rfl)
theorem dX2_drawn_134 : decode cX2_drawn 134 = .ok (.getfield 120, 3) := dk_180 0 120 (dk_at dksX2_drawn_5 17 rfl rfl)
theorem dX2_drawn_137 : decode cX2_drawn 137 = .ok (.if_icmp .ge 45, 3) := dk_162 0 45 (dk_at dksX2_drawn_5 20 rfl rfl)
theorem dX2_drawn_140 : decode cX2_drawn 140 = .ok (.iload 8, 2) := dk_21 8 (dk_at dksX2_drawn_6 0 rfl rfl)
theorem dX2_drawn_142 : decode cX2_drawn 142 = .ok (.aload_n 0, 1) := dk_42 (dk_at dksX2_drawn_6 2 rfl rfl)
theorem dX2_drawn_143 : decode cX2_drawn 143 = .ok (.iload 9, 2) := dk_21 9 (dk_at dksX2_drawn_6 3 rfl rfl)
theorem dX2_drawn_145 : decode cX2_drawn 145 = .ok (.iload 11, 2) := dk_21 11 (dk_at dksX2_drawn_6 5 rfl rfl)
theorem dX2_drawn_147 : decode cX2_drawn 147 = .ok (.invokevirtual 258, 3) := dk_182 1 2 (dk_at dksX2_drawn_6 7 rfl rfl)
theorem dX2_drawn_150 : decode cX2_drawn 150 = .ok (.aload_n 0, 1) := dk_42 (dk_at dksX2_drawn_6 10 rfl rfl)
theorem dX2_drawn_151 : decode cX2_drawn 151 = .ok (.getfield 24, 3) := dk_180 0 24 (dk_at dksX2_drawn_6 11 rfl rfl)
theorem dX2_drawn_154 : decode cX2_drawn 154 = .ok (.iconst 3, 1) := dk_6 (dk_at dksX2_drawn_6 14 rfl rfl)
theorem dX2_drawn_155 : decode cX2_drawn 155 = .ok (.iaload, 1) := dk_46 (dk_at dksX2_drawn_6 15 rfl rfl)
theorem dX2_drawn_156 : decode cX2_drawn 156 = .ok (.iadd, 1) := dk_96 (dk_at dksX2_drawn_6 16 rfl rfl)
theorem dX2_drawn_157 : decode cX2_drawn 157 = .ok (.iadd, 1) := dk_96 (dk_at dksX2_drawn_6 17 rfl rfl)
theorem dX2_drawn_158 : decode cX2_drawn 158 = .ok (.istore 8, 2) := dk_54 8 (dk_at dksX2_drawn_6 18 rfl rfl)
theorem dX2_drawn_160 : decode cX2_drawn 160 = .ok (.iload 11, 2) := dk_21 11 (dk_at dksX2_drawn_6 20 rfl rfl)
theorem dX2_drawn_162 : decode cX2_drawn 162 = .ok (.istore 9, 2) := dk_54 9 (dk_at dksX2_drawn_6 22 rfl rfl)
theorem dX2_drawn_164 : decode cX2_drawn 164 = .ok (.iload 11, 2) := dk_21 11 (dk_at dksX2_drawn_7 0 rfl rfl)
theorem dX2_drawn_166 : decode cX2_drawn 166 = .ok (.iload 12, 2) := dk_21 12 (dk_at dksX2_drawn_7 2 rfl rfl)
theorem dX2_drawn_168 : decode cX2_drawn 168 = .ok (.iadd, 1) := dk_96 (dk_at dksX2_drawn_7 4 rfl rfl)
theorem dX2_drawn_169 : decode cX2_drawn 169 = .ok (.aload_n 0, 1) := dk_42 (dk_at dksX2_drawn_7 5 rfl rfl)
theorem dX2_drawn_170 : decode cX2_drawn 170 = .ok (.getfield 120, 3) := dk_180 0 120 (dk_at dksX2_drawn_7 6 rfl rfl)
theorem dX2_drawn_173 : decode cX2_drawn 173 = .ok (.irem, 1) := dk_112 (dk_at dksX2_drawn_7 9 rfl rfl)
theorem dX2_drawn_174 : decode cX2_drawn 174 = .ok (.istore 11, 2) := dk_54 11 (dk_at dksX2_drawn_7 10 rfl rfl)
theorem dX2_drawn_176 : decode cX2_drawn 176 = .ok (.iinc 13 1, 3) := dk_132 13 1 (dk_at dksX2_drawn_7 12 rfl rfl)
theorem dX2_drawn_179 : decode cX2_drawn 179 = .ok (.goto (-48), 3) := dk_167 255 208 (dk_at dksX2_drawn_7 15 rfl rfl)
theorem dX2_drawn_182 : decode cX2_drawn 182 = .ok (.iinc 10 1, 3) := dk_132 10 1 (dk_at dksX2_drawn_7 18 rfl rfl)
theorem dX2_drawn_185 : decode cX2_drawn 185 = .ok (.goto (-113), 3) := dk_167 255 143 (dk_at dksX2_drawn_7 21 rfl rfl)
theorem dX2_drawn_188 : decode cX2_drawn 188 = .ok (.iload 5, 2) := dk_21 5 (dk_at dksX2_drawn_8 0 rfl rfl)
theorem dX2_drawn_190 : decode cX2_drawn 190 = .ok (.iload 8, 2) := dk_21 8 (dk_at dksX2_drawn_8 2 rfl rfl)
theorem dX2_drawn_192 : decode cX2_drawn 192 = .ok (.iadd, 1) := dk_96 (dk_at dksX2_drawn_8 4 rfl rfl)
theorem dX2_drawn_193 : decode cX2_drawn 193 = .ok (.istore 5, 2) := dk_54 5 (dk_at dksX2_drawn_8 5 rfl rfl)
theorem dX2_drawn_195 : decode cX2_drawn 195 = .ok (.iload 6, 2) := dk_21 6 (dk_at dksX2_drawn_8 7 rfl rfl)
theorem dX2_drawn_197 : decode cX2_drawn 197 = .ok (.iload 8, 2) := dk_21 8 (dk_at dksX2_drawn_8 9 rfl rfl)
theorem dX2_drawn_199 : decode cX2_drawn 199 = .ok (.invokestatic 237, 3) := dk_184 0 237 (dk_at dksX2_drawn_8 11 rfl rfl)
theorem dX2_drawn_202 : decode cX2_drawn 202 = .ok (.istore 6, 2) := dk_54 6 (dk_at dksX2_drawn_8 14 rfl rfl)
theorem dX2_drawn_204 : decode cX2_drawn 204 = .ok (.iinc 7 1, 3) := dk_132 7 1 (dk_at dksX2_drawn_8 16 rfl rfl)
theorem dX2_drawn_207 : decode cX2_drawn 207 = .ok (.goto (-160), 3) := dk_167 255 96 (dk_at dksX2_drawn_8 19 rfl rfl)
theorem dX2_drawn_210 : decode cX2_drawn 210 = .ok (.iload_n 3, 1) := dk_29 (dk_at dksX2_drawn_8 22 rfl rfl)
theorem dX2_drawn_211 : decode cX2_drawn 211 = .ok (.ifCond .ne 8, 3) := dk_154 0 8 (dk_at dksX2_drawn_9 0 rfl rfl)
theorem dX2_drawn_214 : decode cX2_drawn 214 = .ok (.iload 5, 2) := dk_21 5 (dk_at dksX2_drawn_9 3 rfl rfl)
theorem dX2_drawn_216 : decode cX2_drawn 216 = .ok (.goto 5, 3) := dk_167 0 5 (dk_at dksX2_drawn_9 5 rfl rfl)
theorem dX2_drawn_219 : decode cX2_drawn 219 = .ok (.iload 6, 2) := dk_21 6 (dk_at dksX2_drawn_9 8 rfl rfl)
theorem dX2_drawn_221 : decode cX2_drawn 221 = .ok (.ireturn, 1) := dk_172 (dk_at dksX2_drawn_9 10 rfl rfl)
abbrev cX2_walk : ByteArray := prog_31_method_86_code
def yX2_walk : MethodName := ⟨RX2, "walk", "(I)I"⟩
def dkwX2_walk_4 : List UInt8 := [96, 79, 42, 180, 0, 63, 5, 92, 46, 42, 180, 0, 24, 6, 46, 96, 79, 42, 180, 1, 97, 172]
abbrev dktX2_walk_4 : List UInt8 := dkwX2_walk_4 ++ []
def dkwX2_walk_3 : List UInt8 := [27, 92, 46, 4, 96, 79, 42, 180, 0, 63, 3, 92, 46, 28, 96, 79, 42, 180, 0, 63, 4, 92, 46, 4]
abbrev dktX2_walk_3 : List UInt8 := dkwX2_walk_3 ++ dktX2_walk_4
def dkwX2_walk_2 : List UInt8 := [180, 1, 97, 28, 42, 180, 0, 24, 6, 46, 96, 96, 181, 1, 97, 42, 27, 181, 0, 116, 42, 180, 0, 60]
abbrev dktX2_walk_2 : List UInt8 := dkwX2_walk_2 ++ dktX2_walk_3
def dkwX2_walk_1 : List UInt8 := [180, 1, 97, 28, 96, 42, 180, 0, 24, 6, 46, 96, 17, 39, 15, 164, 0, 6, 16, 251, 172, 42, 89]
abbrev dktX2_walk_1 : List UInt8 := dkwX2_walk_1 ++ dktX2_walk_2
def dkwX2_walk_0 : List UInt8 := [42, 27, 133, 182, 0, 137, 154, 0, 5, 2, 172, 42, 42, 180, 0, 116, 27, 182, 1, 2, 61, 42]
abbrev dktX2_walk_0 : List UInt8 := dkwX2_walk_0 ++ dktX2_walk_1
theorem dksX2_walk_0 : cX2_walk.data.toList.drop 0 = dktX2_walk_0 := by decide +kernel
theorem dksX2_walk_1 : cX2_walk.data.toList.drop 22 = dktX2_walk_1 := dk_seg dksX2_walk_0 22 rfl rfl
theorem dksX2_walk_2 : cX2_walk.data.toList.drop 45 = dktX2_walk_2 := dk_seg dksX2_walk_1 23 rfl rfl
theorem dksX2_walk_3 : cX2_walk.data.toList.drop 69 = dktX2_walk_3 := dk_seg dksX2_walk_2 24 rfl rfl
theorem dksX2_walk_4 : cX2_walk.data.toList.drop 93 = dktX2_walk_4 := dk_seg dksX2_walk_3 24 rfl rfl
theorem dX2_walk_0 : decode cX2_walk 0 = .ok (.aload_n 0, 1) := dk_42 (dk_at dksX2_walk_0 0 rfl rfl)
theorem dX2_walk_1 : decode cX2_walk 1 = .ok (.iload_n 1, 1) := dk_27 (dk_at dksX2_walk_0 1 rfl rfl)
theorem dX2_walk_2 : decode cX2_walk 2 = .ok (.i2l, 1) := dk_133 (dk_at dksX2_walk_0 2 rfl rfl)
theorem dX2_walk_3 : decode cX2_walk 3 = .ok (.invokevirtual 137, 3) := dk_182 0 137 (dk_at dksX2_walk_0 3 rfl rfl)
theorem dX2_walk_6 : decode cX2_walk 6 = .ok (.ifCond .ne 5, 3) := dk_154 0 5 (dk_at dksX2_walk_0 6 rfl rfl)
theorem dX2_walk_9 : decode cX2_walk 9 = .ok (.iconst (-1), 1) := dk_2 (dk_at dksX2_walk_0 9 rfl rfl)
theorem dX2_walk_10 : decode cX2_walk 10 = .ok (.ireturn, 1) := dk_172 (dk_at dksX2_walk_0 10 rfl rfl)
theorem dX2_walk_11 : decode cX2_walk 11 = .ok (.aload_n 0, 1) := dk_42 (dk_at dksX2_walk_0 11 rfl rfl)
theorem dX2_walk_12 : decode cX2_walk 12 = .ok (.aload_n 0, 1) := dk_42 (dk_at dksX2_walk_0 12 rfl rfl)
theorem dX2_walk_13 : decode cX2_walk 13 = .ok (.getfield 116, 3) := dk_180 0 116 (dk_at dksX2_walk_0 13 rfl rfl)
theorem dX2_walk_16 : decode cX2_walk 16 = .ok (.iload_n 1, 1) := dk_27 (dk_at dksX2_walk_0 16 rfl rfl)
theorem dX2_walk_17 : decode cX2_walk 17 = .ok (.invokevirtual 258, 3) := dk_182 1 2 (dk_at dksX2_walk_0 17 rfl rfl)
theorem dX2_walk_20 : decode cX2_walk 20 = .ok (.istore_n 2, 1) := dk_61 (dk_at dksX2_walk_0 20 rfl rfl)
theorem dX2_walk_21 : decode cX2_walk 21 = .ok (.aload_n 0, 1) := dk_42 (dk_at dksX2_walk_0 21 rfl rfl)
theorem dX2_walk_22 : decode cX2_walk 22 = .ok (.getfield 353, 3) := dk_180 1 97 (dk_at dksX2_walk_1 0 rfl rfl)
theorem dX2_walk_25 : decode cX2_walk 25 = .ok (.iload_n 2, 1) := dk_28 (dk_at dksX2_walk_1 3 rfl rfl)
theorem dX2_walk_26 : decode cX2_walk 26 = .ok (.iadd, 1) := dk_96 (dk_at dksX2_walk_1 4 rfl rfl)
theorem dX2_walk_27 : decode cX2_walk 27 = .ok (.aload_n 0, 1) := dk_42 (dk_at dksX2_walk_1 5 rfl rfl)
theorem dX2_walk_28 : decode cX2_walk 28 = .ok (.getfield 24, 3) := dk_180 0 24 (dk_at dksX2_walk_1 6 rfl rfl)
theorem dX2_walk_31 : decode cX2_walk 31 = .ok (.iconst 3, 1) := dk_6 (dk_at dksX2_walk_1 9 rfl rfl)
theorem dX2_walk_32 : decode cX2_walk 32 = .ok (.iaload, 1) := dk_46 (dk_at dksX2_walk_1 10 rfl rfl)
theorem dX2_walk_33 : decode cX2_walk 33 = .ok (.iadd, 1) := dk_96 (dk_at dksX2_walk_1 11 rfl rfl)
theorem dX2_walk_34 : decode cX2_walk 34 = .ok (.sipush 9999, 3) := dk_17 39 15 (dk_at dksX2_walk_1 12 rfl rfl)
theorem dX2_walk_37 : decode cX2_walk 37 = .ok (.if_icmp .le 6, 3) := dk_164 0 6 (dk_at dksX2_walk_1 15 rfl rfl)
theorem dX2_walk_40 : decode cX2_walk 40 = .ok (.bipush (-5), 2) := dk_16 251 (dk_at dksX2_walk_1 18 rfl rfl)
theorem dX2_walk_42 : decode cX2_walk 42 = .ok (.ireturn, 1) := dk_172 (dk_at dksX2_walk_1 20 rfl rfl)
theorem dX2_walk_43 : decode cX2_walk 43 = .ok (.aload_n 0, 1) := dk_42 (dk_at dksX2_walk_1 21 rfl rfl)
theorem dX2_walk_44 : decode cX2_walk 44 = .ok (.dup, 1) := dk_89 (dk_at dksX2_walk_1 22 rfl rfl)
theorem dX2_walk_45 : decode cX2_walk 45 = .ok (.getfield 353, 3) := dk_180 1 97 (dk_at dksX2_walk_2 0 rfl rfl)
theorem dX2_walk_48 : decode cX2_walk 48 = .ok (.iload_n 2, 1) := dk_28 (dk_at dksX2_walk_2 3 rfl rfl)
theorem dX2_walk_49 : decode cX2_walk 49 = .ok (.aload_n 0, 1) := dk_42 (dk_at dksX2_walk_2 4 rfl rfl)
theorem dX2_walk_50 : decode cX2_walk 50 = .ok (.getfield 24, 3) := dk_180 0 24 (dk_at dksX2_walk_2 5 rfl rfl)
theorem dX2_walk_53 : decode cX2_walk 53 = .ok (.iconst 3, 1) := dk_6 (dk_at dksX2_walk_2 8 rfl rfl)
theorem dX2_walk_54 : decode cX2_walk 54 = .ok (.iaload, 1) := dk_46 (dk_at dksX2_walk_2 9 rfl rfl)
theorem dX2_walk_55 : decode cX2_walk 55 = .ok (.iadd, 1) := dk_96 (dk_at dksX2_walk_2 10 rfl rfl)
theorem dX2_walk_56 : decode cX2_walk 56 = .ok (.iadd, 1) := dk_96 (dk_at dksX2_walk_2 11 rfl rfl)
theorem dX2_walk_57 : decode cX2_walk 57 = .ok (.putfield 353, 3) := dk_181 1 97 (dk_at dksX2_walk_2 12 rfl rfl)
theorem dX2_walk_60 : decode cX2_walk 60 = .ok (.aload_n 0, 1) := dk_42 (dk_at dksX2_walk_2 15 rfl rfl)
theorem dX2_walk_61 : decode cX2_walk 61 = .ok (.iload_n 1, 1) := dk_27 (dk_at dksX2_walk_2 16 rfl rfl)
theorem dX2_walk_62 : decode cX2_walk 62 = .ok (.putfield 116, 3) := dk_181 0 116 (dk_at dksX2_walk_2 17 rfl rfl)
theorem dX2_walk_65 : decode cX2_walk 65 = .ok (.aload_n 0, 1) := dk_42 (dk_at dksX2_walk_2 20 rfl rfl)
theorem dX2_walk_66 : decode cX2_walk 66 = .ok (.getfield 60, 3) := dk_180 0 60 (dk_at dksX2_walk_2 21 rfl rfl)
theorem dX2_walk_69 : decode cX2_walk 69 = .ok (.iload_n 1, 1) := dk_27 (dk_at dksX2_walk_3 0 rfl rfl)
theorem dX2_walk_70 : decode cX2_walk 70 = .ok (.dup2, 1) := dk_92 (dk_at dksX2_walk_3 1 rfl rfl)
theorem dX2_walk_71 : decode cX2_walk 71 = .ok (.iaload, 1) := dk_46 (dk_at dksX2_walk_3 2 rfl rfl)
theorem dX2_walk_72 : decode cX2_walk 72 = .ok (.iconst 1, 1) := dk_4 (dk_at dksX2_walk_3 3 rfl rfl)
theorem dX2_walk_73 : decode cX2_walk 73 = .ok (.iadd, 1) := dk_96 (dk_at dksX2_walk_3 4 rfl rfl)
theorem dX2_walk_74 : decode cX2_walk 74 = .ok (.iastore, 1) := dk_79 (dk_at dksX2_walk_3 5 rfl rfl)
theorem dX2_walk_75 : decode cX2_walk 75 = .ok (.aload_n 0, 1) := dk_42 (dk_at dksX2_walk_3 6 rfl rfl)
theorem dX2_walk_76 : decode cX2_walk 76 = .ok (.getfield 63, 3) := dk_180 0 63 (dk_at dksX2_walk_3 7 rfl rfl)
theorem dX2_walk_79 : decode cX2_walk 79 = .ok (.iconst 0, 1) := dk_3 (dk_at dksX2_walk_3 10 rfl rfl)
theorem dX2_walk_80 : decode cX2_walk 80 = .ok (.dup2, 1) := dk_92 (dk_at dksX2_walk_3 11 rfl rfl)
theorem dX2_walk_81 : decode cX2_walk 81 = .ok (.iaload, 1) := dk_46 (dk_at dksX2_walk_3 12 rfl rfl)
theorem dX2_walk_82 : decode cX2_walk 82 = .ok (.iload_n 2, 1) := dk_28 (dk_at dksX2_walk_3 13 rfl rfl)
theorem dX2_walk_83 : decode cX2_walk 83 = .ok (.iadd, 1) := dk_96 (dk_at dksX2_walk_3 14 rfl rfl)
theorem dX2_walk_84 : decode cX2_walk 84 = .ok (.iastore, 1) := dk_79 (dk_at dksX2_walk_3 15 rfl rfl)
theorem dX2_walk_85 : decode cX2_walk 85 = .ok (.aload_n 0, 1) := dk_42 (dk_at dksX2_walk_3 16 rfl rfl)
theorem dX2_walk_86 : decode cX2_walk 86 = .ok (.getfield 63, 3) := dk_180 0 63 (dk_at dksX2_walk_3 17 rfl rfl)
theorem dX2_walk_89 : decode cX2_walk 89 = .ok (.iconst 1, 1) := dk_4 (dk_at dksX2_walk_3 20 rfl rfl)
theorem dX2_walk_90 : decode cX2_walk 90 = .ok (.dup2, 1) := dk_92 (dk_at dksX2_walk_3 21 rfl rfl)
theorem dX2_walk_91 : decode cX2_walk 91 = .ok (.iaload, 1) := dk_46 (dk_at dksX2_walk_3 22 rfl rfl)
theorem dX2_walk_92 : decode cX2_walk 92 = .ok (.iconst 1, 1) := dk_4 (dk_at dksX2_walk_3 23 rfl rfl)
theorem dX2_walk_93 : decode cX2_walk 93 = .ok (.iadd, 1) := dk_96 (dk_at dksX2_walk_4 0 rfl rfl)
theorem dX2_walk_94 : decode cX2_walk 94 = .ok (.iastore, 1) := dk_79 (dk_at dksX2_walk_4 1 rfl rfl)
theorem dX2_walk_95 : decode cX2_walk 95 = .ok (.aload_n 0, 1) := dk_42 (dk_at dksX2_walk_4 2 rfl rfl)
theorem dX2_walk_96 : decode cX2_walk 96 = .ok (.getfield 63, 3) := dk_180 0 63 (dk_at dksX2_walk_4 3 rfl rfl)
theorem dX2_walk_99 : decode cX2_walk 99 = .ok (.iconst 2, 1) := dk_5 (dk_at dksX2_walk_4 6 rfl rfl)
theorem dX2_walk_100 : decode cX2_walk 100 = .ok (.dup2, 1) := dk_92 (dk_at dksX2_walk_4 7 rfl rfl)
theorem dX2_walk_101 : decode cX2_walk 101 = .ok (.iaload, 1) := dk_46 (dk_at dksX2_walk_4 8 rfl rfl)
theorem dX2_walk_102 : decode cX2_walk 102 = .ok (.aload_n 0, 1) := dk_42 (dk_at dksX2_walk_4 9 rfl rfl)
theorem dX2_walk_103 : decode cX2_walk 103 = .ok (.getfield 24, 3) := dk_180 0 24 (dk_at dksX2_walk_4 10 rfl rfl)
theorem dX2_walk_106 : decode cX2_walk 106 = .ok (.iconst 3, 1) := dk_6 (dk_at dksX2_walk_4 13 rfl rfl)
theorem dX2_walk_107 : decode cX2_walk 107 = .ok (.iaload, 1) := dk_46 (dk_at dksX2_walk_4 14 rfl rfl)
theorem dX2_walk_108 : decode cX2_walk 108 = .ok (.iadd, 1) := dk_96 (dk_at dksX2_walk_4 15 rfl rfl)
theorem dX2_walk_109 : decode cX2_walk 109 = .ok (.iastore, 1) := dk_79 (dk_at dksX2_walk_4 16 rfl rfl)
theorem dX2_walk_110 : decode cX2_walk 110 = .ok (.aload_n 0, 1) := dk_42 (dk_at dksX2_walk_4 17 rfl rfl)
theorem dX2_walk_111 : decode cX2_walk 111 = .ok (.getfield 353, 3) := dk_180 1 97 (dk_at dksX2_walk_4 18 rfl rfl)
theorem dX2_walk_114 : decode cX2_walk 114 = .ok (.ireturn, 1) := dk_172 (dk_at dksX2_walk_4 21 rfl rfl)
abbrev cX2_waits : ByteArray := prog_31_method_87_code
def yX2_waits : MethodName := ⟨RX2, "waits", "(I)I"⟩
def dkwX2_waits_2 : List UInt8 := [96, 79, 42, 180, 1, 97, 172]
abbrev dktX2_waits_2 : List UInt8 := dkwX2_waits_2 ++ []
def dkwX2_waits_1 : List UInt8 := [164, 0, 6, 16, 251, 172, 42, 89, 180, 1, 97, 27, 96, 181, 1, 97, 42, 180, 0, 63, 6, 92, 46, 27]
abbrev dktX2_waits_1 : List UInt8 := dkwX2_waits_1 ++ dktX2_waits_2
def dkwX2_waits_0 : List UInt8 := [27, 4, 17, 3, 231, 184, 0, 123, 154, 0, 5, 2, 172, 42, 180, 1, 97, 27, 96, 17, 39, 15]
abbrev dktX2_waits_0 : List UInt8 := dkwX2_waits_0 ++ dktX2_waits_1
theorem dksX2_waits_0 : cX2_waits.data.toList.drop 0 = dktX2_waits_0 := by decide +kernel
theorem dksX2_waits_1 : cX2_waits.data.toList.drop 22 = dktX2_waits_1 := dk_seg dksX2_waits_0 22 rfl rfl
theorem dksX2_waits_2 : cX2_waits.data.toList.drop 46 = dktX2_waits_2 := dk_seg dksX2_waits_1 24 rfl rfl
theorem dX2_waits_0 : decode cX2_waits 0 = .ok (.iload_n 1, 1) := dk_27 (dk_at dksX2_waits_0 0 rfl rfl)
theorem dX2_waits_1 : decode cX2_waits 1 = .ok (.iconst 1, 1) := dk_4 (dk_at dksX2_waits_0 1 rfl rfl)
theorem dX2_waits_2 : decode cX2_waits 2 = .ok (.sipush 999, 3) := dk_17 3 231 (dk_at dksX2_waits_0 2 rfl rfl)
theorem dX2_waits_5 : decode cX2_waits 5 = .ok (.invokestatic 123, 3) := dk_184 0 123 (dk_at dksX2_waits_0 5 rfl rfl)
theorem dX2_waits_8 : decode cX2_waits 8 = .ok (.ifCond .ne 5, 3) := dk_154 0 5 (dk_at dksX2_waits_0 8 rfl rfl)
theorem dX2_waits_11 : decode cX2_waits 11 = .ok (.iconst (-1), 1) := dk_2 (dk_at dksX2_waits_0 11 rfl rfl)
theorem dX2_waits_12 : decode cX2_waits 12 = .ok (.ireturn, 1) := dk_172 (dk_at dksX2_waits_0 12 rfl rfl)
theorem dX2_waits_13 : decode cX2_waits 13 = .ok (.aload_n 0, 1) := dk_42 (dk_at dksX2_waits_0 13 rfl rfl)
theorem dX2_waits_14 : decode cX2_waits 14 = .ok (.getfield 353, 3) := dk_180 1 97 (dk_at dksX2_waits_0 14 rfl rfl)
theorem dX2_waits_17 : decode cX2_waits 17 = .ok (.iload_n 1, 1) := dk_27 (dk_at dksX2_waits_0 17 rfl rfl)
theorem dX2_waits_18 : decode cX2_waits 18 = .ok (.iadd, 1) := dk_96 (dk_at dksX2_waits_0 18 rfl rfl)
theorem dX2_waits_19 : decode cX2_waits 19 = .ok (.sipush 9999, 3) := dk_17 39 15 (dk_at dksX2_waits_0 19 rfl rfl)
theorem dX2_waits_22 : decode cX2_waits 22 = .ok (.if_icmp .le 6, 3) := dk_164 0 6 (dk_at dksX2_waits_1 0 rfl rfl)
theorem dX2_waits_25 : decode cX2_waits 25 = .ok (.bipush (-5), 2) := dk_16 251 (dk_at dksX2_waits_1 3 rfl rfl)
theorem dX2_waits_27 : decode cX2_waits 27 = .ok (.ireturn, 1) := dk_172 (dk_at dksX2_waits_1 5 rfl rfl)
theorem dX2_waits_28 : decode cX2_waits 28 = .ok (.aload_n 0, 1) := dk_42 (dk_at dksX2_waits_1 6 rfl rfl)
theorem dX2_waits_29 : decode cX2_waits 29 = .ok (.dup, 1) := dk_89 (dk_at dksX2_waits_1 7 rfl rfl)
theorem dX2_waits_30 : decode cX2_waits 30 = .ok (.getfield 353, 3) := dk_180 1 97 (dk_at dksX2_waits_1 8 rfl rfl)
theorem dX2_waits_33 : decode cX2_waits 33 = .ok (.iload_n 1, 1) := dk_27 (dk_at dksX2_waits_1 11 rfl rfl)
theorem dX2_waits_34 : decode cX2_waits 34 = .ok (.iadd, 1) := dk_96 (dk_at dksX2_waits_1 12 rfl rfl)
theorem dX2_waits_35 : decode cX2_waits 35 = .ok (.putfield 353, 3) := dk_181 1 97 (dk_at dksX2_waits_1 13 rfl rfl)
theorem dX2_waits_38 : decode cX2_waits 38 = .ok (.aload_n 0, 1) := dk_42 (dk_at dksX2_waits_1 16 rfl rfl)
theorem dX2_waits_39 : decode cX2_waits 39 = .ok (.getfield 63, 3) := dk_180 0 63 (dk_at dksX2_waits_1 17 rfl rfl)
theorem dX2_waits_42 : decode cX2_waits 42 = .ok (.iconst 3, 1) := dk_6 (dk_at dksX2_waits_1 20 rfl rfl)
theorem dX2_waits_43 : decode cX2_waits 43 = .ok (.dup2, 1) := dk_92 (dk_at dksX2_waits_1 21 rfl rfl)
theorem dX2_waits_44 : decode cX2_waits 44 = .ok (.iaload, 1) := dk_46 (dk_at dksX2_waits_1 22 rfl rfl)
theorem dX2_waits_45 : decode cX2_waits 45 = .ok (.iload_n 1, 1) := dk_27 (dk_at dksX2_waits_1 23 rfl rfl)
theorem dX2_waits_46 : decode cX2_waits 46 = .ok (.iadd, 1) := dk_96 (dk_at dksX2_waits_2 0 rfl rfl)
theorem dX2_waits_47 : decode cX2_waits 47 = .ok (.iastore, 1) := dk_79 (dk_at dksX2_waits_2 1 rfl rfl)
theorem dX2_waits_48 : decode cX2_waits 48 = .ok (.aload_n 0, 1) := dk_42 (dk_at dksX2_waits_2 2 rfl rfl)
theorem dX2_waits_49 : decode cX2_waits 49 = .ok (.getfield 353, 3) := dk_180 1 97 (dk_at dksX2_waits_2 3 rfl rfl)
theorem dX2_waits_52 : decode cX2_waits 52 = .ok (.ireturn, 1) := dk_172 (dk_at dksX2_waits_2 6 rfl rfl)
abbrev cX2_home : ByteArray := prog_31_method_88_code
def yX2_home : MethodName := ⟨RX2, "home", "()I"⟩
def dkwX2_home_2 : List UInt8 := [96, 79, 42, 180, 1, 97, 172]
abbrev dktX2_home_2 : List UInt8 := dkwX2_home_2 ++ []
def dkwX2_home_1 : List UInt8 := [172, 42, 89, 180, 1, 97, 27, 96, 181, 1, 97, 42, 2, 181, 0, 116, 42, 180, 0, 63, 3, 92, 46, 27]
abbrev dktX2_home_1 : List UInt8 := dkwX2_home_1 ++ dktX2_home_2
def dkwX2_home_0 : List UInt8 := [42, 42, 180, 0, 116, 2, 182, 1, 2, 60, 42, 180, 1, 97, 27, 96, 17, 39, 15, 164, 0, 6, 16, 251]
abbrev dktX2_home_0 : List UInt8 := dkwX2_home_0 ++ dktX2_home_1
theorem dksX2_home_0 : cX2_home.data.toList.drop 0 = dktX2_home_0 := by decide +kernel
theorem dksX2_home_1 : cX2_home.data.toList.drop 24 = dktX2_home_1 := dk_seg dksX2_home_0 24 rfl rfl
theorem dksX2_home_2 : cX2_home.data.toList.drop 48 = dktX2_home_2 := dk_seg dksX2_home_1 24 rfl rfl
theorem dX2_home_0 : decode cX2_home 0 = .ok (.aload_n 0, 1) := dk_42 (dk_at dksX2_home_0 0 rfl rfl)
theorem dX2_home_1 : decode cX2_home 1 = .ok (.aload_n 0, 1) := dk_42 (dk_at dksX2_home_0 1 rfl rfl)
theorem dX2_home_2 : decode cX2_home 2 = .ok (.getfield 116, 3) := dk_180 0 116 (dk_at dksX2_home_0 2 rfl rfl)
theorem dX2_home_5 : decode cX2_home 5 = .ok (.iconst (-1), 1) := dk_2 (dk_at dksX2_home_0 5 rfl rfl)
theorem dX2_home_6 : decode cX2_home 6 = .ok (.invokevirtual 258, 3) := dk_182 1 2 (dk_at dksX2_home_0 6 rfl rfl)
theorem dX2_home_9 : decode cX2_home 9 = .ok (.istore_n 1, 1) := dk_60 (dk_at dksX2_home_0 9 rfl rfl)
theorem dX2_home_10 : decode cX2_home 10 = .ok (.aload_n 0, 1) := dk_42 (dk_at dksX2_home_0 10 rfl rfl)
theorem dX2_home_11 : decode cX2_home 11 = .ok (.getfield 353, 3) := dk_180 1 97 (dk_at dksX2_home_0 11 rfl rfl)
theorem dX2_home_14 : decode cX2_home 14 = .ok (.iload_n 1, 1) := dk_27 (dk_at dksX2_home_0 14 rfl rfl)
theorem dX2_home_15 : decode cX2_home 15 = .ok (.iadd, 1) := dk_96 (dk_at dksX2_home_0 15 rfl rfl)
theorem dX2_home_16 : decode cX2_home 16 = .ok (.sipush 9999, 3) := dk_17 39 15 (dk_at dksX2_home_0 16 rfl rfl)
theorem dX2_home_19 : decode cX2_home 19 = .ok (.if_icmp .le 6, 3) := dk_164 0 6 (dk_at dksX2_home_0 19 rfl rfl)
theorem dX2_home_22 : decode cX2_home 22 = .ok (.bipush (-5), 2) := dk_16 251 (dk_at dksX2_home_0 22 rfl rfl)
theorem dX2_home_24 : decode cX2_home 24 = .ok (.ireturn, 1) := dk_172 (dk_at dksX2_home_1 0 rfl rfl)
theorem dX2_home_25 : decode cX2_home 25 = .ok (.aload_n 0, 1) := dk_42 (dk_at dksX2_home_1 1 rfl rfl)
theorem dX2_home_26 : decode cX2_home 26 = .ok (.dup, 1) := dk_89 (dk_at dksX2_home_1 2 rfl rfl)
theorem dX2_home_27 : decode cX2_home 27 = .ok (.getfield 353, 3) := dk_180 1 97 (dk_at dksX2_home_1 3 rfl rfl)
theorem dX2_home_30 : decode cX2_home 30 = .ok (.iload_n 1, 1) := dk_27 (dk_at dksX2_home_1 6 rfl rfl)
theorem dX2_home_31 : decode cX2_home 31 = .ok (.iadd, 1) := dk_96 (dk_at dksX2_home_1 7 rfl rfl)
theorem dX2_home_32 : decode cX2_home 32 = .ok (.putfield 353, 3) := dk_181 1 97 (dk_at dksX2_home_1 8 rfl rfl)
theorem dX2_home_35 : decode cX2_home 35 = .ok (.aload_n 0, 1) := dk_42 (dk_at dksX2_home_1 11 rfl rfl)
theorem dX2_home_36 : decode cX2_home 36 = .ok (.iconst (-1), 1) := dk_2 (dk_at dksX2_home_1 12 rfl rfl)
theorem dX2_home_37 : decode cX2_home 37 = .ok (.putfield 116, 3) := dk_181 0 116 (dk_at dksX2_home_1 13 rfl rfl)
theorem dX2_home_40 : decode cX2_home 40 = .ok (.aload_n 0, 1) := dk_42 (dk_at dksX2_home_1 16 rfl rfl)
theorem dX2_home_41 : decode cX2_home 41 = .ok (.getfield 63, 3) := dk_180 0 63 (dk_at dksX2_home_1 17 rfl rfl)
theorem dX2_home_44 : decode cX2_home 44 = .ok (.iconst 0, 1) := dk_3 (dk_at dksX2_home_1 20 rfl rfl)
theorem dX2_home_45 : decode cX2_home 45 = .ok (.dup2, 1) := dk_92 (dk_at dksX2_home_1 21 rfl rfl)
theorem dX2_home_46 : decode cX2_home 46 = .ok (.iaload, 1) := dk_46 (dk_at dksX2_home_1 22 rfl rfl)
theorem dX2_home_47 : decode cX2_home 47 = .ok (.iload_n 1, 1) := dk_27 (dk_at dksX2_home_1 23 rfl rfl)
theorem dX2_home_48 : decode cX2_home 48 = .ok (.iadd, 1) := dk_96 (dk_at dksX2_home_2 0 rfl rfl)
theorem dX2_home_49 : decode cX2_home 49 = .ok (.iastore, 1) := dk_79 (dk_at dksX2_home_2 1 rfl rfl)
theorem dX2_home_50 : decode cX2_home 50 = .ok (.aload_n 0, 1) := dk_42 (dk_at dksX2_home_2 2 rfl rfl)
theorem dX2_home_51 : decode cX2_home 51 = .ok (.getfield 353, 3) := dk_180 1 97 (dk_at dksX2_home_2 3 rfl rfl)
theorem dX2_home_54 : decode cX2_home 54 = .ok (.ireturn, 1) := dk_172 (dk_at dksX2_home_2 6 rfl rfl)
abbrev cX2_led : ByteArray := prog_31_method_89_code
def yX2_led : MethodName := ⟨RX2, "led", "(I)I"⟩
def dkwX2_led_1 : List UInt8 := [180, 0, 63, 27, 46, 167, 0, 4, 2, 172]
abbrev dktX2_led_1 : List UInt8 := dkwX2_led_1 ++ []
def dkwX2_led_0 : List UInt8 := [27, 7, 160, 0, 10, 42, 180, 1, 97, 167, 0, 22, 27, 3, 6, 184, 0, 123, 153, 0, 12, 42]
abbrev dktX2_led_0 : List UInt8 := dkwX2_led_0 ++ dktX2_led_1
theorem dksX2_led_0 : cX2_led.data.toList.drop 0 = dktX2_led_0 := by decide +kernel
theorem dksX2_led_1 : cX2_led.data.toList.drop 22 = dktX2_led_1 := dk_seg dksX2_led_0 22 rfl rfl
theorem dX2_led_0 : decode cX2_led 0 = .ok (.iload_n 1, 1) := dk_27 (dk_at dksX2_led_0 0 rfl rfl)
theorem dX2_led_1 : decode cX2_led 1 = .ok (.iconst 4, 1) := dk_7 (dk_at dksX2_led_0 1 rfl rfl)
theorem dX2_led_2 : decode cX2_led 2 = .ok (.if_icmp .ne 10, 3) := dk_160 0 10 (dk_at dksX2_led_0 2 rfl rfl)
theorem dX2_led_5 : decode cX2_led 5 = .ok (.aload_n 0, 1) := dk_42 (dk_at dksX2_led_0 5 rfl rfl)
theorem dX2_led_6 : decode cX2_led 6 = .ok (.getfield 353, 3) := dk_180 1 97 (dk_at dksX2_led_0 6 rfl rfl)
theorem dX2_led_9 : decode cX2_led 9 = .ok (.goto 22, 3) := dk_167 0 22 (dk_at dksX2_led_0 9 rfl rfl)
theorem dX2_led_12 : decode cX2_led 12 = .ok (.iload_n 1, 1) := dk_27 (dk_at dksX2_led_0 12 rfl rfl)
theorem dX2_led_13 : decode cX2_led 13 = .ok (.iconst 0, 1) := dk_3 (dk_at dksX2_led_0 13 rfl rfl)
theorem dX2_led_14 : decode cX2_led 14 = .ok (.iconst 3, 1) := dk_6 (dk_at dksX2_led_0 14 rfl rfl)
theorem dX2_led_15 : decode cX2_led 15 = .ok (.invokestatic 123, 3) := dk_184 0 123 (dk_at dksX2_led_0 15 rfl rfl)
theorem dX2_led_18 : decode cX2_led 18 = .ok (.ifCond .eq 12, 3) := dk_153 0 12 (dk_at dksX2_led_0 18 rfl rfl)
theorem dX2_led_21 : decode cX2_led 21 = .ok (.aload_n 0, 1) := dk_42 (dk_at dksX2_led_0 21 rfl rfl)
theorem dX2_led_22 : decode cX2_led 22 = .ok (.getfield 63, 3) := dk_180 0 63 (dk_at dksX2_led_1 0 rfl rfl)
theorem dX2_led_25 : decode cX2_led 25 = .ok (.iload_n 1, 1) := dk_27 (dk_at dksX2_led_1 3 rfl rfl)
theorem dX2_led_26 : decode cX2_led 26 = .ok (.iaload, 1) := dk_46 (dk_at dksX2_led_1 4 rfl rfl)
theorem dX2_led_27 : decode cX2_led 27 = .ok (.goto 4, 3) := dk_167 0 4 (dk_at dksX2_led_1 5 rfl rfl)
theorem dX2_led_30 : decode cX2_led 30 = .ok (.iconst (-1), 1) := dk_2 (dk_at dksX2_led_1 8 rfl rfl)
theorem dX2_led_31 : decode cX2_led 31 = .ok (.ireturn, 1) := dk_172 (dk_at dksX2_led_1 9 rfl rfl)
abbrev cX2_image : ByteArray := prog_31_method_90_code
def yX2_image : MethodName := ⟨RX2, "image", "()I"⟩
def dkwX2_image_3 : List UInt8 := [27, 46, 79, 132, 1, 1, 167, 255, 236, 42, 180, 1, 97, 172]
abbrev dktX2_image_3 : List UInt8 := dkwX2_image_3 ++ []
def dkwX2_image_2 : List UInt8 := [46, 79, 132, 1, 1, 167, 255, 235, 3, 60, 27, 7, 162, 0, 21, 42, 180, 0, 69, 27, 42, 180, 0, 63]
abbrev dktX2_image_2 : List UInt8 := dkwX2_image_2 ++ dktX2_image_3
def dkwX2_image_1 : List UInt8 := [180, 1, 97, 181, 1, 109, 3, 60, 27, 16, 9, 162, 0, 21, 42, 180, 0, 66, 27, 42, 180, 0, 60, 27]
abbrev dktX2_image_1 : List UInt8 := dkwX2_image_1 ++ dktX2_image_2
def dkwX2_image_0 : List UInt8 := [42, 4, 181, 1, 100, 42, 42, 180, 0, 120, 181, 1, 103, 42, 42, 180, 0, 116, 181, 1, 106, 42, 42]
abbrev dktX2_image_0 : List UInt8 := dkwX2_image_0 ++ dktX2_image_1
theorem dksX2_image_0 : cX2_image.data.toList.drop 0 = dktX2_image_0 := by decide +kernel
theorem dksX2_image_1 : cX2_image.data.toList.drop 23 = dktX2_image_1 := dk_seg dksX2_image_0 23 rfl rfl
theorem dksX2_image_2 : cX2_image.data.toList.drop 47 = dktX2_image_2 := dk_seg dksX2_image_1 24 rfl rfl
theorem dksX2_image_3 : cX2_image.data.toList.drop 71 = dktX2_image_3 := dk_seg dksX2_image_2 24 rfl rfl
theorem dX2_image_0 : decode cX2_image 0 = .ok (.aload_n 0, 1) := dk_42 (dk_at dksX2_image_0 0 rfl rfl)
theorem dX2_image_1 : decode cX2_image 1 = .ok (.iconst 1, 1) := dk_4 (dk_at dksX2_image_0 1 rfl rfl)
theorem dX2_image_2 : decode cX2_image 2 = .ok (.putfield 356, 3) := dk_181 1 100 (dk_at dksX2_image_0 2 rfl rfl)
theorem dX2_image_5 : decode cX2_image 5 = .ok (.aload_n 0, 1) := dk_42 (dk_at dksX2_image_0 5 rfl rfl)
theorem dX2_image_6 : decode cX2_image 6 = .ok (.aload_n 0, 1) := dk_42 (dk_at dksX2_image_0 6 rfl rfl)
theorem dX2_image_7 : decode cX2_image 7 = .ok (.getfield 120, 3) := dk_180 0 120 (dk_at dksX2_image_0 7 rfl rfl)
theorem dX2_image_10 : decode cX2_image 10 = .ok (.putfield 359, 3) := dk_181 1 103 (dk_at dksX2_image_0 10 rfl rfl)
theorem dX2_image_13 : decode cX2_image 13 = .ok (.aload_n 0, 1) := dk_42 (dk_at dksX2_image_0 13 rfl rfl)
theorem dX2_image_14 : decode cX2_image 14 = .ok (.aload_n 0, 1) := dk_42 (dk_at dksX2_image_0 14 rfl rfl)
theorem dX2_image_15 : decode cX2_image 15 = .ok (.getfield 116, 3) := dk_180 0 116 (dk_at dksX2_image_0 15 rfl rfl)
theorem dX2_image_18 : decode cX2_image 18 = .ok (.putfield 362, 3) := dk_181 1 106 (dk_at dksX2_image_0 18 rfl rfl)
theorem dX2_image_21 : decode cX2_image 21 = .ok (.aload_n 0, 1) := dk_42 (dk_at dksX2_image_0 21 rfl rfl)
theorem dX2_image_22 : decode cX2_image 22 = .ok (.aload_n 0, 1) := dk_42 (dk_at dksX2_image_0 22 rfl rfl)
theorem dX2_image_23 : decode cX2_image 23 = .ok (.getfield 353, 3) := dk_180 1 97 (dk_at dksX2_image_1 0 rfl rfl)
theorem dX2_image_26 : decode cX2_image 26 = .ok (.putfield 365, 3) := dk_181 1 109 (dk_at dksX2_image_1 3 rfl rfl)
theorem dX2_image_29 : decode cX2_image 29 = .ok (.iconst 0, 1) := dk_3 (dk_at dksX2_image_1 6 rfl rfl)
theorem dX2_image_30 : decode cX2_image 30 = .ok (.istore_n 1, 1) := dk_60 (dk_at dksX2_image_1 7 rfl rfl)
theorem dX2_image_31 : decode cX2_image 31 = .ok (.iload_n 1, 1) := dk_27 (dk_at dksX2_image_1 8 rfl rfl)
theorem dX2_image_32 : decode cX2_image 32 = .ok (.bipush 9, 2) := dk_16 9 (dk_at dksX2_image_1 9 rfl rfl)
theorem dX2_image_34 : decode cX2_image 34 = .ok (.if_icmp .ge 21, 3) := dk_162 0 21 (dk_at dksX2_image_1 11 rfl rfl)
theorem dX2_image_37 : decode cX2_image 37 = .ok (.aload_n 0, 1) := dk_42 (dk_at dksX2_image_1 14 rfl rfl)
theorem dX2_image_38 : decode cX2_image 38 = .ok (.getfield 66, 3) := dk_180 0 66 (dk_at dksX2_image_1 15 rfl rfl)
theorem dX2_image_41 : decode cX2_image 41 = .ok (.iload_n 1, 1) := dk_27 (dk_at dksX2_image_1 18 rfl rfl)
theorem dX2_image_42 : decode cX2_image 42 = .ok (.aload_n 0, 1) := dk_42 (dk_at dksX2_image_1 19 rfl rfl)
theorem dX2_image_43 : decode cX2_image 43 = .ok (.getfield 60, 3) := dk_180 0 60 (dk_at dksX2_image_1 20 rfl rfl)
theorem dX2_image_46 : decode cX2_image 46 = .ok (.iload_n 1, 1) := dk_27 (dk_at dksX2_image_1 23 rfl rfl)
theorem dX2_image_47 : decode cX2_image 47 = .ok (.iaload, 1) := dk_46 (dk_at dksX2_image_2 0 rfl rfl)
theorem dX2_image_48 : decode cX2_image 48 = .ok (.iastore, 1) := dk_79 (dk_at dksX2_image_2 1 rfl rfl)
theorem dX2_image_49 : decode cX2_image 49 = .ok (.iinc 1 1, 3) := dk_132 1 1 (dk_at dksX2_image_2 2 rfl rfl)
theorem dX2_image_52 : decode cX2_image 52 = .ok (.goto (-21), 3) := dk_167 255 235 (dk_at dksX2_image_2 5 rfl rfl)
theorem dX2_image_55 : decode cX2_image 55 = .ok (.iconst 0, 1) := dk_3 (dk_at dksX2_image_2 8 rfl rfl)
theorem dX2_image_56 : decode cX2_image 56 = .ok (.istore_n 1, 1) := dk_60 (dk_at dksX2_image_2 9 rfl rfl)
theorem dX2_image_57 : decode cX2_image 57 = .ok (.iload_n 1, 1) := dk_27 (dk_at dksX2_image_2 10 rfl rfl)
theorem dX2_image_58 : decode cX2_image 58 = .ok (.iconst 4, 1) := dk_7 (dk_at dksX2_image_2 11 rfl rfl)
theorem dX2_image_59 : decode cX2_image 59 = .ok (.if_icmp .ge 21, 3) := dk_162 0 21 (dk_at dksX2_image_2 12 rfl rfl)
theorem dX2_image_62 : decode cX2_image 62 = .ok (.aload_n 0, 1) := dk_42 (dk_at dksX2_image_2 15 rfl rfl)
theorem dX2_image_63 : decode cX2_image 63 = .ok (.getfield 69, 3) := dk_180 0 69 (dk_at dksX2_image_2 16 rfl rfl)
theorem dX2_image_66 : decode cX2_image 66 = .ok (.iload_n 1, 1) := dk_27 (dk_at dksX2_image_2 19 rfl rfl)
theorem dX2_image_67 : decode cX2_image 67 = .ok (.aload_n 0, 1) := dk_42 (dk_at dksX2_image_2 20 rfl rfl)
theorem dX2_image_68 : decode cX2_image 68 = .ok (.getfield 63, 3) := dk_180 0 63 (dk_at dksX2_image_2 21 rfl rfl)
theorem dX2_image_71 : decode cX2_image 71 = .ok (.iload_n 1, 1) := dk_27 (dk_at dksX2_image_3 0 rfl rfl)
theorem dX2_image_72 : decode cX2_image 72 = .ok (.iaload, 1) := dk_46 (dk_at dksX2_image_3 1 rfl rfl)
theorem dX2_image_73 : decode cX2_image 73 = .ok (.iastore, 1) := dk_79 (dk_at dksX2_image_3 2 rfl rfl)
theorem dX2_image_74 : decode cX2_image 74 = .ok (.iinc 1 1, 3) := dk_132 1 1 (dk_at dksX2_image_3 3 rfl rfl)
theorem dX2_image_77 : decode cX2_image 77 = .ok (.goto (-20), 3) := dk_167 255 236 (dk_at dksX2_image_3 6 rfl rfl)
theorem dX2_image_80 : decode cX2_image 80 = .ok (.aload_n 0, 1) := dk_42 (dk_at dksX2_image_3 9 rfl rfl)
theorem dX2_image_81 : decode cX2_image 81 = .ok (.getfield 353, 3) := dk_180 1 97 (dk_at dksX2_image_3 10 rfl rfl)
theorem dX2_image_84 : decode cX2_image 84 = .ok (.ireturn, 1) := dk_172 (dk_at dksX2_image_3 13 rfl rfl)
abbrev cX2_back : ByteArray := prog_31_method_91_code
def yX2_back : MethodName := ⟨RX2, "back", "()I"⟩
def dkwX2_back_3 : List UInt8 := [42, 180, 0, 63, 27, 42, 180, 0, 69, 27, 46, 79, 132, 1, 1, 167, 255, 236, 42, 180, 1, 97, 172]
abbrev dktX2_back_3 : List UInt8 := dkwX2_back_3 ++ []
def dkwX2_back_2 : List UInt8 := [42, 180, 0, 66, 27, 46, 167, 0, 4, 3, 79, 132, 1, 1, 167, 255, 223, 3, 60, 27, 7, 162, 0, 21]
abbrev dktX2_back_2 : List UInt8 := dkwX2_back_2 ++ dktX2_back_3
def dkwX2_back_1 : List UInt8 := [181, 1, 97, 3, 60, 27, 16, 9, 162, 0, 33, 42, 180, 0, 60, 27, 27, 42, 180, 1, 103, 162, 0, 12]
abbrev dktX2_back_1 : List UInt8 := dkwX2_back_1 ++ dktX2_back_2
def dkwX2_back_0 : List UInt8 := [42, 180, 1, 100, 154, 0, 6, 16, 251, 172, 42, 42, 180, 1, 106, 181, 0, 116, 42, 42, 180, 1, 109]
abbrev dktX2_back_0 : List UInt8 := dkwX2_back_0 ++ dktX2_back_1
theorem dksX2_back_0 : cX2_back.data.toList.drop 0 = dktX2_back_0 := by decide +kernel
theorem dksX2_back_1 : cX2_back.data.toList.drop 23 = dktX2_back_1 := dk_seg dksX2_back_0 23 rfl rfl
theorem dksX2_back_2 : cX2_back.data.toList.drop 47 = dktX2_back_2 := dk_seg dksX2_back_1 24 rfl rfl
theorem dksX2_back_3 : cX2_back.data.toList.drop 71 = dktX2_back_3 := dk_seg dksX2_back_2 24 rfl rfl
theorem dX2_back_0 : decode cX2_back 0 = .ok (.aload_n 0, 1) := dk_42 (dk_at dksX2_back_0 0 rfl rfl)
theorem dX2_back_1 : decode cX2_back 1 = .ok (.getfield 356, 3) := dk_180 1 100 (dk_at dksX2_back_0 1 rfl rfl)
theorem dX2_back_4 : decode cX2_back 4 = .ok (.ifCond .ne 6, 3) := dk_154 0 6 (dk_at dksX2_back_0 4 rfl rfl)
theorem dX2_back_7 : decode cX2_back 7 = .ok (.bipush (-5), 2) := dk_16 251 (dk_at dksX2_back_0 7 rfl rfl)
theorem dX2_back_9 : decode cX2_back 9 = .ok (.ireturn, 1) := dk_172 (dk_at dksX2_back_0 9 rfl rfl)
theorem dX2_back_10 : decode cX2_back 10 = .ok (.aload_n 0, 1) := dk_42 (dk_at dksX2_back_0 10 rfl rfl)
theorem dX2_back_11 : decode cX2_back 11 = .ok (.aload_n 0, 1) := dk_42 (dk_at dksX2_back_0 11 rfl rfl)
theorem dX2_back_12 : decode cX2_back 12 = .ok (.getfield 362, 3) := dk_180 1 106 (dk_at dksX2_back_0 12 rfl rfl)
theorem dX2_back_15 : decode cX2_back 15 = .ok (.putfield 116, 3) := dk_181 0 116 (dk_at dksX2_back_0 15 rfl rfl)
theorem dX2_back_18 : decode cX2_back 18 = .ok (.aload_n 0, 1) := dk_42 (dk_at dksX2_back_0 18 rfl rfl)
theorem dX2_back_19 : decode cX2_back 19 = .ok (.aload_n 0, 1) := dk_42 (dk_at dksX2_back_0 19 rfl rfl)
theorem dX2_back_20 : decode cX2_back 20 = .ok (.getfield 365, 3) := dk_180 1 109 (dk_at dksX2_back_0 20 rfl rfl)
theorem dX2_back_23 : decode cX2_back 23 = .ok (.putfield 353, 3) := dk_181 1 97 (dk_at dksX2_back_1 0 rfl rfl)
theorem dX2_back_26 : decode cX2_back 26 = .ok (.iconst 0, 1) := dk_3 (dk_at dksX2_back_1 3 rfl rfl)
theorem dX2_back_27 : decode cX2_back 27 = .ok (.istore_n 1, 1) := dk_60 (dk_at dksX2_back_1 4 rfl rfl)
theorem dX2_back_28 : decode cX2_back 28 = .ok (.iload_n 1, 1) := dk_27 (dk_at dksX2_back_1 5 rfl rfl)
theorem dX2_back_29 : decode cX2_back 29 = .ok (.bipush 9, 2) := dk_16 9 (dk_at dksX2_back_1 6 rfl rfl)
theorem dX2_back_31 : decode cX2_back 31 = .ok (.if_icmp .ge 33, 3) := dk_162 0 33 (dk_at dksX2_back_1 8 rfl rfl)
theorem dX2_back_34 : decode cX2_back 34 = .ok (.aload_n 0, 1) := dk_42 (dk_at dksX2_back_1 11 rfl rfl)
theorem dX2_back_35 : decode cX2_back 35 = .ok (.getfield 60, 3) := dk_180 0 60 (dk_at dksX2_back_1 12 rfl rfl)
theorem dX2_back_38 : decode cX2_back 38 = .ok (.iload_n 1, 1) := dk_27 (dk_at dksX2_back_1 15 rfl rfl)
theorem dX2_back_39 : decode cX2_back 39 = .ok (.iload_n 1, 1) := dk_27 (dk_at dksX2_back_1 16 rfl rfl)
theorem dX2_back_40 : decode cX2_back 40 = .ok (.aload_n 0, 1) := dk_42 (dk_at dksX2_back_1 17 rfl rfl)
theorem dX2_back_41 : decode cX2_back 41 = .ok (.getfield 359, 3) := dk_180 1 103 (dk_at dksX2_back_1 18 rfl rfl)
theorem dX2_back_44 : decode cX2_back 44 = .ok (.if_icmp .ge 12, 3) := dk_162 0 12 (dk_at dksX2_back_1 21 rfl rfl)
theorem dX2_back_47 : decode cX2_back 47 = .ok (.aload_n 0, 1) := dk_42 (dk_at dksX2_back_2 0 rfl rfl)
theorem dX2_back_48 : decode cX2_back 48 = .ok (.getfield 66, 3) := dk_180 0 66 (dk_at dksX2_back_2 1 rfl rfl)
theorem dX2_back_51 : decode cX2_back 51 = .ok (.iload_n 1, 1) := dk_27 (dk_at dksX2_back_2 4 rfl rfl)
theorem dX2_back_52 : decode cX2_back 52 = .ok (.iaload, 1) := dk_46 (dk_at dksX2_back_2 5 rfl rfl)
theorem dX2_back_53 : decode cX2_back 53 = .ok (.goto 4, 3) := dk_167 0 4 (dk_at dksX2_back_2 6 rfl rfl)
theorem dX2_back_56 : decode cX2_back 56 = .ok (.iconst 0, 1) := dk_3 (dk_at dksX2_back_2 9 rfl rfl)
theorem dX2_back_57 : decode cX2_back 57 = .ok (.iastore, 1) := dk_79 (dk_at dksX2_back_2 10 rfl rfl)
theorem dX2_back_58 : decode cX2_back 58 = .ok (.iinc 1 1, 3) := dk_132 1 1 (dk_at dksX2_back_2 11 rfl rfl)
theorem dX2_back_61 : decode cX2_back 61 = .ok (.goto (-33), 3) := dk_167 255 223 (dk_at dksX2_back_2 14 rfl rfl)
theorem dX2_back_64 : decode cX2_back 64 = .ok (.iconst 0, 1) := dk_3 (dk_at dksX2_back_2 17 rfl rfl)
theorem dX2_back_65 : decode cX2_back 65 = .ok (.istore_n 1, 1) := dk_60 (dk_at dksX2_back_2 18 rfl rfl)
theorem dX2_back_66 : decode cX2_back 66 = .ok (.iload_n 1, 1) := dk_27 (dk_at dksX2_back_2 19 rfl rfl)
theorem dX2_back_67 : decode cX2_back 67 = .ok (.iconst 4, 1) := dk_7 (dk_at dksX2_back_2 20 rfl rfl)
theorem dX2_back_68 : decode cX2_back 68 = .ok (.if_icmp .ge 21, 3) := dk_162 0 21 (dk_at dksX2_back_2 21 rfl rfl)
theorem dX2_back_71 : decode cX2_back 71 = .ok (.aload_n 0, 1) := dk_42 (dk_at dksX2_back_3 0 rfl rfl)
theorem dX2_back_72 : decode cX2_back 72 = .ok (.getfield 63, 3) := dk_180 0 63 (dk_at dksX2_back_3 1 rfl rfl)
theorem dX2_back_75 : decode cX2_back 75 = .ok (.iload_n 1, 1) := dk_27 (dk_at dksX2_back_3 4 rfl rfl)
theorem dX2_back_76 : decode cX2_back 76 = .ok (.aload_n 0, 1) := dk_42 (dk_at dksX2_back_3 5 rfl rfl)
theorem dX2_back_77 : decode cX2_back 77 = .ok (.getfield 69, 3) := dk_180 0 69 (dk_at dksX2_back_3 6 rfl rfl)
theorem dX2_back_80 : decode cX2_back 80 = .ok (.iload_n 1, 1) := dk_27 (dk_at dksX2_back_3 9 rfl rfl)
theorem dX2_back_81 : decode cX2_back 81 = .ok (.iaload, 1) := dk_46 (dk_at dksX2_back_3 10 rfl rfl)
theorem dX2_back_82 : decode cX2_back 82 = .ok (.iastore, 1) := dk_79 (dk_at dksX2_back_3 11 rfl rfl)
theorem dX2_back_83 : decode cX2_back 83 = .ok (.iinc 1 1, 3) := dk_132 1 1 (dk_at dksX2_back_3 12 rfl rfl)
theorem dX2_back_86 : decode cX2_back 86 = .ok (.goto (-20), 3) := dk_167 255 236 (dk_at dksX2_back_3 15 rfl rfl)
theorem dX2_back_89 : decode cX2_back 89 = .ok (.aload_n 0, 1) := dk_42 (dk_at dksX2_back_3 18 rfl rfl)
theorem dX2_back_90 : decode cX2_back 90 = .ok (.getfield 353, 3) := dk_180 1 97 (dk_at dksX2_back_3 19 rfl rfl)
theorem dX2_back_93 : decode cX2_back 93 = .ok (.ireturn, 1) := dk_172 (dk_at dksX2_back_3 22 rfl rfl)
abbrev cX2_body : ByteArray := prog_31_method_98_code
def yX2_body : MethodName := ⟨RX2, "body", "(I)I"⟩
def dkwX2_body_1 : List UInt8 := [42, 180, 0, 75, 42, 180, 1, 133, 27, 79, 42, 89, 180, 1, 133, 90, 4, 96, 181, 1, 133, 172]
abbrev dktX2_body_1 : List UInt8 := dkwX2_body_1 ++ []
def dkwX2_body_0 : List UInt8 := [27, 3, 16, 7, 184, 0, 123, 154, 0, 5, 2, 172, 42, 180, 1, 133, 16, 50, 160, 0, 6, 16, 253, 172]
abbrev dktX2_body_0 : List UInt8 := dkwX2_body_0 ++ dktX2_body_1
theorem dksX2_body_0 : cX2_body.data.toList.drop 0 = dktX2_body_0 := by decide +kernel
theorem dksX2_body_1 : cX2_body.data.toList.drop 24 = dktX2_body_1 := dk_seg dksX2_body_0 24 rfl rfl
theorem dX2_body_0 : decode cX2_body 0 = .ok (.iload_n 1, 1) := dk_27 (dk_at dksX2_body_0 0 rfl rfl)
theorem dX2_body_1 : decode cX2_body 1 = .ok (.iconst 0, 1) := dk_3 (dk_at dksX2_body_0 1 rfl rfl)
theorem dX2_body_2 : decode cX2_body 2 = .ok (.bipush 7, 2) := dk_16 7 (dk_at dksX2_body_0 2 rfl rfl)
theorem dX2_body_4 : decode cX2_body 4 = .ok (.invokestatic 123, 3) := dk_184 0 123 (dk_at dksX2_body_0 4 rfl rfl)
theorem dX2_body_7 : decode cX2_body 7 = .ok (.ifCond .ne 5, 3) := dk_154 0 5 (dk_at dksX2_body_0 7 rfl rfl)
theorem dX2_body_10 : decode cX2_body 10 = .ok (.iconst (-1), 1) := dk_2 (dk_at dksX2_body_0 10 rfl rfl)
theorem dX2_body_11 : decode cX2_body 11 = .ok (.ireturn, 1) := dk_172 (dk_at dksX2_body_0 11 rfl rfl)
theorem dX2_body_12 : decode cX2_body 12 = .ok (.aload_n 0, 1) := dk_42 (dk_at dksX2_body_0 12 rfl rfl)
theorem dX2_body_13 : decode cX2_body 13 = .ok (.getfield 389, 3) := dk_180 1 133 (dk_at dksX2_body_0 13 rfl rfl)
theorem dX2_body_16 : decode cX2_body 16 = .ok (.bipush 50, 2) := dk_16 50 (dk_at dksX2_body_0 16 rfl rfl)
theorem dX2_body_18 : decode cX2_body 18 = .ok (.if_icmp .ne 6, 3) := dk_160 0 6 (dk_at dksX2_body_0 18 rfl rfl)
theorem dX2_body_21 : decode cX2_body 21 = .ok (.bipush (-3), 2) := dk_16 253 (dk_at dksX2_body_0 21 rfl rfl)
theorem dX2_body_23 : decode cX2_body 23 = .ok (.ireturn, 1) := dk_172 (dk_at dksX2_body_0 23 rfl rfl)
theorem dX2_body_24 : decode cX2_body 24 = .ok (.aload_n 0, 1) := dk_42 (dk_at dksX2_body_1 0 rfl rfl)
theorem dX2_body_25 : decode cX2_body 25 = .ok (.getfield 75, 3) := dk_180 0 75 (dk_at dksX2_body_1 1 rfl rfl)
theorem dX2_body_28 : decode cX2_body 28 = .ok (.aload_n 0, 1) := dk_42 (dk_at dksX2_body_1 4 rfl rfl)
theorem dX2_body_29 : decode cX2_body 29 = .ok (.getfield 389, 3) := dk_180 1 133 (dk_at dksX2_body_1 5 rfl rfl)
theorem dX2_body_32 : decode cX2_body 32 = .ok (.iload_n 1, 1) := dk_27 (dk_at dksX2_body_1 8 rfl rfl)
theorem dX2_body_33 : decode cX2_body 33 = .ok (.iastore, 1) := dk_79 (dk_at dksX2_body_1 9 rfl rfl)
theorem dX2_body_34 : decode cX2_body 34 = .ok (.aload_n 0, 1) := dk_42 (dk_at dksX2_body_1 10 rfl rfl)
theorem dX2_body_35 : decode cX2_body 35 = .ok (.dup, 1) := dk_89 (dk_at dksX2_body_1 11 rfl rfl)
theorem dX2_body_36 : decode cX2_body 36 = .ok (.getfield 389, 3) := dk_180 1 133 (dk_at dksX2_body_1 12 rfl rfl)
theorem dX2_body_39 : decode cX2_body 39 = .ok (.dup_x1, 1) := dk_90 (dk_at dksX2_body_1 15 rfl rfl)
theorem dX2_body_40 : decode cX2_body 40 = .ok (.iconst 1, 1) := dk_4 (dk_at dksX2_body_1 16 rfl rfl)
theorem dX2_body_41 : decode cX2_body 41 = .ok (.iadd, 1) := dk_96 (dk_at dksX2_body_1 17 rfl rfl)
theorem dX2_body_42 : decode cX2_body 42 = .ok (.putfield 389, 3) := dk_181 1 133 (dk_at dksX2_body_1 18 rfl rfl)
theorem dX2_body_45 : decode cX2_body 45 = .ok (.ireturn, 1) := dk_172 (dk_at dksX2_body_1 21 rfl rfl)
abbrev cX2_act : ByteArray := prog_31_method_99_code
def yX2_act : MethodName := ⟨RX2, "act", "(III)I"⟩
def dkwX2_act_3 : List UInt8 := [5, 160, 0, 14, 42, 27, 21, 4, 29, 182, 1, 127, 167, 0, 11, 42, 27, 21, 4, 29, 182, 1, 130, 172]
abbrev dktX2_act_3 : List UInt8 := dkwX2_act_3 ++ []
def dkwX2_act_2 : List UInt8 := [29, 182, 1, 118, 167, 0, 43, 28, 4, 160, 0, 14, 42, 27, 21, 4, 29, 182, 1, 124, 167, 0, 27, 28]
abbrev dktX2_act_2 : List UInt8 := dkwX2_act_2 ++ dktX2_act_3
def dkwX2_act_1 : List UInt8 := [184, 0, 123, 154, 0, 5, 3, 172, 42, 180, 0, 75, 27, 46, 54, 4, 28, 154, 0, 14, 42, 27, 21, 4]
abbrev dktX2_act_1 : List UInt8 := dkwX2_act_1 ++ dktX2_act_2
def dkwX2_act_0 : List UInt8 := [42, 3, 181, 1, 112, 27, 3, 42, 180, 1, 133, 4, 100, 184, 0, 123, 153, 0, 12, 28, 3, 6]
abbrev dktX2_act_0 : List UInt8 := dkwX2_act_0 ++ dktX2_act_1
theorem dksX2_act_0 : cX2_act.data.toList.drop 0 = dktX2_act_0 := by decide +kernel
theorem dksX2_act_1 : cX2_act.data.toList.drop 22 = dktX2_act_1 := dk_seg dksX2_act_0 22 rfl rfl
theorem dksX2_act_2 : cX2_act.data.toList.drop 46 = dktX2_act_2 := dk_seg dksX2_act_1 24 rfl rfl
theorem dksX2_act_3 : cX2_act.data.toList.drop 70 = dktX2_act_3 := dk_seg dksX2_act_2 24 rfl rfl
theorem dX2_act_0 : decode cX2_act 0 = .ok (.aload_n 0, 1) := dk_42 (dk_at dksX2_act_0 0 rfl rfl)
theorem dX2_act_1 : decode cX2_act 1 = .ok (.iconst 0, 1) := dk_3 (dk_at dksX2_act_0 1 rfl rfl)
theorem dX2_act_2 : decode cX2_act 2 = .ok (.putfield 368, 3) := dk_181 1 112 (dk_at dksX2_act_0 2 rfl rfl)
theorem dX2_act_5 : decode cX2_act 5 = .ok (.iload_n 1, 1) := dk_27 (dk_at dksX2_act_0 5 rfl rfl)
theorem dX2_act_6 : decode cX2_act 6 = .ok (.iconst 0, 1) := dk_3 (dk_at dksX2_act_0 6 rfl rfl)
theorem dX2_act_7 : decode cX2_act 7 = .ok (.aload_n 0, 1) := dk_42 (dk_at dksX2_act_0 7 rfl rfl)
theorem dX2_act_8 : decode cX2_act 8 = .ok (.getfield 389, 3) := dk_180 1 133 (dk_at dksX2_act_0 8 rfl rfl)
theorem dX2_act_11 : decode cX2_act 11 = .ok (.iconst 1, 1) := dk_4 (dk_at dksX2_act_0 11 rfl rfl)
theorem dX2_act_12 : decode cX2_act 12 = .ok (.isub, 1) := dk_100 (dk_at dksX2_act_0 12 rfl rfl)
theorem dX2_act_13 : decode cX2_act 13 = .ok (.invokestatic 123, 3) := dk_184 0 123 (dk_at dksX2_act_0 13 rfl rfl)
theorem dX2_act_16 : decode cX2_act 16 = .ok (.ifCond .eq 12, 3) := dk_153 0 12 (dk_at dksX2_act_0 16 rfl rfl)
theorem dX2_act_19 : decode cX2_act 19 = .ok (.iload_n 2, 1) := dk_28 (dk_at dksX2_act_0 19 rfl rfl)
theorem dX2_act_20 : decode cX2_act 20 = .ok (.iconst 0, 1) := dk_3 (dk_at dksX2_act_0 20 rfl rfl)
theorem dX2_act_21 : decode cX2_act 21 = .ok (.iconst 3, 1) := dk_6 (dk_at dksX2_act_0 21 rfl rfl)
theorem dX2_act_22 : decode cX2_act 22 = .ok (.invokestatic 123, 3) := dk_184 0 123 (dk_at dksX2_act_1 0 rfl rfl)
theorem dX2_act_25 : decode cX2_act 25 = .ok (.ifCond .ne 5, 3) := dk_154 0 5 (dk_at dksX2_act_1 3 rfl rfl)
theorem dX2_act_28 : decode cX2_act 28 = .ok (.iconst 0, 1) := dk_3 (dk_at dksX2_act_1 6 rfl rfl)
theorem dX2_act_29 : decode cX2_act 29 = .ok (.ireturn, 1) := dk_172 (dk_at dksX2_act_1 7 rfl rfl)
theorem dX2_act_30 : decode cX2_act 30 = .ok (.aload_n 0, 1) := dk_42 (dk_at dksX2_act_1 8 rfl rfl)
theorem dX2_act_31 : decode cX2_act 31 = .ok (.getfield 75, 3) := dk_180 0 75 (dk_at dksX2_act_1 9 rfl rfl)
theorem dX2_act_34 : decode cX2_act 34 = .ok (.iload_n 1, 1) := dk_27 (dk_at dksX2_act_1 12 rfl rfl)
theorem dX2_act_35 : decode cX2_act 35 = .ok (.iaload, 1) := dk_46 (dk_at dksX2_act_1 13 rfl rfl)
theorem dX2_act_36 : decode cX2_act 36 = .ok (.istore 4, 2) := dk_54 4 (dk_at dksX2_act_1 14 rfl rfl)
theorem dX2_act_38 : decode cX2_act 38 = .ok (.iload_n 2, 1) := dk_28 (dk_at dksX2_act_1 16 rfl rfl)
theorem dX2_act_39 : decode cX2_act 39 = .ok (.ifCond .ne 14, 3) := dk_154 0 14 (dk_at dksX2_act_1 17 rfl rfl)
theorem dX2_act_42 : decode cX2_act 42 = .ok (.aload_n 0, 1) := dk_42 (dk_at dksX2_act_1 20 rfl rfl)
theorem dX2_act_43 : decode cX2_act 43 = .ok (.iload_n 1, 1) := dk_27 (dk_at dksX2_act_1 21 rfl rfl)
theorem dX2_act_44 : decode cX2_act 44 = .ok (.iload 4, 2) := dk_21 4 (dk_at dksX2_act_1 22 rfl rfl)
theorem dX2_act_46 : decode cX2_act 46 = .ok (.iload_n 3, 1) := dk_29 (dk_at dksX2_act_2 0 rfl rfl)
theorem dX2_act_47 : decode cX2_act 47 = .ok (.invokevirtual 374, 3) := dk_182 1 118 (dk_at dksX2_act_2 1 rfl rfl)
theorem dX2_act_50 : decode cX2_act 50 = .ok (.goto 43, 3) := dk_167 0 43 (dk_at dksX2_act_2 4 rfl rfl)
theorem dX2_act_53 : decode cX2_act 53 = .ok (.iload_n 2, 1) := dk_28 (dk_at dksX2_act_2 7 rfl rfl)
theorem dX2_act_54 : decode cX2_act 54 = .ok (.iconst 1, 1) := dk_4 (dk_at dksX2_act_2 8 rfl rfl)
theorem dX2_act_55 : decode cX2_act 55 = .ok (.if_icmp .ne 14, 3) := dk_160 0 14 (dk_at dksX2_act_2 9 rfl rfl)
theorem dX2_act_58 : decode cX2_act 58 = .ok (.aload_n 0, 1) := dk_42 (dk_at dksX2_act_2 12 rfl rfl)
theorem dX2_act_59 : decode cX2_act 59 = .ok (.iload_n 1, 1) := dk_27 (dk_at dksX2_act_2 13 rfl rfl)
theorem dX2_act_60 : decode cX2_act 60 = .ok (.iload 4, 2) := dk_21 4 (dk_at dksX2_act_2 14 rfl rfl)
theorem dX2_act_62 : decode cX2_act 62 = .ok (.iload_n 3, 1) := dk_29 (dk_at dksX2_act_2 16 rfl rfl)
theorem dX2_act_63 : decode cX2_act 63 = .ok (.invokevirtual 380, 3) := dk_182 1 124 (dk_at dksX2_act_2 17 rfl rfl)
theorem dX2_act_66 : decode cX2_act 66 = .ok (.goto 27, 3) := dk_167 0 27 (dk_at dksX2_act_2 20 rfl rfl)
theorem dX2_act_69 : decode cX2_act 69 = .ok (.iload_n 2, 1) := dk_28 (dk_at dksX2_act_2 23 rfl rfl)
theorem dX2_act_70 : decode cX2_act 70 = .ok (.iconst 2, 1) := dk_5 (dk_at dksX2_act_3 0 rfl rfl)
theorem dX2_act_71 : decode cX2_act 71 = .ok (.if_icmp .ne 14, 3) := dk_160 0 14 (dk_at dksX2_act_3 1 rfl rfl)
theorem dX2_act_74 : decode cX2_act 74 = .ok (.aload_n 0, 1) := dk_42 (dk_at dksX2_act_3 4 rfl rfl)
theorem dX2_act_75 : decode cX2_act 75 = .ok (.iload_n 1, 1) := dk_27 (dk_at dksX2_act_3 5 rfl rfl)
theorem dX2_act_76 : decode cX2_act 76 = .ok (.iload 4, 2) := dk_21 4 (dk_at dksX2_act_3 6 rfl rfl)
theorem dX2_act_78 : decode cX2_act 78 = .ok (.iload_n 3, 1) := dk_29 (dk_at dksX2_act_3 8 rfl rfl)
theorem dX2_act_79 : decode cX2_act 79 = .ok (.invokevirtual 383, 3) := dk_182 1 127 (dk_at dksX2_act_3 9 rfl rfl)
theorem dX2_act_82 : decode cX2_act 82 = .ok (.goto 11, 3) := dk_167 0 11 (dk_at dksX2_act_3 12 rfl rfl)
theorem dX2_act_85 : decode cX2_act 85 = .ok (.aload_n 0, 1) := dk_42 (dk_at dksX2_act_3 15 rfl rfl)
theorem dX2_act_86 : decode cX2_act 86 = .ok (.iload_n 1, 1) := dk_27 (dk_at dksX2_act_3 16 rfl rfl)
theorem dX2_act_87 : decode cX2_act 87 = .ok (.iload 4, 2) := dk_21 4 (dk_at dksX2_act_3 17 rfl rfl)
theorem dX2_act_89 : decode cX2_act 89 = .ok (.iload_n 3, 1) := dk_29 (dk_at dksX2_act_3 19 rfl rfl)
theorem dX2_act_90 : decode cX2_act 90 = .ok (.invokevirtual 386, 3) := dk_182 1 130 (dk_at dksX2_act_3 20 rfl rfl)
theorem dX2_act_93 : decode cX2_act 93 = .ok (.ireturn, 1) := dk_172 (dk_at dksX2_act_3 23 rfl rfl)
abbrev cX2_turnsBy : ByteArray := prog_31_method_94_code
def yX2_turnsBy : MethodName := ⟨RX2, "turnsBy", "(III)I"⟩
def dkwX2_turnsBy_4 : List UInt8 := [182, 1, 118, 172]
abbrev dktX2_turnsBy_4 : List UInt8 := dkwX2_turnsBy_4 ++ []
def dkwX2_turnsBy_3 : List UInt8 := [172, 42, 16, 70, 182, 1, 115, 42, 27, 3, 29, 182, 1, 118, 5, 104, 172, 42, 27, 28, 184, 1, 121, 29]
abbrev dktX2_turnsBy_3 : List UInt8 := dkwX2_turnsBy_3 ++ dktX2_turnsBy_4
def dkwX2_turnsBy_2 : List UInt8 := [42, 4, 182, 1, 115, 29, 27, 96, 172, 42, 16, 20, 182, 1, 115, 42, 27, 3, 29, 182, 1, 118, 6, 96]
abbrev dktX2_turnsBy_2 : List UInt8 := dkwX2_turnsBy_2 ++ dktX2_turnsBy_3
def dkwX2_turnsBy_1 : List UInt8 := [171, 0, 0, 0, 0, 0, 76, 0, 0, 0, 3, 0, 0, 0, 0, 0, 0, 0, 35, 0, 0, 0, 1, 0, 0, 0, 44, 0, 0, 0, 6, 0, 0, 0, 60]
abbrev dktX2_turnsBy_1 : List UInt8 := dkwX2_turnsBy_1 ++ dktX2_turnsBy_2
def dkwX2_turnsBy_0 : List UInt8 := [28]
abbrev dktX2_turnsBy_0 : List UInt8 := dkwX2_turnsBy_0 ++ dktX2_turnsBy_1
theorem dksX2_turnsBy_0 : cX2_turnsBy.data.toList.drop 0 = dktX2_turnsBy_0 := by decide +kernel
theorem dksX2_turnsBy_1 : cX2_turnsBy.data.toList.drop 1 = dktX2_turnsBy_1 := dk_seg dksX2_turnsBy_0 1 rfl rfl
theorem dksX2_turnsBy_2 : cX2_turnsBy.data.toList.drop 36 = dktX2_turnsBy_2 := dk_seg dksX2_turnsBy_1 35 rfl rfl
theorem dksX2_turnsBy_3 : cX2_turnsBy.data.toList.drop 60 = dktX2_turnsBy_3 := dk_seg dksX2_turnsBy_2 24 rfl rfl
theorem dksX2_turnsBy_4 : cX2_turnsBy.data.toList.drop 84 = dktX2_turnsBy_4 := dk_seg dksX2_turnsBy_3 24 rfl rfl
theorem dX2_turnsBy_0 : decode cX2_turnsBy 0 = .ok (.iload_n 2, 1) := dk_28 (dk_at dksX2_turnsBy_0 0 rfl rfl)
theorem dX2_turnsBy_1 : decode cX2_turnsBy 1 = .ok (.lookupswitch 76 #[(0, 35), (1, 44), (6, 60)], 35) := by decide +kernel
theorem dX2_turnsBy_36 : decode cX2_turnsBy 36 = .ok (.aload_n 0, 1) := dk_42 (dk_at dksX2_turnsBy_2 0 rfl rfl)
theorem dX2_turnsBy_37 : decode cX2_turnsBy 37 = .ok (.iconst 1, 1) := dk_4 (dk_at dksX2_turnsBy_2 1 rfl rfl)
theorem dX2_turnsBy_38 : decode cX2_turnsBy 38 = .ok (.invokevirtual 371, 3) := dk_182 1 115 (dk_at dksX2_turnsBy_2 2 rfl rfl)
theorem dX2_turnsBy_41 : decode cX2_turnsBy 41 = .ok (.iload_n 3, 1) := dk_29 (dk_at dksX2_turnsBy_2 5 rfl rfl)
theorem dX2_turnsBy_42 : decode cX2_turnsBy 42 = .ok (.iload_n 1, 1) := dk_27 (dk_at dksX2_turnsBy_2 6 rfl rfl)
theorem dX2_turnsBy_43 : decode cX2_turnsBy 43 = .ok (.iadd, 1) := dk_96 (dk_at dksX2_turnsBy_2 7 rfl rfl)
theorem dX2_turnsBy_44 : decode cX2_turnsBy 44 = .ok (.ireturn, 1) := dk_172 (dk_at dksX2_turnsBy_2 8 rfl rfl)
theorem dX2_turnsBy_45 : decode cX2_turnsBy 45 = .ok (.aload_n 0, 1) := dk_42 (dk_at dksX2_turnsBy_2 9 rfl rfl)
theorem dX2_turnsBy_46 : decode cX2_turnsBy 46 = .ok (.bipush 20, 2) := dk_16 20 (dk_at dksX2_turnsBy_2 10 rfl rfl)
theorem dX2_turnsBy_48 : decode cX2_turnsBy 48 = .ok (.invokevirtual 371, 3) := dk_182 1 115 (dk_at dksX2_turnsBy_2 12 rfl rfl)
theorem dX2_turnsBy_51 : decode cX2_turnsBy 51 = .ok (.aload_n 0, 1) := dk_42 (dk_at dksX2_turnsBy_2 15 rfl rfl)
theorem dX2_turnsBy_52 : decode cX2_turnsBy 52 = .ok (.iload_n 1, 1) := dk_27 (dk_at dksX2_turnsBy_2 16 rfl rfl)
theorem dX2_turnsBy_53 : decode cX2_turnsBy 53 = .ok (.iconst 0, 1) := dk_3 (dk_at dksX2_turnsBy_2 17 rfl rfl)
theorem dX2_turnsBy_54 : decode cX2_turnsBy 54 = .ok (.iload_n 3, 1) := dk_29 (dk_at dksX2_turnsBy_2 18 rfl rfl)
theorem dX2_turnsBy_55 : decode cX2_turnsBy 55 = .ok (.invokevirtual 374, 3) := dk_182 1 118 (dk_at dksX2_turnsBy_2 19 rfl rfl)
theorem dX2_turnsBy_58 : decode cX2_turnsBy 58 = .ok (.iconst 3, 1) := dk_6 (dk_at dksX2_turnsBy_2 22 rfl rfl)
theorem dX2_turnsBy_59 : decode cX2_turnsBy 59 = .ok (.iadd, 1) := dk_96 (dk_at dksX2_turnsBy_2 23 rfl rfl)
theorem dX2_turnsBy_60 : decode cX2_turnsBy 60 = .ok (.ireturn, 1) := dk_172 (dk_at dksX2_turnsBy_3 0 rfl rfl)
theorem dX2_turnsBy_61 : decode cX2_turnsBy 61 = .ok (.aload_n 0, 1) := dk_42 (dk_at dksX2_turnsBy_3 1 rfl rfl)
theorem dX2_turnsBy_62 : decode cX2_turnsBy 62 = .ok (.bipush 70, 2) := dk_16 70 (dk_at dksX2_turnsBy_3 2 rfl rfl)
theorem dX2_turnsBy_64 : decode cX2_turnsBy 64 = .ok (.invokevirtual 371, 3) := dk_182 1 115 (dk_at dksX2_turnsBy_3 4 rfl rfl)
theorem dX2_turnsBy_67 : decode cX2_turnsBy 67 = .ok (.aload_n 0, 1) := dk_42 (dk_at dksX2_turnsBy_3 7 rfl rfl)
theorem dX2_turnsBy_68 : decode cX2_turnsBy 68 = .ok (.iload_n 1, 1) := dk_27 (dk_at dksX2_turnsBy_3 8 rfl rfl)
theorem dX2_turnsBy_69 : decode cX2_turnsBy 69 = .ok (.iconst 0, 1) := dk_3 (dk_at dksX2_turnsBy_3 9 rfl rfl)
theorem dX2_turnsBy_70 : decode cX2_turnsBy 70 = .ok (.iload_n 3, 1) := dk_29 (dk_at dksX2_turnsBy_3 10 rfl rfl)
theorem dX2_turnsBy_71 : decode cX2_turnsBy 71 = .ok (.invokevirtual 374, 3) := dk_182 1 118 (dk_at dksX2_turnsBy_3 11 rfl rfl)
theorem dX2_turnsBy_74 : decode cX2_turnsBy 74 = .ok (.iconst 2, 1) := dk_5 (dk_at dksX2_turnsBy_3 14 rfl rfl)
theorem dX2_turnsBy_75 : decode cX2_turnsBy 75 = .ok (.imul, 1) := dk_104 (dk_at dksX2_turnsBy_3 15 rfl rfl)
theorem dX2_turnsBy_76 : decode cX2_turnsBy 76 = .ok (.ireturn, 1) := dk_172 (dk_at dksX2_turnsBy_3 16 rfl rfl)
theorem dX2_turnsBy_77 : decode cX2_turnsBy 77 = .ok (.aload_n 0, 1) := dk_42 (dk_at dksX2_turnsBy_3 17 rfl rfl)
theorem dX2_turnsBy_78 : decode cX2_turnsBy 78 = .ok (.iload_n 1, 1) := dk_27 (dk_at dksX2_turnsBy_3 18 rfl rfl)
theorem dX2_turnsBy_79 : decode cX2_turnsBy 79 = .ok (.iload_n 2, 1) := dk_28 (dk_at dksX2_turnsBy_3 19 rfl rfl)
theorem dX2_turnsBy_80 : decode cX2_turnsBy 80 = .ok (.invokestatic 377, 3) := dk_184 1 121 (dk_at dksX2_turnsBy_3 20 rfl rfl)
theorem dX2_turnsBy_83 : decode cX2_turnsBy 83 = .ok (.iload_n 3, 1) := dk_29 (dk_at dksX2_turnsBy_3 23 rfl rfl)
theorem dX2_turnsBy_84 : decode cX2_turnsBy 84 = .ok (.invokevirtual 374, 3) := dk_182 1 118 (dk_at dksX2_turnsBy_4 0 rfl rfl)
theorem dX2_turnsBy_87 : decode cX2_turnsBy 87 = .ok (.ireturn, 1) := dk_172 (dk_at dksX2_turnsBy_4 3 rfl rfl)
abbrev cX2_ran : ByteArray := prog_31_method_93_code
def yX2_ran : MethodName := ⟨RX2, "ran", "(I)V"⟩
def dkwX2_ran_1 : List UInt8 := [4, 96, 181, 1, 112, 177]
abbrev dktX2_ran_1 : List UInt8 := dkwX2_ran_1 ++ []
def dkwX2_ran_0 : List UInt8 := [42, 180, 1, 112, 16, 24, 162, 0, 13, 42, 180, 0, 78, 42, 180, 1, 112, 27, 79, 42, 89, 180, 1, 112]
abbrev dktX2_ran_0 : List UInt8 := dkwX2_ran_0 ++ dktX2_ran_1
theorem dksX2_ran_0 : cX2_ran.data.toList.drop 0 = dktX2_ran_0 := by decide +kernel
theorem dksX2_ran_1 : cX2_ran.data.toList.drop 24 = dktX2_ran_1 := dk_seg dksX2_ran_0 24 rfl rfl
theorem dX2_ran_0 : decode cX2_ran 0 = .ok (.aload_n 0, 1) := dk_42 (dk_at dksX2_ran_0 0 rfl rfl)
theorem dX2_ran_1 : decode cX2_ran 1 = .ok (.getfield 368, 3) := dk_180 1 112 (dk_at dksX2_ran_0 1 rfl rfl)
theorem dX2_ran_4 : decode cX2_ran 4 = .ok (.bipush 24, 2) := dk_16 24 (dk_at dksX2_ran_0 4 rfl rfl)
theorem dX2_ran_6 : decode cX2_ran 6 = .ok (.if_icmp .ge 13, 3) := dk_162 0 13 (dk_at dksX2_ran_0 6 rfl rfl)
theorem dX2_ran_9 : decode cX2_ran 9 = .ok (.aload_n 0, 1) := dk_42 (dk_at dksX2_ran_0 9 rfl rfl)
theorem dX2_ran_10 : decode cX2_ran 10 = .ok (.getfield 78, 3) := dk_180 0 78 (dk_at dksX2_ran_0 10 rfl rfl)
theorem dX2_ran_13 : decode cX2_ran 13 = .ok (.aload_n 0, 1) := dk_42 (dk_at dksX2_ran_0 13 rfl rfl)
theorem dX2_ran_14 : decode cX2_ran 14 = .ok (.getfield 368, 3) := dk_180 1 112 (dk_at dksX2_ran_0 14 rfl rfl)
theorem dX2_ran_17 : decode cX2_ran 17 = .ok (.iload_n 1, 1) := dk_27 (dk_at dksX2_ran_0 17 rfl rfl)
theorem dX2_ran_18 : decode cX2_ran 18 = .ok (.iastore, 1) := dk_79 (dk_at dksX2_ran_0 18 rfl rfl)
theorem dX2_ran_19 : decode cX2_ran 19 = .ok (.aload_n 0, 1) := dk_42 (dk_at dksX2_ran_0 19 rfl rfl)
theorem dX2_ran_20 : decode cX2_ran 20 = .ok (.dup, 1) := dk_89 (dk_at dksX2_ran_0 20 rfl rfl)
theorem dX2_ran_21 : decode cX2_ran 21 = .ok (.getfield 368, 3) := dk_180 1 112 (dk_at dksX2_ran_0 21 rfl rfl)
theorem dX2_ran_24 : decode cX2_ran 24 = .ok (.iconst 1, 1) := dk_4 (dk_at dksX2_ran_1 0 rfl rfl)
theorem dX2_ran_25 : decode cX2_ran 25 = .ok (.iadd, 1) := dk_96 (dk_at dksX2_ran_1 1 rfl rfl)
theorem dX2_ran_26 : decode cX2_ran 26 = .ok (.putfield 368, 3) := dk_181 1 112 (dk_at dksX2_ran_1 2 rfl rfl)
theorem dX2_ran_29 : decode cX2_ran 29 = .ok (.return_, 1) := dk_177 (dk_at dksX2_ran_1 5 rfl rfl)
abbrev cX2_above : ByteArray := prog_31_method_92_code
def yX2_above : MethodName := ⟨RX2, "above", "(I)I"⟩
def dkwX2_above_2 : List UInt8 := [5, 172, 4, 172, 6, 172, 7, 172, 3, 172]
abbrev dktX2_above_2 : List UInt8 := dkwX2_above_2 ++ []
def dkwX2_above_1 : List UInt8 := [170, 0, 0, 0, 0, 0, 43, 0, 0, 0, 3, 0, 0, 0, 7, 0, 0, 0, 35, 0, 0, 0, 37, 0, 0, 0, 39, 0, 0, 0, 43, 0, 0, 0, 41]
abbrev dktX2_above_1 : List UInt8 := dkwX2_above_1 ++ dktX2_above_2
def dkwX2_above_0 : List UInt8 := [26]
abbrev dktX2_above_0 : List UInt8 := dkwX2_above_0 ++ dktX2_above_1
theorem dksX2_above_0 : cX2_above.data.toList.drop 0 = dktX2_above_0 := by decide +kernel
theorem dksX2_above_1 : cX2_above.data.toList.drop 1 = dktX2_above_1 := dk_seg dksX2_above_0 1 rfl rfl
theorem dksX2_above_2 : cX2_above.data.toList.drop 36 = dktX2_above_2 := dk_seg dksX2_above_1 35 rfl rfl
theorem dX2_above_0 : decode cX2_above 0 = .ok (.iload_n 0, 1) := dk_26 (dk_at dksX2_above_0 0 rfl rfl)
theorem dX2_above_1 : decode cX2_above 1 = .ok (.tableswitch 43 3 7 #[35, 37, 39, 43, 41], 35) := by decide +kernel
theorem dX2_above_36 : decode cX2_above 36 = .ok (.iconst 2, 1) := dk_5 (dk_at dksX2_above_2 0 rfl rfl)
theorem dX2_above_37 : decode cX2_above 37 = .ok (.ireturn, 1) := dk_172 (dk_at dksX2_above_2 1 rfl rfl)
theorem dX2_above_38 : decode cX2_above 38 = .ok (.iconst 1, 1) := dk_4 (dk_at dksX2_above_2 2 rfl rfl)
theorem dX2_above_39 : decode cX2_above 39 = .ok (.ireturn, 1) := dk_172 (dk_at dksX2_above_2 3 rfl rfl)
theorem dX2_above_40 : decode cX2_above 40 = .ok (.iconst 3, 1) := dk_6 (dk_at dksX2_above_2 4 rfl rfl)
theorem dX2_above_41 : decode cX2_above 41 = .ok (.ireturn, 1) := dk_172 (dk_at dksX2_above_2 5 rfl rfl)
theorem dX2_above_42 : decode cX2_above 42 = .ok (.iconst 4, 1) := dk_7 (dk_at dksX2_above_2 6 rfl rfl)
theorem dX2_above_43 : decode cX2_above 43 = .ok (.ireturn, 1) := dk_172 (dk_at dksX2_above_2 7 rfl rfl)
theorem dX2_above_44 : decode cX2_above 44 = .ok (.iconst 0, 1) := dk_3 (dk_at dksX2_above_2 8 rfl rfl)
theorem dX2_above_45 : decode cX2_above 45 = .ok (.ireturn, 1) := dk_172 (dk_at dksX2_above_2 9 rfl rfl)
abbrev cX2_seesBy : ByteArray := prog_31_method_95_code
def yX2_seesBy : MethodName := ⟨RX2, "seesBy", "(III)I"⟩
def dkwX2_seesBy_5 : List UInt8 := [180, 0, 75, 27, 46, 5, 182, 1, 127, 96, 172, 42, 27, 28, 184, 1, 121, 29, 182, 1, 124, 172]
abbrev dktX2_seesBy_5 : List UInt8 := dkwX2_seesBy_5 ++ []
def dkwX2_seesBy_4 : List UInt8 := [182, 1, 124, 172, 42, 16, 80, 182, 1, 115, 42, 27, 7, 29, 182, 1, 124, 54, 4, 21, 4, 42, 27, 42]
abbrev dktX2_seesBy_4 : List UInt8 := dkwX2_seesBy_4 ++ dktX2_seesBy_5
def dkwX2_seesBy_3 : List UInt8 := [182, 1, 115, 42, 27, 3, 29, 182, 1, 124, 116, 172, 42, 16, 41, 182, 1, 115, 42, 27, 5, 29, 4, 96]
abbrev dktX2_seesBy_3 : List UInt8 := dkwX2_seesBy_3 ++ dktX2_seesBy_4
def dkwX2_seesBy_2 : List UInt8 := [42, 16, 10, 182, 1, 115, 42, 27, 42, 180, 0, 75, 27, 46, 29, 182, 1, 118, 5, 104, 172, 42, 16, 30]
abbrev dktX2_seesBy_2 : List UInt8 := dkwX2_seesBy_2 ++ dktX2_seesBy_3
def dkwX2_seesBy_1 : List UInt8 := [170, 0, 0, 0, 0, 0, 130, 0, 0, 0, 0, 0, 0, 0, 7, 0, 0, 0, 47, 0, 0, 0, 130, 0, 0, 0, 68, 0, 0, 0, 83, 0, 0, 0, 130, 0, 0, 0, 130, 0, 0, 0, 130, 0, 0, 0, 99]
abbrev dktX2_seesBy_1 : List UInt8 := dkwX2_seesBy_1 ++ dktX2_seesBy_2
def dkwX2_seesBy_0 : List UInt8 := [28]
abbrev dktX2_seesBy_0 : List UInt8 := dkwX2_seesBy_0 ++ dktX2_seesBy_1
theorem dksX2_seesBy_0 : cX2_seesBy.data.toList.drop 0 = dktX2_seesBy_0 := by decide +kernel
theorem dksX2_seesBy_1 : cX2_seesBy.data.toList.drop 1 = dktX2_seesBy_1 := dk_seg dksX2_seesBy_0 1 rfl rfl
theorem dksX2_seesBy_2 : cX2_seesBy.data.toList.drop 48 = dktX2_seesBy_2 := dk_seg dksX2_seesBy_1 47 rfl rfl
theorem dksX2_seesBy_3 : cX2_seesBy.data.toList.drop 72 = dktX2_seesBy_3 := dk_seg dksX2_seesBy_2 24 rfl rfl
theorem dksX2_seesBy_4 : cX2_seesBy.data.toList.drop 96 = dktX2_seesBy_4 := dk_seg dksX2_seesBy_3 24 rfl rfl
theorem dksX2_seesBy_5 : cX2_seesBy.data.toList.drop 120 = dktX2_seesBy_5 := dk_seg dksX2_seesBy_4 24 rfl rfl
theorem dX2_seesBy_0 : decode cX2_seesBy 0 = .ok (.iload_n 2, 1) := dk_28 (dk_at dksX2_seesBy_0 0 rfl rfl)
theorem dX2_seesBy_1 : decode cX2_seesBy 1 = .ok (.tableswitch 130 0 7 #[47, 130, 68, 83, 130, 130, 130, 99], 47) := by decide +kernel
theorem dX2_seesBy_48 : decode cX2_seesBy 48 = .ok (.aload_n 0, 1) := dk_42 (dk_at dksX2_seesBy_2 0 rfl rfl)
theorem dX2_seesBy_49 : decode cX2_seesBy 49 = .ok (.bipush 10, 2) := dk_16 10 (dk_at dksX2_seesBy_2 1 rfl rfl)
theorem dX2_seesBy_51 : decode cX2_seesBy 51 = .ok (.invokevirtual 371, 3) := dk_182 1 115 (dk_at dksX2_seesBy_2 3 rfl rfl)
theorem dX2_seesBy_54 : decode cX2_seesBy 54 = .ok (.aload_n 0, 1) := dk_42 (dk_at dksX2_seesBy_2 6 rfl rfl)
theorem dX2_seesBy_55 : decode cX2_seesBy 55 = .ok (.iload_n 1, 1) := dk_27 (dk_at dksX2_seesBy_2 7 rfl rfl)
theorem dX2_seesBy_56 : decode cX2_seesBy 56 = .ok (.aload_n 0, 1) := dk_42 (dk_at dksX2_seesBy_2 8 rfl rfl)
theorem dX2_seesBy_57 : decode cX2_seesBy 57 = .ok (.getfield 75, 3) := dk_180 0 75 (dk_at dksX2_seesBy_2 9 rfl rfl)
theorem dX2_seesBy_60 : decode cX2_seesBy 60 = .ok (.iload_n 1, 1) := dk_27 (dk_at dksX2_seesBy_2 12 rfl rfl)
theorem dX2_seesBy_61 : decode cX2_seesBy 61 = .ok (.iaload, 1) := dk_46 (dk_at dksX2_seesBy_2 13 rfl rfl)
theorem dX2_seesBy_62 : decode cX2_seesBy 62 = .ok (.iload_n 3, 1) := dk_29 (dk_at dksX2_seesBy_2 14 rfl rfl)
theorem dX2_seesBy_63 : decode cX2_seesBy 63 = .ok (.invokevirtual 374, 3) := dk_182 1 118 (dk_at dksX2_seesBy_2 15 rfl rfl)
theorem dX2_seesBy_66 : decode cX2_seesBy 66 = .ok (.iconst 2, 1) := dk_5 (dk_at dksX2_seesBy_2 18 rfl rfl)
theorem dX2_seesBy_67 : decode cX2_seesBy 67 = .ok (.imul, 1) := dk_104 (dk_at dksX2_seesBy_2 19 rfl rfl)
theorem dX2_seesBy_68 : decode cX2_seesBy 68 = .ok (.ireturn, 1) := dk_172 (dk_at dksX2_seesBy_2 20 rfl rfl)
theorem dX2_seesBy_69 : decode cX2_seesBy 69 = .ok (.aload_n 0, 1) := dk_42 (dk_at dksX2_seesBy_2 21 rfl rfl)
theorem dX2_seesBy_70 : decode cX2_seesBy 70 = .ok (.bipush 30, 2) := dk_16 30 (dk_at dksX2_seesBy_2 22 rfl rfl)
theorem dX2_seesBy_72 : decode cX2_seesBy 72 = .ok (.invokevirtual 371, 3) := dk_182 1 115 (dk_at dksX2_seesBy_3 0 rfl rfl)
theorem dX2_seesBy_75 : decode cX2_seesBy 75 = .ok (.aload_n 0, 1) := dk_42 (dk_at dksX2_seesBy_3 3 rfl rfl)
theorem dX2_seesBy_76 : decode cX2_seesBy 76 = .ok (.iload_n 1, 1) := dk_27 (dk_at dksX2_seesBy_3 4 rfl rfl)
theorem dX2_seesBy_77 : decode cX2_seesBy 77 = .ok (.iconst 0, 1) := dk_3 (dk_at dksX2_seesBy_3 5 rfl rfl)
theorem dX2_seesBy_78 : decode cX2_seesBy 78 = .ok (.iload_n 3, 1) := dk_29 (dk_at dksX2_seesBy_3 6 rfl rfl)
theorem dX2_seesBy_79 : decode cX2_seesBy 79 = .ok (.invokevirtual 380, 3) := dk_182 1 124 (dk_at dksX2_seesBy_3 7 rfl rfl)
theorem dX2_seesBy_82 : decode cX2_seesBy 82 = .ok (.ineg, 1) := dk_116 (dk_at dksX2_seesBy_3 10 rfl rfl)
theorem dX2_seesBy_83 : decode cX2_seesBy 83 = .ok (.ireturn, 1) := dk_172 (dk_at dksX2_seesBy_3 11 rfl rfl)
theorem dX2_seesBy_84 : decode cX2_seesBy 84 = .ok (.aload_n 0, 1) := dk_42 (dk_at dksX2_seesBy_3 12 rfl rfl)
theorem dX2_seesBy_85 : decode cX2_seesBy 85 = .ok (.bipush 41, 2) := dk_16 41 (dk_at dksX2_seesBy_3 13 rfl rfl)
theorem dX2_seesBy_87 : decode cX2_seesBy 87 = .ok (.invokevirtual 371, 3) := dk_182 1 115 (dk_at dksX2_seesBy_3 15 rfl rfl)
theorem dX2_seesBy_90 : decode cX2_seesBy 90 = .ok (.aload_n 0, 1) := dk_42 (dk_at dksX2_seesBy_3 18 rfl rfl)
theorem dX2_seesBy_91 : decode cX2_seesBy 91 = .ok (.iload_n 1, 1) := dk_27 (dk_at dksX2_seesBy_3 19 rfl rfl)
theorem dX2_seesBy_92 : decode cX2_seesBy 92 = .ok (.iconst 2, 1) := dk_5 (dk_at dksX2_seesBy_3 20 rfl rfl)
theorem dX2_seesBy_93 : decode cX2_seesBy 93 = .ok (.iload_n 3, 1) := dk_29 (dk_at dksX2_seesBy_3 21 rfl rfl)
theorem dX2_seesBy_94 : decode cX2_seesBy 94 = .ok (.iconst 1, 1) := dk_4 (dk_at dksX2_seesBy_3 22 rfl rfl)
theorem dX2_seesBy_95 : decode cX2_seesBy 95 = .ok (.iadd, 1) := dk_96 (dk_at dksX2_seesBy_3 23 rfl rfl)
theorem dX2_seesBy_96 : decode cX2_seesBy 96 = .ok (.invokevirtual 380, 3) := dk_182 1 124 (dk_at dksX2_seesBy_4 0 rfl rfl)
theorem dX2_seesBy_99 : decode cX2_seesBy 99 = .ok (.ireturn, 1) := dk_172 (dk_at dksX2_seesBy_4 3 rfl rfl)
theorem dX2_seesBy_100 : decode cX2_seesBy 100 = .ok (.aload_n 0, 1) := dk_42 (dk_at dksX2_seesBy_4 4 rfl rfl)
theorem dX2_seesBy_101 : decode cX2_seesBy 101 = .ok (.bipush 80, 2) := dk_16 80 (dk_at dksX2_seesBy_4 5 rfl rfl)
theorem dX2_seesBy_103 : decode cX2_seesBy 103 = .ok (.invokevirtual 371, 3) := dk_182 1 115 (dk_at dksX2_seesBy_4 7 rfl rfl)
theorem dX2_seesBy_106 : decode cX2_seesBy 106 = .ok (.aload_n 0, 1) := dk_42 (dk_at dksX2_seesBy_4 10 rfl rfl)
theorem dX2_seesBy_107 : decode cX2_seesBy 107 = .ok (.iload_n 1, 1) := dk_27 (dk_at dksX2_seesBy_4 11 rfl rfl)
theorem dX2_seesBy_108 : decode cX2_seesBy 108 = .ok (.iconst 4, 1) := dk_7 (dk_at dksX2_seesBy_4 12 rfl rfl)
theorem dX2_seesBy_109 : decode cX2_seesBy 109 = .ok (.iload_n 3, 1) := dk_29 (dk_at dksX2_seesBy_4 13 rfl rfl)
theorem dX2_seesBy_110 : decode cX2_seesBy 110 = .ok (.invokevirtual 380, 3) := dk_182 1 124 (dk_at dksX2_seesBy_4 14 rfl rfl)
theorem dX2_seesBy_113 : decode cX2_seesBy 113 = .ok (.istore 4, 2) := dk_54 4 (dk_at dksX2_seesBy_4 17 rfl rfl)
theorem dX2_seesBy_115 : decode cX2_seesBy 115 = .ok (.iload 4, 2) := dk_21 4 (dk_at dksX2_seesBy_4 19 rfl rfl)
theorem dX2_seesBy_117 : decode cX2_seesBy 117 = .ok (.aload_n 0, 1) := dk_42 (dk_at dksX2_seesBy_4 21 rfl rfl)
theorem dX2_seesBy_118 : decode cX2_seesBy 118 = .ok (.iload_n 1, 1) := dk_27 (dk_at dksX2_seesBy_4 22 rfl rfl)
theorem dX2_seesBy_119 : decode cX2_seesBy 119 = .ok (.aload_n 0, 1) := dk_42 (dk_at dksX2_seesBy_4 23 rfl rfl)
theorem dX2_seesBy_120 : decode cX2_seesBy 120 = .ok (.getfield 75, 3) := dk_180 0 75 (dk_at dksX2_seesBy_5 0 rfl rfl)
theorem dX2_seesBy_123 : decode cX2_seesBy 123 = .ok (.iload_n 1, 1) := dk_27 (dk_at dksX2_seesBy_5 3 rfl rfl)
theorem dX2_seesBy_124 : decode cX2_seesBy 124 = .ok (.iaload, 1) := dk_46 (dk_at dksX2_seesBy_5 4 rfl rfl)
theorem dX2_seesBy_125 : decode cX2_seesBy 125 = .ok (.iconst 2, 1) := dk_5 (dk_at dksX2_seesBy_5 5 rfl rfl)
theorem dX2_seesBy_126 : decode cX2_seesBy 126 = .ok (.invokevirtual 383, 3) := dk_182 1 127 (dk_at dksX2_seesBy_5 6 rfl rfl)
theorem dX2_seesBy_129 : decode cX2_seesBy 129 = .ok (.iadd, 1) := dk_96 (dk_at dksX2_seesBy_5 9 rfl rfl)
theorem dX2_seesBy_130 : decode cX2_seesBy 130 = .ok (.ireturn, 1) := dk_172 (dk_at dksX2_seesBy_5 10 rfl rfl)
theorem dX2_seesBy_131 : decode cX2_seesBy 131 = .ok (.aload_n 0, 1) := dk_42 (dk_at dksX2_seesBy_5 11 rfl rfl)
theorem dX2_seesBy_132 : decode cX2_seesBy 132 = .ok (.iload_n 1, 1) := dk_27 (dk_at dksX2_seesBy_5 12 rfl rfl)
theorem dX2_seesBy_133 : decode cX2_seesBy 133 = .ok (.iload_n 2, 1) := dk_28 (dk_at dksX2_seesBy_5 13 rfl rfl)
theorem dX2_seesBy_134 : decode cX2_seesBy 134 = .ok (.invokestatic 377, 3) := dk_184 1 121 (dk_at dksX2_seesBy_5 14 rfl rfl)
theorem dX2_seesBy_137 : decode cX2_seesBy 137 = .ok (.iload_n 3, 1) := dk_29 (dk_at dksX2_seesBy_5 17 rfl rfl)
theorem dX2_seesBy_138 : decode cX2_seesBy 138 = .ok (.invokevirtual 380, 3) := dk_182 1 124 (dk_at dksX2_seesBy_5 18 rfl rfl)
theorem dX2_seesBy_141 : decode cX2_seesBy 141 = .ok (.ireturn, 1) := dk_172 (dk_at dksX2_seesBy_5 21 rfl rfl)
abbrev cX2_fearsBy : ByteArray := prog_31_method_96_code
def yX2_fearsBy : MethodName := ⟨RX2, "fearsBy", "(III)I"⟩
def dkwX2_fearsBy_4 : List UInt8 := [180, 0, 75, 27, 46, 5, 182, 1, 118, 100, 172, 42, 27, 28, 184, 1, 121, 29, 182, 1, 127, 172]
abbrev dktX2_fearsBy_4 : List UInt8 := dkwX2_fearsBy_4 ++ []
def dkwX2_fearsBy_3 : List UInt8 := [104, 172, 42, 16, 50, 182, 1, 115, 42, 27, 4, 29, 182, 1, 127, 54, 4, 21, 4, 42, 27, 42]
abbrev dktX2_fearsBy_3 : List UInt8 := dkwX2_fearsBy_3 ++ dktX2_fearsBy_4
def dkwX2_fearsBy_2 : List UInt8 := [42, 16, 11, 182, 1, 115, 29, 27, 130, 172, 42, 16, 40, 182, 1, 115, 42, 27, 5, 29, 182, 1, 127, 6]
abbrev dktX2_fearsBy_2 : List UInt8 := dkwX2_fearsBy_2 ++ dktX2_fearsBy_3
def dkwX2_fearsBy_1 : List UInt8 := [170, 0, 0, 0, 0, 0, 92, 0, 0, 0, 0, 0, 0, 0, 4, 0, 0, 0, 35, 0, 0, 0, 92, 0, 0, 0, 92, 0, 0, 0, 45, 0, 0, 0, 61]
abbrev dktX2_fearsBy_1 : List UInt8 := dkwX2_fearsBy_1 ++ dktX2_fearsBy_2
def dkwX2_fearsBy_0 : List UInt8 := [28]
abbrev dktX2_fearsBy_0 : List UInt8 := dkwX2_fearsBy_0 ++ dktX2_fearsBy_1
theorem dksX2_fearsBy_0 : cX2_fearsBy.data.toList.drop 0 = dktX2_fearsBy_0 := by decide +kernel
theorem dksX2_fearsBy_1 : cX2_fearsBy.data.toList.drop 1 = dktX2_fearsBy_1 := dk_seg dksX2_fearsBy_0 1 rfl rfl
theorem dksX2_fearsBy_2 : cX2_fearsBy.data.toList.drop 36 = dktX2_fearsBy_2 := dk_seg dksX2_fearsBy_1 35 rfl rfl
theorem dksX2_fearsBy_3 : cX2_fearsBy.data.toList.drop 60 = dktX2_fearsBy_3 := dk_seg dksX2_fearsBy_2 24 rfl rfl
theorem dksX2_fearsBy_4 : cX2_fearsBy.data.toList.drop 82 = dktX2_fearsBy_4 := dk_seg dksX2_fearsBy_3 22 rfl rfl
theorem dX2_fearsBy_0 : decode cX2_fearsBy 0 = .ok (.iload_n 2, 1) := dk_28 (dk_at dksX2_fearsBy_0 0 rfl rfl)
theorem dX2_fearsBy_1 : decode cX2_fearsBy 1 = .ok (.tableswitch 92 0 4 #[35, 92, 92, 45, 61], 35) := by decide +kernel
theorem dX2_fearsBy_36 : decode cX2_fearsBy 36 = .ok (.aload_n 0, 1) := dk_42 (dk_at dksX2_fearsBy_2 0 rfl rfl)
theorem dX2_fearsBy_37 : decode cX2_fearsBy 37 = .ok (.bipush 11, 2) := dk_16 11 (dk_at dksX2_fearsBy_2 1 rfl rfl)
theorem dX2_fearsBy_39 : decode cX2_fearsBy 39 = .ok (.invokevirtual 371, 3) := dk_182 1 115 (dk_at dksX2_fearsBy_2 3 rfl rfl)
theorem dX2_fearsBy_42 : decode cX2_fearsBy 42 = .ok (.iload_n 3, 1) := dk_29 (dk_at dksX2_fearsBy_2 6 rfl rfl)
theorem dX2_fearsBy_43 : decode cX2_fearsBy 43 = .ok (.iload_n 1, 1) := dk_27 (dk_at dksX2_fearsBy_2 7 rfl rfl)
theorem dX2_fearsBy_44 : decode cX2_fearsBy 44 = .ok (.ixor, 1) := dk_130 (dk_at dksX2_fearsBy_2 8 rfl rfl)
theorem dX2_fearsBy_45 : decode cX2_fearsBy 45 = .ok (.ireturn, 1) := dk_172 (dk_at dksX2_fearsBy_2 9 rfl rfl)
theorem dX2_fearsBy_46 : decode cX2_fearsBy 46 = .ok (.aload_n 0, 1) := dk_42 (dk_at dksX2_fearsBy_2 10 rfl rfl)
theorem dX2_fearsBy_47 : decode cX2_fearsBy 47 = .ok (.bipush 40, 2) := dk_16 40 (dk_at dksX2_fearsBy_2 11 rfl rfl)
theorem dX2_fearsBy_49 : decode cX2_fearsBy 49 = .ok (.invokevirtual 371, 3) := dk_182 1 115 (dk_at dksX2_fearsBy_2 13 rfl rfl)
theorem dX2_fearsBy_52 : decode cX2_fearsBy 52 = .ok (.aload_n 0, 1) := dk_42 (dk_at dksX2_fearsBy_2 16 rfl rfl)
theorem dX2_fearsBy_53 : decode cX2_fearsBy 53 = .ok (.iload_n 1, 1) := dk_27 (dk_at dksX2_fearsBy_2 17 rfl rfl)
theorem dX2_fearsBy_54 : decode cX2_fearsBy 54 = .ok (.iconst 2, 1) := dk_5 (dk_at dksX2_fearsBy_2 18 rfl rfl)
theorem dX2_fearsBy_55 : decode cX2_fearsBy 55 = .ok (.iload_n 3, 1) := dk_29 (dk_at dksX2_fearsBy_2 19 rfl rfl)
theorem dX2_fearsBy_56 : decode cX2_fearsBy 56 = .ok (.invokevirtual 383, 3) := dk_182 1 127 (dk_at dksX2_fearsBy_2 20 rfl rfl)
theorem dX2_fearsBy_59 : decode cX2_fearsBy 59 = .ok (.iconst 3, 1) := dk_6 (dk_at dksX2_fearsBy_2 23 rfl rfl)
theorem dX2_fearsBy_60 : decode cX2_fearsBy 60 = .ok (.imul, 1) := dk_104 (dk_at dksX2_fearsBy_3 0 rfl rfl)
theorem dX2_fearsBy_61 : decode cX2_fearsBy 61 = .ok (.ireturn, 1) := dk_172 (dk_at dksX2_fearsBy_3 1 rfl rfl)
theorem dX2_fearsBy_62 : decode cX2_fearsBy 62 = .ok (.aload_n 0, 1) := dk_42 (dk_at dksX2_fearsBy_3 2 rfl rfl)
theorem dX2_fearsBy_63 : decode cX2_fearsBy 63 = .ok (.bipush 50, 2) := dk_16 50 (dk_at dksX2_fearsBy_3 3 rfl rfl)
theorem dX2_fearsBy_65 : decode cX2_fearsBy 65 = .ok (.invokevirtual 371, 3) := dk_182 1 115 (dk_at dksX2_fearsBy_3 5 rfl rfl)
theorem dX2_fearsBy_68 : decode cX2_fearsBy 68 = .ok (.aload_n 0, 1) := dk_42 (dk_at dksX2_fearsBy_3 8 rfl rfl)
theorem dX2_fearsBy_69 : decode cX2_fearsBy 69 = .ok (.iload_n 1, 1) := dk_27 (dk_at dksX2_fearsBy_3 9 rfl rfl)
theorem dX2_fearsBy_70 : decode cX2_fearsBy 70 = .ok (.iconst 1, 1) := dk_4 (dk_at dksX2_fearsBy_3 10 rfl rfl)
theorem dX2_fearsBy_71 : decode cX2_fearsBy 71 = .ok (.iload_n 3, 1) := dk_29 (dk_at dksX2_fearsBy_3 11 rfl rfl)
theorem dX2_fearsBy_72 : decode cX2_fearsBy 72 = .ok (.invokevirtual 383, 3) := dk_182 1 127 (dk_at dksX2_fearsBy_3 12 rfl rfl)
theorem dX2_fearsBy_75 : decode cX2_fearsBy 75 = .ok (.istore 4, 2) := dk_54 4 (dk_at dksX2_fearsBy_3 15 rfl rfl)
theorem dX2_fearsBy_77 : decode cX2_fearsBy 77 = .ok (.iload 4, 2) := dk_21 4 (dk_at dksX2_fearsBy_3 17 rfl rfl)
theorem dX2_fearsBy_79 : decode cX2_fearsBy 79 = .ok (.aload_n 0, 1) := dk_42 (dk_at dksX2_fearsBy_3 19 rfl rfl)
theorem dX2_fearsBy_80 : decode cX2_fearsBy 80 = .ok (.iload_n 1, 1) := dk_27 (dk_at dksX2_fearsBy_3 20 rfl rfl)
theorem dX2_fearsBy_81 : decode cX2_fearsBy 81 = .ok (.aload_n 0, 1) := dk_42 (dk_at dksX2_fearsBy_3 21 rfl rfl)
theorem dX2_fearsBy_82 : decode cX2_fearsBy 82 = .ok (.getfield 75, 3) := dk_180 0 75 (dk_at dksX2_fearsBy_4 0 rfl rfl)
theorem dX2_fearsBy_85 : decode cX2_fearsBy 85 = .ok (.iload_n 1, 1) := dk_27 (dk_at dksX2_fearsBy_4 3 rfl rfl)
theorem dX2_fearsBy_86 : decode cX2_fearsBy 86 = .ok (.iaload, 1) := dk_46 (dk_at dksX2_fearsBy_4 4 rfl rfl)
theorem dX2_fearsBy_87 : decode cX2_fearsBy 87 = .ok (.iconst 2, 1) := dk_5 (dk_at dksX2_fearsBy_4 5 rfl rfl)
theorem dX2_fearsBy_88 : decode cX2_fearsBy 88 = .ok (.invokevirtual 374, 3) := dk_182 1 118 (dk_at dksX2_fearsBy_4 6 rfl rfl)
theorem dX2_fearsBy_91 : decode cX2_fearsBy 91 = .ok (.isub, 1) := dk_100 (dk_at dksX2_fearsBy_4 9 rfl rfl)
theorem dX2_fearsBy_92 : decode cX2_fearsBy 92 = .ok (.ireturn, 1) := dk_172 (dk_at dksX2_fearsBy_4 10 rfl rfl)
theorem dX2_fearsBy_93 : decode cX2_fearsBy 93 = .ok (.aload_n 0, 1) := dk_42 (dk_at dksX2_fearsBy_4 11 rfl rfl)
theorem dX2_fearsBy_94 : decode cX2_fearsBy 94 = .ok (.iload_n 1, 1) := dk_27 (dk_at dksX2_fearsBy_4 12 rfl rfl)
theorem dX2_fearsBy_95 : decode cX2_fearsBy 95 = .ok (.iload_n 2, 1) := dk_28 (dk_at dksX2_fearsBy_4 13 rfl rfl)
theorem dX2_fearsBy_96 : decode cX2_fearsBy 96 = .ok (.invokestatic 377, 3) := dk_184 1 121 (dk_at dksX2_fearsBy_4 14 rfl rfl)
theorem dX2_fearsBy_99 : decode cX2_fearsBy 99 = .ok (.iload_n 3, 1) := dk_29 (dk_at dksX2_fearsBy_4 17 rfl rfl)
theorem dX2_fearsBy_100 : decode cX2_fearsBy 100 = .ok (.invokevirtual 383, 3) := dk_182 1 127 (dk_at dksX2_fearsBy_4 18 rfl rfl)
theorem dX2_fearsBy_103 : decode cX2_fearsBy 103 = .ok (.ireturn, 1) := dk_172 (dk_at dksX2_fearsBy_4 21 rfl rfl)
abbrev cX2_tells : ByteArray := prog_31_method_97_code
def yX2_tells : MethodName := ⟨RX2, "tells", "(III)I"⟩
def dkwX2_tells_5 : List UInt8 := [184, 1, 121, 29, 182, 1, 130, 172]
abbrev dktX2_tells_5 : List UInt8 := dkwX2_tells_5 ++ []
def dkwX2_tells_4 : List UInt8 := [8, 130, 172, 42, 16, 81, 182, 1, 115, 42, 27, 7, 29, 182, 1, 130, 4, 100, 172, 42, 27, 28]
abbrev dktX2_tells_4 : List UInt8 := dkwX2_tells_4 ++ dktX2_tells_5
def dkwX2_tells_3 : List UInt8 := [180, 0, 75, 27, 46, 4, 182, 1, 127, 100, 172, 42, 16, 60, 182, 1, 115, 42, 27, 6, 29, 182, 1, 130]
abbrev dktX2_tells_3 : List UInt8 := dkwX2_tells_3 ++ dktX2_tells_4
def dkwX2_tells_2 : List UInt8 := [42, 5, 182, 1, 115, 42, 27, 42, 180, 0, 75, 27, 46, 29, 182, 1, 124, 54, 4, 21, 4, 42, 27, 42]
abbrev dktX2_tells_2 : List UInt8 := dkwX2_tells_2 ++ dktX2_tells_3
def dkwX2_tells_1 : List UInt8 := [171, 0, 0, 0, 0, 0, 102, 0, 0, 0, 3, 0, 0, 0, 0, 0, 0, 0, 35, 0, 0, 0, 5, 0, 0, 0, 70, 0, 0, 0, 7, 0, 0, 0, 86]
abbrev dktX2_tells_1 : List UInt8 := dkwX2_tells_1 ++ dktX2_tells_2
def dkwX2_tells_0 : List UInt8 := [28]
abbrev dktX2_tells_0 : List UInt8 := dkwX2_tells_0 ++ dktX2_tells_1
theorem dksX2_tells_0 : cX2_tells.data.toList.drop 0 = dktX2_tells_0 := by decide +kernel
theorem dksX2_tells_1 : cX2_tells.data.toList.drop 1 = dktX2_tells_1 := dk_seg dksX2_tells_0 1 rfl rfl
theorem dksX2_tells_2 : cX2_tells.data.toList.drop 36 = dktX2_tells_2 := dk_seg dksX2_tells_1 35 rfl rfl
theorem dksX2_tells_3 : cX2_tells.data.toList.drop 60 = dktX2_tells_3 := dk_seg dksX2_tells_2 24 rfl rfl
theorem dksX2_tells_4 : cX2_tells.data.toList.drop 84 = dktX2_tells_4 := dk_seg dksX2_tells_3 24 rfl rfl
theorem dksX2_tells_5 : cX2_tells.data.toList.drop 106 = dktX2_tells_5 := dk_seg dksX2_tells_4 22 rfl rfl
theorem dX2_tells_0 : decode cX2_tells 0 = .ok (.iload_n 2, 1) := dk_28 (dk_at dksX2_tells_0 0 rfl rfl)
theorem dX2_tells_1 : decode cX2_tells 1 = .ok (.lookupswitch 102 #[(0, 35), (5, 70), (7, 86)], 35) := by decide +kernel
theorem dX2_tells_36 : decode cX2_tells 36 = .ok (.aload_n 0, 1) := dk_42 (dk_at dksX2_tells_2 0 rfl rfl)
theorem dX2_tells_37 : decode cX2_tells 37 = .ok (.iconst 2, 1) := dk_5 (dk_at dksX2_tells_2 1 rfl rfl)
theorem dX2_tells_38 : decode cX2_tells 38 = .ok (.invokevirtual 371, 3) := dk_182 1 115 (dk_at dksX2_tells_2 2 rfl rfl)
theorem dX2_tells_41 : decode cX2_tells 41 = .ok (.aload_n 0, 1) := dk_42 (dk_at dksX2_tells_2 5 rfl rfl)
theorem dX2_tells_42 : decode cX2_tells 42 = .ok (.iload_n 1, 1) := dk_27 (dk_at dksX2_tells_2 6 rfl rfl)
theorem dX2_tells_43 : decode cX2_tells 43 = .ok (.aload_n 0, 1) := dk_42 (dk_at dksX2_tells_2 7 rfl rfl)
theorem dX2_tells_44 : decode cX2_tells 44 = .ok (.getfield 75, 3) := dk_180 0 75 (dk_at dksX2_tells_2 8 rfl rfl)
theorem dX2_tells_47 : decode cX2_tells 47 = .ok (.iload_n 1, 1) := dk_27 (dk_at dksX2_tells_2 11 rfl rfl)
theorem dX2_tells_48 : decode cX2_tells 48 = .ok (.iaload, 1) := dk_46 (dk_at dksX2_tells_2 12 rfl rfl)
theorem dX2_tells_49 : decode cX2_tells 49 = .ok (.iload_n 3, 1) := dk_29 (dk_at dksX2_tells_2 13 rfl rfl)
theorem dX2_tells_50 : decode cX2_tells 50 = .ok (.invokevirtual 380, 3) := dk_182 1 124 (dk_at dksX2_tells_2 14 rfl rfl)
theorem dX2_tells_53 : decode cX2_tells 53 = .ok (.istore 4, 2) := dk_54 4 (dk_at dksX2_tells_2 17 rfl rfl)
theorem dX2_tells_55 : decode cX2_tells 55 = .ok (.iload 4, 2) := dk_21 4 (dk_at dksX2_tells_2 19 rfl rfl)
theorem dX2_tells_57 : decode cX2_tells 57 = .ok (.aload_n 0, 1) := dk_42 (dk_at dksX2_tells_2 21 rfl rfl)
theorem dX2_tells_58 : decode cX2_tells 58 = .ok (.iload_n 1, 1) := dk_27 (dk_at dksX2_tells_2 22 rfl rfl)
theorem dX2_tells_59 : decode cX2_tells 59 = .ok (.aload_n 0, 1) := dk_42 (dk_at dksX2_tells_2 23 rfl rfl)
theorem dX2_tells_60 : decode cX2_tells 60 = .ok (.getfield 75, 3) := dk_180 0 75 (dk_at dksX2_tells_3 0 rfl rfl)
theorem dX2_tells_63 : decode cX2_tells 63 = .ok (.iload_n 1, 1) := dk_27 (dk_at dksX2_tells_3 3 rfl rfl)
theorem dX2_tells_64 : decode cX2_tells 64 = .ok (.iaload, 1) := dk_46 (dk_at dksX2_tells_3 4 rfl rfl)
theorem dX2_tells_65 : decode cX2_tells 65 = .ok (.iconst 1, 1) := dk_4 (dk_at dksX2_tells_3 5 rfl rfl)
theorem dX2_tells_66 : decode cX2_tells 66 = .ok (.invokevirtual 383, 3) := dk_182 1 127 (dk_at dksX2_tells_3 6 rfl rfl)
theorem dX2_tells_69 : decode cX2_tells 69 = .ok (.isub, 1) := dk_100 (dk_at dksX2_tells_3 9 rfl rfl)
theorem dX2_tells_70 : decode cX2_tells 70 = .ok (.ireturn, 1) := dk_172 (dk_at dksX2_tells_3 10 rfl rfl)
theorem dX2_tells_71 : decode cX2_tells 71 = .ok (.aload_n 0, 1) := dk_42 (dk_at dksX2_tells_3 11 rfl rfl)
theorem dX2_tells_72 : decode cX2_tells 72 = .ok (.bipush 60, 2) := dk_16 60 (dk_at dksX2_tells_3 12 rfl rfl)
theorem dX2_tells_74 : decode cX2_tells 74 = .ok (.invokevirtual 371, 3) := dk_182 1 115 (dk_at dksX2_tells_3 14 rfl rfl)
theorem dX2_tells_77 : decode cX2_tells 77 = .ok (.aload_n 0, 1) := dk_42 (dk_at dksX2_tells_3 17 rfl rfl)
theorem dX2_tells_78 : decode cX2_tells 78 = .ok (.iload_n 1, 1) := dk_27 (dk_at dksX2_tells_3 18 rfl rfl)
theorem dX2_tells_79 : decode cX2_tells 79 = .ok (.iconst 3, 1) := dk_6 (dk_at dksX2_tells_3 19 rfl rfl)
theorem dX2_tells_80 : decode cX2_tells 80 = .ok (.iload_n 3, 1) := dk_29 (dk_at dksX2_tells_3 20 rfl rfl)
theorem dX2_tells_81 : decode cX2_tells 81 = .ok (.invokevirtual 386, 3) := dk_182 1 130 (dk_at dksX2_tells_3 21 rfl rfl)
theorem dX2_tells_84 : decode cX2_tells 84 = .ok (.iconst 5, 1) := dk_8 (dk_at dksX2_tells_4 0 rfl rfl)
theorem dX2_tells_85 : decode cX2_tells 85 = .ok (.ixor, 1) := dk_130 (dk_at dksX2_tells_4 1 rfl rfl)
theorem dX2_tells_86 : decode cX2_tells 86 = .ok (.ireturn, 1) := dk_172 (dk_at dksX2_tells_4 2 rfl rfl)
theorem dX2_tells_87 : decode cX2_tells 87 = .ok (.aload_n 0, 1) := dk_42 (dk_at dksX2_tells_4 3 rfl rfl)
theorem dX2_tells_88 : decode cX2_tells 88 = .ok (.bipush 81, 2) := dk_16 81 (dk_at dksX2_tells_4 4 rfl rfl)
theorem dX2_tells_90 : decode cX2_tells 90 = .ok (.invokevirtual 371, 3) := dk_182 1 115 (dk_at dksX2_tells_4 6 rfl rfl)
theorem dX2_tells_93 : decode cX2_tells 93 = .ok (.aload_n 0, 1) := dk_42 (dk_at dksX2_tells_4 9 rfl rfl)
theorem dX2_tells_94 : decode cX2_tells 94 = .ok (.iload_n 1, 1) := dk_27 (dk_at dksX2_tells_4 10 rfl rfl)
theorem dX2_tells_95 : decode cX2_tells 95 = .ok (.iconst 4, 1) := dk_7 (dk_at dksX2_tells_4 11 rfl rfl)
theorem dX2_tells_96 : decode cX2_tells 96 = .ok (.iload_n 3, 1) := dk_29 (dk_at dksX2_tells_4 12 rfl rfl)
theorem dX2_tells_97 : decode cX2_tells 97 = .ok (.invokevirtual 386, 3) := dk_182 1 130 (dk_at dksX2_tells_4 13 rfl rfl)
theorem dX2_tells_100 : decode cX2_tells 100 = .ok (.iconst 1, 1) := dk_4 (dk_at dksX2_tells_4 16 rfl rfl)
theorem dX2_tells_101 : decode cX2_tells 101 = .ok (.isub, 1) := dk_100 (dk_at dksX2_tells_4 17 rfl rfl)
theorem dX2_tells_102 : decode cX2_tells 102 = .ok (.ireturn, 1) := dk_172 (dk_at dksX2_tells_4 18 rfl rfl)
theorem dX2_tells_103 : decode cX2_tells 103 = .ok (.aload_n 0, 1) := dk_42 (dk_at dksX2_tells_4 19 rfl rfl)
theorem dX2_tells_104 : decode cX2_tells 104 = .ok (.iload_n 1, 1) := dk_27 (dk_at dksX2_tells_4 20 rfl rfl)
theorem dX2_tells_105 : decode cX2_tells 105 = .ok (.iload_n 2, 1) := dk_28 (dk_at dksX2_tells_4 21 rfl rfl)
theorem dX2_tells_106 : decode cX2_tells 106 = .ok (.invokestatic 377, 3) := dk_184 1 121 (dk_at dksX2_tells_5 0 rfl rfl)
theorem dX2_tells_109 : decode cX2_tells 109 = .ok (.iload_n 3, 1) := dk_29 (dk_at dksX2_tells_5 3 rfl rfl)
theorem dX2_tells_110 : decode cX2_tells 110 = .ok (.invokevirtual 386, 3) := dk_182 1 130 (dk_at dksX2_tells_5 4 rfl rfl)
theorem dX2_tells_113 : decode cX2_tells 113 = .ok (.ireturn, 1) := dk_172 (dk_at dksX2_tells_5 7 rfl rfl)
abbrev cX2_trace : ByteArray := prog_31_method_100_code
def yX2_trace : MethodName := ⟨RX2, "trace", "(I)I"⟩
def dkwX2_trace_1 : List UInt8 := [46, 167, 0, 4, 2, 172]
abbrev dktX2_trace_1 : List UInt8 := dkwX2_trace_1 ++ []
def dkwX2_trace_0 : List UInt8 := [27, 3, 16, 24, 42, 180, 1, 112, 184, 0, 226, 4, 100, 184, 0, 123, 153, 0, 12, 42, 180, 0, 78, 27]
abbrev dktX2_trace_0 : List UInt8 := dkwX2_trace_0 ++ dktX2_trace_1
theorem dksX2_trace_0 : cX2_trace.data.toList.drop 0 = dktX2_trace_0 := by decide +kernel
theorem dksX2_trace_1 : cX2_trace.data.toList.drop 24 = dktX2_trace_1 := dk_seg dksX2_trace_0 24 rfl rfl
theorem dX2_trace_0 : decode cX2_trace 0 = .ok (.iload_n 1, 1) := dk_27 (dk_at dksX2_trace_0 0 rfl rfl)
theorem dX2_trace_1 : decode cX2_trace 1 = .ok (.iconst 0, 1) := dk_3 (dk_at dksX2_trace_0 1 rfl rfl)
theorem dX2_trace_2 : decode cX2_trace 2 = .ok (.bipush 24, 2) := dk_16 24 (dk_at dksX2_trace_0 2 rfl rfl)
theorem dX2_trace_4 : decode cX2_trace 4 = .ok (.aload_n 0, 1) := dk_42 (dk_at dksX2_trace_0 4 rfl rfl)
theorem dX2_trace_5 : decode cX2_trace 5 = .ok (.getfield 368, 3) := dk_180 1 112 (dk_at dksX2_trace_0 5 rfl rfl)
theorem dX2_trace_8 : decode cX2_trace 8 = .ok (.invokestatic 226, 3) := dk_184 0 226 (dk_at dksX2_trace_0 8 rfl rfl)
theorem dX2_trace_11 : decode cX2_trace 11 = .ok (.iconst 1, 1) := dk_4 (dk_at dksX2_trace_0 11 rfl rfl)
theorem dX2_trace_12 : decode cX2_trace 12 = .ok (.isub, 1) := dk_100 (dk_at dksX2_trace_0 12 rfl rfl)
theorem dX2_trace_13 : decode cX2_trace 13 = .ok (.invokestatic 123, 3) := dk_184 0 123 (dk_at dksX2_trace_0 13 rfl rfl)
theorem dX2_trace_16 : decode cX2_trace 16 = .ok (.ifCond .eq 12, 3) := dk_153 0 12 (dk_at dksX2_trace_0 16 rfl rfl)
theorem dX2_trace_19 : decode cX2_trace 19 = .ok (.aload_n 0, 1) := dk_42 (dk_at dksX2_trace_0 19 rfl rfl)
theorem dX2_trace_20 : decode cX2_trace 20 = .ok (.getfield 78, 3) := dk_180 0 78 (dk_at dksX2_trace_0 20 rfl rfl)
theorem dX2_trace_23 : decode cX2_trace 23 = .ok (.iload_n 1, 1) := dk_27 (dk_at dksX2_trace_0 23 rfl rfl)
theorem dX2_trace_24 : decode cX2_trace 24 = .ok (.iaload, 1) := dk_46 (dk_at dksX2_trace_1 0 rfl rfl)
theorem dX2_trace_25 : decode cX2_trace 25 = .ok (.goto 4, 3) := dk_167 0 4 (dk_at dksX2_trace_1 1 rfl rfl)
theorem dX2_trace_28 : decode cX2_trace 28 = .ok (.iconst (-1), 1) := dk_2 (dk_at dksX2_trace_1 4 rfl rfl)
theorem dX2_trace_29 : decode cX2_trace 29 = .ok (.ireturn, 1) := dk_172 (dk_at dksX2_trace_1 5 rfl rfl)
abbrev cX2_keep : ByteArray := prog_31_method_101_code
def yX2_keep : MethodName := ⟨RX2, "keep", "(II)I"⟩
def dkwX2_keep_2 : List UInt8 := [4, 172]
abbrev dktX2_keep_2 : List UInt8 := dkwX2_keep_2 ++ []
def dkwX2_keep_1 : List UInt8 := [180, 0, 81, 27, 28, 156, 0, 7, 2, 167, 0, 7, 16, 10, 28, 96, 79, 42, 180, 0, 84, 27, 3, 79]
abbrev dktX2_keep_1 : List UInt8 := dkwX2_keep_1 ++ dktX2_keep_2
def dkwX2_keep_0 : List UInt8 := [27, 184, 0, 131, 153, 0, 17, 28, 2, 42, 180, 1, 133, 4, 100, 184, 0, 123, 154, 0, 5, 2, 172, 42]
abbrev dktX2_keep_0 : List UInt8 := dkwX2_keep_0 ++ dktX2_keep_1
theorem dksX2_keep_0 : cX2_keep.data.toList.drop 0 = dktX2_keep_0 := by decide +kernel
theorem dksX2_keep_1 : cX2_keep.data.toList.drop 24 = dktX2_keep_1 := dk_seg dksX2_keep_0 24 rfl rfl
theorem dksX2_keep_2 : cX2_keep.data.toList.drop 48 = dktX2_keep_2 := dk_seg dksX2_keep_1 24 rfl rfl
theorem dX2_keep_0 : decode cX2_keep 0 = .ok (.iload_n 1, 1) := dk_27 (dk_at dksX2_keep_0 0 rfl rfl)
theorem dX2_keep_1 : decode cX2_keep 1 = .ok (.invokestatic 131, 3) := dk_184 0 131 (dk_at dksX2_keep_0 1 rfl rfl)
theorem dX2_keep_4 : decode cX2_keep 4 = .ok (.ifCond .eq 17, 3) := dk_153 0 17 (dk_at dksX2_keep_0 4 rfl rfl)
theorem dX2_keep_7 : decode cX2_keep 7 = .ok (.iload_n 2, 1) := dk_28 (dk_at dksX2_keep_0 7 rfl rfl)
theorem dX2_keep_8 : decode cX2_keep 8 = .ok (.iconst (-1), 1) := dk_2 (dk_at dksX2_keep_0 8 rfl rfl)
theorem dX2_keep_9 : decode cX2_keep 9 = .ok (.aload_n 0, 1) := dk_42 (dk_at dksX2_keep_0 9 rfl rfl)
theorem dX2_keep_10 : decode cX2_keep 10 = .ok (.getfield 389, 3) := dk_180 1 133 (dk_at dksX2_keep_0 10 rfl rfl)
theorem dX2_keep_13 : decode cX2_keep 13 = .ok (.iconst 1, 1) := dk_4 (dk_at dksX2_keep_0 13 rfl rfl)
theorem dX2_keep_14 : decode cX2_keep 14 = .ok (.isub, 1) := dk_100 (dk_at dksX2_keep_0 14 rfl rfl)
theorem dX2_keep_15 : decode cX2_keep 15 = .ok (.invokestatic 123, 3) := dk_184 0 123 (dk_at dksX2_keep_0 15 rfl rfl)
theorem dX2_keep_18 : decode cX2_keep 18 = .ok (.ifCond .ne 5, 3) := dk_154 0 5 (dk_at dksX2_keep_0 18 rfl rfl)
theorem dX2_keep_21 : decode cX2_keep 21 = .ok (.iconst (-1), 1) := dk_2 (dk_at dksX2_keep_0 21 rfl rfl)
theorem dX2_keep_22 : decode cX2_keep 22 = .ok (.ireturn, 1) := dk_172 (dk_at dksX2_keep_0 22 rfl rfl)
theorem dX2_keep_23 : decode cX2_keep 23 = .ok (.aload_n 0, 1) := dk_42 (dk_at dksX2_keep_0 23 rfl rfl)
theorem dX2_keep_24 : decode cX2_keep 24 = .ok (.getfield 81, 3) := dk_180 0 81 (dk_at dksX2_keep_1 0 rfl rfl)
theorem dX2_keep_27 : decode cX2_keep 27 = .ok (.iload_n 1, 1) := dk_27 (dk_at dksX2_keep_1 3 rfl rfl)
theorem dX2_keep_28 : decode cX2_keep 28 = .ok (.iload_n 2, 1) := dk_28 (dk_at dksX2_keep_1 4 rfl rfl)
theorem dX2_keep_29 : decode cX2_keep 29 = .ok (.ifCond .ge 7, 3) := dk_156 0 7 (dk_at dksX2_keep_1 5 rfl rfl)
theorem dX2_keep_32 : decode cX2_keep 32 = .ok (.iconst (-1), 1) := dk_2 (dk_at dksX2_keep_1 8 rfl rfl)
theorem dX2_keep_33 : decode cX2_keep 33 = .ok (.goto 7, 3) := dk_167 0 7 (dk_at dksX2_keep_1 9 rfl rfl)
theorem dX2_keep_36 : decode cX2_keep 36 = .ok (.bipush 10, 2) := dk_16 10 (dk_at dksX2_keep_1 12 rfl rfl)
theorem dX2_keep_38 : decode cX2_keep 38 = .ok (.iload_n 2, 1) := dk_28 (dk_at dksX2_keep_1 14 rfl rfl)
theorem dX2_keep_39 : decode cX2_keep 39 = .ok (.iadd, 1) := dk_96 (dk_at dksX2_keep_1 15 rfl rfl)
theorem dX2_keep_40 : decode cX2_keep 40 = .ok (.iastore, 1) := dk_79 (dk_at dksX2_keep_1 16 rfl rfl)
theorem dX2_keep_41 : decode cX2_keep 41 = .ok (.aload_n 0, 1) := dk_42 (dk_at dksX2_keep_1 17 rfl rfl)
theorem dX2_keep_42 : decode cX2_keep 42 = .ok (.getfield 84, 3) := dk_180 0 84 (dk_at dksX2_keep_1 18 rfl rfl)
theorem dX2_keep_45 : decode cX2_keep 45 = .ok (.iload_n 1, 1) := dk_27 (dk_at dksX2_keep_1 21 rfl rfl)
theorem dX2_keep_46 : decode cX2_keep 46 = .ok (.iconst 0, 1) := dk_3 (dk_at dksX2_keep_1 22 rfl rfl)
theorem dX2_keep_47 : decode cX2_keep 47 = .ok (.iastore, 1) := dk_79 (dk_at dksX2_keep_1 23 rfl rfl)
theorem dX2_keep_48 : decode cX2_keep 48 = .ok (.iconst 1, 1) := dk_4 (dk_at dksX2_keep_2 0 rfl rfl)
theorem dX2_keep_49 : decode cX2_keep 49 = .ok (.ireturn, 1) := dk_172 (dk_at dksX2_keep_2 1 rfl rfl)
abbrev cX2_row : ByteArray := prog_31_method_102_code
def yX2_row : MethodName := ⟨RX2, "row", "(III)I"⟩
def dkwX2_row_3 : List UInt8 := [167, 255, 233, 4, 172]
abbrev dktX2_row_3 : List UInt8 := dkwX2_row_3 ++ []
def dkwX2_row_2 : List UInt8 := [21, 4, 16, 60, 162, 0, 22, 42, 180, 0, 87, 16, 60, 27, 104, 21, 4, 96, 9, 80, 132, 4, 1]
abbrev dktX2_row_2 : List UInt8 := dkwX2_row_2 ++ dktX2_row_3
def dkwX2_row_1 : List UInt8 := [29, 156, 0, 6, 16, 242, 172, 42, 180, 0, 81, 27, 28, 79, 42, 180, 0, 84, 27, 29, 79, 3, 54, 4]
abbrev dktX2_row_1 : List UInt8 := dkwX2_row_1 ++ dktX2_row_2
def dkwX2_row_0 : List UInt8 := [27, 184, 0, 131, 153, 0, 18, 28, 3, 7, 184, 0, 123, 153, 0, 9, 29, 16, 60, 164, 0, 5, 2, 172]
abbrev dktX2_row_0 : List UInt8 := dkwX2_row_0 ++ dktX2_row_1
theorem dksX2_row_0 : cX2_row.data.toList.drop 0 = dktX2_row_0 := by decide +kernel
theorem dksX2_row_1 : cX2_row.data.toList.drop 24 = dktX2_row_1 := dk_seg dksX2_row_0 24 rfl rfl
theorem dksX2_row_2 : cX2_row.data.toList.drop 48 = dktX2_row_2 := dk_seg dksX2_row_1 24 rfl rfl
theorem dksX2_row_3 : cX2_row.data.toList.drop 71 = dktX2_row_3 := dk_seg dksX2_row_2 23 rfl rfl
theorem dX2_row_0 : decode cX2_row 0 = .ok (.iload_n 1, 1) := dk_27 (dk_at dksX2_row_0 0 rfl rfl)
theorem dX2_row_1 : decode cX2_row 1 = .ok (.invokestatic 131, 3) := dk_184 0 131 (dk_at dksX2_row_0 1 rfl rfl)
theorem dX2_row_4 : decode cX2_row 4 = .ok (.ifCond .eq 18, 3) := dk_153 0 18 (dk_at dksX2_row_0 4 rfl rfl)
theorem dX2_row_7 : decode cX2_row 7 = .ok (.iload_n 2, 1) := dk_28 (dk_at dksX2_row_0 7 rfl rfl)
theorem dX2_row_8 : decode cX2_row 8 = .ok (.iconst 0, 1) := dk_3 (dk_at dksX2_row_0 8 rfl rfl)
theorem dX2_row_9 : decode cX2_row 9 = .ok (.iconst 4, 1) := dk_7 (dk_at dksX2_row_0 9 rfl rfl)
theorem dX2_row_10 : decode cX2_row 10 = .ok (.invokestatic 123, 3) := dk_184 0 123 (dk_at dksX2_row_0 10 rfl rfl)
theorem dX2_row_13 : decode cX2_row 13 = .ok (.ifCond .eq 9, 3) := dk_153 0 9 (dk_at dksX2_row_0 13 rfl rfl)
theorem dX2_row_16 : decode cX2_row 16 = .ok (.iload_n 3, 1) := dk_29 (dk_at dksX2_row_0 16 rfl rfl)
theorem dX2_row_17 : decode cX2_row 17 = .ok (.bipush 60, 2) := dk_16 60 (dk_at dksX2_row_0 17 rfl rfl)
theorem dX2_row_19 : decode cX2_row 19 = .ok (.if_icmp .le 5, 3) := dk_164 0 5 (dk_at dksX2_row_0 19 rfl rfl)
theorem dX2_row_22 : decode cX2_row 22 = .ok (.iconst (-1), 1) := dk_2 (dk_at dksX2_row_0 22 rfl rfl)
theorem dX2_row_23 : decode cX2_row 23 = .ok (.ireturn, 1) := dk_172 (dk_at dksX2_row_0 23 rfl rfl)
theorem dX2_row_24 : decode cX2_row 24 = .ok (.iload_n 3, 1) := dk_29 (dk_at dksX2_row_1 0 rfl rfl)
theorem dX2_row_25 : decode cX2_row 25 = .ok (.ifCond .ge 6, 3) := dk_156 0 6 (dk_at dksX2_row_1 1 rfl rfl)
theorem dX2_row_28 : decode cX2_row 28 = .ok (.bipush (-14), 2) := dk_16 242 (dk_at dksX2_row_1 4 rfl rfl)
theorem dX2_row_30 : decode cX2_row 30 = .ok (.ireturn, 1) := dk_172 (dk_at dksX2_row_1 6 rfl rfl)
theorem dX2_row_31 : decode cX2_row 31 = .ok (.aload_n 0, 1) := dk_42 (dk_at dksX2_row_1 7 rfl rfl)
theorem dX2_row_32 : decode cX2_row 32 = .ok (.getfield 81, 3) := dk_180 0 81 (dk_at dksX2_row_1 8 rfl rfl)
theorem dX2_row_35 : decode cX2_row 35 = .ok (.iload_n 1, 1) := dk_27 (dk_at dksX2_row_1 11 rfl rfl)
theorem dX2_row_36 : decode cX2_row 36 = .ok (.iload_n 2, 1) := dk_28 (dk_at dksX2_row_1 12 rfl rfl)
theorem dX2_row_37 : decode cX2_row 37 = .ok (.iastore, 1) := dk_79 (dk_at dksX2_row_1 13 rfl rfl)
theorem dX2_row_38 : decode cX2_row 38 = .ok (.aload_n 0, 1) := dk_42 (dk_at dksX2_row_1 14 rfl rfl)
theorem dX2_row_39 : decode cX2_row 39 = .ok (.getfield 84, 3) := dk_180 0 84 (dk_at dksX2_row_1 15 rfl rfl)
theorem dX2_row_42 : decode cX2_row 42 = .ok (.iload_n 1, 1) := dk_27 (dk_at dksX2_row_1 18 rfl rfl)
theorem dX2_row_43 : decode cX2_row 43 = .ok (.iload_n 3, 1) := dk_29 (dk_at dksX2_row_1 19 rfl rfl)
theorem dX2_row_44 : decode cX2_row 44 = .ok (.iastore, 1) := dk_79 (dk_at dksX2_row_1 20 rfl rfl)
theorem dX2_row_45 : decode cX2_row 45 = .ok (.iconst 0, 1) := dk_3 (dk_at dksX2_row_1 21 rfl rfl)
theorem dX2_row_46 : decode cX2_row 46 = .ok (.istore 4, 2) := dk_54 4 (dk_at dksX2_row_1 22 rfl rfl)
theorem dX2_row_48 : decode cX2_row 48 = .ok (.iload 4, 2) := dk_21 4 (dk_at dksX2_row_2 0 rfl rfl)
theorem dX2_row_50 : decode cX2_row 50 = .ok (.bipush 60, 2) := dk_16 60 (dk_at dksX2_row_2 2 rfl rfl)
theorem dX2_row_52 : decode cX2_row 52 = .ok (.if_icmp .ge 22, 3) := dk_162 0 22 (dk_at dksX2_row_2 4 rfl rfl)
theorem dX2_row_55 : decode cX2_row 55 = .ok (.aload_n 0, 1) := dk_42 (dk_at dksX2_row_2 7 rfl rfl)
theorem dX2_row_56 : decode cX2_row 56 = .ok (.getfield 87, 3) := dk_180 0 87 (dk_at dksX2_row_2 8 rfl rfl)
theorem dX2_row_59 : decode cX2_row 59 = .ok (.bipush 60, 2) := dk_16 60 (dk_at dksX2_row_2 11 rfl rfl)
theorem dX2_row_61 : decode cX2_row 61 = .ok (.iload_n 1, 1) := dk_27 (dk_at dksX2_row_2 13 rfl rfl)
theorem dX2_row_62 : decode cX2_row 62 = .ok (.imul, 1) := dk_104 (dk_at dksX2_row_2 14 rfl rfl)
theorem dX2_row_63 : decode cX2_row 63 = .ok (.iload 4, 2) := dk_21 4 (dk_at dksX2_row_2 15 rfl rfl)
theorem dX2_row_65 : decode cX2_row 65 = .ok (.iadd, 1) := dk_96 (dk_at dksX2_row_2 17 rfl rfl)
theorem dX2_row_66 : decode cX2_row 66 = .ok (.lconst 0, 1) := dk_9 (dk_at dksX2_row_2 18 rfl rfl)
theorem dX2_row_67 : decode cX2_row 67 = .ok (.lastore, 1) := dk_80 (dk_at dksX2_row_2 19 rfl rfl)
theorem dX2_row_68 : decode cX2_row 68 = .ok (.iinc 4 1, 3) := dk_132 4 1 (dk_at dksX2_row_2 20 rfl rfl)
theorem dX2_row_71 : decode cX2_row 71 = .ok (.goto (-23), 3) := dk_167 255 233 (dk_at dksX2_row_3 0 rfl rfl)
theorem dX2_row_74 : decode cX2_row 74 = .ok (.iconst 1, 1) := dk_4 (dk_at dksX2_row_3 3 rfl rfl)
theorem dX2_row_75 : decode cX2_row 75 = .ok (.ireturn, 1) := dk_172 (dk_at dksX2_row_3 4 rfl rfl)
abbrev cX2_put : ByteArray := prog_31_method_105_code
def yX2_put : MethodName := ⟨RX2, "put", "(IIJ)I"⟩
def dkwX2_put_3 : List UInt8 := [184, 1, 139, 80, 4, 172]
abbrev dktX2_put_3 : List UInt8 := dkwX2_put_3 ++ []
def dkwX2_put_2 : List UInt8 := [154, 0, 6, 16, 243, 172, 42, 180, 0, 87, 16, 60, 27, 104, 28, 96, 42, 180, 0, 81, 27, 46, 33]
abbrev dktX2_put_2 : List UInt8 := dkwX2_put_2 ++ dktX2_put_3
def dkwX2_put_1 : List UInt8 := [182, 1, 136, 154, 0, 6, 16, 244, 172, 28, 3, 42, 180, 0, 84, 27, 46, 4, 100, 184, 0, 123]
abbrev dktX2_put_1 : List UInt8 := dkwX2_put_1 ++ dktX2_put_2
def dkwX2_put_0 : List UInt8 := [27, 184, 0, 131, 154, 0, 5, 2, 172, 42, 180, 0, 81, 27, 46, 2, 160, 0, 6, 16, 245, 172, 42, 27]
abbrev dktX2_put_0 : List UInt8 := dkwX2_put_0 ++ dktX2_put_1
theorem dksX2_put_0 : cX2_put.data.toList.drop 0 = dktX2_put_0 := by decide +kernel
theorem dksX2_put_1 : cX2_put.data.toList.drop 24 = dktX2_put_1 := dk_seg dksX2_put_0 24 rfl rfl
theorem dksX2_put_2 : cX2_put.data.toList.drop 46 = dktX2_put_2 := dk_seg dksX2_put_1 22 rfl rfl
theorem dksX2_put_3 : cX2_put.data.toList.drop 69 = dktX2_put_3 := dk_seg dksX2_put_2 23 rfl rfl
theorem dX2_put_0 : decode cX2_put 0 = .ok (.iload_n 1, 1) := dk_27 (dk_at dksX2_put_0 0 rfl rfl)
theorem dX2_put_1 : decode cX2_put 1 = .ok (.invokestatic 131, 3) := dk_184 0 131 (dk_at dksX2_put_0 1 rfl rfl)
theorem dX2_put_4 : decode cX2_put 4 = .ok (.ifCond .ne 5, 3) := dk_154 0 5 (dk_at dksX2_put_0 4 rfl rfl)
theorem dX2_put_7 : decode cX2_put 7 = .ok (.iconst (-1), 1) := dk_2 (dk_at dksX2_put_0 7 rfl rfl)
theorem dX2_put_8 : decode cX2_put 8 = .ok (.ireturn, 1) := dk_172 (dk_at dksX2_put_0 8 rfl rfl)
theorem dX2_put_9 : decode cX2_put 9 = .ok (.aload_n 0, 1) := dk_42 (dk_at dksX2_put_0 9 rfl rfl)
theorem dX2_put_10 : decode cX2_put 10 = .ok (.getfield 81, 3) := dk_180 0 81 (dk_at dksX2_put_0 10 rfl rfl)
theorem dX2_put_13 : decode cX2_put 13 = .ok (.iload_n 1, 1) := dk_27 (dk_at dksX2_put_0 13 rfl rfl)
theorem dX2_put_14 : decode cX2_put 14 = .ok (.iaload, 1) := dk_46 (dk_at dksX2_put_0 14 rfl rfl)
theorem dX2_put_15 : decode cX2_put 15 = .ok (.iconst (-1), 1) := dk_2 (dk_at dksX2_put_0 15 rfl rfl)
theorem dX2_put_16 : decode cX2_put 16 = .ok (.if_icmp .ne 6, 3) := dk_160 0 6 (dk_at dksX2_put_0 16 rfl rfl)
theorem dX2_put_19 : decode cX2_put 19 = .ok (.bipush (-11), 2) := dk_16 245 (dk_at dksX2_put_0 19 rfl rfl)
theorem dX2_put_21 : decode cX2_put 21 = .ok (.ireturn, 1) := dk_172 (dk_at dksX2_put_0 21 rfl rfl)
theorem dX2_put_22 : decode cX2_put 22 = .ok (.aload_n 0, 1) := dk_42 (dk_at dksX2_put_0 22 rfl rfl)
theorem dX2_put_23 : decode cX2_put 23 = .ok (.iload_n 1, 1) := dk_27 (dk_at dksX2_put_0 23 rfl rfl)
theorem dX2_put_24 : decode cX2_put 24 = .ok (.invokevirtual 392, 3) := dk_182 1 136 (dk_at dksX2_put_1 0 rfl rfl)
theorem dX2_put_27 : decode cX2_put 27 = .ok (.ifCond .ne 6, 3) := dk_154 0 6 (dk_at dksX2_put_1 3 rfl rfl)
theorem dX2_put_30 : decode cX2_put 30 = .ok (.bipush (-12), 2) := dk_16 244 (dk_at dksX2_put_1 6 rfl rfl)
theorem dX2_put_32 : decode cX2_put 32 = .ok (.ireturn, 1) := dk_172 (dk_at dksX2_put_1 8 rfl rfl)
theorem dX2_put_33 : decode cX2_put 33 = .ok (.iload_n 2, 1) := dk_28 (dk_at dksX2_put_1 9 rfl rfl)
theorem dX2_put_34 : decode cX2_put 34 = .ok (.iconst 0, 1) := dk_3 (dk_at dksX2_put_1 10 rfl rfl)
theorem dX2_put_35 : decode cX2_put 35 = .ok (.aload_n 0, 1) := dk_42 (dk_at dksX2_put_1 11 rfl rfl)
theorem dX2_put_36 : decode cX2_put 36 = .ok (.getfield 84, 3) := dk_180 0 84 (dk_at dksX2_put_1 12 rfl rfl)
theorem dX2_put_39 : decode cX2_put 39 = .ok (.iload_n 1, 1) := dk_27 (dk_at dksX2_put_1 15 rfl rfl)
theorem dX2_put_40 : decode cX2_put 40 = .ok (.iaload, 1) := dk_46 (dk_at dksX2_put_1 16 rfl rfl)
theorem dX2_put_41 : decode cX2_put 41 = .ok (.iconst 1, 1) := dk_4 (dk_at dksX2_put_1 17 rfl rfl)
theorem dX2_put_42 : decode cX2_put 42 = .ok (.isub, 1) := dk_100 (dk_at dksX2_put_1 18 rfl rfl)
theorem dX2_put_43 : decode cX2_put 43 = .ok (.invokestatic 123, 3) := dk_184 0 123 (dk_at dksX2_put_1 19 rfl rfl)
theorem dX2_put_46 : decode cX2_put 46 = .ok (.ifCond .ne 6, 3) := dk_154 0 6 (dk_at dksX2_put_2 0 rfl rfl)
theorem dX2_put_49 : decode cX2_put 49 = .ok (.bipush (-13), 2) := dk_16 243 (dk_at dksX2_put_2 3 rfl rfl)
theorem dX2_put_51 : decode cX2_put 51 = .ok (.ireturn, 1) := dk_172 (dk_at dksX2_put_2 5 rfl rfl)
theorem dX2_put_52 : decode cX2_put 52 = .ok (.aload_n 0, 1) := dk_42 (dk_at dksX2_put_2 6 rfl rfl)
theorem dX2_put_53 : decode cX2_put 53 = .ok (.getfield 87, 3) := dk_180 0 87 (dk_at dksX2_put_2 7 rfl rfl)
theorem dX2_put_56 : decode cX2_put 56 = .ok (.bipush 60, 2) := dk_16 60 (dk_at dksX2_put_2 10 rfl rfl)
theorem dX2_put_58 : decode cX2_put 58 = .ok (.iload_n 1, 1) := dk_27 (dk_at dksX2_put_2 12 rfl rfl)
theorem dX2_put_59 : decode cX2_put 59 = .ok (.imul, 1) := dk_104 (dk_at dksX2_put_2 13 rfl rfl)
theorem dX2_put_60 : decode cX2_put 60 = .ok (.iload_n 2, 1) := dk_28 (dk_at dksX2_put_2 14 rfl rfl)
theorem dX2_put_61 : decode cX2_put 61 = .ok (.iadd, 1) := dk_96 (dk_at dksX2_put_2 15 rfl rfl)
theorem dX2_put_62 : decode cX2_put 62 = .ok (.aload_n 0, 1) := dk_42 (dk_at dksX2_put_2 16 rfl rfl)
theorem dX2_put_63 : decode cX2_put 63 = .ok (.getfield 81, 3) := dk_180 0 81 (dk_at dksX2_put_2 17 rfl rfl)
theorem dX2_put_66 : decode cX2_put 66 = .ok (.iload_n 1, 1) := dk_27 (dk_at dksX2_put_2 20 rfl rfl)
theorem dX2_put_67 : decode cX2_put 67 = .ok (.iaload, 1) := dk_46 (dk_at dksX2_put_2 21 rfl rfl)
theorem dX2_put_68 : decode cX2_put 68 = .ok (.lload_n 3, 1) := dk_33 (dk_at dksX2_put_2 22 rfl rfl)
theorem dX2_put_69 : decode cX2_put 69 = .ok (.invokestatic 395, 3) := dk_184 1 139 (dk_at dksX2_put_3 0 rfl rfl)
theorem dX2_put_72 : decode cX2_put 72 = .ok (.lastore, 1) := dk_80 (dk_at dksX2_put_3 3 rfl rfl)
theorem dX2_put_73 : decode cX2_put 73 = .ok (.iconst 1, 1) := dk_4 (dk_at dksX2_put_3 4 rfl rfl)
theorem dX2_put_74 : decode cX2_put 74 = .ok (.ireturn, 1) := dk_172 (dk_at dksX2_put_3 5 rfl rfl)
abbrev cX2_isRow : ByteArray := prog_31_method_103_code
def yX2_isRow : MethodName := ⟨RX2, "isRow", "(I)Z"⟩
def dkwX2_isRow_0 : List UInt8 := [42, 180, 0, 81, 27, 46, 3, 7, 184, 0, 123, 172]
abbrev dktX2_isRow_0 : List UInt8 := dkwX2_isRow_0 ++ []
theorem dksX2_isRow_0 : cX2_isRow.data.toList.drop 0 = dktX2_isRow_0 := by decide +kernel
theorem dX2_isRow_0 : decode cX2_isRow 0 = .ok (.aload_n 0, 1) := dk_42 (dk_at dksX2_isRow_0 0 rfl rfl)
theorem dX2_isRow_1 : decode cX2_isRow 1 = .ok (.getfield 81, 3) := dk_180 0 81 (dk_at dksX2_isRow_0 1 rfl rfl)
theorem dX2_isRow_4 : decode cX2_isRow 4 = .ok (.iload_n 1, 1) := dk_27 (dk_at dksX2_isRow_0 4 rfl rfl)
theorem dX2_isRow_5 : decode cX2_isRow 5 = .ok (.iaload, 1) := dk_46 (dk_at dksX2_isRow_0 5 rfl rfl)
theorem dX2_isRow_6 : decode cX2_isRow 6 = .ok (.iconst 0, 1) := dk_3 (dk_at dksX2_isRow_0 6 rfl rfl)
theorem dX2_isRow_7 : decode cX2_isRow 7 = .ok (.iconst 4, 1) := dk_7 (dk_at dksX2_isRow_0 7 rfl rfl)
theorem dX2_isRow_8 : decode cX2_isRow 8 = .ok (.invokestatic 123, 3) := dk_184 0 123 (dk_at dksX2_isRow_0 8 rfl rfl)
theorem dX2_isRow_11 : decode cX2_isRow 11 = .ok (.ireturn, 1) := dk_172 (dk_at dksX2_isRow_0 11 rfl rfl)
abbrev cX2_kept : ByteArray := prog_31_method_104_code
def yX2_kept : MethodName := ⟨RX2, "kept", "(IJ)J"⟩
def dkwX2_kept_3 : List UInt8 := [167, 0, 4, 9, 173]
abbrev dktX2_kept_3 : List UInt8 := dkwX2_kept_3 ++ []
def dkwX2_kept_2 : List UInt8 := [31, 136, 145, 133, 173, 31, 136, 147, 133, 173, 31, 136, 133, 173, 31, 173, 31, 9, 148, 153, 0, 7, 10]
abbrev dktX2_kept_2 : List UInt8 := dkwX2_kept_2 ++ dktX2_kept_3
def dkwX2_kept_1 : List UInt8 := [170, 0, 0, 0, 0, 0, 47, 0, 0, 0, 0, 0, 0, 0, 3, 0, 0, 0, 31, 0, 0, 0, 36, 0, 0, 0, 41, 0, 0, 0, 45]
abbrev dktX2_kept_1 : List UInt8 := dkwX2_kept_1 ++ dktX2_kept_2
def dkwX2_kept_0 : List UInt8 := [26]
abbrev dktX2_kept_0 : List UInt8 := dkwX2_kept_0 ++ dktX2_kept_1
theorem dksX2_kept_0 : cX2_kept.data.toList.drop 0 = dktX2_kept_0 := by decide +kernel
theorem dksX2_kept_1 : cX2_kept.data.toList.drop 1 = dktX2_kept_1 := dk_seg dksX2_kept_0 1 rfl rfl
theorem dksX2_kept_2 : cX2_kept.data.toList.drop 32 = dktX2_kept_2 := dk_seg dksX2_kept_1 31 rfl rfl
theorem dksX2_kept_3 : cX2_kept.data.toList.drop 55 = dktX2_kept_3 := dk_seg dksX2_kept_2 23 rfl rfl
theorem dX2_kept_0 : decode cX2_kept 0 = .ok (.iload_n 0, 1) := dk_26 (dk_at dksX2_kept_0 0 rfl rfl)
theorem dX2_kept_1 : decode cX2_kept 1 = .ok (.tableswitch 47 0 3 #[31, 36, 41, 45], 31) := by decide +kernel
theorem dX2_kept_32 : decode cX2_kept 32 = .ok (.lload_n 1, 1) := dk_31 (dk_at dksX2_kept_2 0 rfl rfl)
theorem dX2_kept_33 : decode cX2_kept 33 = .ok (.l2i, 1) := dk_136 (dk_at dksX2_kept_2 1 rfl rfl)
theorem dX2_kept_34 : decode cX2_kept 34 = .ok (.i2b, 1) := dk_145 (dk_at dksX2_kept_2 2 rfl rfl)
theorem dX2_kept_35 : decode cX2_kept 35 = .ok (.i2l, 1) := dk_133 (dk_at dksX2_kept_2 3 rfl rfl)
theorem dX2_kept_36 : decode cX2_kept 36 = .ok (.lreturn, 1) := dk_173 (dk_at dksX2_kept_2 4 rfl rfl)
theorem dX2_kept_37 : decode cX2_kept 37 = .ok (.lload_n 1, 1) := dk_31 (dk_at dksX2_kept_2 5 rfl rfl)
theorem dX2_kept_38 : decode cX2_kept 38 = .ok (.l2i, 1) := dk_136 (dk_at dksX2_kept_2 6 rfl rfl)
theorem dX2_kept_39 : decode cX2_kept 39 = .ok (.i2s, 1) := dk_147 (dk_at dksX2_kept_2 7 rfl rfl)
theorem dX2_kept_40 : decode cX2_kept 40 = .ok (.i2l, 1) := dk_133 (dk_at dksX2_kept_2 8 rfl rfl)
theorem dX2_kept_41 : decode cX2_kept 41 = .ok (.lreturn, 1) := dk_173 (dk_at dksX2_kept_2 9 rfl rfl)
theorem dX2_kept_42 : decode cX2_kept 42 = .ok (.lload_n 1, 1) := dk_31 (dk_at dksX2_kept_2 10 rfl rfl)
theorem dX2_kept_43 : decode cX2_kept 43 = .ok (.l2i, 1) := dk_136 (dk_at dksX2_kept_2 11 rfl rfl)
theorem dX2_kept_44 : decode cX2_kept 44 = .ok (.i2l, 1) := dk_133 (dk_at dksX2_kept_2 12 rfl rfl)
theorem dX2_kept_45 : decode cX2_kept 45 = .ok (.lreturn, 1) := dk_173 (dk_at dksX2_kept_2 13 rfl rfl)
theorem dX2_kept_46 : decode cX2_kept 46 = .ok (.lload_n 1, 1) := dk_31 (dk_at dksX2_kept_2 14 rfl rfl)
theorem dX2_kept_47 : decode cX2_kept 47 = .ok (.lreturn, 1) := dk_173 (dk_at dksX2_kept_2 15 rfl rfl)
theorem dX2_kept_48 : decode cX2_kept 48 = .ok (.lload_n 1, 1) := dk_31 (dk_at dksX2_kept_2 16 rfl rfl)
theorem dX2_kept_49 : decode cX2_kept 49 = .ok (.lconst 0, 1) := dk_9 (dk_at dksX2_kept_2 17 rfl rfl)
theorem dX2_kept_50 : decode cX2_kept 50 = .ok (.lcmp, 1) := dk_148 (dk_at dksX2_kept_2 18 rfl rfl)
theorem dX2_kept_51 : decode cX2_kept 51 = .ok (.ifCond .eq 7, 3) := dk_153 0 7 (dk_at dksX2_kept_2 19 rfl rfl)
theorem dX2_kept_54 : decode cX2_kept 54 = .ok (.lconst 1, 1) := dk_10 (dk_at dksX2_kept_2 22 rfl rfl)
theorem dX2_kept_55 : decode cX2_kept 55 = .ok (.goto 4, 3) := dk_167 0 4 (dk_at dksX2_kept_3 0 rfl rfl)
theorem dX2_kept_58 : decode cX2_kept 58 = .ok (.lconst 0, 1) := dk_9 (dk_at dksX2_kept_3 3 rfl rfl)
theorem dX2_kept_59 : decode cX2_kept 59 = .ok (.lreturn, 1) := dk_173 (dk_at dksX2_kept_3 4 rfl rfl)
abbrev cX2_element : ByteArray := prog_31_method_106_code
def yX2_element : MethodName := ⟨RX2, "element", "(II)J"⟩
def dkwX2_element_2 : List UInt8 := [173]
abbrev dktX2_element_2 : List UInt8 := dkwX2_element_2 ++ []
def dkwX2_element_1 : List UInt8 := [100, 184, 0, 123, 153, 0, 17, 42, 180, 0, 87, 16, 60, 27, 104, 28, 96, 47, 167, 0, 6, 20, 1, 143]
abbrev dktX2_element_1 : List UInt8 := dkwX2_element_1 ++ dktX2_element_2
def dkwX2_element_0 : List UInt8 := [27, 184, 0, 131, 153, 0, 41, 42, 27, 182, 1, 136, 153, 0, 33, 28, 3, 42, 180, 0, 84, 27, 46, 4]
abbrev dktX2_element_0 : List UInt8 := dkwX2_element_0 ++ dktX2_element_1
theorem dksX2_element_0 : cX2_element.data.toList.drop 0 = dktX2_element_0 := by decide +kernel
theorem dksX2_element_1 : cX2_element.data.toList.drop 24 = dktX2_element_1 := dk_seg dksX2_element_0 24 rfl rfl
theorem dksX2_element_2 : cX2_element.data.toList.drop 48 = dktX2_element_2 := dk_seg dksX2_element_1 24 rfl rfl
theorem dX2_element_0 : decode cX2_element 0 = .ok (.iload_n 1, 1) := dk_27 (dk_at dksX2_element_0 0 rfl rfl)
theorem dX2_element_1 : decode cX2_element 1 = .ok (.invokestatic 131, 3) := dk_184 0 131 (dk_at dksX2_element_0 1 rfl rfl)
theorem dX2_element_4 : decode cX2_element 4 = .ok (.ifCond .eq 41, 3) := dk_153 0 41 (dk_at dksX2_element_0 4 rfl rfl)
theorem dX2_element_7 : decode cX2_element 7 = .ok (.aload_n 0, 1) := dk_42 (dk_at dksX2_element_0 7 rfl rfl)
theorem dX2_element_8 : decode cX2_element 8 = .ok (.iload_n 1, 1) := dk_27 (dk_at dksX2_element_0 8 rfl rfl)
theorem dX2_element_9 : decode cX2_element 9 = .ok (.invokevirtual 392, 3) := dk_182 1 136 (dk_at dksX2_element_0 9 rfl rfl)
theorem dX2_element_12 : decode cX2_element 12 = .ok (.ifCond .eq 33, 3) := dk_153 0 33 (dk_at dksX2_element_0 12 rfl rfl)
theorem dX2_element_15 : decode cX2_element 15 = .ok (.iload_n 2, 1) := dk_28 (dk_at dksX2_element_0 15 rfl rfl)
theorem dX2_element_16 : decode cX2_element 16 = .ok (.iconst 0, 1) := dk_3 (dk_at dksX2_element_0 16 rfl rfl)
theorem dX2_element_17 : decode cX2_element 17 = .ok (.aload_n 0, 1) := dk_42 (dk_at dksX2_element_0 17 rfl rfl)
theorem dX2_element_18 : decode cX2_element 18 = .ok (.getfield 84, 3) := dk_180 0 84 (dk_at dksX2_element_0 18 rfl rfl)
theorem dX2_element_21 : decode cX2_element 21 = .ok (.iload_n 1, 1) := dk_27 (dk_at dksX2_element_0 21 rfl rfl)
theorem dX2_element_22 : decode cX2_element 22 = .ok (.iaload, 1) := dk_46 (dk_at dksX2_element_0 22 rfl rfl)
theorem dX2_element_23 : decode cX2_element 23 = .ok (.iconst 1, 1) := dk_4 (dk_at dksX2_element_0 23 rfl rfl)
theorem dX2_element_24 : decode cX2_element 24 = .ok (.isub, 1) := dk_100 (dk_at dksX2_element_1 0 rfl rfl)
theorem dX2_element_25 : decode cX2_element 25 = .ok (.invokestatic 123, 3) := dk_184 0 123 (dk_at dksX2_element_1 1 rfl rfl)
theorem dX2_element_28 : decode cX2_element 28 = .ok (.ifCond .eq 17, 3) := dk_153 0 17 (dk_at dksX2_element_1 4 rfl rfl)
theorem dX2_element_31 : decode cX2_element 31 = .ok (.aload_n 0, 1) := dk_42 (dk_at dksX2_element_1 7 rfl rfl)
theorem dX2_element_32 : decode cX2_element 32 = .ok (.getfield 87, 3) := dk_180 0 87 (dk_at dksX2_element_1 8 rfl rfl)
theorem dX2_element_35 : decode cX2_element 35 = .ok (.bipush 60, 2) := dk_16 60 (dk_at dksX2_element_1 11 rfl rfl)
theorem dX2_element_37 : decode cX2_element 37 = .ok (.iload_n 1, 1) := dk_27 (dk_at dksX2_element_1 13 rfl rfl)
theorem dX2_element_38 : decode cX2_element 38 = .ok (.imul, 1) := dk_104 (dk_at dksX2_element_1 14 rfl rfl)
theorem dX2_element_39 : decode cX2_element 39 = .ok (.iload_n 2, 1) := dk_28 (dk_at dksX2_element_1 15 rfl rfl)
theorem dX2_element_40 : decode cX2_element 40 = .ok (.iadd, 1) := dk_96 (dk_at dksX2_element_1 16 rfl rfl)
theorem dX2_element_41 : decode cX2_element 41 = .ok (.laload, 1) := dk_47 (dk_at dksX2_element_1 17 rfl rfl)
theorem dX2_element_42 : decode cX2_element 42 = .ok (.goto 6, 3) := dk_167 0 6 (dk_at dksX2_element_1 18 rfl rfl)
theorem dX2_element_45 : decode cX2_element 45 = .ok (.ldc2_w 399, 3) := dk_20 1 143 (dk_at dksX2_element_1 21 rfl rfl)
theorem dX2_element_48 : decode cX2_element 48 = .ok (.lreturn, 1) := dk_173 (dk_at dksX2_element_2 0 rfl rfl)
abbrev cX2_shift : ByteArray := prog_31_method_107_code
def yX2_shift : MethodName := ⟨RX2, "shift", "(IIIII)I"⟩
def dkwX2_shift_9 : List UInt8 := [180, 0, 87, 16, 60, 27, 104, 28, 96, 21, 6, 96, 47, 80, 132, 6, 1, 167, 255, 217, 21, 5, 172]
abbrev dktX2_shift_9 : List UInt8 := dkwX2_shift_9 ++ []
def dkwX2_shift_8 : List UInt8 := [21, 6, 21, 5, 162, 0, 38, 42, 180, 0, 87, 16, 60, 29, 104, 21, 4, 96, 21, 6, 96, 42]
abbrev dktX2_shift_8 : List UInt8 := dkwX2_shift_8 ++ dktX2_shift_9
def dkwX2_shift_7 : List UInt8 := [16, 60, 27, 104, 28, 96, 21, 6, 96, 47, 80, 132, 6, 255, 167, 255, 219, 167, 0, 48, 3, 54, 6]
abbrev dktX2_shift_7 : List UInt8 := dkwX2_shift_7 ++ dktX2_shift_8
def dkwX2_shift_6 : List UInt8 := [21, 6, 155, 0, 38, 42, 180, 0, 87, 16, 60, 29, 104, 21, 4, 96, 21, 6, 96, 42, 180, 0, 87]
abbrev dktX2_shift_6 : List UInt8 := dkwX2_shift_6 ++ dktX2_shift_7
def dkwX2_shift_5 : List UInt8 := [148, 158, 0, 6, 16, 243, 172, 27, 29, 160, 0, 58, 28, 21, 4, 162, 0, 52, 21, 5, 4, 100, 54, 6]
abbrev dktX2_shift_5 : List UInt8 := dkwX2_shift_5 ++ dktX2_shift_6
def dkwX2_shift_4 : List UInt8 := [180, 0, 84, 27, 46, 133, 148, 157, 0, 21, 21, 4, 133, 21, 5, 133, 97, 42, 180, 0, 84, 29, 46, 133]
abbrev dktX2_shift_4 : List UInt8 := dkwX2_shift_4 ++ dktX2_shift_5
def dkwX2_shift_3 : List UInt8 := [16, 244, 172, 21, 5, 155, 0, 47, 28, 155, 0, 43, 21, 4, 155, 0, 38, 28, 133, 21, 5, 133, 97, 42]
abbrev dktX2_shift_3 : List UInt8 := dkwX2_shift_3 ++ dktX2_shift_4
def dkwX2_shift_2 : List UInt8 := [42, 29, 182, 1, 136, 153, 0, 18, 42, 180, 0, 81, 27, 46, 42, 180, 0, 81, 29, 46, 159, 0, 6]
abbrev dktX2_shift_2 : List UInt8 := dkwX2_shift_2 ++ dktX2_shift_3
def dkwX2_shift_1 : List UInt8 := [159, 0, 13, 42, 180, 0, 81, 29, 46, 2, 160, 0, 6, 16, 245, 172, 42, 27, 182, 1, 136, 153, 0, 26]
abbrev dktX2_shift_1 : List UInt8 := dkwX2_shift_1 ++ dktX2_shift_2
def dkwX2_shift_0 : List UInt8 := [27, 184, 0, 131, 153, 0, 10, 29, 184, 0, 131, 154, 0, 5, 2, 172, 42, 180, 0, 81, 27, 46, 2]
abbrev dktX2_shift_0 : List UInt8 := dkwX2_shift_0 ++ dktX2_shift_1
theorem dksX2_shift_0 : cX2_shift.data.toList.drop 0 = dktX2_shift_0 := by decide +kernel
theorem dksX2_shift_1 : cX2_shift.data.toList.drop 23 = dktX2_shift_1 := dk_seg dksX2_shift_0 23 rfl rfl
theorem dksX2_shift_2 : cX2_shift.data.toList.drop 47 = dktX2_shift_2 := dk_seg dksX2_shift_1 24 rfl rfl
theorem dksX2_shift_3 : cX2_shift.data.toList.drop 70 = dktX2_shift_3 := dk_seg dksX2_shift_2 23 rfl rfl
theorem dksX2_shift_4 : cX2_shift.data.toList.drop 94 = dktX2_shift_4 := dk_seg dksX2_shift_3 24 rfl rfl
theorem dksX2_shift_5 : cX2_shift.data.toList.drop 118 = dktX2_shift_5 := dk_seg dksX2_shift_4 24 rfl rfl
theorem dksX2_shift_6 : cX2_shift.data.toList.drop 142 = dktX2_shift_6 := dk_seg dksX2_shift_5 24 rfl rfl
theorem dksX2_shift_7 : cX2_shift.data.toList.drop 165 = dktX2_shift_7 := dk_seg dksX2_shift_6 23 rfl rfl
theorem dksX2_shift_8 : cX2_shift.data.toList.drop 188 = dktX2_shift_8 := dk_seg dksX2_shift_7 23 rfl rfl
theorem dksX2_shift_9 : cX2_shift.data.toList.drop 210 = dktX2_shift_9 := dk_seg dksX2_shift_8 22 rfl rfl
theorem dX2_shift_0 : decode cX2_shift 0 = .ok (.iload_n 1, 1) := dk_27 (dk_at dksX2_shift_0 0 rfl rfl)
theorem dX2_shift_1 : decode cX2_shift 1 = .ok (.invokestatic 131, 3) := dk_184 0 131 (dk_at dksX2_shift_0 1 rfl rfl)
theorem dX2_shift_4 : decode cX2_shift 4 = .ok (.ifCond .eq 10, 3) := dk_153 0 10 (dk_at dksX2_shift_0 4 rfl rfl)
theorem dX2_shift_7 : decode cX2_shift 7 = .ok (.iload_n 3, 1) := dk_29 (dk_at dksX2_shift_0 7 rfl rfl)
theorem dX2_shift_8 : decode cX2_shift 8 = .ok (.invokestatic 131, 3) := dk_184 0 131 (dk_at dksX2_shift_0 8 rfl rfl)
theorem dX2_shift_11 : decode cX2_shift 11 = .ok (.ifCond .ne 5, 3) := dk_154 0 5 (dk_at dksX2_shift_0 11 rfl rfl)
theorem dX2_shift_14 : decode cX2_shift 14 = .ok (.iconst (-1), 1) := dk_2 (dk_at dksX2_shift_0 14 rfl rfl)
theorem dX2_shift_15 : decode cX2_shift 15 = .ok (.ireturn, 1) := dk_172 (dk_at dksX2_shift_0 15 rfl rfl)
theorem dX2_shift_16 : decode cX2_shift 16 = .ok (.aload_n 0, 1) := dk_42 (dk_at dksX2_shift_0 16 rfl rfl)
theorem dX2_shift_17 : decode cX2_shift 17 = .ok (.getfield 81, 3) := dk_180 0 81 (dk_at dksX2_shift_0 17 rfl rfl)
theorem dX2_shift_20 : decode cX2_shift 20 = .ok (.iload_n 1, 1) := dk_27 (dk_at dksX2_shift_0 20 rfl rfl)
theorem dX2_shift_21 : decode cX2_shift 21 = .ok (.iaload, 1) := dk_46 (dk_at dksX2_shift_0 21 rfl rfl)
theorem dX2_shift_22 : decode cX2_shift 22 = .ok (.iconst (-1), 1) := dk_2 (dk_at dksX2_shift_0 22 rfl rfl)
theorem dX2_shift_23 : decode cX2_shift 23 = .ok (.if_icmp .eq 13, 3) := dk_159 0 13 (dk_at dksX2_shift_1 0 rfl rfl)
theorem dX2_shift_26 : decode cX2_shift 26 = .ok (.aload_n 0, 1) := dk_42 (dk_at dksX2_shift_1 3 rfl rfl)
theorem dX2_shift_27 : decode cX2_shift 27 = .ok (.getfield 81, 3) := dk_180 0 81 (dk_at dksX2_shift_1 4 rfl rfl)
theorem dX2_shift_30 : decode cX2_shift 30 = .ok (.iload_n 3, 1) := dk_29 (dk_at dksX2_shift_1 7 rfl rfl)
theorem dX2_shift_31 : decode cX2_shift 31 = .ok (.iaload, 1) := dk_46 (dk_at dksX2_shift_1 8 rfl rfl)
theorem dX2_shift_32 : decode cX2_shift 32 = .ok (.iconst (-1), 1) := dk_2 (dk_at dksX2_shift_1 9 rfl rfl)
theorem dX2_shift_33 : decode cX2_shift 33 = .ok (.if_icmp .ne 6, 3) := dk_160 0 6 (dk_at dksX2_shift_1 10 rfl rfl)
theorem dX2_shift_36 : decode cX2_shift 36 = .ok (.bipush (-11), 2) := dk_16 245 (dk_at dksX2_shift_1 13 rfl rfl)
theorem dX2_shift_38 : decode cX2_shift 38 = .ok (.ireturn, 1) := dk_172 (dk_at dksX2_shift_1 15 rfl rfl)
theorem dX2_shift_39 : decode cX2_shift 39 = .ok (.aload_n 0, 1) := dk_42 (dk_at dksX2_shift_1 16 rfl rfl)
theorem dX2_shift_40 : decode cX2_shift 40 = .ok (.iload_n 1, 1) := dk_27 (dk_at dksX2_shift_1 17 rfl rfl)
theorem dX2_shift_41 : decode cX2_shift 41 = .ok (.invokevirtual 392, 3) := dk_182 1 136 (dk_at dksX2_shift_1 18 rfl rfl)
theorem dX2_shift_44 : decode cX2_shift 44 = .ok (.ifCond .eq 26, 3) := dk_153 0 26 (dk_at dksX2_shift_1 21 rfl rfl)
theorem dX2_shift_47 : decode cX2_shift 47 = .ok (.aload_n 0, 1) := dk_42 (dk_at dksX2_shift_2 0 rfl rfl)
theorem dX2_shift_48 : decode cX2_shift 48 = .ok (.iload_n 3, 1) := dk_29 (dk_at dksX2_shift_2 1 rfl rfl)
theorem dX2_shift_49 : decode cX2_shift 49 = .ok (.invokevirtual 392, 3) := dk_182 1 136 (dk_at dksX2_shift_2 2 rfl rfl)
theorem dX2_shift_52 : decode cX2_shift 52 = .ok (.ifCond .eq 18, 3) := dk_153 0 18 (dk_at dksX2_shift_2 5 rfl rfl)
theorem dX2_shift_55 : decode cX2_shift 55 = .ok (.aload_n 0, 1) := dk_42 (dk_at dksX2_shift_2 8 rfl rfl)
theorem dX2_shift_56 : decode cX2_shift 56 = .ok (.getfield 81, 3) := dk_180 0 81 (dk_at dksX2_shift_2 9 rfl rfl)
theorem dX2_shift_59 : decode cX2_shift 59 = .ok (.iload_n 1, 1) := dk_27 (dk_at dksX2_shift_2 12 rfl rfl)
theorem dX2_shift_60 : decode cX2_shift 60 = .ok (.iaload, 1) := dk_46 (dk_at dksX2_shift_2 13 rfl rfl)
theorem dX2_shift_61 : decode cX2_shift 61 = .ok (.aload_n 0, 1) := dk_42 (dk_at dksX2_shift_2 14 rfl rfl)
theorem dX2_shift_62 : decode cX2_shift 62 = .ok (.getfield 81, 3) := dk_180 0 81 (dk_at dksX2_shift_2 15 rfl rfl)
theorem dX2_shift_65 : decode cX2_shift 65 = .ok (.iload_n 3, 1) := dk_29 (dk_at dksX2_shift_2 18 rfl rfl)
theorem dX2_shift_66 : decode cX2_shift 66 = .ok (.iaload, 1) := dk_46 (dk_at dksX2_shift_2 19 rfl rfl)
theorem dX2_shift_67 : decode cX2_shift 67 = .ok (.if_icmp .eq 6, 3) := dk_159 0 6 (dk_at dksX2_shift_2 20 rfl rfl)
theorem dX2_shift_70 : decode cX2_shift 70 = .ok (.bipush (-12), 2) := dk_16 244 (dk_at dksX2_shift_3 0 rfl rfl)
theorem dX2_shift_72 : decode cX2_shift 72 = .ok (.ireturn, 1) := dk_172 (dk_at dksX2_shift_3 2 rfl rfl)
theorem dX2_shift_73 : decode cX2_shift 73 = .ok (.iload 5, 2) := dk_21 5 (dk_at dksX2_shift_3 3 rfl rfl)
theorem dX2_shift_75 : decode cX2_shift 75 = .ok (.ifCond .lt 47, 3) := dk_155 0 47 (dk_at dksX2_shift_3 5 rfl rfl)
theorem dX2_shift_78 : decode cX2_shift 78 = .ok (.iload_n 2, 1) := dk_28 (dk_at dksX2_shift_3 8 rfl rfl)
theorem dX2_shift_79 : decode cX2_shift 79 = .ok (.ifCond .lt 43, 3) := dk_155 0 43 (dk_at dksX2_shift_3 9 rfl rfl)
theorem dX2_shift_82 : decode cX2_shift 82 = .ok (.iload 4, 2) := dk_21 4 (dk_at dksX2_shift_3 12 rfl rfl)
theorem dX2_shift_84 : decode cX2_shift 84 = .ok (.ifCond .lt 38, 3) := dk_155 0 38 (dk_at dksX2_shift_3 14 rfl rfl)
theorem dX2_shift_87 : decode cX2_shift 87 = .ok (.iload_n 2, 1) := dk_28 (dk_at dksX2_shift_3 17 rfl rfl)
theorem dX2_shift_88 : decode cX2_shift 88 = .ok (.i2l, 1) := dk_133 (dk_at dksX2_shift_3 18 rfl rfl)
theorem dX2_shift_89 : decode cX2_shift 89 = .ok (.iload 5, 2) := dk_21 5 (dk_at dksX2_shift_3 19 rfl rfl)
theorem dX2_shift_91 : decode cX2_shift 91 = .ok (.i2l, 1) := dk_133 (dk_at dksX2_shift_3 21 rfl rfl)
theorem dX2_shift_92 : decode cX2_shift 92 = .ok (.ladd, 1) := dk_97 (dk_at dksX2_shift_3 22 rfl rfl)
theorem dX2_shift_93 : decode cX2_shift 93 = .ok (.aload_n 0, 1) := dk_42 (dk_at dksX2_shift_3 23 rfl rfl)
theorem dX2_shift_94 : decode cX2_shift 94 = .ok (.getfield 84, 3) := dk_180 0 84 (dk_at dksX2_shift_4 0 rfl rfl)
theorem dX2_shift_97 : decode cX2_shift 97 = .ok (.iload_n 1, 1) := dk_27 (dk_at dksX2_shift_4 3 rfl rfl)
theorem dX2_shift_98 : decode cX2_shift 98 = .ok (.iaload, 1) := dk_46 (dk_at dksX2_shift_4 4 rfl rfl)
theorem dX2_shift_99 : decode cX2_shift 99 = .ok (.i2l, 1) := dk_133 (dk_at dksX2_shift_4 5 rfl rfl)
theorem dX2_shift_100 : decode cX2_shift 100 = .ok (.lcmp, 1) := dk_148 (dk_at dksX2_shift_4 6 rfl rfl)
theorem dX2_shift_101 : decode cX2_shift 101 = .ok (.ifCond .gt 21, 3) := dk_157 0 21 (dk_at dksX2_shift_4 7 rfl rfl)
theorem dX2_shift_104 : decode cX2_shift 104 = .ok (.iload 4, 2) := dk_21 4 (dk_at dksX2_shift_4 10 rfl rfl)
theorem dX2_shift_106 : decode cX2_shift 106 = .ok (.i2l, 1) := dk_133 (dk_at dksX2_shift_4 12 rfl rfl)
theorem dX2_shift_107 : decode cX2_shift 107 = .ok (.iload 5, 2) := dk_21 5 (dk_at dksX2_shift_4 13 rfl rfl)
theorem dX2_shift_109 : decode cX2_shift 109 = .ok (.i2l, 1) := dk_133 (dk_at dksX2_shift_4 15 rfl rfl)
theorem dX2_shift_110 : decode cX2_shift 110 = .ok (.ladd, 1) := dk_97 (dk_at dksX2_shift_4 16 rfl rfl)
theorem dX2_shift_111 : decode cX2_shift 111 = .ok (.aload_n 0, 1) := dk_42 (dk_at dksX2_shift_4 17 rfl rfl)
theorem dX2_shift_112 : decode cX2_shift 112 = .ok (.getfield 84, 3) := dk_180 0 84 (dk_at dksX2_shift_4 18 rfl rfl)
theorem dX2_shift_115 : decode cX2_shift 115 = .ok (.iload_n 3, 1) := dk_29 (dk_at dksX2_shift_4 21 rfl rfl)
theorem dX2_shift_116 : decode cX2_shift 116 = .ok (.iaload, 1) := dk_46 (dk_at dksX2_shift_4 22 rfl rfl)
theorem dX2_shift_117 : decode cX2_shift 117 = .ok (.i2l, 1) := dk_133 (dk_at dksX2_shift_4 23 rfl rfl)
theorem dX2_shift_118 : decode cX2_shift 118 = .ok (.lcmp, 1) := dk_148 (dk_at dksX2_shift_5 0 rfl rfl)
theorem dX2_shift_119 : decode cX2_shift 119 = .ok (.ifCond .le 6, 3) := dk_158 0 6 (dk_at dksX2_shift_5 1 rfl rfl)
theorem dX2_shift_122 : decode cX2_shift 122 = .ok (.bipush (-13), 2) := dk_16 243 (dk_at dksX2_shift_5 4 rfl rfl)
theorem dX2_shift_124 : decode cX2_shift 124 = .ok (.ireturn, 1) := dk_172 (dk_at dksX2_shift_5 6 rfl rfl)
theorem dX2_shift_125 : decode cX2_shift 125 = .ok (.iload_n 1, 1) := dk_27 (dk_at dksX2_shift_5 7 rfl rfl)
theorem dX2_shift_126 : decode cX2_shift 126 = .ok (.iload_n 3, 1) := dk_29 (dk_at dksX2_shift_5 8 rfl rfl)
theorem dX2_shift_127 : decode cX2_shift 127 = .ok (.if_icmp .ne 58, 3) := dk_160 0 58 (dk_at dksX2_shift_5 9 rfl rfl)
theorem dX2_shift_130 : decode cX2_shift 130 = .ok (.iload_n 2, 1) := dk_28 (dk_at dksX2_shift_5 12 rfl rfl)
theorem dX2_shift_131 : decode cX2_shift 131 = .ok (.iload 4, 2) := dk_21 4 (dk_at dksX2_shift_5 13 rfl rfl)
theorem dX2_shift_133 : decode cX2_shift 133 = .ok (.if_icmp .ge 52, 3) := dk_162 0 52 (dk_at dksX2_shift_5 15 rfl rfl)
theorem dX2_shift_136 : decode cX2_shift 136 = .ok (.iload 5, 2) := dk_21 5 (dk_at dksX2_shift_5 18 rfl rfl)
theorem dX2_shift_138 : decode cX2_shift 138 = .ok (.iconst 1, 1) := dk_4 (dk_at dksX2_shift_5 20 rfl rfl)
theorem dX2_shift_139 : decode cX2_shift 139 = .ok (.isub, 1) := dk_100 (dk_at dksX2_shift_5 21 rfl rfl)
theorem dX2_shift_140 : decode cX2_shift 140 = .ok (.istore 6, 2) := dk_54 6 (dk_at dksX2_shift_5 22 rfl rfl)
theorem dX2_shift_142 : decode cX2_shift 142 = .ok (.iload 6, 2) := dk_21 6 (dk_at dksX2_shift_6 0 rfl rfl)
theorem dX2_shift_144 : decode cX2_shift 144 = .ok (.ifCond .lt 38, 3) := dk_155 0 38 (dk_at dksX2_shift_6 2 rfl rfl)
theorem dX2_shift_147 : decode cX2_shift 147 = .ok (.aload_n 0, 1) := dk_42 (dk_at dksX2_shift_6 5 rfl rfl)
theorem dX2_shift_148 : decode cX2_shift 148 = .ok (.getfield 87, 3) := dk_180 0 87 (dk_at dksX2_shift_6 6 rfl rfl)
theorem dX2_shift_151 : decode cX2_shift 151 = .ok (.bipush 60, 2) := dk_16 60 (dk_at dksX2_shift_6 9 rfl rfl)
theorem dX2_shift_153 : decode cX2_shift 153 = .ok (.iload_n 3, 1) := dk_29 (dk_at dksX2_shift_6 11 rfl rfl)
theorem dX2_shift_154 : decode cX2_shift 154 = .ok (.imul, 1) := dk_104 (dk_at dksX2_shift_6 12 rfl rfl)
theorem dX2_shift_155 : decode cX2_shift 155 = .ok (.iload 4, 2) := dk_21 4 (dk_at dksX2_shift_6 13 rfl rfl)
theorem dX2_shift_157 : decode cX2_shift 157 = .ok (.iadd, 1) := dk_96 (dk_at dksX2_shift_6 15 rfl rfl)
theorem dX2_shift_158 : decode cX2_shift 158 = .ok (.iload 6, 2) := dk_21 6 (dk_at dksX2_shift_6 16 rfl rfl)
theorem dX2_shift_160 : decode cX2_shift 160 = .ok (.iadd, 1) := dk_96 (dk_at dksX2_shift_6 18 rfl rfl)
theorem dX2_shift_161 : decode cX2_shift 161 = .ok (.aload_n 0, 1) := dk_42 (dk_at dksX2_shift_6 19 rfl rfl)
theorem dX2_shift_162 : decode cX2_shift 162 = .ok (.getfield 87, 3) := dk_180 0 87 (dk_at dksX2_shift_6 20 rfl rfl)
theorem dX2_shift_165 : decode cX2_shift 165 = .ok (.bipush 60, 2) := dk_16 60 (dk_at dksX2_shift_7 0 rfl rfl)
theorem dX2_shift_167 : decode cX2_shift 167 = .ok (.iload_n 1, 1) := dk_27 (dk_at dksX2_shift_7 2 rfl rfl)
theorem dX2_shift_168 : decode cX2_shift 168 = .ok (.imul, 1) := dk_104 (dk_at dksX2_shift_7 3 rfl rfl)
theorem dX2_shift_169 : decode cX2_shift 169 = .ok (.iload_n 2, 1) := dk_28 (dk_at dksX2_shift_7 4 rfl rfl)
theorem dX2_shift_170 : decode cX2_shift 170 = .ok (.iadd, 1) := dk_96 (dk_at dksX2_shift_7 5 rfl rfl)
theorem dX2_shift_171 : decode cX2_shift 171 = .ok (.iload 6, 2) := dk_21 6 (dk_at dksX2_shift_7 6 rfl rfl)
theorem dX2_shift_173 : decode cX2_shift 173 = .ok (.iadd, 1) := dk_96 (dk_at dksX2_shift_7 8 rfl rfl)
theorem dX2_shift_174 : decode cX2_shift 174 = .ok (.laload, 1) := dk_47 (dk_at dksX2_shift_7 9 rfl rfl)
theorem dX2_shift_175 : decode cX2_shift 175 = .ok (.lastore, 1) := dk_80 (dk_at dksX2_shift_7 10 rfl rfl)
theorem dX2_shift_176 : decode cX2_shift 176 = .ok (.iinc 6 (-1), 3) := dk_132 6 255 (dk_at dksX2_shift_7 11 rfl rfl)
theorem dX2_shift_179 : decode cX2_shift 179 = .ok (.goto (-37), 3) := dk_167 255 219 (dk_at dksX2_shift_7 14 rfl rfl)
theorem dX2_shift_182 : decode cX2_shift 182 = .ok (.goto 48, 3) := dk_167 0 48 (dk_at dksX2_shift_7 17 rfl rfl)
theorem dX2_shift_185 : decode cX2_shift 185 = .ok (.iconst 0, 1) := dk_3 (dk_at dksX2_shift_7 20 rfl rfl)
theorem dX2_shift_186 : decode cX2_shift 186 = .ok (.istore 6, 2) := dk_54 6 (dk_at dksX2_shift_7 21 rfl rfl)
theorem dX2_shift_188 : decode cX2_shift 188 = .ok (.iload 6, 2) := dk_21 6 (dk_at dksX2_shift_8 0 rfl rfl)
theorem dX2_shift_190 : decode cX2_shift 190 = .ok (.iload 5, 2) := dk_21 5 (dk_at dksX2_shift_8 2 rfl rfl)
theorem dX2_shift_192 : decode cX2_shift 192 = .ok (.if_icmp .ge 38, 3) := dk_162 0 38 (dk_at dksX2_shift_8 4 rfl rfl)
theorem dX2_shift_195 : decode cX2_shift 195 = .ok (.aload_n 0, 1) := dk_42 (dk_at dksX2_shift_8 7 rfl rfl)
theorem dX2_shift_196 : decode cX2_shift 196 = .ok (.getfield 87, 3) := dk_180 0 87 (dk_at dksX2_shift_8 8 rfl rfl)
theorem dX2_shift_199 : decode cX2_shift 199 = .ok (.bipush 60, 2) := dk_16 60 (dk_at dksX2_shift_8 11 rfl rfl)
theorem dX2_shift_201 : decode cX2_shift 201 = .ok (.iload_n 3, 1) := dk_29 (dk_at dksX2_shift_8 13 rfl rfl)
theorem dX2_shift_202 : decode cX2_shift 202 = .ok (.imul, 1) := dk_104 (dk_at dksX2_shift_8 14 rfl rfl)
theorem dX2_shift_203 : decode cX2_shift 203 = .ok (.iload 4, 2) := dk_21 4 (dk_at dksX2_shift_8 15 rfl rfl)
theorem dX2_shift_205 : decode cX2_shift 205 = .ok (.iadd, 1) := dk_96 (dk_at dksX2_shift_8 17 rfl rfl)
theorem dX2_shift_206 : decode cX2_shift 206 = .ok (.iload 6, 2) := dk_21 6 (dk_at dksX2_shift_8 18 rfl rfl)
theorem dX2_shift_208 : decode cX2_shift 208 = .ok (.iadd, 1) := dk_96 (dk_at dksX2_shift_8 20 rfl rfl)
theorem dX2_shift_209 : decode cX2_shift 209 = .ok (.aload_n 0, 1) := dk_42 (dk_at dksX2_shift_8 21 rfl rfl)
theorem dX2_shift_210 : decode cX2_shift 210 = .ok (.getfield 87, 3) := dk_180 0 87 (dk_at dksX2_shift_9 0 rfl rfl)
theorem dX2_shift_213 : decode cX2_shift 213 = .ok (.bipush 60, 2) := dk_16 60 (dk_at dksX2_shift_9 3 rfl rfl)
theorem dX2_shift_215 : decode cX2_shift 215 = .ok (.iload_n 1, 1) := dk_27 (dk_at dksX2_shift_9 5 rfl rfl)
theorem dX2_shift_216 : decode cX2_shift 216 = .ok (.imul, 1) := dk_104 (dk_at dksX2_shift_9 6 rfl rfl)
theorem dX2_shift_217 : decode cX2_shift 217 = .ok (.iload_n 2, 1) := dk_28 (dk_at dksX2_shift_9 7 rfl rfl)
theorem dX2_shift_218 : decode cX2_shift 218 = .ok (.iadd, 1) := dk_96 (dk_at dksX2_shift_9 8 rfl rfl)
theorem dX2_shift_219 : decode cX2_shift 219 = .ok (.iload 6, 2) := dk_21 6 (dk_at dksX2_shift_9 9 rfl rfl)
theorem dX2_shift_221 : decode cX2_shift 221 = .ok (.iadd, 1) := dk_96 (dk_at dksX2_shift_9 11 rfl rfl)
theorem dX2_shift_222 : decode cX2_shift 222 = .ok (.laload, 1) := dk_47 (dk_at dksX2_shift_9 12 rfl rfl)
theorem dX2_shift_223 : decode cX2_shift 223 = .ok (.lastore, 1) := dk_80 (dk_at dksX2_shift_9 13 rfl rfl)
theorem dX2_shift_224 : decode cX2_shift 224 = .ok (.iinc 6 1, 3) := dk_132 6 1 (dk_at dksX2_shift_9 14 rfl rfl)
theorem dX2_shift_227 : decode cX2_shift 227 = .ok (.goto (-39), 3) := dk_167 255 217 (dk_at dksX2_shift_9 17 rfl rfl)
theorem dX2_shift_230 : decode cX2_shift 230 = .ok (.iload 5, 2) := dk_21 5 (dk_at dksX2_shift_9 20 rfl rfl)
theorem dX2_shift_232 : decode cX2_shift 232 = .ok (.ireturn, 1) := dk_172 (dk_at dksX2_shift_9 22 rfl rfl)
abbrev cX2_taken : ByteArray := prog_31_method_108_code
def yX2_taken : MethodName := ⟨RX2, "taken", "(II)I"⟩
def dkwX2_taken_3 : List UInt8 := [21, 4, 184, 1, 121, 54, 4, 167, 255, 238, 21, 4, 28, 160, 0, 7, 29, 167, 0, 5, 16, 244, 172]
abbrev dktX2_taken_3 : List UInt8 := dkwX2_taken_3 ++ []
def dkwX2_taken_2 : List UInt8 := [180, 0, 81, 27, 46, 16, 10, 100, 46, 62, 29, 54, 4, 21, 4, 28, 159, 0, 18, 21, 4, 158, 0, 13]
abbrev dktX2_taken_2 : List UInt8 := dkwX2_taken_2 ++ dktX2_taken_3
def dkwX2_taken_1 : List UInt8 := [46, 2, 160, 0, 6, 16, 245, 172, 42, 27, 182, 1, 136, 153, 0, 6, 16, 244, 172, 42, 180, 0, 75, 42]
abbrev dktX2_taken_1 : List UInt8 := dkwX2_taken_1 ++ dktX2_taken_2
def dkwX2_taken_0 : List UInt8 := [27, 184, 0, 131, 153, 0, 13, 28, 3, 16, 7, 184, 0, 123, 154, 0, 5, 2, 172, 42, 180, 0, 81, 27]
abbrev dktX2_taken_0 : List UInt8 := dkwX2_taken_0 ++ dktX2_taken_1
theorem dksX2_taken_0 : cX2_taken.data.toList.drop 0 = dktX2_taken_0 := by decide +kernel
theorem dksX2_taken_1 : cX2_taken.data.toList.drop 24 = dktX2_taken_1 := dk_seg dksX2_taken_0 24 rfl rfl
theorem dksX2_taken_2 : cX2_taken.data.toList.drop 48 = dktX2_taken_2 := dk_seg dksX2_taken_1 24 rfl rfl
theorem dksX2_taken_3 : cX2_taken.data.toList.drop 72 = dktX2_taken_3 := dk_seg dksX2_taken_2 24 rfl rfl
theorem dX2_taken_0 : decode cX2_taken 0 = .ok (.iload_n 1, 1) := dk_27 (dk_at dksX2_taken_0 0 rfl rfl)
theorem dX2_taken_1 : decode cX2_taken 1 = .ok (.invokestatic 131, 3) := dk_184 0 131 (dk_at dksX2_taken_0 1 rfl rfl)
theorem dX2_taken_4 : decode cX2_taken 4 = .ok (.ifCond .eq 13, 3) := dk_153 0 13 (dk_at dksX2_taken_0 4 rfl rfl)
theorem dX2_taken_7 : decode cX2_taken 7 = .ok (.iload_n 2, 1) := dk_28 (dk_at dksX2_taken_0 7 rfl rfl)
theorem dX2_taken_8 : decode cX2_taken 8 = .ok (.iconst 0, 1) := dk_3 (dk_at dksX2_taken_0 8 rfl rfl)
theorem dX2_taken_9 : decode cX2_taken 9 = .ok (.bipush 7, 2) := dk_16 7 (dk_at dksX2_taken_0 9 rfl rfl)
theorem dX2_taken_11 : decode cX2_taken 11 = .ok (.invokestatic 123, 3) := dk_184 0 123 (dk_at dksX2_taken_0 11 rfl rfl)
theorem dX2_taken_14 : decode cX2_taken 14 = .ok (.ifCond .ne 5, 3) := dk_154 0 5 (dk_at dksX2_taken_0 14 rfl rfl)
theorem dX2_taken_17 : decode cX2_taken 17 = .ok (.iconst (-1), 1) := dk_2 (dk_at dksX2_taken_0 17 rfl rfl)
theorem dX2_taken_18 : decode cX2_taken 18 = .ok (.ireturn, 1) := dk_172 (dk_at dksX2_taken_0 18 rfl rfl)
theorem dX2_taken_19 : decode cX2_taken 19 = .ok (.aload_n 0, 1) := dk_42 (dk_at dksX2_taken_0 19 rfl rfl)
theorem dX2_taken_20 : decode cX2_taken 20 = .ok (.getfield 81, 3) := dk_180 0 81 (dk_at dksX2_taken_0 20 rfl rfl)
theorem dX2_taken_23 : decode cX2_taken 23 = .ok (.iload_n 1, 1) := dk_27 (dk_at dksX2_taken_0 23 rfl rfl)
theorem dX2_taken_24 : decode cX2_taken 24 = .ok (.iaload, 1) := dk_46 (dk_at dksX2_taken_1 0 rfl rfl)
theorem dX2_taken_25 : decode cX2_taken 25 = .ok (.iconst (-1), 1) := dk_2 (dk_at dksX2_taken_1 1 rfl rfl)
theorem dX2_taken_26 : decode cX2_taken 26 = .ok (.if_icmp .ne 6, 3) := dk_160 0 6 (dk_at dksX2_taken_1 2 rfl rfl)
theorem dX2_taken_29 : decode cX2_taken 29 = .ok (.bipush (-11), 2) := dk_16 245 (dk_at dksX2_taken_1 5 rfl rfl)
theorem dX2_taken_31 : decode cX2_taken 31 = .ok (.ireturn, 1) := dk_172 (dk_at dksX2_taken_1 7 rfl rfl)
theorem dX2_taken_32 : decode cX2_taken 32 = .ok (.aload_n 0, 1) := dk_42 (dk_at dksX2_taken_1 8 rfl rfl)
theorem dX2_taken_33 : decode cX2_taken 33 = .ok (.iload_n 1, 1) := dk_27 (dk_at dksX2_taken_1 9 rfl rfl)
theorem dX2_taken_34 : decode cX2_taken 34 = .ok (.invokevirtual 392, 3) := dk_182 1 136 (dk_at dksX2_taken_1 10 rfl rfl)
theorem dX2_taken_37 : decode cX2_taken 37 = .ok (.ifCond .eq 6, 3) := dk_153 0 6 (dk_at dksX2_taken_1 13 rfl rfl)
theorem dX2_taken_40 : decode cX2_taken 40 = .ok (.bipush (-12), 2) := dk_16 244 (dk_at dksX2_taken_1 16 rfl rfl)
theorem dX2_taken_42 : decode cX2_taken 42 = .ok (.ireturn, 1) := dk_172 (dk_at dksX2_taken_1 18 rfl rfl)
theorem dX2_taken_43 : decode cX2_taken 43 = .ok (.aload_n 0, 1) := dk_42 (dk_at dksX2_taken_1 19 rfl rfl)
theorem dX2_taken_44 : decode cX2_taken 44 = .ok (.getfield 75, 3) := dk_180 0 75 (dk_at dksX2_taken_1 20 rfl rfl)
theorem dX2_taken_47 : decode cX2_taken 47 = .ok (.aload_n 0, 1) := dk_42 (dk_at dksX2_taken_1 23 rfl rfl)
theorem dX2_taken_48 : decode cX2_taken 48 = .ok (.getfield 81, 3) := dk_180 0 81 (dk_at dksX2_taken_2 0 rfl rfl)
theorem dX2_taken_51 : decode cX2_taken 51 = .ok (.iload_n 1, 1) := dk_27 (dk_at dksX2_taken_2 3 rfl rfl)
theorem dX2_taken_52 : decode cX2_taken 52 = .ok (.iaload, 1) := dk_46 (dk_at dksX2_taken_2 4 rfl rfl)
theorem dX2_taken_53 : decode cX2_taken 53 = .ok (.bipush 10, 2) := dk_16 10 (dk_at dksX2_taken_2 5 rfl rfl)
theorem dX2_taken_55 : decode cX2_taken 55 = .ok (.isub, 1) := dk_100 (dk_at dksX2_taken_2 7 rfl rfl)
theorem dX2_taken_56 : decode cX2_taken 56 = .ok (.iaload, 1) := dk_46 (dk_at dksX2_taken_2 8 rfl rfl)
theorem dX2_taken_57 : decode cX2_taken 57 = .ok (.istore_n 3, 1) := dk_62 (dk_at dksX2_taken_2 9 rfl rfl)
theorem dX2_taken_58 : decode cX2_taken 58 = .ok (.iload_n 3, 1) := dk_29 (dk_at dksX2_taken_2 10 rfl rfl)
theorem dX2_taken_59 : decode cX2_taken 59 = .ok (.istore 4, 2) := dk_54 4 (dk_at dksX2_taken_2 11 rfl rfl)
theorem dX2_taken_61 : decode cX2_taken 61 = .ok (.iload 4, 2) := dk_21 4 (dk_at dksX2_taken_2 13 rfl rfl)
theorem dX2_taken_63 : decode cX2_taken 63 = .ok (.iload_n 2, 1) := dk_28 (dk_at dksX2_taken_2 15 rfl rfl)
theorem dX2_taken_64 : decode cX2_taken 64 = .ok (.if_icmp .eq 18, 3) := dk_159 0 18 (dk_at dksX2_taken_2 16 rfl rfl)
theorem dX2_taken_67 : decode cX2_taken 67 = .ok (.iload 4, 2) := dk_21 4 (dk_at dksX2_taken_2 19 rfl rfl)
theorem dX2_taken_69 : decode cX2_taken 69 = .ok (.ifCond .le 13, 3) := dk_158 0 13 (dk_at dksX2_taken_2 21 rfl rfl)
theorem dX2_taken_72 : decode cX2_taken 72 = .ok (.iload 4, 2) := dk_21 4 (dk_at dksX2_taken_3 0 rfl rfl)
theorem dX2_taken_74 : decode cX2_taken 74 = .ok (.invokestatic 377, 3) := dk_184 1 121 (dk_at dksX2_taken_3 2 rfl rfl)
theorem dX2_taken_77 : decode cX2_taken 77 = .ok (.istore 4, 2) := dk_54 4 (dk_at dksX2_taken_3 5 rfl rfl)
theorem dX2_taken_79 : decode cX2_taken 79 = .ok (.goto (-18), 3) := dk_167 255 238 (dk_at dksX2_taken_3 7 rfl rfl)
theorem dX2_taken_82 : decode cX2_taken 82 = .ok (.iload 4, 2) := dk_21 4 (dk_at dksX2_taken_3 10 rfl rfl)
theorem dX2_taken_84 : decode cX2_taken 84 = .ok (.iload_n 2, 1) := dk_28 (dk_at dksX2_taken_3 12 rfl rfl)
theorem dX2_taken_85 : decode cX2_taken 85 = .ok (.if_icmp .ne 7, 3) := dk_160 0 7 (dk_at dksX2_taken_3 13 rfl rfl)
theorem dX2_taken_88 : decode cX2_taken 88 = .ok (.iload_n 3, 1) := dk_29 (dk_at dksX2_taken_3 16 rfl rfl)
theorem dX2_taken_89 : decode cX2_taken 89 = .ok (.goto 5, 3) := dk_167 0 5 (dk_at dksX2_taken_3 17 rfl rfl)
theorem dX2_taken_92 : decode cX2_taken 92 = .ok (.bipush (-12), 2) := dk_16 244 (dk_at dksX2_taken_3 20 rfl rfl)
theorem dX2_taken_94 : decode cX2_taken 94 = .ok (.ireturn, 1) := dk_172 (dk_at dksX2_taken_3 22 rfl rfl)
abbrev cX2_count : ByteArray := prog_31_method_109_code
def yX2_count : MethodName := ⟨RX2, "count", "(I)I"⟩
def dkwX2_count_3 : List UInt8 := [172, 2, 172]
abbrev dktX2_count_3 : List UInt8 := dkwX2_count_3 ++ []
def dkwX2_count_2 : List UInt8 := [42, 180, 0, 120, 172, 42, 180, 0, 162, 172, 42, 180, 0, 156, 172, 42, 180, 1, 133, 172, 42, 180, 1, 112]
abbrev dktX2_count_2 : List UInt8 := dkwX2_count_2 ++ dktX2_count_3
def dkwX2_count_1 : List UInt8 := [170, 0, 0, 0, 0, 0, 60, 0, 0, 0, 0, 0, 0, 0, 4, 0, 0, 0, 35, 0, 0, 0, 40, 0, 0, 0, 45, 0, 0, 0, 50, 0, 0, 0, 55]
abbrev dktX2_count_1 : List UInt8 := dkwX2_count_1 ++ dktX2_count_2
def dkwX2_count_0 : List UInt8 := [27]
abbrev dktX2_count_0 : List UInt8 := dkwX2_count_0 ++ dktX2_count_1
theorem dksX2_count_0 : cX2_count.data.toList.drop 0 = dktX2_count_0 := by decide +kernel
theorem dksX2_count_1 : cX2_count.data.toList.drop 1 = dktX2_count_1 := dk_seg dksX2_count_0 1 rfl rfl
theorem dksX2_count_2 : cX2_count.data.toList.drop 36 = dktX2_count_2 := dk_seg dksX2_count_1 35 rfl rfl
theorem dksX2_count_3 : cX2_count.data.toList.drop 60 = dktX2_count_3 := dk_seg dksX2_count_2 24 rfl rfl
theorem dX2_count_0 : decode cX2_count 0 = .ok (.iload_n 1, 1) := dk_27 (dk_at dksX2_count_0 0 rfl rfl)
theorem dX2_count_1 : decode cX2_count 1 = .ok (.tableswitch 60 0 4 #[35, 40, 45, 50, 55], 35) := by decide +kernel
theorem dX2_count_36 : decode cX2_count 36 = .ok (.aload_n 0, 1) := dk_42 (dk_at dksX2_count_2 0 rfl rfl)
theorem dX2_count_37 : decode cX2_count 37 = .ok (.getfield 120, 3) := dk_180 0 120 (dk_at dksX2_count_2 1 rfl rfl)
theorem dX2_count_40 : decode cX2_count 40 = .ok (.ireturn, 1) := dk_172 (dk_at dksX2_count_2 4 rfl rfl)
theorem dX2_count_41 : decode cX2_count 41 = .ok (.aload_n 0, 1) := dk_42 (dk_at dksX2_count_2 5 rfl rfl)
theorem dX2_count_42 : decode cX2_count 42 = .ok (.getfield 162, 3) := dk_180 0 162 (dk_at dksX2_count_2 6 rfl rfl)
theorem dX2_count_45 : decode cX2_count 45 = .ok (.ireturn, 1) := dk_172 (dk_at dksX2_count_2 9 rfl rfl)
theorem dX2_count_46 : decode cX2_count 46 = .ok (.aload_n 0, 1) := dk_42 (dk_at dksX2_count_2 10 rfl rfl)
theorem dX2_count_47 : decode cX2_count 47 = .ok (.getfield 156, 3) := dk_180 0 156 (dk_at dksX2_count_2 11 rfl rfl)
theorem dX2_count_50 : decode cX2_count 50 = .ok (.ireturn, 1) := dk_172 (dk_at dksX2_count_2 14 rfl rfl)
theorem dX2_count_51 : decode cX2_count 51 = .ok (.aload_n 0, 1) := dk_42 (dk_at dksX2_count_2 15 rfl rfl)
theorem dX2_count_52 : decode cX2_count 52 = .ok (.getfield 389, 3) := dk_180 1 133 (dk_at dksX2_count_2 16 rfl rfl)
theorem dX2_count_55 : decode cX2_count 55 = .ok (.ireturn, 1) := dk_172 (dk_at dksX2_count_2 19 rfl rfl)
theorem dX2_count_56 : decode cX2_count 56 = .ok (.aload_n 0, 1) := dk_42 (dk_at dksX2_count_2 20 rfl rfl)
theorem dX2_count_57 : decode cX2_count 57 = .ok (.getfield 368, 3) := dk_180 1 112 (dk_at dksX2_count_2 21 rfl rfl)
theorem dX2_count_60 : decode cX2_count 60 = .ok (.ireturn, 1) := dk_172 (dk_at dksX2_count_3 0 rfl rfl)
theorem dX2_count_61 : decode cX2_count 61 = .ok (.iconst (-1), 1) := dk_2 (dk_at dksX2_count_3 1 rfl rfl)
theorem dX2_count_62 : decode cX2_count 62 = .ok (.ireturn, 1) := dk_172 (dk_at dksX2_count_3 2 rfl rfl)
theorem q115 : (Jvm.Cond.initialized "NineKeysRoundModel") ∈ lw_all := lw_g (lw_at lw_m1 3 rfl) rfl
theorem q1632 : (Jvm.Cond.instantiable "NineKeysRoundModel" (54 : Nat)) ∈ lw_all := lw_g (lw_at lw_m7 80 rfl) rfl
theorem q1634 : (Jvm.Cond.instanceMethod ({ cls := "NineKeysRoundModel", name := "<init>", desc := "()V" } : Jvm.MethodName)) ∈ lw_all := lw_g (lw_at lw_m7 82 rfl) rfl
theorem q1635 : (Jvm.Cond.code ({ cls := "NineKeysRoundModel", name := "<init>", desc := "()V" } : Jvm.MethodName) prog_31_method_1_code (2 : Nat) (Option.none : Option Jvm.ClassFile.FieldType)) ∈ lw_all := lw_g (lw_at lw_m7 83 rfl) rfl
theorem q1636 : (Jvm.Cond.methodLink "NineKeysRoundModel" (3 : Nat) ({ cls := "java/lang/Object", name := "<init>", desc := "()V" } : Jvm.MethodName)) ∈ lw_all := lw_g (lw_at lw_m7 84 rfl) rfl
theorem q1637 : (Jvm.Cond.fieldLink "NineKeysRoundModel" (120 : Nat) "NineKeysRoundModel" "many" "I") ∈ lw_all := lw_g (lw_at lw_m7 85 rfl) rfl
theorem q1638 : (Jvm.Cond.fieldLink "NineKeysRoundModel" (9 : Nat) "NineKeysRoundModel" "placeX" "[I") ∈ lw_all := lw_g (lw_at lw_m7 86 rfl) rfl
theorem q1639 : (Jvm.Cond.fieldLink "NineKeysRoundModel" (15 : Nat) "NineKeysRoundModel" "placeY" "[I") ∈ lw_all := lw_g (lw_at lw_m7 87 rfl) rfl
theorem q1640 : (Jvm.Cond.fieldLink "NineKeysRoundModel" (18 : Nat) "NineKeysRoundModel" "worth" "[I") ∈ lw_all := lw_g (lw_at lw_m7 88 rfl) rfl
theorem q1641 : (Jvm.Cond.fieldLink "NineKeysRoundModel" (21 : Nat) "NineKeysRoundModel" "due" "[I") ∈ lw_all := lw_g (lw_at lw_m7 89 rfl) rfl
theorem q1642 : (Jvm.Cond.fieldLink "NineKeysRoundModel" (24 : Nat) "NineKeysRoundModel" "ways" "[I") ∈ lw_all := lw_g (lw_at lw_m7 90 rfl) rfl
theorem q1643 : (Jvm.Cond.fieldLink "NineKeysRoundModel" (162 : Nat) "NineKeysRoundModel" "taped" "I") ∈ lw_all := lw_g (lw_at lw_m7 91 rfl) rfl
theorem q1644 : (Jvm.Cond.fieldLink "NineKeysRoundModel" (27 : Nat) "NineKeysRoundModel" "tape" "[I") ∈ lw_all := lw_g (lw_at lw_m7 92 rfl) rfl
theorem q1645 : (Jvm.Cond.fieldLink "NineKeysRoundModel" (216 : Nat) "NineKeysRoundModel" "isTold" "Z") ∈ lw_all := lw_g (lw_at lw_m7 93 rfl) rfl
theorem q1646 : (Jvm.Cond.fieldLink "NineKeysRoundModel" (220 : Nat) "NineKeysRoundModel" "lines" "I") ∈ lw_all := lw_g (lw_at lw_m7 94 rfl) rfl
theorem q1647 : (Jvm.Cond.fieldLink "NineKeysRoundModel" (30 : Nat) "NineKeysRoundModel" "asks" "[I") ∈ lw_all := lw_g (lw_at lw_m7 95 rfl) rfl
theorem q1648 : (Jvm.Cond.fieldLink "NineKeysRoundModel" (33 : Nat) "NineKeysRoundModel" "says" "[I") ∈ lw_all := lw_g (lw_at lw_m7 96 rfl) rfl
theorem q1649 : (Jvm.Cond.fieldLink "NineKeysRoundModel" (36 : Nat) "NineKeysRoundModel" "ends" "[I") ∈ lw_all := lw_g (lw_at lw_m7 97 rfl) rfl
theorem q1650 : (Jvm.Cond.fieldLink "NineKeysRoundModel" (39 : Nat) "NineKeysRoundModel" "code" "[I") ∈ lw_all := lw_g (lw_at lw_m7 98 rfl) rfl
theorem q1651 : (Jvm.Cond.fieldLink "NineKeysRoundModel" (165 : Nat) "NineKeysRoundModel" "at" "I") ∈ lw_all := lw_g (lw_at lw_m7 99 rfl) rfl
theorem q1652 : (Jvm.Cond.fieldLink "NineKeysRoundModel" (186 : Nat) "NineKeysRoundModel" "open" "I") ∈ lw_all := lw_g (lw_at lw_m7 100 rfl) rfl
theorem q1653 : (Jvm.Cond.fieldLink "NineKeysRoundModel" (172 : Nat) "NineKeysRoundModel" "coded" "I") ∈ lw_all := lw_g (lw_at lw_m7 101 rfl) rfl
theorem q1654 : (Jvm.Cond.fieldLink "NineKeysRoundModel" (210 : Nat) "NineKeysRoundModel" "newLines" "I") ∈ lw_all := lw_g (lw_at lw_m7 102 rfl) rfl
theorem q1655 : (Jvm.Cond.fieldLink "NineKeysRoundModel" (42 : Nat) "NineKeysRoundModel" "newAsks" "[I") ∈ lw_all := lw_g (lw_at lw_m7 103 rfl) rfl
theorem q1656 : (Jvm.Cond.fieldLink "NineKeysRoundModel" (45 : Nat) "NineKeysRoundModel" "newSays" "[I") ∈ lw_all := lw_g (lw_at lw_m7 104 rfl) rfl
theorem q1657 : (Jvm.Cond.fieldLink "NineKeysRoundModel" (48 : Nat) "NineKeysRoundModel" "newEnds" "[I") ∈ lw_all := lw_g (lw_at lw_m7 105 rfl) rfl
theorem q1658 : (Jvm.Cond.fieldLink "NineKeysRoundModel" (51 : Nat) "NineKeysRoundModel" "newCode" "[I") ∈ lw_all := lw_g (lw_at lw_m7 106 rfl) rfl
theorem q1659 : (Jvm.Cond.fieldLink "NineKeysRoundModel" (54 : Nat) "NineKeysRoundModel" "stack" "[I") ∈ lw_all := lw_g (lw_at lw_m7 107 rfl) rfl
theorem q1660 : (Jvm.Cond.fieldLink "NineKeysRoundModel" (57 : Nat) "NineKeysRoundModel" "names" "[I") ∈ lw_all := lw_g (lw_at lw_m7 108 rfl) rfl
theorem q1661 : (Jvm.Cond.fieldLink "NineKeysRoundModel" (116 : Nat) "NineKeysRoundModel" "stands" "I") ∈ lw_all := lw_g (lw_at lw_m7 109 rfl) rfl
theorem q1662 : (Jvm.Cond.fieldLink "NineKeysRoundModel" (353 : Nat) "NineKeysRoundModel" "now" "I") ∈ lw_all := lw_g (lw_at lw_m7 110 rfl) rfl
theorem q1663 : (Jvm.Cond.fieldLink "NineKeysRoundModel" (60 : Nat) "NineKeysRoundModel" "dents" "[I") ∈ lw_all := lw_g (lw_at lw_m7 111 rfl) rfl
theorem q1664 : (Jvm.Cond.fieldLink "NineKeysRoundModel" (63 : Nat) "NineKeysRoundModel" "led" "[I") ∈ lw_all := lw_g (lw_at lw_m7 112 rfl) rfl
theorem q1665 : (Jvm.Cond.fieldLink "NineKeysRoundModel" (356 : Nat) "NineKeysRoundModel" "imaged" "Z") ∈ lw_all := lw_g (lw_at lw_m7 113 rfl) rfl
theorem q1666 : (Jvm.Cond.fieldLink "NineKeysRoundModel" (359 : Nat) "NineKeysRoundModel" "oldMany" "I") ∈ lw_all := lw_g (lw_at lw_m7 114 rfl) rfl
theorem q1667 : (Jvm.Cond.fieldLink "NineKeysRoundModel" (362 : Nat) "NineKeysRoundModel" "oldStands" "I") ∈ lw_all := lw_g (lw_at lw_m7 115 rfl) rfl
theorem q1668 : (Jvm.Cond.fieldLink "NineKeysRoundModel" (365 : Nat) "NineKeysRoundModel" "oldNow" "I") ∈ lw_all := lw_g (lw_at lw_m7 116 rfl) rfl
theorem q1669 : (Jvm.Cond.fieldLink "NineKeysRoundModel" (66 : Nat) "NineKeysRoundModel" "oldDents" "[I") ∈ lw_all := lw_g (lw_at lw_m7 117 rfl) rfl
theorem q1670 : (Jvm.Cond.fieldLink "NineKeysRoundModel" (69 : Nat) "NineKeysRoundModel" "oldLed" "[I") ∈ lw_all := lw_g (lw_at lw_m7 118 rfl) rfl
theorem q1671 : (Jvm.Cond.fieldLink "NineKeysRoundModel" (159 : Nat) "NineKeysRoundModel" "changes" "I") ∈ lw_all := lw_g (lw_at lw_m7 119 rfl) rfl
theorem q1672 : (Jvm.Cond.fieldLink "NineKeysRoundModel" (156 : Nat) "NineKeysRoundModel" "done" "I") ∈ lw_all := lw_g (lw_at lw_m7 120 rfl) rfl
theorem q1673 : (Jvm.Cond.fieldLink "NineKeysRoundModel" (72 : Nat) "NineKeysRoundModel" "changed" "[I") ∈ lw_all := lw_g (lw_at lw_m7 121 rfl) rfl
theorem q1674 : (Jvm.Cond.fieldLink "NineKeysRoundModel" (389 : Nat) "NineKeysRoundModel" "bodies" "I") ∈ lw_all := lw_g (lw_at lw_m7 122 rfl) rfl
theorem q1675 : (Jvm.Cond.fieldLink "NineKeysRoundModel" (75 : Nat) "NineKeysRoundModel" "kind" "[I") ∈ lw_all := lw_g (lw_at lw_m7 123 rfl) rfl
theorem q1676 : (Jvm.Cond.fieldLink "NineKeysRoundModel" (368 : Nat) "NineKeysRoundModel" "traced" "I") ∈ lw_all := lw_g (lw_at lw_m7 124 rfl) rfl
theorem q1677 : (Jvm.Cond.fieldLink "NineKeysRoundModel" (78 : Nat) "NineKeysRoundModel" "traces" "[I") ∈ lw_all := lw_g (lw_at lw_m7 125 rfl) rfl
theorem q1678 : (Jvm.Cond.fieldLink "NineKeysRoundModel" (81 : Nat) "NineKeysRoundModel" "holding" "[I") ∈ lw_all := lw_g (lw_at lw_m7 126 rfl) rfl
theorem q1679 : (Jvm.Cond.fieldLink "NineKeysRoundModel" (84 : Nat) "NineKeysRoundModel" "rowLength" "[I") ∈ lw_all := lw_g (lw_at lw_m7 127 rfl) rfl
theorem q1680 : (Jvm.Cond.fieldLink "NineKeysRoundModel" (87 : Nat) "NineKeysRoundModel" "rowOf" "[J") ∈ lw_all := lw_g (lw_at lw_m7 128 rfl) rfl
theorem q1681 : (Jvm.Cond.fieldLink "NineKeysRoundModel" (231 : Nat) "NineKeysRoundModel" "stops" "I") ∈ lw_all := lw_g (lw_at lw_m7 129 rfl) rfl
theorem q1682 : (Jvm.Cond.fieldLink "NineKeysRoundModel" (91 : Nat) "NineKeysRoundModel" "stop" "[I") ∈ lw_all := lw_g (lw_at lw_m7 130 rfl) rfl
theorem q1683 : (Jvm.Cond.fieldLink "NineKeysRoundModel" (255 : Nat) "NineKeysRoundModel" "dented" "I") ∈ lw_all := lw_g (lw_at lw_m7 131 rfl) rfl
theorem q1684 : (Jvm.Cond.fieldLink "NineKeysRoundModel" (94 : Nat) "NineKeysRoundModel" "dentAt" "[I") ∈ lw_all := lw_g (lw_at lw_m7 132 rfl) rfl
theorem q1685 : (Jvm.Cond.fieldLink "NineKeysRoundModel" (97 : Nat) "NineKeysRoundModel" "dentPost" "[I") ∈ lw_all := lw_g (lw_at lw_m7 133 rfl) rfl
theorem q1686 : (Jvm.Cond.fieldLink "NineKeysRoundModel" (100 : Nat) "NineKeysRoundModel" "last" "[I") ∈ lw_all := lw_g (lw_at lw_m7 134 rfl) rfl
theorem q1687 : (Jvm.Cond.fieldLink "NineKeysRoundModel" (103 : Nat) "NineKeysRoundModel" "seen" "[Z") ∈ lw_all := lw_g (lw_at lw_m7 135 rfl) rfl
theorem q1688 : (Jvm.Cond.fieldLink "NineKeysRoundModel" (107 : Nat) "NineKeysRoundModel" "marks" "[I") ∈ lw_all := lw_g (lw_at lw_m7 136 rfl) rfl
theorem q1689 : (Jvm.Cond.fieldLink "NineKeysRoundModel" (110 : Nat) "NineKeysRoundModel" "order" "[I") ∈ lw_all := lw_g (lw_at lw_m7 137 rfl) rfl
theorem q1690 : (Jvm.Cond.fieldLink "NineKeysRoundModel" (113 : Nat) "NineKeysRoundModel" "best" "[I") ∈ lw_all := lw_g (lw_at lw_m7 138 rfl) rfl
theorem q1691 : (Jvm.Cond.lays "NineKeysRoundModel" "NineKeysRoundModel" "many" "I") ∈ lw_all := lw_g (lw_at lw_m7 139 rfl) rfl
theorem q1692 : (Jvm.Cond.soleField "NineKeysRoundModel" "many") ∈ lw_all := lw_g (lw_at lw_m7 140 rfl) rfl
theorem q1693 : (Jvm.Cond.laysFinal "NineKeysRoundModel" "NineKeysRoundModel" "placeX" "[I") ∈ lw_all := lw_g (lw_at lw_m7 141 rfl) rfl
theorem q1694 : (Jvm.Cond.soleField "NineKeysRoundModel" "placeX") ∈ lw_all := lw_g (lw_at lw_m7 142 rfl) rfl
theorem q1695 : (Jvm.Cond.laysFinal "NineKeysRoundModel" "NineKeysRoundModel" "placeY" "[I") ∈ lw_all := lw_g (lw_at lw_m7 143 rfl) rfl
theorem q1696 : (Jvm.Cond.soleField "NineKeysRoundModel" "placeY") ∈ lw_all := lw_g (lw_at lw_m7 144 rfl) rfl
theorem q1697 : (Jvm.Cond.laysFinal "NineKeysRoundModel" "NineKeysRoundModel" "worth" "[I") ∈ lw_all := lw_g (lw_at lw_m7 145 rfl) rfl
theorem q1698 : (Jvm.Cond.soleField "NineKeysRoundModel" "worth") ∈ lw_all := lw_g (lw_at lw_m7 146 rfl) rfl
theorem q1699 : (Jvm.Cond.laysFinal "NineKeysRoundModel" "NineKeysRoundModel" "due" "[I") ∈ lw_all := lw_g (lw_at lw_m7 147 rfl) rfl
theorem q1700 : (Jvm.Cond.soleField "NineKeysRoundModel" "due") ∈ lw_all := lw_g (lw_at lw_m7 148 rfl) rfl
theorem q1701 : (Jvm.Cond.laysFinal "NineKeysRoundModel" "NineKeysRoundModel" "ways" "[I") ∈ lw_all := lw_g (lw_at lw_m7 149 rfl) rfl
theorem q1702 : (Jvm.Cond.soleField "NineKeysRoundModel" "ways") ∈ lw_all := lw_g (lw_at lw_m7 150 rfl) rfl
theorem q1703 : (Jvm.Cond.lays "NineKeysRoundModel" "NineKeysRoundModel" "taped" "I") ∈ lw_all := lw_g (lw_at lw_m7 151 rfl) rfl
theorem q1704 : (Jvm.Cond.soleField "NineKeysRoundModel" "taped") ∈ lw_all := lw_g (lw_at lw_m7 152 rfl) rfl
theorem q1705 : (Jvm.Cond.laysFinal "NineKeysRoundModel" "NineKeysRoundModel" "tape" "[I") ∈ lw_all := lw_g (lw_at lw_m7 153 rfl) rfl
theorem q1706 : (Jvm.Cond.soleField "NineKeysRoundModel" "tape") ∈ lw_all := lw_g (lw_at lw_m7 154 rfl) rfl
theorem q1707 : (Jvm.Cond.lays "NineKeysRoundModel" "NineKeysRoundModel" "isTold" "Z") ∈ lw_all := lw_g (lw_at lw_m7 155 rfl) rfl
theorem q1708 : (Jvm.Cond.soleField "NineKeysRoundModel" "isTold") ∈ lw_all := lw_g (lw_at lw_m7 156 rfl) rfl
theorem q1709 : (Jvm.Cond.lays "NineKeysRoundModel" "NineKeysRoundModel" "lines" "I") ∈ lw_all := lw_g (lw_at lw_m7 157 rfl) rfl
theorem q1710 : (Jvm.Cond.soleField "NineKeysRoundModel" "lines") ∈ lw_all := lw_g (lw_at lw_m7 158 rfl) rfl
theorem q1711 : (Jvm.Cond.laysFinal "NineKeysRoundModel" "NineKeysRoundModel" "asks" "[I") ∈ lw_all := lw_g (lw_at lw_m7 159 rfl) rfl
theorem q1712 : (Jvm.Cond.soleField "NineKeysRoundModel" "asks") ∈ lw_all := lw_g (lw_at lw_m7 160 rfl) rfl
theorem q1713 : (Jvm.Cond.laysFinal "NineKeysRoundModel" "NineKeysRoundModel" "says" "[I") ∈ lw_all := lw_g (lw_at lw_m7 161 rfl) rfl
theorem q1714 : (Jvm.Cond.soleField "NineKeysRoundModel" "says") ∈ lw_all := lw_g (lw_at lw_m7 162 rfl) rfl
theorem q1715 : (Jvm.Cond.laysFinal "NineKeysRoundModel" "NineKeysRoundModel" "ends" "[I") ∈ lw_all := lw_g (lw_at lw_m7 163 rfl) rfl
theorem q1716 : (Jvm.Cond.soleField "NineKeysRoundModel" "ends") ∈ lw_all := lw_g (lw_at lw_m7 164 rfl) rfl
theorem q1717 : (Jvm.Cond.laysFinal "NineKeysRoundModel" "NineKeysRoundModel" "code" "[I") ∈ lw_all := lw_g (lw_at lw_m7 165 rfl) rfl
theorem q1718 : (Jvm.Cond.soleField "NineKeysRoundModel" "code") ∈ lw_all := lw_g (lw_at lw_m7 166 rfl) rfl
theorem q1719 : (Jvm.Cond.lays "NineKeysRoundModel" "NineKeysRoundModel" "at" "I") ∈ lw_all := lw_g (lw_at lw_m7 167 rfl) rfl
theorem q1720 : (Jvm.Cond.soleField "NineKeysRoundModel" "at") ∈ lw_all := lw_g (lw_at lw_m7 168 rfl) rfl
theorem q1721 : (Jvm.Cond.lays "NineKeysRoundModel" "NineKeysRoundModel" "open" "I") ∈ lw_all := lw_g (lw_at lw_m7 169 rfl) rfl
theorem q1722 : (Jvm.Cond.soleField "NineKeysRoundModel" "open") ∈ lw_all := lw_g (lw_at lw_m7 170 rfl) rfl
theorem q1723 : (Jvm.Cond.lays "NineKeysRoundModel" "NineKeysRoundModel" "coded" "I") ∈ lw_all := lw_g (lw_at lw_m7 171 rfl) rfl
theorem q1724 : (Jvm.Cond.soleField "NineKeysRoundModel" "coded") ∈ lw_all := lw_g (lw_at lw_m7 172 rfl) rfl
theorem q1725 : (Jvm.Cond.lays "NineKeysRoundModel" "NineKeysRoundModel" "newLines" "I") ∈ lw_all := lw_g (lw_at lw_m7 173 rfl) rfl
theorem q1726 : (Jvm.Cond.soleField "NineKeysRoundModel" "newLines") ∈ lw_all := lw_g (lw_at lw_m7 174 rfl) rfl
theorem q1727 : (Jvm.Cond.laysFinal "NineKeysRoundModel" "NineKeysRoundModel" "newAsks" "[I") ∈ lw_all := lw_g (lw_at lw_m7 175 rfl) rfl
theorem q1728 : (Jvm.Cond.soleField "NineKeysRoundModel" "newAsks") ∈ lw_all := lw_g (lw_at lw_m7 176 rfl) rfl
theorem q1729 : (Jvm.Cond.laysFinal "NineKeysRoundModel" "NineKeysRoundModel" "newSays" "[I") ∈ lw_all := lw_g (lw_at lw_m7 177 rfl) rfl
theorem q1730 : (Jvm.Cond.soleField "NineKeysRoundModel" "newSays") ∈ lw_all := lw_g (lw_at lw_m7 178 rfl) rfl
theorem q1731 : (Jvm.Cond.laysFinal "NineKeysRoundModel" "NineKeysRoundModel" "newEnds" "[I") ∈ lw_all := lw_g (lw_at lw_m7 179 rfl) rfl
theorem q1732 : (Jvm.Cond.soleField "NineKeysRoundModel" "newEnds") ∈ lw_all := lw_g (lw_at lw_m7 180 rfl) rfl
theorem q1733 : (Jvm.Cond.laysFinal "NineKeysRoundModel" "NineKeysRoundModel" "newCode" "[I") ∈ lw_all := lw_g (lw_at lw_m7 181 rfl) rfl
theorem q1734 : (Jvm.Cond.soleField "NineKeysRoundModel" "newCode") ∈ lw_all := lw_g (lw_at lw_m7 182 rfl) rfl
theorem q1735 : (Jvm.Cond.laysFinal "NineKeysRoundModel" "NineKeysRoundModel" "stack" "[I") ∈ lw_all := lw_g (lw_at lw_m7 183 rfl) rfl
theorem q1736 : (Jvm.Cond.soleField "NineKeysRoundModel" "stack") ∈ lw_all := lw_g (lw_at lw_m7 184 rfl) rfl
theorem q1737 : (Jvm.Cond.laysFinal "NineKeysRoundModel" "NineKeysRoundModel" "names" "[I") ∈ lw_all := lw_g (lw_at lw_m7 185 rfl) rfl
theorem q1738 : (Jvm.Cond.soleField "NineKeysRoundModel" "names") ∈ lw_all := lw_g (lw_at lw_m7 186 rfl) rfl
theorem q1739 : (Jvm.Cond.lays "NineKeysRoundModel" "NineKeysRoundModel" "stands" "I") ∈ lw_all := lw_g (lw_at lw_m7 187 rfl) rfl
theorem q1740 : (Jvm.Cond.soleField "NineKeysRoundModel" "stands") ∈ lw_all := lw_g (lw_at lw_m7 188 rfl) rfl
theorem q1741 : (Jvm.Cond.lays "NineKeysRoundModel" "NineKeysRoundModel" "now" "I") ∈ lw_all := lw_g (lw_at lw_m7 189 rfl) rfl
theorem q1742 : (Jvm.Cond.soleField "NineKeysRoundModel" "now") ∈ lw_all := lw_g (lw_at lw_m7 190 rfl) rfl
theorem q1743 : (Jvm.Cond.laysFinal "NineKeysRoundModel" "NineKeysRoundModel" "dents" "[I") ∈ lw_all := lw_g (lw_at lw_m7 191 rfl) rfl
theorem q1744 : (Jvm.Cond.soleField "NineKeysRoundModel" "dents") ∈ lw_all := lw_g (lw_at lw_m7 192 rfl) rfl
theorem q1745 : (Jvm.Cond.laysFinal "NineKeysRoundModel" "NineKeysRoundModel" "led" "[I") ∈ lw_all := lw_g (lw_at lw_m7 193 rfl) rfl
theorem q1746 : (Jvm.Cond.soleField "NineKeysRoundModel" "led") ∈ lw_all := lw_g (lw_at lw_m7 194 rfl) rfl
theorem q1747 : (Jvm.Cond.lays "NineKeysRoundModel" "NineKeysRoundModel" "imaged" "Z") ∈ lw_all := lw_g (lw_at lw_m7 195 rfl) rfl
theorem q1748 : (Jvm.Cond.soleField "NineKeysRoundModel" "imaged") ∈ lw_all := lw_g (lw_at lw_m7 196 rfl) rfl
theorem q1749 : (Jvm.Cond.lays "NineKeysRoundModel" "NineKeysRoundModel" "oldMany" "I") ∈ lw_all := lw_g (lw_at lw_m7 197 rfl) rfl
theorem q1750 : (Jvm.Cond.soleField "NineKeysRoundModel" "oldMany") ∈ lw_all := lw_g (lw_at lw_m7 198 rfl) rfl
theorem q1751 : (Jvm.Cond.lays "NineKeysRoundModel" "NineKeysRoundModel" "oldStands" "I") ∈ lw_all := lw_g (lw_at lw_m7 199 rfl) rfl
theorem q1752 : (Jvm.Cond.soleField "NineKeysRoundModel" "oldStands") ∈ lw_all := lw_g (lw_at lw_m7 200 rfl) rfl
theorem q1753 : (Jvm.Cond.lays "NineKeysRoundModel" "NineKeysRoundModel" "oldNow" "I") ∈ lw_all := lw_g (lw_at lw_m7 201 rfl) rfl
theorem q1754 : (Jvm.Cond.soleField "NineKeysRoundModel" "oldNow") ∈ lw_all := lw_g (lw_at lw_m7 202 rfl) rfl
theorem q1755 : (Jvm.Cond.laysFinal "NineKeysRoundModel" "NineKeysRoundModel" "oldDents" "[I") ∈ lw_all := lw_g (lw_at lw_m7 203 rfl) rfl
theorem q1756 : (Jvm.Cond.soleField "NineKeysRoundModel" "oldDents") ∈ lw_all := lw_g (lw_at lw_m7 204 rfl) rfl
theorem q1757 : (Jvm.Cond.laysFinal "NineKeysRoundModel" "NineKeysRoundModel" "oldLed" "[I") ∈ lw_all := lw_g (lw_at lw_m7 205 rfl) rfl
theorem q1758 : (Jvm.Cond.soleField "NineKeysRoundModel" "oldLed") ∈ lw_all := lw_g (lw_at lw_m7 206 rfl) rfl
theorem q1759 : (Jvm.Cond.lays "NineKeysRoundModel" "NineKeysRoundModel" "changes" "I") ∈ lw_all := lw_g (lw_at lw_m7 207 rfl) rfl
theorem q1760 : (Jvm.Cond.soleField "NineKeysRoundModel" "changes") ∈ lw_all := lw_g (lw_at lw_m7 208 rfl) rfl
theorem q1761 : (Jvm.Cond.lays "NineKeysRoundModel" "NineKeysRoundModel" "done" "I") ∈ lw_all := lw_g (lw_at lw_m7 209 rfl) rfl
theorem q1762 : (Jvm.Cond.soleField "NineKeysRoundModel" "done") ∈ lw_all := lw_g (lw_at lw_m7 210 rfl) rfl
theorem q1763 : (Jvm.Cond.laysFinal "NineKeysRoundModel" "NineKeysRoundModel" "changed" "[I") ∈ lw_all := lw_g (lw_at lw_m7 211 rfl) rfl
theorem q1764 : (Jvm.Cond.soleField "NineKeysRoundModel" "changed") ∈ lw_all := lw_g (lw_at lw_m7 212 rfl) rfl
theorem q1765 : (Jvm.Cond.lays "NineKeysRoundModel" "NineKeysRoundModel" "bodies" "I") ∈ lw_all := lw_g (lw_at lw_m7 213 rfl) rfl
theorem q1766 : (Jvm.Cond.soleField "NineKeysRoundModel" "bodies") ∈ lw_all := lw_g (lw_at lw_m7 214 rfl) rfl
theorem q1767 : (Jvm.Cond.laysFinal "NineKeysRoundModel" "NineKeysRoundModel" "kind" "[I") ∈ lw_all := lw_g (lw_at lw_m7 215 rfl) rfl
theorem q1768 : (Jvm.Cond.soleField "NineKeysRoundModel" "kind") ∈ lw_all := lw_g (lw_at lw_m7 216 rfl) rfl
theorem q1769 : (Jvm.Cond.lays "NineKeysRoundModel" "NineKeysRoundModel" "traced" "I") ∈ lw_all := lw_g (lw_at lw_m7 217 rfl) rfl
theorem q1770 : (Jvm.Cond.soleField "NineKeysRoundModel" "traced") ∈ lw_all := lw_g (lw_at lw_m7 218 rfl) rfl
theorem q1771 : (Jvm.Cond.laysFinal "NineKeysRoundModel" "NineKeysRoundModel" "traces" "[I") ∈ lw_all := lw_g (lw_at lw_m7 219 rfl) rfl
theorem q1772 : (Jvm.Cond.soleField "NineKeysRoundModel" "traces") ∈ lw_all := lw_g (lw_at lw_m7 220 rfl) rfl
theorem q1773 : (Jvm.Cond.laysFinal "NineKeysRoundModel" "NineKeysRoundModel" "holding" "[I") ∈ lw_all := lw_g (lw_at lw_m7 221 rfl) rfl
theorem q1774 : (Jvm.Cond.soleField "NineKeysRoundModel" "holding") ∈ lw_all := lw_g (lw_at lw_m7 222 rfl) rfl
theorem q1775 : (Jvm.Cond.laysFinal "NineKeysRoundModel" "NineKeysRoundModel" "rowLength" "[I") ∈ lw_all := lw_g (lw_at lw_m7 223 rfl) rfl
theorem q1776 : (Jvm.Cond.soleField "NineKeysRoundModel" "rowLength") ∈ lw_all := lw_g (lw_at lw_m7 224 rfl) rfl
theorem q1777 : (Jvm.Cond.laysFinal "NineKeysRoundModel" "NineKeysRoundModel" "rowOf" "[J") ∈ lw_all := lw_g (lw_at lw_m7 225 rfl) rfl
theorem q1778 : (Jvm.Cond.soleField "NineKeysRoundModel" "rowOf") ∈ lw_all := lw_g (lw_at lw_m7 226 rfl) rfl
theorem q1779 : (Jvm.Cond.lays "NineKeysRoundModel" "NineKeysRoundModel" "stops" "I") ∈ lw_all := lw_g (lw_at lw_m7 227 rfl) rfl
theorem q1780 : (Jvm.Cond.soleField "NineKeysRoundModel" "stops") ∈ lw_all := lw_g (lw_at lw_m7 228 rfl) rfl
theorem q1781 : (Jvm.Cond.laysFinal "NineKeysRoundModel" "NineKeysRoundModel" "stop" "[I") ∈ lw_all := lw_g (lw_at lw_m7 229 rfl) rfl
theorem q1782 : (Jvm.Cond.soleField "NineKeysRoundModel" "stop") ∈ lw_all := lw_g (lw_at lw_m7 230 rfl) rfl
theorem q1783 : (Jvm.Cond.lays "NineKeysRoundModel" "NineKeysRoundModel" "dented" "I") ∈ lw_all := lw_g (lw_at lw_m7 231 rfl) rfl
theorem q1784 : (Jvm.Cond.soleField "NineKeysRoundModel" "dented") ∈ lw_all := lw_g (lw_at lw_m7 232 rfl) rfl
theorem q1785 : (Jvm.Cond.laysFinal "NineKeysRoundModel" "NineKeysRoundModel" "dentAt" "[I") ∈ lw_all := lw_g (lw_at lw_m7 233 rfl) rfl
theorem q1786 : (Jvm.Cond.soleField "NineKeysRoundModel" "dentAt") ∈ lw_all := lw_g (lw_at lw_m7 234 rfl) rfl
theorem q1787 : (Jvm.Cond.laysFinal "NineKeysRoundModel" "NineKeysRoundModel" "dentPost" "[I") ∈ lw_all := lw_g (lw_at lw_m7 235 rfl) rfl
theorem q1788 : (Jvm.Cond.soleField "NineKeysRoundModel" "dentPost") ∈ lw_all := lw_g (lw_at lw_m7 236 rfl) rfl
theorem q1789 : (Jvm.Cond.laysFinal "NineKeysRoundModel" "NineKeysRoundModel" "last" "[I") ∈ lw_all := lw_g (lw_at lw_m7 237 rfl) rfl
theorem q1790 : (Jvm.Cond.soleField "NineKeysRoundModel" "last") ∈ lw_all := lw_g (lw_at lw_m7 238 rfl) rfl
theorem q1791 : (Jvm.Cond.laysFinal "NineKeysRoundModel" "NineKeysRoundModel" "seen" "[Z") ∈ lw_all := lw_g (lw_at lw_m7 239 rfl) rfl
theorem q1792 : (Jvm.Cond.soleField "NineKeysRoundModel" "seen") ∈ lw_all := lw_g (lw_at lw_m8 0 rfl) rfl
theorem q1793 : (Jvm.Cond.laysFinal "NineKeysRoundModel" "NineKeysRoundModel" "marks" "[I") ∈ lw_all := lw_g (lw_at lw_m8 1 rfl) rfl
theorem q1794 : (Jvm.Cond.soleField "NineKeysRoundModel" "marks") ∈ lw_all := lw_g (lw_at lw_m8 2 rfl) rfl
theorem q1795 : (Jvm.Cond.laysFinal "NineKeysRoundModel" "NineKeysRoundModel" "order" "[I") ∈ lw_all := lw_g (lw_at lw_m8 3 rfl) rfl
theorem q1796 : (Jvm.Cond.soleField "NineKeysRoundModel" "order") ∈ lw_all := lw_g (lw_at lw_m8 4 rfl) rfl
theorem q1797 : (Jvm.Cond.laysFinal "NineKeysRoundModel" "NineKeysRoundModel" "best" "[I") ∈ lw_all := lw_g (lw_at lw_m8 5 rfl) rfl
theorem q1798 : (Jvm.Cond.soleField "NineKeysRoundModel" "best") ∈ lw_all := lw_g (lw_at lw_m8 6 rfl) rfl
theorem q1799 : (Jvm.Cond.superclass "NineKeysRoundModel" "java/lang/Object") ∈ lw_all := lw_g (lw_at lw_m8 7 rfl) rfl
theorem q1801 : (Jvm.Cond.instanceMethod ({ cls := "NineKeysRoundModel", name := "post", desc := "(I)I" } : Jvm.MethodName)) ∈ lw_all := lw_g (lw_at lw_m8 9 rfl) rfl
theorem q1802 : (Jvm.Cond.selects "NineKeysRoundModel" ({ cls := "NineKeysRoundModel", name := "post", desc := "(I)I" } : Jvm.MethodName) ({ cls := "NineKeysRoundModel", name := "post", desc := "(I)I" } : Jvm.MethodName)) ∈ lw_all := lw_g (lw_at lw_m8 10 rfl) rfl
theorem q1803 : (Jvm.Cond.code ({ cls := "NineKeysRoundModel", name := "post", desc := "(I)I" } : Jvm.MethodName) prog_31_method_7_code (2 : Nat) (Option.some Jvm.ClassFile.FieldType.int)) ∈ lw_all := lw_g (lw_at lw_m8 11 rfl) rfl
theorem q1804 : (Jvm.Cond.methodLink "NineKeysRoundModel" (127 : Nat) ({ cls := "NineKeysRoundModel", name := "newPost", desc := "(III)I" } : Jvm.MethodName)) ∈ lw_all := lw_g (lw_at lw_m8 12 rfl) rfl
theorem q1805 : (Jvm.Cond.privateMethod ({ cls := "NineKeysRoundModel", name := "newPost", desc := "(III)I" } : Jvm.MethodName)) ∈ lw_tbl := lw_at lw_m8 13 rfl
theorem q1806 : (Jvm.Cond.instanceMethod ({ cls := "NineKeysRoundModel", name := "newPost", desc := "(III)I" } : Jvm.MethodName)) ∈ lw_all := lw_g (lw_at lw_m8 14 rfl) rfl
theorem q1807 : (Jvm.Cond.code ({ cls := "NineKeysRoundModel", name := "newPost", desc := "(III)I" } : Jvm.MethodName) prog_31_method_6_code (4 : Nat) (Option.some Jvm.ClassFile.FieldType.int)) ∈ lw_all := lw_g (lw_at lw_m8 15 rfl) rfl
theorem q1809 : (Jvm.Cond.instanceMethod ({ cls := "NineKeysRoundModel", name := "posts", desc := "(III)I" } : Jvm.MethodName)) ∈ lw_all := lw_g (lw_at lw_m8 17 rfl) rfl
theorem q1810 : (Jvm.Cond.selects "NineKeysRoundModel" ({ cls := "NineKeysRoundModel", name := "posts", desc := "(III)I" } : Jvm.MethodName) ({ cls := "NineKeysRoundModel", name := "posts", desc := "(III)I" } : Jvm.MethodName)) ∈ lw_all := lw_g (lw_at lw_m8 18 rfl) rfl
theorem q1811 : (Jvm.Cond.code ({ cls := "NineKeysRoundModel", name := "posts", desc := "(III)I" } : Jvm.MethodName) prog_31_method_8_code (9 : Nat) (Option.some Jvm.ClassFile.FieldType.int)) ∈ lw_all := lw_g (lw_at lw_m8 19 rfl) rfl
theorem q1812 : (Jvm.Cond.methodLink "NineKeysRoundModel" (131 : Nat) ({ cls := "NineKeysRoundModel", name := "isShelf", desc := "(I)Z" } : Jvm.MethodName)) ∈ lw_all := lw_g (lw_at lw_m8 20 rfl) rfl
theorem q1813 : (Jvm.Cond.static ({ cls := "NineKeysRoundModel", name := "isShelf", desc := "(I)Z" } : Jvm.MethodName)) ∈ lw_all := lw_g (lw_at lw_m8 21 rfl) rfl
theorem q1814 : (Jvm.Cond.code ({ cls := "NineKeysRoundModel", name := "isShelf", desc := "(I)Z" } : Jvm.MethodName) prog_31_method_5_code (1 : Nat) (Option.some Jvm.ClassFile.FieldType.boolean)) ∈ lw_all := lw_g (lw_at lw_m8 22 rfl) rfl
theorem q1815 : (Jvm.Cond.methodLink "NineKeysRoundModel" (123 : Nat) ({ cls := "NineKeysRoundModel", name := "within", desc := "(III)Z" } : Jvm.MethodName)) ∈ lw_all := lw_g (lw_at lw_m8 23 rfl) rfl
theorem q1816 : (Jvm.Cond.static ({ cls := "NineKeysRoundModel", name := "within", desc := "(III)Z" } : Jvm.MethodName)) ∈ lw_all := lw_g (lw_at lw_m8 24 rfl) rfl
theorem q1817 : (Jvm.Cond.code ({ cls := "NineKeysRoundModel", name := "within", desc := "(III)Z" } : Jvm.MethodName) prog_31_method_2_code (3 : Nat) (Option.some Jvm.ClassFile.FieldType.boolean)) ∈ lw_all := lw_g (lw_at lw_m8 25 rfl) rfl
theorem q1818 : (Jvm.Cond.constantLong "NineKeysRoundModel" (135 : Nat) (3 : Int64)) ∈ lw_all := lw_g (lw_at lw_m8 26 rfl) rfl
theorem q1820 : (Jvm.Cond.instanceMethod ({ cls := "NineKeysRoundModel", name := "mend", desc := "(III)I" } : Jvm.MethodName)) ∈ lw_all := lw_g (lw_at lw_m8 28 rfl) rfl
theorem q1821 : (Jvm.Cond.selects "NineKeysRoundModel" ({ cls := "NineKeysRoundModel", name := "mend", desc := "(III)I" } : Jvm.MethodName) ({ cls := "NineKeysRoundModel", name := "mend", desc := "(III)I" } : Jvm.MethodName)) ∈ lw_all := lw_g (lw_at lw_m8 29 rfl) rfl
theorem q1822 : (Jvm.Cond.code ({ cls := "NineKeysRoundModel", name := "mend", desc := "(III)I" } : Jvm.MethodName) prog_31_method_13_code (6 : Nat) (Option.some Jvm.ClassFile.FieldType.int)) ∈ lw_all := lw_g (lw_at lw_m8 30 rfl) rfl
theorem q1823 : (Jvm.Cond.methodLink "NineKeysRoundModel" (141 : Nat) ({ cls := "NineKeysRoundModel", name := "isOf", desc := "(II)Z" } : Jvm.MethodName)) ∈ lw_all := lw_g (lw_at lw_m8 31 rfl) rfl
theorem q1824 : (Jvm.Cond.privateMethod ({ cls := "NineKeysRoundModel", name := "isOf", desc := "(II)Z" } : Jvm.MethodName)) ∈ lw_tbl := lw_at lw_m8 32 rfl
theorem q1825 : (Jvm.Cond.instanceMethod ({ cls := "NineKeysRoundModel", name := "isOf", desc := "(II)Z" } : Jvm.MethodName)) ∈ lw_all := lw_g (lw_at lw_m8 33 rfl) rfl
theorem q1826 : (Jvm.Cond.code ({ cls := "NineKeysRoundModel", name := "isOf", desc := "(II)Z" } : Jvm.MethodName) prog_31_method_9_code (3 : Nat) (Option.some Jvm.ClassFile.FieldType.boolean)) ∈ lw_all := lw_g (lw_at lw_m8 34 rfl) rfl
theorem q1827 : (Jvm.Cond.methodLink "NineKeysRoundModel" (137 : Nat) ({ cls := "NineKeysRoundModel", name := "isPost", desc := "(J)Z" } : Jvm.MethodName)) ∈ lw_all := lw_g (lw_at lw_m8 35 rfl) rfl
theorem q1828 : (Jvm.Cond.privateMethod ({ cls := "NineKeysRoundModel", name := "isPost", desc := "(J)Z" } : Jvm.MethodName)) ∈ lw_tbl := lw_at lw_m8 36 rfl
theorem q1829 : (Jvm.Cond.instanceMethod ({ cls := "NineKeysRoundModel", name := "isPost", desc := "(J)Z" } : Jvm.MethodName)) ∈ lw_all := lw_g (lw_at lw_m8 37 rfl) rfl
theorem q1830 : (Jvm.Cond.code ({ cls := "NineKeysRoundModel", name := "isPost", desc := "(J)Z" } : Jvm.MethodName) prog_31_method_3_code (3 : Nat) (Option.some Jvm.ClassFile.FieldType.boolean)) ∈ lw_all := lw_g (lw_at lw_m8 38 rfl) rfl
theorem q1831 : (Jvm.Cond.methodLink "NineKeysRoundModel" (145 : Nat) ({ cls := "NineKeysRoundModel", name := "isFit", desc := "(II)Z" } : Jvm.MethodName)) ∈ lw_all := lw_g (lw_at lw_m8 39 rfl) rfl
theorem q1832 : (Jvm.Cond.static ({ cls := "NineKeysRoundModel", name := "isFit", desc := "(II)Z" } : Jvm.MethodName)) ∈ lw_all := lw_g (lw_at lw_m8 40 rfl) rfl
theorem q1833 : (Jvm.Cond.code ({ cls := "NineKeysRoundModel", name := "isFit", desc := "(II)Z" } : Jvm.MethodName) prog_31_method_10_code (2 : Nat) (Option.some Jvm.ClassFile.FieldType.boolean)) ∈ lw_all := lw_g (lw_at lw_m8 41 rfl) rfl
theorem q1834 : (Jvm.Cond.methodLink "NineKeysRoundModel" (148 : Nat) ({ cls := "NineKeysRoundModel", name := "get", desc := "(II)I" } : Jvm.MethodName)) ∈ lw_all := lw_g (lw_at lw_m8 42 rfl) rfl
theorem q1835 : (Jvm.Cond.privateMethod ({ cls := "NineKeysRoundModel", name := "get", desc := "(II)I" } : Jvm.MethodName)) ∈ lw_tbl := lw_at lw_m8 43 rfl
theorem q1836 : (Jvm.Cond.instanceMethod ({ cls := "NineKeysRoundModel", name := "get", desc := "(II)I" } : Jvm.MethodName)) ∈ lw_all := lw_g (lw_at lw_m8 44 rfl) rfl
theorem q1837 : (Jvm.Cond.code ({ cls := "NineKeysRoundModel", name := "get", desc := "(II)I" } : Jvm.MethodName) prog_31_method_11_code (3 : Nat) (Option.some Jvm.ClassFile.FieldType.int)) ∈ lw_all := lw_g (lw_at lw_m8 45 rfl) rfl
theorem q1838 : (Jvm.Cond.methodLink "NineKeysRoundModel" (152 : Nat) ({ cls := "NineKeysRoundModel", name := "becomes", desc := "(III)V" } : Jvm.MethodName)) ∈ lw_all := lw_g (lw_at lw_m8 46 rfl) rfl
theorem q1839 : (Jvm.Cond.privateMethod ({ cls := "NineKeysRoundModel", name := "becomes", desc := "(III)V" } : Jvm.MethodName)) ∈ lw_tbl := lw_at lw_m8 47 rfl
theorem q1840 : (Jvm.Cond.instanceMethod ({ cls := "NineKeysRoundModel", name := "becomes", desc := "(III)V" } : Jvm.MethodName)) ∈ lw_all := lw_g (lw_at lw_m8 48 rfl) rfl
theorem q1841 : (Jvm.Cond.code ({ cls := "NineKeysRoundModel", name := "becomes", desc := "(III)V" } : Jvm.MethodName) prog_31_method_12_code (4 : Nat) (Option.none : Option Jvm.ClassFile.FieldType)) ∈ lw_all := lw_g (lw_at lw_m8 49 rfl) rfl
theorem q1843 : (Jvm.Cond.instanceMethod ({ cls := "NineKeysRoundModel", name := "of", desc := "(II)I" } : Jvm.MethodName)) ∈ lw_all := lw_g (lw_at lw_m8 51 rfl) rfl
theorem q1844 : (Jvm.Cond.selects "NineKeysRoundModel" ({ cls := "NineKeysRoundModel", name := "of", desc := "(II)I" } : Jvm.MethodName) ({ cls := "NineKeysRoundModel", name := "of", desc := "(II)I" } : Jvm.MethodName)) ∈ lw_all := lw_g (lw_at lw_m8 52 rfl) rfl
theorem q1845 : (Jvm.Cond.code ({ cls := "NineKeysRoundModel", name := "of", desc := "(II)I" } : Jvm.MethodName) prog_31_method_14_code (3 : Nat) (Option.some Jvm.ClassFile.FieldType.int)) ∈ lw_all := lw_g (lw_at lw_m8 53 rfl) rfl
theorem q1847 : (Jvm.Cond.instanceMethod ({ cls := "NineKeysRoundModel", name := "undo", desc := "()I" } : Jvm.MethodName)) ∈ lw_all := lw_g (lw_at lw_m8 55 rfl) rfl
theorem q1848 : (Jvm.Cond.selects "NineKeysRoundModel" ({ cls := "NineKeysRoundModel", name := "undo", desc := "()I" } : Jvm.MethodName) ({ cls := "NineKeysRoundModel", name := "undo", desc := "()I" } : Jvm.MethodName)) ∈ lw_all := lw_g (lw_at lw_m8 56 rfl) rfl
theorem q1849 : (Jvm.Cond.code ({ cls := "NineKeysRoundModel", name := "undo", desc := "()I" } : Jvm.MethodName) prog_31_method_15_code (1 : Nat) (Option.some Jvm.ClassFile.FieldType.int)) ∈ lw_all := lw_g (lw_at lw_m8 57 rfl) rfl
theorem q1851 : (Jvm.Cond.instanceMethod ({ cls := "NineKeysRoundModel", name := "redo", desc := "()I" } : Jvm.MethodName)) ∈ lw_all := lw_g (lw_at lw_m8 59 rfl) rfl
theorem q1852 : (Jvm.Cond.selects "NineKeysRoundModel" ({ cls := "NineKeysRoundModel", name := "redo", desc := "()I" } : Jvm.MethodName) ({ cls := "NineKeysRoundModel", name := "redo", desc := "()I" } : Jvm.MethodName)) ∈ lw_all := lw_g (lw_at lw_m8 60 rfl) rfl
theorem q1853 : (Jvm.Cond.code ({ cls := "NineKeysRoundModel", name := "redo", desc := "()I" } : Jvm.MethodName) prog_31_method_16_code (1 : Nat) (Option.some Jvm.ClassFile.FieldType.int)) ∈ lw_all := lw_g (lw_at lw_m8 61 rfl) rfl
theorem q1855 : (Jvm.Cond.instanceMethod ({ cls := "NineKeysRoundModel", name := "feed", desc := "(I)I" } : Jvm.MethodName)) ∈ lw_all := lw_g (lw_at lw_m8 63 rfl) rfl
theorem q1856 : (Jvm.Cond.selects "NineKeysRoundModel" ({ cls := "NineKeysRoundModel", name := "feed", desc := "(I)I" } : Jvm.MethodName) ({ cls := "NineKeysRoundModel", name := "feed", desc := "(I)I" } : Jvm.MethodName)) ∈ lw_all := lw_g (lw_at lw_m8 64 rfl) rfl
theorem q1857 : (Jvm.Cond.code ({ cls := "NineKeysRoundModel", name := "feed", desc := "(I)I" } : Jvm.MethodName) prog_31_method_17_code (2 : Nat) (Option.some Jvm.ClassFile.FieldType.int)) ∈ lw_all := lw_g (lw_at lw_m8 65 rfl) rfl
theorem q1859 : (Jvm.Cond.instanceMethod ({ cls := "NineKeysRoundModel", name := "law", desc := "()I" } : Jvm.MethodName)) ∈ lw_all := lw_g (lw_at lw_m8 67 rfl) rfl
theorem q1860 : (Jvm.Cond.selects "NineKeysRoundModel" ({ cls := "NineKeysRoundModel", name := "law", desc := "()I" } : Jvm.MethodName) ({ cls := "NineKeysRoundModel", name := "law", desc := "()I" } : Jvm.MethodName)) ∈ lw_all := lw_g (lw_at lw_m8 68 rfl) rfl
theorem q1861 : (Jvm.Cond.code ({ cls := "NineKeysRoundModel", name := "law", desc := "()I" } : Jvm.MethodName) prog_31_method_30_code (4 : Nat) (Option.some Jvm.ClassFile.FieldType.int)) ∈ lw_all := lw_g (lw_at lw_m8 69 rfl) rfl
theorem q1862 : (Jvm.Cond.methodLink "NineKeysRoundModel" (213 : Nat) ({ cls := "NineKeysRoundModel", name := "isLine", desc := "()Z" } : Jvm.MethodName)) ∈ lw_all := lw_g (lw_at lw_m8 70 rfl) rfl
theorem q1863 : (Jvm.Cond.privateMethod ({ cls := "NineKeysRoundModel", name := "isLine", desc := "()Z" } : Jvm.MethodName)) ∈ lw_tbl := lw_at lw_m8 71 rfl
theorem q1864 : (Jvm.Cond.instanceMethod ({ cls := "NineKeysRoundModel", name := "isLine", desc := "()Z" } : Jvm.MethodName)) ∈ lw_all := lw_g (lw_at lw_m8 72 rfl) rfl
theorem q1865 : (Jvm.Cond.code ({ cls := "NineKeysRoundModel", name := "isLine", desc := "()Z" } : Jvm.MethodName) prog_31_method_29_code (1 : Nat) (Option.some Jvm.ClassFile.FieldType.boolean)) ∈ lw_all := lw_g (lw_at lw_m8 73 rfl) rfl
theorem q1866 : (Jvm.Cond.methodLink "NineKeysRoundModel" (195 : Nat) ({ cls := "NineKeysRoundModel", name := "isE", desc := "()Z" } : Jvm.MethodName)) ∈ lw_all := lw_g (lw_at lw_m8 74 rfl) rfl
theorem q1867 : (Jvm.Cond.privateMethod ({ cls := "NineKeysRoundModel", name := "isE", desc := "()Z" } : Jvm.MethodName)) ∈ lw_tbl := lw_at lw_m8 75 rfl
theorem q1868 : (Jvm.Cond.instanceMethod ({ cls := "NineKeysRoundModel", name := "isE", desc := "()Z" } : Jvm.MethodName)) ∈ lw_all := lw_g (lw_at lw_m8 76 rfl) rfl
theorem q1869 : (Jvm.Cond.code ({ cls := "NineKeysRoundModel", name := "isE", desc := "()Z" } : Jvm.MethodName) prog_31_method_28_code (1 : Nat) (Option.some Jvm.ClassFile.FieldType.boolean)) ∈ lw_all := lw_g (lw_at lw_m8 77 rfl) rfl
theorem q1870 : (Jvm.Cond.methodLink "NineKeysRoundModel" (207 : Nat) ({ cls := "NineKeysRoundModel", name := "isA", desc := "()Z" } : Jvm.MethodName)) ∈ lw_all := lw_g (lw_at lw_m8 78 rfl) rfl
theorem q1871 : (Jvm.Cond.privateMethod ({ cls := "NineKeysRoundModel", name := "isA", desc := "()Z" } : Jvm.MethodName)) ∈ lw_tbl := lw_at lw_m8 79 rfl
theorem q1872 : (Jvm.Cond.instanceMethod ({ cls := "NineKeysRoundModel", name := "isA", desc := "()Z" } : Jvm.MethodName)) ∈ lw_all := lw_g (lw_at lw_m8 80 rfl) rfl
theorem q1873 : (Jvm.Cond.code ({ cls := "NineKeysRoundModel", name := "isA", desc := "()Z" } : Jvm.MethodName) prog_31_method_27_code (1 : Nat) (Option.some Jvm.ClassFile.FieldType.boolean)) ∈ lw_all := lw_g (lw_at lw_m8 81 rfl) rfl
theorem q1874 : (Jvm.Cond.methodLink "NineKeysRoundModel" (204 : Nat) ({ cls := "NineKeysRoundModel", name := "isB", desc := "()Z" } : Jvm.MethodName)) ∈ lw_all := lw_g (lw_at lw_m8 82 rfl) rfl
theorem q1875 : (Jvm.Cond.privateMethod ({ cls := "NineKeysRoundModel", name := "isB", desc := "()Z" } : Jvm.MethodName)) ∈ lw_tbl := lw_at lw_m8 83 rfl
theorem q1876 : (Jvm.Cond.instanceMethod ({ cls := "NineKeysRoundModel", name := "isB", desc := "()Z" } : Jvm.MethodName)) ∈ lw_all := lw_g (lw_at lw_m8 84 rfl) rfl
theorem q1877 : (Jvm.Cond.code ({ cls := "NineKeysRoundModel", name := "isB", desc := "()Z" } : Jvm.MethodName) prog_31_method_26_code (2 : Nat) (Option.some Jvm.ClassFile.FieldType.boolean)) ∈ lw_all := lw_g (lw_at lw_m8 85 rfl) rfl
theorem q1878 : (Jvm.Cond.methodLink "NineKeysRoundModel" (201 : Nat) ({ cls := "NineKeysRoundModel", name := "isS", desc := "()Z" } : Jvm.MethodName)) ∈ lw_all := lw_g (lw_at lw_m8 86 rfl) rfl
theorem q1879 : (Jvm.Cond.privateMethod ({ cls := "NineKeysRoundModel", name := "isS", desc := "()Z" } : Jvm.MethodName)) ∈ lw_tbl := lw_at lw_m8 87 rfl
theorem q1880 : (Jvm.Cond.instanceMethod ({ cls := "NineKeysRoundModel", name := "isS", desc := "()Z" } : Jvm.MethodName)) ∈ lw_all := lw_g (lw_at lw_m8 88 rfl) rfl
theorem q1881 : (Jvm.Cond.code ({ cls := "NineKeysRoundModel", name := "isS", desc := "()Z" } : Jvm.MethodName) prog_31_method_25_code (2 : Nat) (Option.some Jvm.ClassFile.FieldType.boolean)) ∈ lw_all := lw_g (lw_at lw_m8 89 rfl) rfl
theorem q1882 : (Jvm.Cond.methodLink "NineKeysRoundModel" (198 : Nat) ({ cls := "NineKeysRoundModel", name := "isP", desc := "()Z" } : Jvm.MethodName)) ∈ lw_all := lw_g (lw_at lw_m8 90 rfl) rfl
theorem q1883 : (Jvm.Cond.privateMethod ({ cls := "NineKeysRoundModel", name := "isP", desc := "()Z" } : Jvm.MethodName)) ∈ lw_tbl := lw_at lw_m8 91 rfl
theorem q1884 : (Jvm.Cond.instanceMethod ({ cls := "NineKeysRoundModel", name := "isP", desc := "()Z" } : Jvm.MethodName)) ∈ lw_all := lw_g (lw_at lw_m8 92 rfl) rfl
theorem q1885 : (Jvm.Cond.code ({ cls := "NineKeysRoundModel", name := "isP", desc := "()Z" } : Jvm.MethodName) prog_31_method_24_code (2 : Nat) (Option.some Jvm.ClassFile.FieldType.boolean)) ∈ lw_all := lw_g (lw_at lw_m8 93 rfl) rfl
theorem q1886 : (Jvm.Cond.methodLink "NineKeysRoundModel" (192 : Nat) ({ cls := "NineKeysRoundModel", name := "isO", desc := "()Z" } : Jvm.MethodName)) ∈ lw_all := lw_g (lw_at lw_m8 94 rfl) rfl
theorem q1887 : (Jvm.Cond.privateMethod ({ cls := "NineKeysRoundModel", name := "isO", desc := "()Z" } : Jvm.MethodName)) ∈ lw_tbl := lw_at lw_m8 95 rfl
theorem q1888 : (Jvm.Cond.instanceMethod ({ cls := "NineKeysRoundModel", name := "isO", desc := "()Z" } : Jvm.MethodName)) ∈ lw_all := lw_g (lw_at lw_m8 96 rfl) rfl
theorem q1889 : (Jvm.Cond.code ({ cls := "NineKeysRoundModel", name := "isO", desc := "()Z" } : Jvm.MethodName) prog_31_method_23_code (3 : Nat) (Option.some Jvm.ClassFile.FieldType.boolean)) ∈ lw_all := lw_g (lw_at lw_m8 97 rfl) rfl
theorem q1890 : (Jvm.Cond.methodLink "NineKeysRoundModel" (175 : Nat) ({ cls := "NineKeysRoundModel", name := "isDigit", desc := "()Z" } : Jvm.MethodName)) ∈ lw_all := lw_g (lw_at lw_m8 98 rfl) rfl
theorem q1891 : (Jvm.Cond.privateMethod ({ cls := "NineKeysRoundModel", name := "isDigit", desc := "()Z" } : Jvm.MethodName)) ∈ lw_tbl := lw_at lw_m8 99 rfl
theorem q1892 : (Jvm.Cond.instanceMethod ({ cls := "NineKeysRoundModel", name := "isDigit", desc := "()Z" } : Jvm.MethodName)) ∈ lw_all := lw_g (lw_at lw_m8 100 rfl) rfl
theorem q1893 : (Jvm.Cond.code ({ cls := "NineKeysRoundModel", name := "isDigit", desc := "()Z" } : Jvm.MethodName) prog_31_method_21_code (1 : Nat) (Option.some Jvm.ClassFile.FieldType.boolean)) ∈ lw_all := lw_g (lw_at lw_m8 101 rfl) rfl
theorem q1894 : (Jvm.Cond.methodLink "NineKeysRoundModel" (168 : Nat) ({ cls := "NineKeysRoundModel", name := "sign", desc := "()I" } : Jvm.MethodName)) ∈ lw_all := lw_g (lw_at lw_m8 102 rfl) rfl
theorem q1895 : (Jvm.Cond.privateMethod ({ cls := "NineKeysRoundModel", name := "sign", desc := "()I" } : Jvm.MethodName)) ∈ lw_tbl := lw_at lw_m8 103 rfl
theorem q1896 : (Jvm.Cond.instanceMethod ({ cls := "NineKeysRoundModel", name := "sign", desc := "()I" } : Jvm.MethodName)) ∈ lw_all := lw_g (lw_at lw_m8 104 rfl) rfl
theorem q1897 : (Jvm.Cond.code ({ cls := "NineKeysRoundModel", name := "sign", desc := "()I" } : Jvm.MethodName) prog_31_method_18_code (1 : Nat) (Option.some Jvm.ClassFile.FieldType.int)) ∈ lw_all := lw_g (lw_at lw_m8 105 rfl) rfl
theorem q1898 : (Jvm.Cond.methodLink "NineKeysRoundModel" (179 : Nat) ({ cls := "NineKeysRoundModel", name := "codes", desc := "(I)Z" } : Jvm.MethodName)) ∈ lw_all := lw_g (lw_at lw_m8 106 rfl) rfl
theorem q1899 : (Jvm.Cond.privateMethod ({ cls := "NineKeysRoundModel", name := "codes", desc := "(I)Z" } : Jvm.MethodName)) ∈ lw_tbl := lw_at lw_m8 107 rfl
theorem q1900 : (Jvm.Cond.instanceMethod ({ cls := "NineKeysRoundModel", name := "codes", desc := "(I)Z" } : Jvm.MethodName)) ∈ lw_all := lw_g (lw_at lw_m8 108 rfl) rfl
theorem q1901 : (Jvm.Cond.code ({ cls := "NineKeysRoundModel", name := "codes", desc := "(I)Z" } : Jvm.MethodName) prog_31_method_20_code (2 : Nat) (Option.some Jvm.ClassFile.FieldType.boolean)) ∈ lw_all := lw_g (lw_at lw_m8 109 rfl) rfl
theorem q1902 : (Jvm.Cond.methodLink "NineKeysRoundModel" (182 : Nat) ({ cls := "NineKeysRoundModel", name := "nameOf", desc := "(I)I" } : Jvm.MethodName)) ∈ lw_all := lw_g (lw_at lw_m8 110 rfl) rfl
theorem q1903 : (Jvm.Cond.static ({ cls := "NineKeysRoundModel", name := "nameOf", desc := "(I)I" } : Jvm.MethodName)) ∈ lw_all := lw_g (lw_at lw_m8 111 rfl) rfl
theorem q1904 : (Jvm.Cond.code ({ cls := "NineKeysRoundModel", name := "nameOf", desc := "(I)I" } : Jvm.MethodName) prog_31_method_22_code (1 : Nat) (Option.some Jvm.ClassFile.FieldType.int)) ∈ lw_all := lw_g (lw_at lw_m8 112 rfl) rfl
theorem q1905 : (Jvm.Cond.methodLink "NineKeysRoundModel" (189 : Nat) ({ cls := "NineKeysRoundModel", name := "is", desc := "(I)Z" } : Jvm.MethodName)) ∈ lw_all := lw_g (lw_at lw_m8 113 rfl) rfl
theorem q1906 : (Jvm.Cond.privateMethod ({ cls := "NineKeysRoundModel", name := "is", desc := "(I)Z" } : Jvm.MethodName)) ∈ lw_tbl := lw_at lw_m8 114 rfl
theorem q1907 : (Jvm.Cond.instanceMethod ({ cls := "NineKeysRoundModel", name := "is", desc := "(I)Z" } : Jvm.MethodName)) ∈ lw_all := lw_g (lw_at lw_m8 115 rfl) rfl
theorem q1908 : (Jvm.Cond.code ({ cls := "NineKeysRoundModel", name := "is", desc := "(I)Z" } : Jvm.MethodName) prog_31_method_19_code (2 : Nat) (Option.some Jvm.ClassFile.FieldType.boolean)) ∈ lw_all := lw_g (lw_at lw_m8 116 rfl) rfl
theorem q1910 : (Jvm.Cond.instanceMethod ({ cls := "NineKeysRoundModel", name := "round", desc := "(II)I" } : Jvm.MethodName)) ∈ lw_all := lw_g (lw_at lw_m8 118 rfl) rfl
theorem q1911 : (Jvm.Cond.selects "NineKeysRoundModel" ({ cls := "NineKeysRoundModel", name := "round", desc := "(II)I" } : Jvm.MethodName) ({ cls := "NineKeysRoundModel", name := "round", desc := "(II)I" } : Jvm.MethodName)) ∈ lw_all := lw_g (lw_at lw_m8 119 rfl) rfl
theorem q1912 : (Jvm.Cond.code ({ cls := "NineKeysRoundModel", name := "round", desc := "(II)I" } : Jvm.MethodName) prog_31_method_47_code (4 : Nat) (Option.some Jvm.ClassFile.FieldType.int)) ∈ lw_all := lw_g (lw_at lw_m8 120 rfl) rfl
theorem q1913 : (Jvm.Cond.methodLink "NineKeysRoundModel" (265 : Nat) ({ cls := "NineKeysRoundModel", name := "noRow", desc := "(II)I" } : Jvm.MethodName)) ∈ lw_all := lw_g (lw_at lw_m8 121 rfl) rfl
theorem q1914 : (Jvm.Cond.privateMethod ({ cls := "NineKeysRoundModel", name := "noRow", desc := "(II)I" } : Jvm.MethodName)) ∈ lw_tbl := lw_at lw_m8 122 rfl
theorem q1915 : (Jvm.Cond.instanceMethod ({ cls := "NineKeysRoundModel", name := "noRow", desc := "(II)I" } : Jvm.MethodName)) ∈ lw_all := lw_g (lw_at lw_m8 123 rfl) rfl
theorem q1916 : (Jvm.Cond.code ({ cls := "NineKeysRoundModel", name := "noRow", desc := "(II)I" } : Jvm.MethodName) prog_31_method_38_code (3 : Nat) (Option.some Jvm.ClassFile.FieldType.int)) ∈ lw_all := lw_g (lw_at lw_m8 124 rfl) rfl
theorem q1917 : (Jvm.Cond.methodLink "NineKeysRoundModel" (268 : Nat) ({ cls := "NineKeysRoundModel", name := "reads", desc := "(I)V" } : Jvm.MethodName)) ∈ lw_all := lw_g (lw_at lw_m8 125 rfl) rfl
theorem q1918 : (Jvm.Cond.privateMethod ({ cls := "NineKeysRoundModel", name := "reads", desc := "(I)V" } : Jvm.MethodName)) ∈ lw_tbl := lw_at lw_m8 126 rfl
theorem q1919 : (Jvm.Cond.instanceMethod ({ cls := "NineKeysRoundModel", name := "reads", desc := "(I)V" } : Jvm.MethodName)) ∈ lw_all := lw_g (lw_at lw_m8 127 rfl) rfl
theorem q1920 : (Jvm.Cond.code ({ cls := "NineKeysRoundModel", name := "reads", desc := "(I)V" } : Jvm.MethodName) prog_31_method_40_code (2 : Nat) (Option.none : Option Jvm.ClassFile.FieldType)) ∈ lw_all := lw_g (lw_at lw_m8 128 rfl) rfl
theorem q1921 : (Jvm.Cond.methodLink "NineKeysRoundModel" (252 : Nat) ({ cls := "NineKeysRoundModel", name := "toldAt", desc := "(II)I" } : Jvm.MethodName)) ∈ lw_all := lw_g (lw_at lw_m8 129 rfl) rfl
theorem q1922 : (Jvm.Cond.privateMethod ({ cls := "NineKeysRoundModel", name := "toldAt", desc := "(II)I" } : Jvm.MethodName)) ∈ lw_tbl := lw_at lw_m8 130 rfl
theorem q1923 : (Jvm.Cond.instanceMethod ({ cls := "NineKeysRoundModel", name := "toldAt", desc := "(II)I" } : Jvm.MethodName)) ∈ lw_all := lw_g (lw_at lw_m8 131 rfl) rfl
theorem q1924 : (Jvm.Cond.code ({ cls := "NineKeysRoundModel", name := "toldAt", desc := "(II)I" } : Jvm.MethodName) prog_31_method_39_code (3 : Nat) (Option.some Jvm.ClassFile.FieldType.int)) ∈ lw_all := lw_g (lw_at lw_m8 132 rfl) rfl
theorem q1925 : (Jvm.Cond.methodLink "NineKeysRoundModel" (271 : Nat) ({ cls := "NineKeysRoundModel", name := "oneRound", desc := "()I" } : Jvm.MethodName)) ∈ lw_all := lw_g (lw_at lw_m8 133 rfl) rfl
theorem q1926 : (Jvm.Cond.privateMethod ({ cls := "NineKeysRoundModel", name := "oneRound", desc := "()I" } : Jvm.MethodName)) ∈ lw_tbl := lw_at lw_m8 134 rfl
theorem q1927 : (Jvm.Cond.instanceMethod ({ cls := "NineKeysRoundModel", name := "oneRound", desc := "()I" } : Jvm.MethodName)) ∈ lw_all := lw_g (lw_at lw_m8 135 rfl) rfl
theorem q1928 : (Jvm.Cond.code ({ cls := "NineKeysRoundModel", name := "oneRound", desc := "()I" } : Jvm.MethodName) prog_31_method_46_code (3 : Nat) (Option.some Jvm.ClassFile.FieldType.int)) ∈ lw_all := lw_g (lw_at lw_m8 136 rfl) rfl
theorem q1929 : (Jvm.Cond.methodLink "NineKeysRoundModel" (258 : Nat) ({ cls := "NineKeysRoundModel", name := "minutes", desc := "(II)I" } : Jvm.MethodName)) ∈ lw_all := lw_g (lw_at lw_m8 137 rfl) rfl
theorem q1930 : (Jvm.Cond.privateMethod ({ cls := "NineKeysRoundModel", name := "minutes", desc := "(II)I" } : Jvm.MethodName)) ∈ lw_tbl := lw_at lw_m8 138 rfl
theorem q1931 : (Jvm.Cond.instanceMethod ({ cls := "NineKeysRoundModel", name := "minutes", desc := "(II)I" } : Jvm.MethodName)) ∈ lw_all := lw_g (lw_at lw_m8 139 rfl) rfl
theorem q1932 : (Jvm.Cond.code ({ cls := "NineKeysRoundModel", name := "minutes", desc := "(II)I" } : Jvm.MethodName) prog_31_method_37_code (3 : Nat) (Option.some Jvm.ClassFile.FieldType.int)) ∈ lw_all := lw_g (lw_at lw_m8 140 rfl) rfl
theorem q1933 : (Jvm.Cond.methodLink "NineKeysRoundModel" (249 : Nat) ({ cls := "NineKeysRoundModel", name := "apart", desc := "(II)I" } : Jvm.MethodName)) ∈ lw_all := lw_g (lw_at lw_m8 141 rfl) rfl
theorem q1934 : (Jvm.Cond.privateMethod ({ cls := "NineKeysRoundModel", name := "apart", desc := "(II)I" } : Jvm.MethodName)) ∈ lw_tbl := lw_at lw_m8 142 rfl
theorem q1935 : (Jvm.Cond.instanceMethod ({ cls := "NineKeysRoundModel", name := "apart", desc := "(II)I" } : Jvm.MethodName)) ∈ lw_all := lw_g (lw_at lw_m8 143 rfl) rfl
theorem q1936 : (Jvm.Cond.code ({ cls := "NineKeysRoundModel", name := "apart", desc := "(II)I" } : Jvm.MethodName) prog_31_method_36_code (3 : Nat) (Option.some Jvm.ClassFile.FieldType.int)) ∈ lw_all := lw_g (lw_at lw_m8 144 rfl) rfl
theorem q1937 : (Jvm.Cond.methodLink "NineKeysRoundModel" (240 : Nat) ({ cls := "NineKeysRoundModel", name := "xOf", desc := "(I)I" } : Jvm.MethodName)) ∈ lw_all := lw_g (lw_at lw_m8 145 rfl) rfl
theorem q1938 : (Jvm.Cond.privateMethod ({ cls := "NineKeysRoundModel", name := "xOf", desc := "(I)I" } : Jvm.MethodName)) ∈ lw_tbl := lw_at lw_m8 146 rfl
theorem q1939 : (Jvm.Cond.instanceMethod ({ cls := "NineKeysRoundModel", name := "xOf", desc := "(I)I" } : Jvm.MethodName)) ∈ lw_all := lw_g (lw_at lw_m8 147 rfl) rfl
theorem q1940 : (Jvm.Cond.code ({ cls := "NineKeysRoundModel", name := "xOf", desc := "(I)I" } : Jvm.MethodName) prog_31_method_34_code (2 : Nat) (Option.some Jvm.ClassFile.FieldType.int)) ∈ lw_all := lw_g (lw_at lw_m8 148 rfl) rfl
theorem q1941 : (Jvm.Cond.methodLink "NineKeysRoundModel" (243 : Nat) ({ cls := "java/lang/Math", name := "abs", desc := "(I)I" } : Jvm.MethodName)) ∈ lw_all := lw_g (lw_at lw_m8 149 rfl) rfl
theorem q1942 : (Jvm.Cond.methodLink "NineKeysRoundModel" (246 : Nat) ({ cls := "NineKeysRoundModel", name := "yOf", desc := "(I)I" } : Jvm.MethodName)) ∈ lw_all := lw_g (lw_at lw_m8 150 rfl) rfl
theorem q1943 : (Jvm.Cond.privateMethod ({ cls := "NineKeysRoundModel", name := "yOf", desc := "(I)I" } : Jvm.MethodName)) ∈ lw_tbl := lw_at lw_m8 151 rfl
theorem q1944 : (Jvm.Cond.instanceMethod ({ cls := "NineKeysRoundModel", name := "yOf", desc := "(I)I" } : Jvm.MethodName)) ∈ lw_all := lw_g (lw_at lw_m8 152 rfl) rfl
theorem q1945 : (Jvm.Cond.code ({ cls := "NineKeysRoundModel", name := "yOf", desc := "(I)I" } : Jvm.MethodName) prog_31_method_35_code (2 : Nat) (Option.some Jvm.ClassFile.FieldType.int)) ∈ lw_all := lw_g (lw_at lw_m8 153 rfl) rfl
theorem q1947 : (Jvm.Cond.instanceMethod ({ cls := "NineKeysRoundModel", name := "first", desc := "(II)I" } : Jvm.MethodName)) ∈ lw_all := lw_g (lw_at lw_m8 155 rfl) rfl
theorem q1948 : (Jvm.Cond.selects "NineKeysRoundModel" ({ cls := "NineKeysRoundModel", name := "first", desc := "(II)I" } : Jvm.MethodName) ({ cls := "NineKeysRoundModel", name := "first", desc := "(II)I" } : Jvm.MethodName)) ∈ lw_all := lw_g (lw_at lw_m8 156 rfl) rfl
theorem q1949 : (Jvm.Cond.code ({ cls := "NineKeysRoundModel", name := "first", desc := "(II)I" } : Jvm.MethodName) prog_31_method_48_code (5 : Nat) (Option.some Jvm.ClassFile.FieldType.int)) ∈ lw_all := lw_g (lw_at lw_m8 157 rfl) rfl
theorem q1950 : (Jvm.Cond.methodLink "NineKeysRoundModel" (261 : Nat) ({ cls := "NineKeysRoundModel", name := "walks", desc := "(I)V" } : Jvm.MethodName)) ∈ lw_all := lw_g (lw_at lw_m8 158 rfl) rfl
theorem q1951 : (Jvm.Cond.privateMethod ({ cls := "NineKeysRoundModel", name := "walks", desc := "(I)V" } : Jvm.MethodName)) ∈ lw_tbl := lw_at lw_m8 159 rfl
theorem q1952 : (Jvm.Cond.instanceMethod ({ cls := "NineKeysRoundModel", name := "walks", desc := "(I)V" } : Jvm.MethodName)) ∈ lw_all := lw_g (lw_at lw_m8 160 rfl) rfl
theorem q1953 : (Jvm.Cond.code ({ cls := "NineKeysRoundModel", name := "walks", desc := "(I)V" } : Jvm.MethodName) prog_31_method_42_code (5 : Nat) (Option.none : Option Jvm.ClassFile.FieldType)) ∈ lw_all := lw_g (lw_at lw_m8 161 rfl) rfl
theorem q1955 : (Jvm.Cond.instanceMethod ({ cls := "NineKeysRoundModel", name := "by", desc := "(III)I" } : Jvm.MethodName)) ∈ lw_all := lw_g (lw_at lw_m8 163 rfl) rfl
theorem q1956 : (Jvm.Cond.selects "NineKeysRoundModel" ({ cls := "NineKeysRoundModel", name := "by", desc := "(III)I" } : Jvm.MethodName) ({ cls := "NineKeysRoundModel", name := "by", desc := "(III)I" } : Jvm.MethodName)) ∈ lw_all := lw_g (lw_at lw_m8 164 rfl) rfl
theorem q1957 : (Jvm.Cond.code ({ cls := "NineKeysRoundModel", name := "by", desc := "(III)I" } : Jvm.MethodName) prog_31_method_49_code (6 : Nat) (Option.some Jvm.ClassFile.FieldType.int)) ∈ lw_all := lw_g (lw_at lw_m8 165 rfl) rfl
theorem q1958 : (Jvm.Cond.methodLink "NineKeysRoundModel" (274 : Nat) ({ cls := "NineKeysRoundModel", name := "isMinute", desc := "(I)Z" } : Jvm.MethodName)) ∈ lw_all := lw_g (lw_at lw_m8 166 rfl) rfl
theorem q1959 : (Jvm.Cond.static ({ cls := "NineKeysRoundModel", name := "isMinute", desc := "(I)Z" } : Jvm.MethodName)) ∈ lw_all := lw_g (lw_at lw_m8 167 rfl) rfl
theorem q1960 : (Jvm.Cond.code ({ cls := "NineKeysRoundModel", name := "isMinute", desc := "(I)Z" } : Jvm.MethodName) prog_31_method_4_code (1 : Nat) (Option.some Jvm.ClassFile.FieldType.boolean)) ∈ lw_all := lw_g (lw_at lw_m8 168 rfl) rfl
theorem q1962 : (Jvm.Cond.instanceMethod ({ cls := "NineKeysRoundModel", name := "unseen", desc := "(IIII)I" } : Jvm.MethodName)) ∈ lw_all := lw_g (lw_at lw_m8 170 rfl) rfl
theorem q1963 : (Jvm.Cond.selects "NineKeysRoundModel" ({ cls := "NineKeysRoundModel", name := "unseen", desc := "(IIII)I" } : Jvm.MethodName) ({ cls := "NineKeysRoundModel", name := "unseen", desc := "(IIII)I" } : Jvm.MethodName)) ∈ lw_all := lw_g (lw_at lw_m8 171 rfl) rfl
theorem q1964 : (Jvm.Cond.code ({ cls := "NineKeysRoundModel", name := "unseen", desc := "(IIII)I" } : Jvm.MethodName) prog_31_method_50_code (6 : Nat) (Option.some Jvm.ClassFile.FieldType.int)) ∈ lw_all := lw_g (lw_at lw_m8 172 rfl) rfl
theorem q1965 : (Jvm.Cond.methodLink "NineKeysRoundModel" (277 : Nat) ({ cls := "NineKeysRoundModel", name := "looks", desc := "()V" } : Jvm.MethodName)) ∈ lw_all := lw_g (lw_at lw_m8 173 rfl) rfl
theorem q1966 : (Jvm.Cond.privateMethod ({ cls := "NineKeysRoundModel", name := "looks", desc := "()V" } : Jvm.MethodName)) ∈ lw_tbl := lw_at lw_m8 174 rfl
theorem q1967 : (Jvm.Cond.instanceMethod ({ cls := "NineKeysRoundModel", name := "looks", desc := "()V" } : Jvm.MethodName)) ∈ lw_all := lw_g (lw_at lw_m8 175 rfl) rfl
theorem q1968 : (Jvm.Cond.code ({ cls := "NineKeysRoundModel", name := "looks", desc := "()V" } : Jvm.MethodName) prog_31_method_43_code (3 : Nat) (Option.none : Option Jvm.ClassFile.FieldType)) ∈ lw_all := lw_g (lw_at lw_m8 176 rfl) rfl
theorem q1969 : (Jvm.Cond.methodLink "NineKeysRoundModel" (280 : Nat) ({ cls := "NineKeysRoundModel", name := "unseenFor", desc := "(II)I" } : Jvm.MethodName)) ∈ lw_all := lw_g (lw_at lw_m8 177 rfl) rfl
theorem q1970 : (Jvm.Cond.privateMethod ({ cls := "NineKeysRoundModel", name := "unseenFor", desc := "(II)I" } : Jvm.MethodName)) ∈ lw_tbl := lw_at lw_m8 178 rfl
theorem q1971 : (Jvm.Cond.instanceMethod ({ cls := "NineKeysRoundModel", name := "unseenFor", desc := "(II)I" } : Jvm.MethodName)) ∈ lw_all := lw_g (lw_at lw_m8 179 rfl) rfl
theorem q1972 : (Jvm.Cond.code ({ cls := "NineKeysRoundModel", name := "unseenFor", desc := "(II)I" } : Jvm.MethodName) prog_31_method_45_code (4 : Nat) (Option.some Jvm.ClassFile.FieldType.int)) ∈ lw_all := lw_g (lw_at lw_m8 180 rfl) rfl
theorem q1973 : (Jvm.Cond.methodLink "NineKeysRoundModel" (283 : Nat) ({ cls := "NineKeysRoundModel", name := "isSeen", desc := "(II)Z" } : Jvm.MethodName)) ∈ lw_all := lw_g (lw_at lw_m8 181 rfl) rfl
theorem q1974 : (Jvm.Cond.privateMethod ({ cls := "NineKeysRoundModel", name := "isSeen", desc := "(II)Z" } : Jvm.MethodName)) ∈ lw_tbl := lw_at lw_m8 182 rfl
theorem q1975 : (Jvm.Cond.instanceMethod ({ cls := "NineKeysRoundModel", name := "isSeen", desc := "(II)Z" } : Jvm.MethodName)) ∈ lw_all := lw_g (lw_at lw_m8 183 rfl) rfl
theorem q1976 : (Jvm.Cond.code ({ cls := "NineKeysRoundModel", name := "isSeen", desc := "(II)Z" } : Jvm.MethodName) prog_31_method_44_code (4 : Nat) (Option.some Jvm.ClassFile.FieldType.boolean)) ∈ lw_all := lw_g (lw_at lw_m8 184 rfl) rfl
theorem q1977 : (Jvm.Cond.methodLink "NineKeysRoundModel" (237 : Nat) ({ cls := "java/lang/Math", name := "max", desc := "(II)I" } : Jvm.MethodName)) ∈ lw_all := lw_g (lw_at lw_m8 185 rfl) rfl
theorem q1979 : (Jvm.Cond.instanceMethod ({ cls := "NineKeysRoundModel", name := "lost", desc := "(IIII)I" } : Jvm.MethodName)) ∈ lw_all := lw_g (lw_at lw_m8 187 rfl) rfl
theorem q1980 : (Jvm.Cond.selects "NineKeysRoundModel" ({ cls := "NineKeysRoundModel", name := "lost", desc := "(IIII)I" } : Jvm.MethodName) ({ cls := "NineKeysRoundModel", name := "lost", desc := "(IIII)I" } : Jvm.MethodName)) ∈ lw_all := lw_g (lw_at lw_m8 188 rfl) rfl
theorem q1981 : (Jvm.Cond.code ({ cls := "NineKeysRoundModel", name := "lost", desc := "(IIII)I" } : Jvm.MethodName) prog_31_method_51_code (9 : Nat) (Option.some Jvm.ClassFile.FieldType.int)) ∈ lw_all := lw_g (lw_at lw_m8 189 rfl) rfl
theorem q1982 : (Jvm.Cond.methodLink "NineKeysRoundModel" (286 : Nat) ({ cls := "NineKeysRoundModel", name := "loss", desc := "(III)I" } : Jvm.MethodName)) ∈ lw_all := lw_g (lw_at lw_m8 190 rfl) rfl
theorem q1983 : (Jvm.Cond.privateMethod ({ cls := "NineKeysRoundModel", name := "loss", desc := "(III)I" } : Jvm.MethodName)) ∈ lw_tbl := lw_at lw_m8 191 rfl
theorem q1984 : (Jvm.Cond.instanceMethod ({ cls := "NineKeysRoundModel", name := "loss", desc := "(III)I" } : Jvm.MethodName)) ∈ lw_all := lw_g (lw_at lw_m8 192 rfl) rfl
theorem q1985 : (Jvm.Cond.code ({ cls := "NineKeysRoundModel", name := "loss", desc := "(III)I" } : Jvm.MethodName) prog_31_method_33_code (5 : Nat) (Option.some Jvm.ClassFile.FieldType.int)) ∈ lw_all := lw_g (lw_at lw_m8 193 rfl) rfl
theorem q1986 : (Jvm.Cond.methodLink "NineKeysRoundModel" (226 : Nat) ({ cls := "java/lang/Math", name := "min", desc := "(II)I" } : Jvm.MethodName)) ∈ lw_all := lw_g (lw_at lw_m8 194 rfl) rfl
theorem q1987 : (Jvm.Cond.methodLink "NineKeysRoundModel" (234 : Nat) ({ cls := "NineKeysRoundModel", name := "worked", desc := "(II)I" } : Jvm.MethodName)) ∈ lw_all := lw_g (lw_at lw_m8 195 rfl) rfl
theorem q1988 : (Jvm.Cond.privateMethod ({ cls := "NineKeysRoundModel", name := "worked", desc := "(II)I" } : Jvm.MethodName)) ∈ lw_tbl := lw_at lw_m8 196 rfl
theorem q1989 : (Jvm.Cond.instanceMethod ({ cls := "NineKeysRoundModel", name := "worked", desc := "(II)I" } : Jvm.MethodName)) ∈ lw_all := lw_g (lw_at lw_m8 197 rfl) rfl
theorem q1990 : (Jvm.Cond.code ({ cls := "NineKeysRoundModel", name := "worked", desc := "(II)I" } : Jvm.MethodName) prog_31_method_32_code (6 : Nat) (Option.some Jvm.ClassFile.FieldType.int)) ∈ lw_all := lw_g (lw_at lw_m8 198 rfl) rfl
theorem q1991 : (Jvm.Cond.methodLink "NineKeysRoundModel" (223 : Nat) ({ cls := "NineKeysRoundModel", name := "both", desc := "(III)I" } : Jvm.MethodName)) ∈ lw_all := lw_g (lw_at lw_m8 199 rfl) rfl
theorem q1992 : (Jvm.Cond.static ({ cls := "NineKeysRoundModel", name := "both", desc := "(III)I" } : Jvm.MethodName)) ∈ lw_all := lw_g (lw_at lw_m8 200 rfl) rfl
theorem q1993 : (Jvm.Cond.code ({ cls := "NineKeysRoundModel", name := "both", desc := "(III)I" } : Jvm.MethodName) prog_31_method_31_code (3 : Nat) (Option.some Jvm.ClassFile.FieldType.int)) ∈ lw_all := lw_g (lw_at lw_m8 201 rfl) rfl
theorem q1995 : (Jvm.Cond.instanceMethod ({ cls := "NineKeysRoundModel", name := "red", desc := "(II)I" } : Jvm.MethodName)) ∈ lw_all := lw_g (lw_at lw_m8 203 rfl) rfl
theorem q1996 : (Jvm.Cond.selects "NineKeysRoundModel" ({ cls := "NineKeysRoundModel", name := "red", desc := "(II)I" } : Jvm.MethodName) ({ cls := "NineKeysRoundModel", name := "red", desc := "(II)I" } : Jvm.MethodName)) ∈ lw_all := lw_g (lw_at lw_m8 204 rfl) rfl
theorem q1997 : (Jvm.Cond.code ({ cls := "NineKeysRoundModel", name := "red", desc := "(II)I" } : Jvm.MethodName) prog_31_method_52_code (6 : Nat) (Option.some Jvm.ClassFile.FieldType.int)) ∈ lw_all := lw_g (lw_at lw_m8 205 rfl) rfl
theorem q1999 : (Jvm.Cond.instanceMethod ({ cls := "NineKeysRoundModel", name := "gap", desc := "(II)I" } : Jvm.MethodName)) ∈ lw_all := lw_g (lw_at lw_m8 207 rfl) rfl
theorem q2000 : (Jvm.Cond.selects "NineKeysRoundModel" ({ cls := "NineKeysRoundModel", name := "gap", desc := "(II)I" } : Jvm.MethodName) ({ cls := "NineKeysRoundModel", name := "gap", desc := "(II)I" } : Jvm.MethodName)) ∈ lw_all := lw_g (lw_at lw_m8 208 rfl) rfl
theorem q2001 : (Jvm.Cond.code ({ cls := "NineKeysRoundModel", name := "gap", desc := "(II)I" } : Jvm.MethodName) prog_31_method_54_code (4 : Nat) (Option.some Jvm.ClassFile.FieldType.int)) ∈ lw_all := lw_g (lw_at lw_m8 209 rfl) rfl
theorem q2002 : (Jvm.Cond.methodLink "NineKeysRoundModel" (289 : Nat) ({ cls := "NineKeysRoundModel", name := "gapOf", desc := "(I)I" } : Jvm.MethodName)) ∈ lw_all := lw_g (lw_at lw_m8 210 rfl) rfl
theorem q2003 : (Jvm.Cond.privateMethod ({ cls := "NineKeysRoundModel", name := "gapOf", desc := "(I)I" } : Jvm.MethodName)) ∈ lw_tbl := lw_at lw_m8 211 rfl
theorem q2004 : (Jvm.Cond.instanceMethod ({ cls := "NineKeysRoundModel", name := "gapOf", desc := "(I)I" } : Jvm.MethodName)) ∈ lw_all := lw_g (lw_at lw_m8 212 rfl) rfl
theorem q2005 : (Jvm.Cond.code ({ cls := "NineKeysRoundModel", name := "gapOf", desc := "(I)I" } : Jvm.MethodName) prog_31_method_53_code (8 : Nat) (Option.some Jvm.ClassFile.FieldType.int)) ∈ lw_all := lw_g (lw_at lw_m8 213 rfl) rfl
theorem q2007 : (Jvm.Cond.instanceMethod ({ cls := "NineKeysRoundModel", name := "late", desc := "(I)I" } : Jvm.MethodName)) ∈ lw_all := lw_g (lw_at lw_m8 215 rfl) rfl
theorem q2008 : (Jvm.Cond.selects "NineKeysRoundModel" ({ cls := "NineKeysRoundModel", name := "late", desc := "(I)I" } : Jvm.MethodName) ({ cls := "NineKeysRoundModel", name := "late", desc := "(I)I" } : Jvm.MethodName)) ∈ lw_all := lw_g (lw_at lw_m8 216 rfl) rfl
theorem q2009 : (Jvm.Cond.code ({ cls := "NineKeysRoundModel", name := "late", desc := "(I)I" } : Jvm.MethodName) prog_31_method_55_code (5 : Nat) (Option.some Jvm.ClassFile.FieldType.int)) ∈ lw_all := lw_g (lw_at lw_m8 217 rfl) rfl
theorem q2011 : (Jvm.Cond.instanceMethod ({ cls := "NineKeysRoundModel", name := "shortest", desc := "(II)I" } : Jvm.MethodName)) ∈ lw_all := lw_g (lw_at lw_m8 219 rfl) rfl
theorem q2012 : (Jvm.Cond.selects "NineKeysRoundModel" ({ cls := "NineKeysRoundModel", name := "shortest", desc := "(II)I" } : Jvm.MethodName) ({ cls := "NineKeysRoundModel", name := "shortest", desc := "(II)I" } : Jvm.MethodName)) ∈ lw_all := lw_g (lw_at lw_m8 220 rfl) rfl
theorem q2013 : (Jvm.Cond.code ({ cls := "NineKeysRoundModel", name := "shortest", desc := "(II)I" } : Jvm.MethodName) prog_31_method_61_code (4 : Nat) (Option.some Jvm.ClassFile.FieldType.int)) ∈ lw_all := lw_g (lw_at lw_m8 221 rfl) rfl
theorem q2014 : (Jvm.Cond.methodLink "NineKeysRoundModel" (302 : Nat) ({ cls := "NineKeysRoundModel", name := "isSet", desc := "(I)Z" } : Jvm.MethodName)) ∈ lw_all := lw_g (lw_at lw_m8 222 rfl) rfl
theorem q2015 : (Jvm.Cond.privateMethod ({ cls := "NineKeysRoundModel", name := "isSet", desc := "(I)Z" } : Jvm.MethodName)) ∈ lw_tbl := lw_at lw_m8 223 rfl
theorem q2016 : (Jvm.Cond.instanceMethod ({ cls := "NineKeysRoundModel", name := "isSet", desc := "(I)Z" } : Jvm.MethodName)) ∈ lw_all := lw_g (lw_at lw_m8 224 rfl) rfl
theorem q2017 : (Jvm.Cond.code ({ cls := "NineKeysRoundModel", name := "isSet", desc := "(I)Z" } : Jvm.MethodName) prog_31_method_60_code (2 : Nat) (Option.some Jvm.ClassFile.FieldType.boolean)) ∈ lw_all := lw_g (lw_at lw_m8 225 rfl) rfl
theorem q2018 : (Jvm.Cond.methodLink "NineKeysRoundModel" (305 : Nat) ({ cls := "java/lang/Integer", name := "bitCount", desc := "(I)I" } : Jvm.MethodName)) ∈ lw_all := lw_g (lw_at lw_m8 226 rfl) rfl
theorem q2019 : (Jvm.Cond.methodLink "NineKeysRoundModel" (310 : Nat) ({ cls := "NineKeysRoundModel", name := "shortestOf", desc := "(I)I" } : Jvm.MethodName)) ∈ lw_all := lw_g (lw_at lw_m8 227 rfl) rfl
theorem q2020 : (Jvm.Cond.privateMethod ({ cls := "NineKeysRoundModel", name := "shortestOf", desc := "(I)I" } : Jvm.MethodName)) ∈ lw_tbl := lw_at lw_m8 228 rfl
theorem q2021 : (Jvm.Cond.instanceMethod ({ cls := "NineKeysRoundModel", name := "shortestOf", desc := "(I)I" } : Jvm.MethodName)) ∈ lw_all := lw_g (lw_at lw_m8 229 rfl) rfl
theorem q2022 : (Jvm.Cond.code ({ cls := "NineKeysRoundModel", name := "shortestOf", desc := "(I)I" } : Jvm.MethodName) prog_31_method_59_code (7 : Nat) (Option.some Jvm.ClassFile.FieldType.int)) ∈ lw_all := lw_g (lw_at lw_m8 230 rfl) rfl
theorem q2023 : (Jvm.Cond.methodLink "NineKeysRoundModel" (296 : Nat) ({ cls := "NineKeysRoundModel", name := "took", desc := "(I)I" } : Jvm.MethodName)) ∈ lw_all := lw_g (lw_at lw_m8 231 rfl) rfl
theorem q2024 : (Jvm.Cond.privateMethod ({ cls := "NineKeysRoundModel", name := "took", desc := "(I)I" } : Jvm.MethodName)) ∈ lw_tbl := lw_at lw_m8 232 rfl
theorem q2025 : (Jvm.Cond.instanceMethod ({ cls := "NineKeysRoundModel", name := "took", desc := "(I)I" } : Jvm.MethodName)) ∈ lw_all := lw_g (lw_at lw_m8 233 rfl) rfl
theorem q2026 : (Jvm.Cond.code ({ cls := "NineKeysRoundModel", name := "took", desc := "(I)I" } : Jvm.MethodName) prog_31_method_58_code (5 : Nat) (Option.some Jvm.ClassFile.FieldType.int)) ∈ lw_all := lw_g (lw_at lw_m8 234 rfl) rfl
theorem q2027 : (Jvm.Cond.methodLink "NineKeysRoundModel" (299 : Nat) ({ cls := "NineKeysRoundModel", name := "nextOrder", desc := "(I)Z" } : Jvm.MethodName)) ∈ lw_all := lw_g (lw_at lw_m8 235 rfl) rfl
theorem q2028 : (Jvm.Cond.privateMethod ({ cls := "NineKeysRoundModel", name := "nextOrder", desc := "(I)Z" } : Jvm.MethodName)) ∈ lw_tbl := lw_at lw_m8 236 rfl
theorem q2029 : (Jvm.Cond.instanceMethod ({ cls := "NineKeysRoundModel", name := "nextOrder", desc := "(I)Z" } : Jvm.MethodName)) ∈ lw_all := lw_g (lw_at lw_m8 237 rfl) rfl
theorem q2030 : (Jvm.Cond.code ({ cls := "NineKeysRoundModel", name := "nextOrder", desc := "(I)Z" } : Jvm.MethodName) prog_31_method_57_code (6 : Nat) (Option.some Jvm.ClassFile.FieldType.boolean)) ∈ lw_all := lw_g (lw_at lw_m8 238 rfl) rfl
theorem q2031 : (Jvm.Cond.methodLink "NineKeysRoundModel" (292 : Nat) ({ cls := "NineKeysRoundModel", name := "exchange", desc := "(II)V" } : Jvm.MethodName)) ∈ lw_all := lw_g (lw_at lw_m8 239 rfl) rfl
theorem q2032 : (Jvm.Cond.privateMethod ({ cls := "NineKeysRoundModel", name := "exchange", desc := "(II)V" } : Jvm.MethodName)) ∈ lw_tbl := lw_at lw_m9 0 rfl
theorem q2033 : (Jvm.Cond.instanceMethod ({ cls := "NineKeysRoundModel", name := "exchange", desc := "(II)V" } : Jvm.MethodName)) ∈ lw_all := lw_g (lw_at lw_m9 1 rfl) rfl
theorem q2034 : (Jvm.Cond.code ({ cls := "NineKeysRoundModel", name := "exchange", desc := "(II)V" } : Jvm.MethodName) prog_31_method_56_code (4 : Nat) (Option.none : Option Jvm.ClassFile.FieldType)) ∈ lw_all := lw_g (lw_at lw_m9 2 rfl) rfl
theorem q2036 : (Jvm.Cond.instanceMethod ({ cls := "NineKeysRoundModel", name := "leftOut", desc := "(II)I" } : Jvm.MethodName)) ∈ lw_all := lw_g (lw_at lw_m9 4 rfl) rfl
theorem q2037 : (Jvm.Cond.selects "NineKeysRoundModel" ({ cls := "NineKeysRoundModel", name := "leftOut", desc := "(II)I" } : Jvm.MethodName) ({ cls := "NineKeysRoundModel", name := "leftOut", desc := "(II)I" } : Jvm.MethodName)) ∈ lw_all := lw_g (lw_at lw_m9 5 rfl) rfl
theorem q2038 : (Jvm.Cond.code ({ cls := "NineKeysRoundModel", name := "leftOut", desc := "(II)I" } : Jvm.MethodName) prog_31_method_62_code (7 : Nat) (Option.some Jvm.ClassFile.FieldType.int)) ∈ lw_all := lw_g (lw_at lw_m9 6 rfl) rfl
theorem q2040 : (Jvm.Cond.instanceMethod ({ cls := "NineKeysRoundModel", name := "thief", desc := "(IIII)I" } : Jvm.MethodName)) ∈ lw_all := lw_g (lw_at lw_m9 8 rfl) rfl
theorem q2041 : (Jvm.Cond.selects "NineKeysRoundModel" ({ cls := "NineKeysRoundModel", name := "thief", desc := "(IIII)I" } : Jvm.MethodName) ({ cls := "NineKeysRoundModel", name := "thief", desc := "(IIII)I" } : Jvm.MethodName)) ∈ lw_all := lw_g (lw_at lw_m9 9 rfl) rfl
theorem q2042 : (Jvm.Cond.code ({ cls := "NineKeysRoundModel", name := "thief", desc := "(IIII)I" } : Jvm.MethodName) prog_31_method_64_code (6 : Nat) (Option.some Jvm.ClassFile.FieldType.int)) ∈ lw_all := lw_g (lw_at lw_m9 10 rfl) rfl
theorem q2043 : (Jvm.Cond.methodLink "NineKeysRoundModel" (313 : Nat) ({ cls := "NineKeysRoundModel", name := "thiefAt", desc := "(III)I" } : Jvm.MethodName)) ∈ lw_all := lw_g (lw_at lw_m9 11 rfl) rfl
theorem q2044 : (Jvm.Cond.privateMethod ({ cls := "NineKeysRoundModel", name := "thiefAt", desc := "(III)I" } : Jvm.MethodName)) ∈ lw_tbl := lw_at lw_m9 12 rfl
theorem q2045 : (Jvm.Cond.instanceMethod ({ cls := "NineKeysRoundModel", name := "thiefAt", desc := "(III)I" } : Jvm.MethodName)) ∈ lw_all := lw_g (lw_at lw_m9 13 rfl) rfl
theorem q2046 : (Jvm.Cond.code ({ cls := "NineKeysRoundModel", name := "thiefAt", desc := "(III)I" } : Jvm.MethodName) prog_31_method_63_code (6 : Nat) (Option.some Jvm.ClassFile.FieldType.int)) ∈ lw_all := lw_g (lw_at lw_m9 14 rfl) rfl
theorem q2048 : (Jvm.Cond.instanceMethod ({ cls := "NineKeysRoundModel", name := "safe", desc := "(II)I" } : Jvm.MethodName)) ∈ lw_all := lw_g (lw_at lw_m9 16 rfl) rfl
theorem q2049 : (Jvm.Cond.selects "NineKeysRoundModel" ({ cls := "NineKeysRoundModel", name := "safe", desc := "(II)I" } : Jvm.MethodName) ({ cls := "NineKeysRoundModel", name := "safe", desc := "(II)I" } : Jvm.MethodName)) ∈ lw_all := lw_g (lw_at lw_m9 17 rfl) rfl
theorem q2050 : (Jvm.Cond.code ({ cls := "NineKeysRoundModel", name := "safe", desc := "(II)I" } : Jvm.MethodName) prog_31_method_65_code (6 : Nat) (Option.some Jvm.ClassFile.FieldType.int)) ∈ lw_all := lw_g (lw_at lw_m9 18 rfl) rfl
theorem q2052 : (Jvm.Cond.instanceMethod ({ cls := "NineKeysRoundModel", name := "two", desc := "(III)I" } : Jvm.MethodName)) ∈ lw_all := lw_g (lw_at lw_m9 20 rfl) rfl
theorem q2053 : (Jvm.Cond.selects "NineKeysRoundModel" ({ cls := "NineKeysRoundModel", name := "two", desc := "(III)I" } : Jvm.MethodName) ({ cls := "NineKeysRoundModel", name := "two", desc := "(III)I" } : Jvm.MethodName)) ∈ lw_all := lw_g (lw_at lw_m9 21 rfl) rfl
theorem q2054 : (Jvm.Cond.code ({ cls := "NineKeysRoundModel", name := "two", desc := "(III)I" } : Jvm.MethodName) prog_31_method_68_code (5 : Nat) (Option.some Jvm.ClassFile.FieldType.int)) ∈ lw_all := lw_g (lw_at lw_m9 22 rfl) rfl
theorem q2055 : (Jvm.Cond.methodLink "NineKeysRoundModel" (319 : Nat) ({ cls := "NineKeysRoundModel", name := "bestTwo", desc := "()I" } : Jvm.MethodName)) ∈ lw_all := lw_g (lw_at lw_m9 23 rfl) rfl
theorem q2056 : (Jvm.Cond.privateMethod ({ cls := "NineKeysRoundModel", name := "bestTwo", desc := "()I" } : Jvm.MethodName)) ∈ lw_tbl := lw_at lw_m9 24 rfl
theorem q2057 : (Jvm.Cond.instanceMethod ({ cls := "NineKeysRoundModel", name := "bestTwo", desc := "()I" } : Jvm.MethodName)) ∈ lw_all := lw_g (lw_at lw_m9 25 rfl) rfl
theorem q2058 : (Jvm.Cond.code ({ cls := "NineKeysRoundModel", name := "bestTwo", desc := "()I" } : Jvm.MethodName) prog_31_method_67_code (6 : Nat) (Option.some Jvm.ClassFile.FieldType.int)) ∈ lw_all := lw_g (lw_at lw_m9 26 rfl) rfl
theorem q2059 : (Jvm.Cond.methodLink "NineKeysRoundModel" (316 : Nat) ({ cls := "NineKeysRoundModel", name := "twoOf", desc := "(II)I" } : Jvm.MethodName)) ∈ lw_all := lw_g (lw_at lw_m9 27 rfl) rfl
theorem q2060 : (Jvm.Cond.privateMethod ({ cls := "NineKeysRoundModel", name := "twoOf", desc := "(II)I" } : Jvm.MethodName)) ∈ lw_tbl := lw_at lw_m9 28 rfl
theorem q2061 : (Jvm.Cond.instanceMethod ({ cls := "NineKeysRoundModel", name := "twoOf", desc := "(II)I" } : Jvm.MethodName)) ∈ lw_all := lw_g (lw_at lw_m9 29 rfl) rfl
theorem q2062 : (Jvm.Cond.code ({ cls := "NineKeysRoundModel", name := "twoOf", desc := "(II)I" } : Jvm.MethodName) prog_31_method_66_code (7 : Nat) (Option.some Jvm.ClassFile.FieldType.int)) ∈ lw_all := lw_g (lw_at lw_m9 30 rfl) rfl
theorem q2064 : (Jvm.Cond.instanceMethod ({ cls := "NineKeysRoundModel", name := "success", desc := "(IIII)I" } : Jvm.MethodName)) ∈ lw_all := lw_g (lw_at lw_m9 32 rfl) rfl
theorem q2065 : (Jvm.Cond.selects "NineKeysRoundModel" ({ cls := "NineKeysRoundModel", name := "success", desc := "(IIII)I" } : Jvm.MethodName) ({ cls := "NineKeysRoundModel", name := "success", desc := "(IIII)I" } : Jvm.MethodName)) ∈ lw_all := lw_g (lw_at lw_m9 33 rfl) rfl
theorem q2066 : (Jvm.Cond.code ({ cls := "NineKeysRoundModel", name := "success", desc := "(IIII)I" } : Jvm.MethodName) prog_31_method_73_code (6 : Nat) (Option.some Jvm.ClassFile.FieldType.int)) ∈ lw_all := lw_g (lw_at lw_m9 34 rfl) rfl
theorem q2067 : (Jvm.Cond.methodLink "NineKeysRoundModel" (328 : Nat) ({ cls := "NineKeysRoundModel", name := "isMix", desc := "(I)Z" } : Jvm.MethodName)) ∈ lw_all := lw_g (lw_at lw_m9 35 rfl) rfl
theorem q2068 : (Jvm.Cond.static ({ cls := "NineKeysRoundModel", name := "isMix", desc := "(I)Z" } : Jvm.MethodName)) ∈ lw_all := lw_g (lw_at lw_m9 36 rfl) rfl
theorem q2069 : (Jvm.Cond.code ({ cls := "NineKeysRoundModel", name := "isMix", desc := "(I)Z" } : Jvm.MethodName) prog_31_method_72_code (1 : Nat) (Option.some Jvm.ClassFile.FieldType.boolean)) ∈ lw_all := lw_g (lw_at lw_m9 37 rfl) rfl
theorem q2070 : (Jvm.Cond.methodLink "NineKeysRoundModel" (331 : Nat) ({ cls := "NineKeysRoundModel", name := "bothWays", desc := "(I)V" } : Jvm.MethodName)) ∈ lw_all := lw_g (lw_at lw_m9 38 rfl) rfl
theorem q2071 : (Jvm.Cond.privateMethod ({ cls := "NineKeysRoundModel", name := "bothWays", desc := "(I)V" } : Jvm.MethodName)) ∈ lw_tbl := lw_at lw_m9 39 rfl
theorem q2072 : (Jvm.Cond.instanceMethod ({ cls := "NineKeysRoundModel", name := "bothWays", desc := "(I)V" } : Jvm.MethodName)) ∈ lw_all := lw_g (lw_at lw_m9 40 rfl) rfl
theorem q2073 : (Jvm.Cond.code ({ cls := "NineKeysRoundModel", name := "bothWays", desc := "(I)V" } : Jvm.MethodName) prog_31_method_69_code (3 : Nat) (Option.none : Option Jvm.ClassFile.FieldType)) ∈ lw_all := lw_g (lw_at lw_m9 41 rfl) rfl
theorem q2074 : (Jvm.Cond.methodLink "NineKeysRoundModel" (322 : Nat) ({ cls := "NineKeysRoundModel", name := "turns", desc := "()V" } : Jvm.MethodName)) ∈ lw_all := lw_g (lw_at lw_m9 42 rfl) rfl
theorem q2075 : (Jvm.Cond.privateMethod ({ cls := "NineKeysRoundModel", name := "turns", desc := "()V" } : Jvm.MethodName)) ∈ lw_tbl := lw_at lw_m9 43 rfl
theorem q2076 : (Jvm.Cond.instanceMethod ({ cls := "NineKeysRoundModel", name := "turns", desc := "()V" } : Jvm.MethodName)) ∈ lw_all := lw_g (lw_at lw_m9 44 rfl) rfl
theorem q2077 : (Jvm.Cond.code ({ cls := "NineKeysRoundModel", name := "turns", desc := "()V" } : Jvm.MethodName) prog_31_method_41_code (4 : Nat) (Option.none : Option Jvm.ClassFile.FieldType)) ∈ lw_all := lw_g (lw_at lw_m9 45 rfl) rfl
theorem q2078 : (Jvm.Cond.methodLink "NineKeysRoundModel" (334 : Nat) ({ cls := "NineKeysRoundModel", name := "succeeds", desc := "(III)I" } : Jvm.MethodName)) ∈ lw_all := lw_g (lw_at lw_m9 46 rfl) rfl
theorem q2079 : (Jvm.Cond.privateMethod ({ cls := "NineKeysRoundModel", name := "succeeds", desc := "(III)I" } : Jvm.MethodName)) ∈ lw_tbl := lw_at lw_m9 47 rfl
theorem q2080 : (Jvm.Cond.instanceMethod ({ cls := "NineKeysRoundModel", name := "succeeds", desc := "(III)I" } : Jvm.MethodName)) ∈ lw_all := lw_g (lw_at lw_m9 48 rfl) rfl
theorem q2081 : (Jvm.Cond.code ({ cls := "NineKeysRoundModel", name := "succeeds", desc := "(III)I" } : Jvm.MethodName) prog_31_method_71_code (4 : Nat) (Option.some Jvm.ClassFile.FieldType.int)) ∈ lw_all := lw_g (lw_at lw_m9 49 rfl) rfl
theorem q2082 : (Jvm.Cond.methodLink "NineKeysRoundModel" (325 : Nat) ({ cls := "NineKeysRoundModel", name := "isFree", desc := "(III)Z" } : Jvm.MethodName)) ∈ lw_all := lw_g (lw_at lw_m9 50 rfl) rfl
theorem q2083 : (Jvm.Cond.privateMethod ({ cls := "NineKeysRoundModel", name := "isFree", desc := "(III)Z" } : Jvm.MethodName)) ∈ lw_tbl := lw_at lw_m9 51 rfl
theorem q2084 : (Jvm.Cond.instanceMethod ({ cls := "NineKeysRoundModel", name := "isFree", desc := "(III)Z" } : Jvm.MethodName)) ∈ lw_all := lw_g (lw_at lw_m9 52 rfl) rfl
theorem q2085 : (Jvm.Cond.code ({ cls := "NineKeysRoundModel", name := "isFree", desc := "(III)Z" } : Jvm.MethodName) prog_31_method_70_code (5 : Nat) (Option.some Jvm.ClassFile.FieldType.boolean)) ∈ lw_all := lw_g (lw_at lw_m9 53 rfl) rfl
theorem q2087 : (Jvm.Cond.instanceMethod ({ cls := "NineKeysRoundModel", name := "bestMinute", desc := "(IIII)I" } : Jvm.MethodName)) ∈ lw_all := lw_g (lw_at lw_m9 55 rfl) rfl
theorem q2088 : (Jvm.Cond.selects "NineKeysRoundModel" ({ cls := "NineKeysRoundModel", name := "bestMinute", desc := "(IIII)I" } : Jvm.MethodName) ({ cls := "NineKeysRoundModel", name := "bestMinute", desc := "(IIII)I" } : Jvm.MethodName)) ∈ lw_all := lw_g (lw_at lw_m9 56 rfl) rfl
theorem q2089 : (Jvm.Cond.code ({ cls := "NineKeysRoundModel", name := "bestMinute", desc := "(IIII)I" } : Jvm.MethodName) prog_31_method_75_code (7 : Nat) (Option.some Jvm.ClassFile.FieldType.int)) ∈ lw_all := lw_g (lw_at lw_m9 57 rfl) rfl
theorem q2090 : (Jvm.Cond.methodLink "NineKeysRoundModel" (337 : Nat) ({ cls := "NineKeysRoundModel", name := "bestMinute", desc := "(II)I" } : Jvm.MethodName)) ∈ lw_all := lw_g (lw_at lw_m9 58 rfl) rfl
theorem q2091 : (Jvm.Cond.privateMethod ({ cls := "NineKeysRoundModel", name := "bestMinute", desc := "(II)I" } : Jvm.MethodName)) ∈ lw_tbl := lw_at lw_m9 59 rfl
theorem q2092 : (Jvm.Cond.instanceMethod ({ cls := "NineKeysRoundModel", name := "bestMinute", desc := "(II)I" } : Jvm.MethodName)) ∈ lw_all := lw_g (lw_at lw_m9 60 rfl) rfl
theorem q2093 : (Jvm.Cond.code ({ cls := "NineKeysRoundModel", name := "bestMinute", desc := "(II)I" } : Jvm.MethodName) prog_31_method_74_code (7 : Nat) (Option.some Jvm.ClassFile.FieldType.int)) ∈ lw_all := lw_g (lw_at lw_m9 61 rfl) rfl
theorem q2095 : (Jvm.Cond.instanceMethod ({ cls := "NineKeysRoundModel", name := "mix", desc := "(III)I" } : Jvm.MethodName)) ∈ lw_all := lw_g (lw_at lw_m9 63 rfl) rfl
theorem q2096 : (Jvm.Cond.selects "NineKeysRoundModel" ({ cls := "NineKeysRoundModel", name := "mix", desc := "(III)I" } : Jvm.MethodName) ({ cls := "NineKeysRoundModel", name := "mix", desc := "(III)I" } : Jvm.MethodName)) ∈ lw_all := lw_g (lw_at lw_m9 64 rfl) rfl
theorem q2097 : (Jvm.Cond.code ({ cls := "NineKeysRoundModel", name := "mix", desc := "(III)I" } : Jvm.MethodName) prog_31_method_76_code (9 : Nat) (Option.some Jvm.ClassFile.FieldType.int)) ∈ lw_all := lw_g (lw_at lw_m9 65 rfl) rfl
theorem q2099 : (Jvm.Cond.instanceMethod ({ cls := "NineKeysRoundModel", name := "paper", desc := "(II)I" } : Jvm.MethodName)) ∈ lw_all := lw_g (lw_at lw_m9 67 rfl) rfl
theorem q2100 : (Jvm.Cond.selects "NineKeysRoundModel" ({ cls := "NineKeysRoundModel", name := "paper", desc := "(II)I" } : Jvm.MethodName) ({ cls := "NineKeysRoundModel", name := "paper", desc := "(II)I" } : Jvm.MethodName)) ∈ lw_all := lw_g (lw_at lw_m9 68 rfl) rfl
theorem q2101 : (Jvm.Cond.code ({ cls := "NineKeysRoundModel", name := "paper", desc := "(II)I" } : Jvm.MethodName) prog_31_method_78_code (11 : Nat) (Option.some Jvm.ClassFile.FieldType.int)) ∈ lw_all := lw_g (lw_at lw_m9 69 rfl) rfl
theorem q2102 : (Jvm.Cond.methodLink "NineKeysRoundModel" (340 : Nat) ({ cls := "NineKeysRoundModel", name := "later", desc := "(II)I" } : Jvm.MethodName)) ∈ lw_all := lw_g (lw_at lw_m9 70 rfl) rfl
theorem q2103 : (Jvm.Cond.privateMethod ({ cls := "NineKeysRoundModel", name := "later", desc := "(II)I" } : Jvm.MethodName)) ∈ lw_tbl := lw_at lw_m9 71 rfl
theorem q2104 : (Jvm.Cond.instanceMethod ({ cls := "NineKeysRoundModel", name := "later", desc := "(II)I" } : Jvm.MethodName)) ∈ lw_all := lw_g (lw_at lw_m9 72 rfl) rfl
theorem q2105 : (Jvm.Cond.code ({ cls := "NineKeysRoundModel", name := "later", desc := "(II)I" } : Jvm.MethodName) prog_31_method_77_code (6 : Nat) (Option.some Jvm.ClassFile.FieldType.int)) ∈ lw_all := lw_g (lw_at lw_m9 73 rfl) rfl
theorem q2107 : (Jvm.Cond.instanceMethod ({ cls := "NineKeysRoundModel", name := "which", desc := "(I)I" } : Jvm.MethodName)) ∈ lw_all := lw_g (lw_at lw_m9 75 rfl) rfl
theorem q2108 : (Jvm.Cond.selects "NineKeysRoundModel" ({ cls := "NineKeysRoundModel", name := "which", desc := "(I)I" } : Jvm.MethodName) ({ cls := "NineKeysRoundModel", name := "which", desc := "(I)I" } : Jvm.MethodName)) ∈ lw_all := lw_g (lw_at lw_m9 76 rfl) rfl
theorem q2109 : (Jvm.Cond.code ({ cls := "NineKeysRoundModel", name := "which", desc := "(I)I" } : Jvm.MethodName) prog_31_method_80_code (3 : Nat) (Option.some Jvm.ClassFile.FieldType.int)) ∈ lw_all := lw_g (lw_at lw_m9 77 rfl) rfl
theorem q2110 : (Jvm.Cond.methodLink "NineKeysRoundModel" (343 : Nat) ({ cls := "NineKeysRoundModel", name := "isPaper", desc := "(I)Z" } : Jvm.MethodName)) ∈ lw_all := lw_g (lw_at lw_m9 78 rfl) rfl
theorem q2111 : (Jvm.Cond.privateMethod ({ cls := "NineKeysRoundModel", name := "isPaper", desc := "(I)Z" } : Jvm.MethodName)) ∈ lw_tbl := lw_at lw_m9 79 rfl
theorem q2112 : (Jvm.Cond.instanceMethod ({ cls := "NineKeysRoundModel", name := "isPaper", desc := "(I)Z" } : Jvm.MethodName)) ∈ lw_all := lw_g (lw_at lw_m9 80 rfl) rfl
theorem q2113 : (Jvm.Cond.code ({ cls := "NineKeysRoundModel", name := "isPaper", desc := "(I)Z" } : Jvm.MethodName) prog_31_method_79_code (3 : Nat) (Option.some Jvm.ClassFile.FieldType.boolean)) ∈ lw_all := lw_g (lw_at lw_m9 81 rfl) rfl
theorem q2115 : (Jvm.Cond.instanceMethod ({ cls := "NineKeysRoundModel", name := "fit", desc := "(II)I" } : Jvm.MethodName)) ∈ lw_all := lw_g (lw_at lw_m9 83 rfl) rfl
theorem q2116 : (Jvm.Cond.selects "NineKeysRoundModel" ({ cls := "NineKeysRoundModel", name := "fit", desc := "(II)I" } : Jvm.MethodName) ({ cls := "NineKeysRoundModel", name := "fit", desc := "(II)I" } : Jvm.MethodName)) ∈ lw_all := lw_g (lw_at lw_m9 84 rfl) rfl
theorem q2117 : (Jvm.Cond.code ({ cls := "NineKeysRoundModel", name := "fit", desc := "(II)I" } : Jvm.MethodName) prog_31_method_81_code (7 : Nat) (Option.some Jvm.ClassFile.FieldType.int)) ∈ lw_all := lw_g (lw_at lw_m9 85 rfl) rfl
theorem q2119 : (Jvm.Cond.instanceMethod ({ cls := "NineKeysRoundModel", name := "hang", desc := "(II)I" } : Jvm.MethodName)) ∈ lw_all := lw_g (lw_at lw_m9 87 rfl) rfl
theorem q2120 : (Jvm.Cond.selects "NineKeysRoundModel" ({ cls := "NineKeysRoundModel", name := "hang", desc := "(II)I" } : Jvm.MethodName) ({ cls := "NineKeysRoundModel", name := "hang", desc := "(II)I" } : Jvm.MethodName)) ∈ lw_all := lw_g (lw_at lw_m9 88 rfl) rfl
theorem q2121 : (Jvm.Cond.code ({ cls := "NineKeysRoundModel", name := "hang", desc := "(II)I" } : Jvm.MethodName) prog_31_method_84_code (6 : Nat) (Option.some Jvm.ClassFile.FieldType.int)) ∈ lw_all := lw_g (lw_at lw_m9 89 rfl) rfl
theorem q2122 : (Jvm.Cond.methodLink "NineKeysRoundModel" (346 : Nat) ({ cls := "NineKeysRoundModel", name := "apartFrom", desc := "(II)I" } : Jvm.MethodName)) ∈ lw_all := lw_g (lw_at lw_m9 90 rfl) rfl
theorem q2123 : (Jvm.Cond.privateMethod ({ cls := "NineKeysRoundModel", name := "apartFrom", desc := "(II)I" } : Jvm.MethodName)) ∈ lw_tbl := lw_at lw_m9 91 rfl
theorem q2124 : (Jvm.Cond.instanceMethod ({ cls := "NineKeysRoundModel", name := "apartFrom", desc := "(II)I" } : Jvm.MethodName)) ∈ lw_all := lw_g (lw_at lw_m9 92 rfl) rfl
theorem q2125 : (Jvm.Cond.code ({ cls := "NineKeysRoundModel", name := "apartFrom", desc := "(II)I" } : Jvm.MethodName) prog_31_method_82_code (3 : Nat) (Option.some Jvm.ClassFile.FieldType.int)) ∈ lw_all := lw_g (lw_at lw_m9 93 rfl) rfl
theorem q2126 : (Jvm.Cond.methodLink "NineKeysRoundModel" (349 : Nat) ({ cls := "NineKeysRoundModel", name := "nearest", desc := "(I)I" } : Jvm.MethodName)) ∈ lw_all := lw_g (lw_at lw_m9 94 rfl) rfl
theorem q2127 : (Jvm.Cond.privateMethod ({ cls := "NineKeysRoundModel", name := "nearest", desc := "(I)I" } : Jvm.MethodName)) ∈ lw_tbl := lw_at lw_m9 95 rfl
theorem q2128 : (Jvm.Cond.instanceMethod ({ cls := "NineKeysRoundModel", name := "nearest", desc := "(I)I" } : Jvm.MethodName)) ∈ lw_all := lw_g (lw_at lw_m9 96 rfl) rfl
theorem q2129 : (Jvm.Cond.code ({ cls := "NineKeysRoundModel", name := "nearest", desc := "(I)I" } : Jvm.MethodName) prog_31_method_83_code (4 : Nat) (Option.some Jvm.ClassFile.FieldType.int)) ∈ lw_all := lw_g (lw_at lw_m9 97 rfl) rfl
theorem q2131 : (Jvm.Cond.instanceMethod ({ cls := "NineKeysRoundModel", name := "drawn", desc := "(III)I" } : Jvm.MethodName)) ∈ lw_all := lw_g (lw_at lw_m9 99 rfl) rfl
theorem q2132 : (Jvm.Cond.selects "NineKeysRoundModel" ({ cls := "NineKeysRoundModel", name := "drawn", desc := "(III)I" } : Jvm.MethodName) ({ cls := "NineKeysRoundModel", name := "drawn", desc := "(III)I" } : Jvm.MethodName)) ∈ lw_all := lw_g (lw_at lw_m9 100 rfl) rfl
theorem q2133 : (Jvm.Cond.code ({ cls := "NineKeysRoundModel", name := "drawn", desc := "(III)I" } : Jvm.MethodName) prog_31_method_85_code (14 : Nat) (Option.some Jvm.ClassFile.FieldType.int)) ∈ lw_all := lw_g (lw_at lw_m9 101 rfl) rfl
theorem q2134 : (Jvm.Cond.constant "NineKeysRoundModel" (352 : Nat) (1103515245 : Int32)) ∈ lw_all := lw_g (lw_at lw_m9 102 rfl) rfl
theorem q2136 : (Jvm.Cond.instanceMethod ({ cls := "NineKeysRoundModel", name := "walk", desc := "(I)I" } : Jvm.MethodName)) ∈ lw_all := lw_g (lw_at lw_m9 104 rfl) rfl
theorem q2137 : (Jvm.Cond.selects "NineKeysRoundModel" ({ cls := "NineKeysRoundModel", name := "walk", desc := "(I)I" } : Jvm.MethodName) ({ cls := "NineKeysRoundModel", name := "walk", desc := "(I)I" } : Jvm.MethodName)) ∈ lw_all := lw_g (lw_at lw_m9 105 rfl) rfl
theorem q2138 : (Jvm.Cond.code ({ cls := "NineKeysRoundModel", name := "walk", desc := "(I)I" } : Jvm.MethodName) prog_31_method_86_code (3 : Nat) (Option.some Jvm.ClassFile.FieldType.int)) ∈ lw_all := lw_g (lw_at lw_m9 106 rfl) rfl
theorem q2140 : (Jvm.Cond.instanceMethod ({ cls := "NineKeysRoundModel", name := "waits", desc := "(I)I" } : Jvm.MethodName)) ∈ lw_all := lw_g (lw_at lw_m9 108 rfl) rfl
theorem q2141 : (Jvm.Cond.selects "NineKeysRoundModel" ({ cls := "NineKeysRoundModel", name := "waits", desc := "(I)I" } : Jvm.MethodName) ({ cls := "NineKeysRoundModel", name := "waits", desc := "(I)I" } : Jvm.MethodName)) ∈ lw_all := lw_g (lw_at lw_m9 109 rfl) rfl
theorem q2142 : (Jvm.Cond.code ({ cls := "NineKeysRoundModel", name := "waits", desc := "(I)I" } : Jvm.MethodName) prog_31_method_87_code (2 : Nat) (Option.some Jvm.ClassFile.FieldType.int)) ∈ lw_all := lw_g (lw_at lw_m9 110 rfl) rfl
theorem q2144 : (Jvm.Cond.instanceMethod ({ cls := "NineKeysRoundModel", name := "home", desc := "()I" } : Jvm.MethodName)) ∈ lw_all := lw_g (lw_at lw_m9 112 rfl) rfl
theorem q2145 : (Jvm.Cond.selects "NineKeysRoundModel" ({ cls := "NineKeysRoundModel", name := "home", desc := "()I" } : Jvm.MethodName) ({ cls := "NineKeysRoundModel", name := "home", desc := "()I" } : Jvm.MethodName)) ∈ lw_all := lw_g (lw_at lw_m9 113 rfl) rfl
theorem q2146 : (Jvm.Cond.code ({ cls := "NineKeysRoundModel", name := "home", desc := "()I" } : Jvm.MethodName) prog_31_method_88_code (2 : Nat) (Option.some Jvm.ClassFile.FieldType.int)) ∈ lw_all := lw_g (lw_at lw_m9 114 rfl) rfl
theorem q2148 : (Jvm.Cond.instanceMethod ({ cls := "NineKeysRoundModel", name := "led", desc := "(I)I" } : Jvm.MethodName)) ∈ lw_all := lw_g (lw_at lw_m9 116 rfl) rfl
theorem q2149 : (Jvm.Cond.selects "NineKeysRoundModel" ({ cls := "NineKeysRoundModel", name := "led", desc := "(I)I" } : Jvm.MethodName) ({ cls := "NineKeysRoundModel", name := "led", desc := "(I)I" } : Jvm.MethodName)) ∈ lw_all := lw_g (lw_at lw_m9 117 rfl) rfl
theorem q2150 : (Jvm.Cond.code ({ cls := "NineKeysRoundModel", name := "led", desc := "(I)I" } : Jvm.MethodName) prog_31_method_89_code (2 : Nat) (Option.some Jvm.ClassFile.FieldType.int)) ∈ lw_all := lw_g (lw_at lw_m9 118 rfl) rfl
theorem q2152 : (Jvm.Cond.instanceMethod ({ cls := "NineKeysRoundModel", name := "image", desc := "()I" } : Jvm.MethodName)) ∈ lw_all := lw_g (lw_at lw_m9 120 rfl) rfl
theorem q2153 : (Jvm.Cond.selects "NineKeysRoundModel" ({ cls := "NineKeysRoundModel", name := "image", desc := "()I" } : Jvm.MethodName) ({ cls := "NineKeysRoundModel", name := "image", desc := "()I" } : Jvm.MethodName)) ∈ lw_all := lw_g (lw_at lw_m9 121 rfl) rfl
theorem q2154 : (Jvm.Cond.code ({ cls := "NineKeysRoundModel", name := "image", desc := "()I" } : Jvm.MethodName) prog_31_method_90_code (2 : Nat) (Option.some Jvm.ClassFile.FieldType.int)) ∈ lw_all := lw_g (lw_at lw_m9 122 rfl) rfl
theorem q2156 : (Jvm.Cond.instanceMethod ({ cls := "NineKeysRoundModel", name := "back", desc := "()I" } : Jvm.MethodName)) ∈ lw_all := lw_g (lw_at lw_m9 124 rfl) rfl
theorem q2157 : (Jvm.Cond.selects "NineKeysRoundModel" ({ cls := "NineKeysRoundModel", name := "back", desc := "()I" } : Jvm.MethodName) ({ cls := "NineKeysRoundModel", name := "back", desc := "()I" } : Jvm.MethodName)) ∈ lw_all := lw_g (lw_at lw_m9 125 rfl) rfl
theorem q2158 : (Jvm.Cond.code ({ cls := "NineKeysRoundModel", name := "back", desc := "()I" } : Jvm.MethodName) prog_31_method_91_code (2 : Nat) (Option.some Jvm.ClassFile.FieldType.int)) ∈ lw_all := lw_g (lw_at lw_m9 126 rfl) rfl
theorem q2160 : (Jvm.Cond.instanceMethod ({ cls := "NineKeysRoundModel", name := "body", desc := "(I)I" } : Jvm.MethodName)) ∈ lw_all := lw_g (lw_at lw_m9 128 rfl) rfl
theorem q2161 : (Jvm.Cond.selects "NineKeysRoundModel" ({ cls := "NineKeysRoundModel", name := "body", desc := "(I)I" } : Jvm.MethodName) ({ cls := "NineKeysRoundModel", name := "body", desc := "(I)I" } : Jvm.MethodName)) ∈ lw_all := lw_g (lw_at lw_m9 129 rfl) rfl
theorem q2162 : (Jvm.Cond.code ({ cls := "NineKeysRoundModel", name := "body", desc := "(I)I" } : Jvm.MethodName) prog_31_method_98_code (2 : Nat) (Option.some Jvm.ClassFile.FieldType.int)) ∈ lw_all := lw_g (lw_at lw_m9 130 rfl) rfl
theorem q2164 : (Jvm.Cond.instanceMethod ({ cls := "NineKeysRoundModel", name := "act", desc := "(III)I" } : Jvm.MethodName)) ∈ lw_all := lw_g (lw_at lw_m9 132 rfl) rfl
theorem q2165 : (Jvm.Cond.selects "NineKeysRoundModel" ({ cls := "NineKeysRoundModel", name := "act", desc := "(III)I" } : Jvm.MethodName) ({ cls := "NineKeysRoundModel", name := "act", desc := "(III)I" } : Jvm.MethodName)) ∈ lw_all := lw_g (lw_at lw_m9 133 rfl) rfl
theorem q2166 : (Jvm.Cond.code ({ cls := "NineKeysRoundModel", name := "act", desc := "(III)I" } : Jvm.MethodName) prog_31_method_99_code (5 : Nat) (Option.some Jvm.ClassFile.FieldType.int)) ∈ lw_all := lw_g (lw_at lw_m9 134 rfl) rfl
theorem q2167 : (Jvm.Cond.methodLink "NineKeysRoundModel" (374 : Nat) ({ cls := "NineKeysRoundModel", name := "turnsBy", desc := "(III)I" } : Jvm.MethodName)) ∈ lw_all := lw_g (lw_at lw_m9 135 rfl) rfl
theorem q2168 : (Jvm.Cond.privateMethod ({ cls := "NineKeysRoundModel", name := "turnsBy", desc := "(III)I" } : Jvm.MethodName)) ∈ lw_tbl := lw_at lw_m9 136 rfl
theorem q2169 : (Jvm.Cond.instanceMethod ({ cls := "NineKeysRoundModel", name := "turnsBy", desc := "(III)I" } : Jvm.MethodName)) ∈ lw_all := lw_g (lw_at lw_m9 137 rfl) rfl
theorem q2170 : (Jvm.Cond.code ({ cls := "NineKeysRoundModel", name := "turnsBy", desc := "(III)I" } : Jvm.MethodName) prog_31_method_94_code (4 : Nat) (Option.some Jvm.ClassFile.FieldType.int)) ∈ lw_all := lw_g (lw_at lw_m9 138 rfl) rfl
theorem q2171 : (Jvm.Cond.methodLink "NineKeysRoundModel" (371 : Nat) ({ cls := "NineKeysRoundModel", name := "ran", desc := "(I)V" } : Jvm.MethodName)) ∈ lw_all := lw_g (lw_at lw_m9 139 rfl) rfl
theorem q2172 : (Jvm.Cond.privateMethod ({ cls := "NineKeysRoundModel", name := "ran", desc := "(I)V" } : Jvm.MethodName)) ∈ lw_tbl := lw_at lw_m9 140 rfl
theorem q2173 : (Jvm.Cond.instanceMethod ({ cls := "NineKeysRoundModel", name := "ran", desc := "(I)V" } : Jvm.MethodName)) ∈ lw_all := lw_g (lw_at lw_m9 141 rfl) rfl
theorem q2174 : (Jvm.Cond.code ({ cls := "NineKeysRoundModel", name := "ran", desc := "(I)V" } : Jvm.MethodName) prog_31_method_93_code (2 : Nat) (Option.none : Option Jvm.ClassFile.FieldType)) ∈ lw_all := lw_g (lw_at lw_m9 142 rfl) rfl
theorem q2175 : (Jvm.Cond.methodLink "NineKeysRoundModel" (377 : Nat) ({ cls := "NineKeysRoundModel", name := "above", desc := "(I)I" } : Jvm.MethodName)) ∈ lw_all := lw_g (lw_at lw_m9 143 rfl) rfl
theorem q2176 : (Jvm.Cond.static ({ cls := "NineKeysRoundModel", name := "above", desc := "(I)I" } : Jvm.MethodName)) ∈ lw_all := lw_g (lw_at lw_m9 144 rfl) rfl
theorem q2177 : (Jvm.Cond.code ({ cls := "NineKeysRoundModel", name := "above", desc := "(I)I" } : Jvm.MethodName) prog_31_method_92_code (1 : Nat) (Option.some Jvm.ClassFile.FieldType.int)) ∈ lw_all := lw_g (lw_at lw_m9 145 rfl) rfl
theorem q2178 : (Jvm.Cond.methodLink "NineKeysRoundModel" (380 : Nat) ({ cls := "NineKeysRoundModel", name := "seesBy", desc := "(III)I" } : Jvm.MethodName)) ∈ lw_all := lw_g (lw_at lw_m9 146 rfl) rfl
theorem q2179 : (Jvm.Cond.privateMethod ({ cls := "NineKeysRoundModel", name := "seesBy", desc := "(III)I" } : Jvm.MethodName)) ∈ lw_tbl := lw_at lw_m9 147 rfl
theorem q2180 : (Jvm.Cond.instanceMethod ({ cls := "NineKeysRoundModel", name := "seesBy", desc := "(III)I" } : Jvm.MethodName)) ∈ lw_all := lw_g (lw_at lw_m9 148 rfl) rfl
theorem q2181 : (Jvm.Cond.code ({ cls := "NineKeysRoundModel", name := "seesBy", desc := "(III)I" } : Jvm.MethodName) prog_31_method_95_code (5 : Nat) (Option.some Jvm.ClassFile.FieldType.int)) ∈ lw_all := lw_g (lw_at lw_m9 149 rfl) rfl
theorem q2182 : (Jvm.Cond.methodLink "NineKeysRoundModel" (383 : Nat) ({ cls := "NineKeysRoundModel", name := "fearsBy", desc := "(III)I" } : Jvm.MethodName)) ∈ lw_all := lw_g (lw_at lw_m9 150 rfl) rfl
theorem q2183 : (Jvm.Cond.privateMethod ({ cls := "NineKeysRoundModel", name := "fearsBy", desc := "(III)I" } : Jvm.MethodName)) ∈ lw_tbl := lw_at lw_m9 151 rfl
theorem q2184 : (Jvm.Cond.instanceMethod ({ cls := "NineKeysRoundModel", name := "fearsBy", desc := "(III)I" } : Jvm.MethodName)) ∈ lw_all := lw_g (lw_at lw_m9 152 rfl) rfl
theorem q2185 : (Jvm.Cond.code ({ cls := "NineKeysRoundModel", name := "fearsBy", desc := "(III)I" } : Jvm.MethodName) prog_31_method_96_code (5 : Nat) (Option.some Jvm.ClassFile.FieldType.int)) ∈ lw_all := lw_g (lw_at lw_m9 153 rfl) rfl
theorem q2186 : (Jvm.Cond.methodLink "NineKeysRoundModel" (386 : Nat) ({ cls := "NineKeysRoundModel", name := "tells", desc := "(III)I" } : Jvm.MethodName)) ∈ lw_all := lw_g (lw_at lw_m9 154 rfl) rfl
theorem q2187 : (Jvm.Cond.privateMethod ({ cls := "NineKeysRoundModel", name := "tells", desc := "(III)I" } : Jvm.MethodName)) ∈ lw_tbl := lw_at lw_m9 155 rfl
theorem q2188 : (Jvm.Cond.instanceMethod ({ cls := "NineKeysRoundModel", name := "tells", desc := "(III)I" } : Jvm.MethodName)) ∈ lw_all := lw_g (lw_at lw_m9 156 rfl) rfl
theorem q2189 : (Jvm.Cond.code ({ cls := "NineKeysRoundModel", name := "tells", desc := "(III)I" } : Jvm.MethodName) prog_31_method_97_code (5 : Nat) (Option.some Jvm.ClassFile.FieldType.int)) ∈ lw_all := lw_g (lw_at lw_m9 157 rfl) rfl
theorem q2191 : (Jvm.Cond.instanceMethod ({ cls := "NineKeysRoundModel", name := "trace", desc := "(I)I" } : Jvm.MethodName)) ∈ lw_all := lw_g (lw_at lw_m9 159 rfl) rfl
theorem q2192 : (Jvm.Cond.selects "NineKeysRoundModel" ({ cls := "NineKeysRoundModel", name := "trace", desc := "(I)I" } : Jvm.MethodName) ({ cls := "NineKeysRoundModel", name := "trace", desc := "(I)I" } : Jvm.MethodName)) ∈ lw_all := lw_g (lw_at lw_m9 160 rfl) rfl
theorem q2193 : (Jvm.Cond.code ({ cls := "NineKeysRoundModel", name := "trace", desc := "(I)I" } : Jvm.MethodName) prog_31_method_100_code (2 : Nat) (Option.some Jvm.ClassFile.FieldType.int)) ∈ lw_all := lw_g (lw_at lw_m9 161 rfl) rfl
theorem q2195 : (Jvm.Cond.instanceMethod ({ cls := "NineKeysRoundModel", name := "keep", desc := "(II)I" } : Jvm.MethodName)) ∈ lw_all := lw_g (lw_at lw_m9 163 rfl) rfl
theorem q2196 : (Jvm.Cond.selects "NineKeysRoundModel" ({ cls := "NineKeysRoundModel", name := "keep", desc := "(II)I" } : Jvm.MethodName) ({ cls := "NineKeysRoundModel", name := "keep", desc := "(II)I" } : Jvm.MethodName)) ∈ lw_all := lw_g (lw_at lw_m9 164 rfl) rfl
theorem q2197 : (Jvm.Cond.code ({ cls := "NineKeysRoundModel", name := "keep", desc := "(II)I" } : Jvm.MethodName) prog_31_method_101_code (3 : Nat) (Option.some Jvm.ClassFile.FieldType.int)) ∈ lw_all := lw_g (lw_at lw_m9 165 rfl) rfl
theorem q2199 : (Jvm.Cond.instanceMethod ({ cls := "NineKeysRoundModel", name := "row", desc := "(III)I" } : Jvm.MethodName)) ∈ lw_all := lw_g (lw_at lw_m9 167 rfl) rfl
theorem q2200 : (Jvm.Cond.selects "NineKeysRoundModel" ({ cls := "NineKeysRoundModel", name := "row", desc := "(III)I" } : Jvm.MethodName) ({ cls := "NineKeysRoundModel", name := "row", desc := "(III)I" } : Jvm.MethodName)) ∈ lw_all := lw_g (lw_at lw_m9 168 rfl) rfl
theorem q2201 : (Jvm.Cond.code ({ cls := "NineKeysRoundModel", name := "row", desc := "(III)I" } : Jvm.MethodName) prog_31_method_102_code (5 : Nat) (Option.some Jvm.ClassFile.FieldType.int)) ∈ lw_all := lw_g (lw_at lw_m9 169 rfl) rfl
theorem q2203 : (Jvm.Cond.instanceMethod ({ cls := "NineKeysRoundModel", name := "put", desc := "(IIJ)I" } : Jvm.MethodName)) ∈ lw_all := lw_g (lw_at lw_m9 171 rfl) rfl
theorem q2204 : (Jvm.Cond.selects "NineKeysRoundModel" ({ cls := "NineKeysRoundModel", name := "put", desc := "(IIJ)I" } : Jvm.MethodName) ({ cls := "NineKeysRoundModel", name := "put", desc := "(IIJ)I" } : Jvm.MethodName)) ∈ lw_all := lw_g (lw_at lw_m9 172 rfl) rfl
theorem q2205 : (Jvm.Cond.code ({ cls := "NineKeysRoundModel", name := "put", desc := "(IIJ)I" } : Jvm.MethodName) prog_31_method_105_code (5 : Nat) (Option.some Jvm.ClassFile.FieldType.int)) ∈ lw_all := lw_g (lw_at lw_m9 173 rfl) rfl
theorem q2206 : (Jvm.Cond.methodLink "NineKeysRoundModel" (392 : Nat) ({ cls := "NineKeysRoundModel", name := "isRow", desc := "(I)Z" } : Jvm.MethodName)) ∈ lw_all := lw_g (lw_at lw_m9 174 rfl) rfl
theorem q2207 : (Jvm.Cond.privateMethod ({ cls := "NineKeysRoundModel", name := "isRow", desc := "(I)Z" } : Jvm.MethodName)) ∈ lw_tbl := lw_at lw_m9 175 rfl
theorem q2208 : (Jvm.Cond.instanceMethod ({ cls := "NineKeysRoundModel", name := "isRow", desc := "(I)Z" } : Jvm.MethodName)) ∈ lw_all := lw_g (lw_at lw_m9 176 rfl) rfl
theorem q2209 : (Jvm.Cond.code ({ cls := "NineKeysRoundModel", name := "isRow", desc := "(I)Z" } : Jvm.MethodName) prog_31_method_103_code (2 : Nat) (Option.some Jvm.ClassFile.FieldType.boolean)) ∈ lw_all := lw_g (lw_at lw_m9 177 rfl) rfl
theorem q2210 : (Jvm.Cond.methodLink "NineKeysRoundModel" (395 : Nat) ({ cls := "NineKeysRoundModel", name := "kept", desc := "(IJ)J" } : Jvm.MethodName)) ∈ lw_all := lw_g (lw_at lw_m9 178 rfl) rfl
theorem q2211 : (Jvm.Cond.static ({ cls := "NineKeysRoundModel", name := "kept", desc := "(IJ)J" } : Jvm.MethodName)) ∈ lw_all := lw_g (lw_at lw_m9 179 rfl) rfl
theorem q2212 : (Jvm.Cond.code ({ cls := "NineKeysRoundModel", name := "kept", desc := "(IJ)J" } : Jvm.MethodName) prog_31_method_104_code (3 : Nat) (Option.some Jvm.ClassFile.FieldType.long)) ∈ lw_all := lw_g (lw_at lw_m9 180 rfl) rfl
theorem q2214 : (Jvm.Cond.instanceMethod ({ cls := "NineKeysRoundModel", name := "element", desc := "(II)J" } : Jvm.MethodName)) ∈ lw_all := lw_g (lw_at lw_m9 182 rfl) rfl
theorem q2215 : (Jvm.Cond.selects "NineKeysRoundModel" ({ cls := "NineKeysRoundModel", name := "element", desc := "(II)J" } : Jvm.MethodName) ({ cls := "NineKeysRoundModel", name := "element", desc := "(II)J" } : Jvm.MethodName)) ∈ lw_all := lw_g (lw_at lw_m9 183 rfl) rfl
theorem q2216 : (Jvm.Cond.code ({ cls := "NineKeysRoundModel", name := "element", desc := "(II)J" } : Jvm.MethodName) prog_31_method_106_code (3 : Nat) (Option.some Jvm.ClassFile.FieldType.long)) ∈ lw_all := lw_g (lw_at lw_m9 184 rfl) rfl
theorem q2217 : (Jvm.Cond.constantLong "NineKeysRoundModel" (399 : Nat) (-9223372036854775808 : Int64)) ∈ lw_all := lw_g (lw_at lw_m9 185 rfl) rfl
theorem q2219 : (Jvm.Cond.instanceMethod ({ cls := "NineKeysRoundModel", name := "shift", desc := "(IIIII)I" } : Jvm.MethodName)) ∈ lw_all := lw_g (lw_at lw_m9 187 rfl) rfl
theorem q2220 : (Jvm.Cond.selects "NineKeysRoundModel" ({ cls := "NineKeysRoundModel", name := "shift", desc := "(IIIII)I" } : Jvm.MethodName) ({ cls := "NineKeysRoundModel", name := "shift", desc := "(IIIII)I" } : Jvm.MethodName)) ∈ lw_all := lw_g (lw_at lw_m9 188 rfl) rfl
theorem q2221 : (Jvm.Cond.code ({ cls := "NineKeysRoundModel", name := "shift", desc := "(IIIII)I" } : Jvm.MethodName) prog_31_method_107_code (7 : Nat) (Option.some Jvm.ClassFile.FieldType.int)) ∈ lw_all := lw_g (lw_at lw_m9 189 rfl) rfl
theorem q2223 : (Jvm.Cond.instanceMethod ({ cls := "NineKeysRoundModel", name := "taken", desc := "(II)I" } : Jvm.MethodName)) ∈ lw_all := lw_g (lw_at lw_m9 191 rfl) rfl
theorem q2224 : (Jvm.Cond.selects "NineKeysRoundModel" ({ cls := "NineKeysRoundModel", name := "taken", desc := "(II)I" } : Jvm.MethodName) ({ cls := "NineKeysRoundModel", name := "taken", desc := "(II)I" } : Jvm.MethodName)) ∈ lw_all := lw_g (lw_at lw_m9 192 rfl) rfl
theorem q2225 : (Jvm.Cond.code ({ cls := "NineKeysRoundModel", name := "taken", desc := "(II)I" } : Jvm.MethodName) prog_31_method_108_code (5 : Nat) (Option.some Jvm.ClassFile.FieldType.int)) ∈ lw_all := lw_g (lw_at lw_m9 193 rfl) rfl
theorem q2227 : (Jvm.Cond.instanceMethod ({ cls := "NineKeysRoundModel", name := "count", desc := "(I)I" } : Jvm.MethodName)) ∈ lw_all := lw_g (lw_at lw_m9 195 rfl) rfl
theorem q2228 : (Jvm.Cond.selects "NineKeysRoundModel" ({ cls := "NineKeysRoundModel", name := "count", desc := "(I)I" } : Jvm.MethodName) ({ cls := "NineKeysRoundModel", name := "count", desc := "(I)I" } : Jvm.MethodName)) ∈ lw_all := lw_g (lw_at lw_m9 196 rfl) rfl
theorem q2229 : (Jvm.Cond.code ({ cls := "NineKeysRoundModel", name := "count", desc := "(I)I" } : Jvm.MethodName) prog_31_method_109_code (2 : Nat) (Option.some Jvm.ClassFile.FieldType.int)) ∈ lw_all := lw_g (lw_at lw_m9 197 rfl) rfl
theorem in_X2 : ∀ w ∈ wsX20, w ∈ lw_all := lw_in wsX20 [1691, 1693, 1695, 1697, 1699, 1701, 1703, 1705, 1707, 1709, 1711, 1713, 1715, 1717, 1719, 1721, 1723, 1725, 1727, 1729, 1731, 1733, 1735, 1737, 1739, 1741, 1743, 1745, 1747, 1749, 1751, 1753, 1755, 1757, 1759, 1761, 1763, 1765, 1767, 1769, 1771, 1773, 1775, 1777, 1779, 1781, 1783, 1785, 1787, 1789, 1791, 1793, 1795, 1797] (by decide +kernel) (by decide +kernel)
