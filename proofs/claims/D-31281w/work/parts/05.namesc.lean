/-! HoldtagModel -/
set_option maxRecDepth 100000
def RX4 : String := "HoldtagModel"
def TX4 : u_T := fun k => match k with
  | 0 => ("HoldtagModel", "thrown", "I", false)
  | 1 => ("HoldtagModel", "day", "I", false)
  | 2 => ("HoldtagModel", "window", "I", false)
  | 3 => ("HoldtagModel", "quota", "I", false)
  | 4 => ("HoldtagModel", "goneMany", "I", false)
  | 5 => ("HoldtagModel", "folderMany", "I", false)
  | 6 => ("HoldtagModel", "liesIn", "[I", true)
  | 7 => ("HoldtagModel", "folderTag", "[I", true)
  | 8 => ("HoldtagModel", "defaultTag", "I", false)
  | 9 => ("HoldtagModel", "tagMany", "I", false)
  | 10 => ("HoldtagModel", "actionOf", "[I", true)
  | 11 => ("HoldtagModel", "startOf", "[I", true)
  | 12 => ("HoldtagModel", "ageOf", "[I", true)
  | 13 => ("HoldtagModel", "eventDay", "[I", true)
  | 14 => ("HoldtagModel", "itemMany", "I", false)
  | 15 => ("HoldtagModel", "folderOf", "[I", true)
  | 16 => ("HoldtagModel", "senderOf", "[I", true)
  | 17 => ("HoldtagModel", "wordOf", "[I", true)
  | 18 => ("HoldtagModel", "sizeOf", "[I", true)
  | 19 => ("HoldtagModel", "arrivalOf", "[I", true)
  | 20 => ("HoldtagModel", "ownTag", "[I", true)
  | 21 => ("HoldtagModel", "meetingOf", "[I", true)
  | 22 => ("HoldtagModel", "stateOf", "[I", true)
  | 23 => ("HoldtagModel", "deletedOn", "[I", true)
  | 24 => ("HoldtagModel", "goneOn", "[I", true)
  | 25 => ("HoldtagModel", "wasHeld", "[Z", true)
  | 26 => ("HoldtagModel", "holdMany", "I", false)
  | 27 => ("HoldtagModel", "holdSender", "[I", true)
  | 28 => ("HoldtagModel", "holdWord", "[I", true)
  | 29 => ("HoldtagModel", "holdFirst", "[I", true)
  | 30 => ("HoldtagModel", "holdLast", "[I", true)
  | 31 => ("HoldtagModel", "isReleased", "[Z", true)
  | 32 => ("HoldtagModel", "output", "[B", true)
  | _ => ("HoldtagModel", "outputMany", "I", false)
def tyX4 : Nat → FieldType := fun k => match k with
  | 0 => .int
  | 1 => .int
  | 2 => .int
  | 3 => .int
  | 4 => .int
  | 5 => .int
  | 6 => .array .int
  | 7 => .array .int
  | 8 => .int
  | 9 => .int
  | 10 => .array .int
  | 11 => .array .int
  | 12 => .array .int
  | 13 => .array .int
  | 14 => .int
  | 15 => .array .int
  | 16 => .array .int
  | 17 => .array .int
  | 18 => .array .int
  | 19 => .array .int
  | 20 => .array .int
  | 21 => .array .int
  | 22 => .array .int
  | 23 => .array .int
  | 24 => .array .int
  | 25 => .array .boolean
  | 26 => .int
  | 27 => .array .int
  | 28 => .array .int
  | 29 => .array .int
  | 30 => .array .int
  | 31 => .array .boolean
  | 32 => .array .byte
  | _ => .int
abbrev wsX40 : List Cond := u_ws RX4 TX4 34
set_option maxRecDepth 100000 in
theorem nmX4 : ∀ a, a < 34 → ∀ b, b < 34 → a ≠ b → (TX4 a).2.1 ≠ (TX4 b).2.1 := by decide +kernel
set_option maxRecDepth 100000 in
theorem tyX4_ok : ∀ k, k < 34 → parseFieldDescriptor (TX4 k).2.2.1 = some (tyX4 k) := by decide +kernel
abbrev cX4_init : ByteArray := prog_12_method_1_code
def yX4_init : MethodName := ⟨RX4, "<init>", "()V"⟩
def dkwX4_init_8 : List UInt8 := [182, 0, 81, 177]
abbrev dktX4_init_8 : List UInt8 := dkwX4_init_8 ++ []
def dkwX4_init_7 : List UInt8 := [188, 10, 181, 0, 71, 42, 16, 6, 188, 4, 181, 0, 74, 42, 16, 60, 188, 8, 181, 0, 77, 42]
abbrev dktX4_init_7 : List UInt8 := dkwX4_init_7 ++ dktX4_init_8
def dkwX4_init_6 : List UInt8 := [188, 10, 181, 0, 62, 42, 16, 6, 188, 10, 181, 0, 65, 42, 16, 6, 188, 10, 181, 0, 68, 42, 16, 6]
abbrev dktX4_init_6 : List UInt8 := dkwX4_init_6 ++ dktX4_init_7
def dkwX4_init_5 : List UInt8 := [188, 10, 181, 0, 52, 42, 16, 40, 188, 10, 181, 0, 55, 42, 16, 40, 188, 4, 181, 0, 58, 42, 16, 6]
abbrev dktX4_init_5 : List UInt8 := dkwX4_init_5 ++ dktX4_init_6
def dkwX4_init_4 : List UInt8 := [188, 10, 181, 0, 43, 42, 16, 40, 188, 10, 181, 0, 46, 42, 16, 40, 188, 10, 181, 0, 49, 42, 16, 40]
abbrev dktX4_init_4 : List UInt8 := dkwX4_init_4 ++ dktX4_init_5
def dkwX4_init_3 : List UInt8 := [188, 10, 181, 0, 34, 42, 16, 40, 188, 10, 181, 0, 37, 42, 16, 40, 188, 10, 181, 0, 40, 42, 16, 40]
abbrev dktX4_init_3 : List UInt8 := dkwX4_init_3 ++ dktX4_init_4
def dkwX4_init_2 : List UInt8 := [188, 10, 181, 0, 25, 42, 16, 40, 188, 10, 181, 0, 28, 42, 16, 40, 188, 10, 181, 0, 31, 42, 16, 40]
abbrev dktX4_init_2 : List UInt8 := dkwX4_init_2 ++ dktX4_init_3
def dkwX4_init_1 : List UInt8 := [188, 10, 181, 0, 16, 42, 16, 8, 188, 10, 181, 0, 19, 42, 16, 8, 188, 10, 181, 0, 22, 42, 7]
abbrev dktX4_init_1 : List UInt8 := dkwX4_init_1 ++ dktX4_init_2
def dkwX4_init_0 : List UInt8 := [42, 183, 0, 1, 42, 16, 10, 188, 10, 181, 0, 7, 42, 16, 10, 188, 10, 181, 0, 13, 42, 16, 8]
abbrev dktX4_init_0 : List UInt8 := dkwX4_init_0 ++ dktX4_init_1
theorem dksX4_init_0 : cX4_init.data.toList.drop 0 = dktX4_init_0 := by decide +kernel
theorem dksX4_init_1 : cX4_init.data.toList.drop 23 = dktX4_init_1 := dk_seg dksX4_init_0 23 rfl rfl
theorem dksX4_init_2 : cX4_init.data.toList.drop 46 = dktX4_init_2 := dk_seg dksX4_init_1 23 rfl rfl
theorem dksX4_init_3 : cX4_init.data.toList.drop 70 = dktX4_init_3 := dk_seg dksX4_init_2 24 rfl rfl
theorem dksX4_init_4 : cX4_init.data.toList.drop 94 = dktX4_init_4 := dk_seg dksX4_init_3 24 rfl rfl
theorem dksX4_init_5 : cX4_init.data.toList.drop 118 = dktX4_init_5 := dk_seg dksX4_init_4 24 rfl rfl
theorem dksX4_init_6 : cX4_init.data.toList.drop 142 = dktX4_init_6 := dk_seg dksX4_init_5 24 rfl rfl
theorem dksX4_init_7 : cX4_init.data.toList.drop 166 = dktX4_init_7 := dk_seg dksX4_init_6 24 rfl rfl
theorem dksX4_init_8 : cX4_init.data.toList.drop 188 = dktX4_init_8 := dk_seg dksX4_init_7 22 rfl rfl
theorem dX4_init_0 : decode cX4_init 0 = .ok (.aload_n 0, 1) := dk_42 (dk_at dksX4_init_0 0 rfl rfl)
theorem dX4_init_1 : decode cX4_init 1 = .ok (.invokespecial 1, 3) := dk_183 0 1 (dk_at dksX4_init_0 1 rfl rfl)
theorem dX4_init_4 : decode cX4_init 4 = .ok (.aload_n 0, 1) := dk_42 (dk_at dksX4_init_0 4 rfl rfl)
theorem dX4_init_5 : decode cX4_init 5 = .ok (.bipush 10, 2) := dk_16 10 (dk_at dksX4_init_0 5 rfl rfl)
theorem dX4_init_7 : decode cX4_init 7 = .ok (.newarray .int, 2) := dk_188_10 (dk_at dksX4_init_0 7 rfl rfl)
theorem dX4_init_9 : decode cX4_init 9 = .ok (.putfield 7, 3) := dk_181 0 7 (dk_at dksX4_init_0 9 rfl rfl)
theorem dX4_init_12 : decode cX4_init 12 = .ok (.aload_n 0, 1) := dk_42 (dk_at dksX4_init_0 12 rfl rfl)
theorem dX4_init_13 : decode cX4_init 13 = .ok (.bipush 10, 2) := dk_16 10 (dk_at dksX4_init_0 13 rfl rfl)
theorem dX4_init_15 : decode cX4_init 15 = .ok (.newarray .int, 2) := dk_188_10 (dk_at dksX4_init_0 15 rfl rfl)
theorem dX4_init_17 : decode cX4_init 17 = .ok (.putfield 13, 3) := dk_181 0 13 (dk_at dksX4_init_0 17 rfl rfl)
theorem dX4_init_20 : decode cX4_init 20 = .ok (.aload_n 0, 1) := dk_42 (dk_at dksX4_init_0 20 rfl rfl)
theorem dX4_init_21 : decode cX4_init 21 = .ok (.bipush 8, 2) := dk_16 8 (dk_at dksX4_init_0 21 rfl rfl)
theorem dX4_init_23 : decode cX4_init 23 = .ok (.newarray .int, 2) := dk_188_10 (dk_at dksX4_init_1 0 rfl rfl)
theorem dX4_init_25 : decode cX4_init 25 = .ok (.putfield 16, 3) := dk_181 0 16 (dk_at dksX4_init_1 2 rfl rfl)
theorem dX4_init_28 : decode cX4_init 28 = .ok (.aload_n 0, 1) := dk_42 (dk_at dksX4_init_1 5 rfl rfl)
theorem dX4_init_29 : decode cX4_init 29 = .ok (.bipush 8, 2) := dk_16 8 (dk_at dksX4_init_1 6 rfl rfl)
theorem dX4_init_31 : decode cX4_init 31 = .ok (.newarray .int, 2) := dk_188_10 (dk_at dksX4_init_1 8 rfl rfl)
theorem dX4_init_33 : decode cX4_init 33 = .ok (.putfield 19, 3) := dk_181 0 19 (dk_at dksX4_init_1 10 rfl rfl)
theorem dX4_init_36 : decode cX4_init 36 = .ok (.aload_n 0, 1) := dk_42 (dk_at dksX4_init_1 13 rfl rfl)
theorem dX4_init_37 : decode cX4_init 37 = .ok (.bipush 8, 2) := dk_16 8 (dk_at dksX4_init_1 14 rfl rfl)
theorem dX4_init_39 : decode cX4_init 39 = .ok (.newarray .int, 2) := dk_188_10 (dk_at dksX4_init_1 16 rfl rfl)
theorem dX4_init_41 : decode cX4_init 41 = .ok (.putfield 22, 3) := dk_181 0 22 (dk_at dksX4_init_1 18 rfl rfl)
theorem dX4_init_44 : decode cX4_init 44 = .ok (.aload_n 0, 1) := dk_42 (dk_at dksX4_init_1 21 rfl rfl)
theorem dX4_init_45 : decode cX4_init 45 = .ok (.iconst 4, 1) := dk_7 (dk_at dksX4_init_1 22 rfl rfl)
theorem dX4_init_46 : decode cX4_init 46 = .ok (.newarray .int, 2) := dk_188_10 (dk_at dksX4_init_2 0 rfl rfl)
theorem dX4_init_48 : decode cX4_init 48 = .ok (.putfield 25, 3) := dk_181 0 25 (dk_at dksX4_init_2 2 rfl rfl)
theorem dX4_init_51 : decode cX4_init 51 = .ok (.aload_n 0, 1) := dk_42 (dk_at dksX4_init_2 5 rfl rfl)
theorem dX4_init_52 : decode cX4_init 52 = .ok (.bipush 40, 2) := dk_16 40 (dk_at dksX4_init_2 6 rfl rfl)
theorem dX4_init_54 : decode cX4_init 54 = .ok (.newarray .int, 2) := dk_188_10 (dk_at dksX4_init_2 8 rfl rfl)
theorem dX4_init_56 : decode cX4_init 56 = .ok (.putfield 28, 3) := dk_181 0 28 (dk_at dksX4_init_2 10 rfl rfl)
theorem dX4_init_59 : decode cX4_init 59 = .ok (.aload_n 0, 1) := dk_42 (dk_at dksX4_init_2 13 rfl rfl)
theorem dX4_init_60 : decode cX4_init 60 = .ok (.bipush 40, 2) := dk_16 40 (dk_at dksX4_init_2 14 rfl rfl)
theorem dX4_init_62 : decode cX4_init 62 = .ok (.newarray .int, 2) := dk_188_10 (dk_at dksX4_init_2 16 rfl rfl)
theorem dX4_init_64 : decode cX4_init 64 = .ok (.putfield 31, 3) := dk_181 0 31 (dk_at dksX4_init_2 18 rfl rfl)
theorem dX4_init_67 : decode cX4_init 67 = .ok (.aload_n 0, 1) := dk_42 (dk_at dksX4_init_2 21 rfl rfl)
theorem dX4_init_68 : decode cX4_init 68 = .ok (.bipush 40, 2) := dk_16 40 (dk_at dksX4_init_2 22 rfl rfl)
theorem dX4_init_70 : decode cX4_init 70 = .ok (.newarray .int, 2) := dk_188_10 (dk_at dksX4_init_3 0 rfl rfl)
theorem dX4_init_72 : decode cX4_init 72 = .ok (.putfield 34, 3) := dk_181 0 34 (dk_at dksX4_init_3 2 rfl rfl)
theorem dX4_init_75 : decode cX4_init 75 = .ok (.aload_n 0, 1) := dk_42 (dk_at dksX4_init_3 5 rfl rfl)
theorem dX4_init_76 : decode cX4_init 76 = .ok (.bipush 40, 2) := dk_16 40 (dk_at dksX4_init_3 6 rfl rfl)
theorem dX4_init_78 : decode cX4_init 78 = .ok (.newarray .int, 2) := dk_188_10 (dk_at dksX4_init_3 8 rfl rfl)
theorem dX4_init_80 : decode cX4_init 80 = .ok (.putfield 37, 3) := dk_181 0 37 (dk_at dksX4_init_3 10 rfl rfl)
theorem dX4_init_83 : decode cX4_init 83 = .ok (.aload_n 0, 1) := dk_42 (dk_at dksX4_init_3 13 rfl rfl)
theorem dX4_init_84 : decode cX4_init 84 = .ok (.bipush 40, 2) := dk_16 40 (dk_at dksX4_init_3 14 rfl rfl)
theorem dX4_init_86 : decode cX4_init 86 = .ok (.newarray .int, 2) := dk_188_10 (dk_at dksX4_init_3 16 rfl rfl)
theorem dX4_init_88 : decode cX4_init 88 = .ok (.putfield 40, 3) := dk_181 0 40 (dk_at dksX4_init_3 18 rfl rfl)
theorem dX4_init_91 : decode cX4_init 91 = .ok (.aload_n 0, 1) := dk_42 (dk_at dksX4_init_3 21 rfl rfl)
theorem dX4_init_92 : decode cX4_init 92 = .ok (.bipush 40, 2) := dk_16 40 (dk_at dksX4_init_3 22 rfl rfl)
theorem dX4_init_94 : decode cX4_init 94 = .ok (.newarray .int, 2) := dk_188_10 (dk_at dksX4_init_4 0 rfl rfl)
theorem dX4_init_96 : decode cX4_init 96 = .ok (.putfield 43, 3) := dk_181 0 43 (dk_at dksX4_init_4 2 rfl rfl)
theorem dX4_init_99 : decode cX4_init 99 = .ok (.aload_n 0, 1) := dk_42 (dk_at dksX4_init_4 5 rfl rfl)
theorem dX4_init_100 : decode cX4_init 100 = .ok (.bipush 40, 2) := dk_16 40 (dk_at dksX4_init_4 6 rfl rfl)
theorem dX4_init_102 : decode cX4_init 102 = .ok (.newarray .int, 2) := dk_188_10 (dk_at dksX4_init_4 8 rfl rfl)
theorem dX4_init_104 : decode cX4_init 104 = .ok (.putfield 46, 3) := dk_181 0 46 (dk_at dksX4_init_4 10 rfl rfl)
theorem dX4_init_107 : decode cX4_init 107 = .ok (.aload_n 0, 1) := dk_42 (dk_at dksX4_init_4 13 rfl rfl)
theorem dX4_init_108 : decode cX4_init 108 = .ok (.bipush 40, 2) := dk_16 40 (dk_at dksX4_init_4 14 rfl rfl)
theorem dX4_init_110 : decode cX4_init 110 = .ok (.newarray .int, 2) := dk_188_10 (dk_at dksX4_init_4 16 rfl rfl)
theorem dX4_init_112 : decode cX4_init 112 = .ok (.putfield 49, 3) := dk_181 0 49 (dk_at dksX4_init_4 18 rfl rfl)
theorem dX4_init_115 : decode cX4_init 115 = .ok (.aload_n 0, 1) := dk_42 (dk_at dksX4_init_4 21 rfl rfl)
theorem dX4_init_116 : decode cX4_init 116 = .ok (.bipush 40, 2) := dk_16 40 (dk_at dksX4_init_4 22 rfl rfl)
theorem dX4_init_118 : decode cX4_init 118 = .ok (.newarray .int, 2) := dk_188_10 (dk_at dksX4_init_5 0 rfl rfl)
theorem dX4_init_120 : decode cX4_init 120 = .ok (.putfield 52, 3) := dk_181 0 52 (dk_at dksX4_init_5 2 rfl rfl)
theorem dX4_init_123 : decode cX4_init 123 = .ok (.aload_n 0, 1) := dk_42 (dk_at dksX4_init_5 5 rfl rfl)
theorem dX4_init_124 : decode cX4_init 124 = .ok (.bipush 40, 2) := dk_16 40 (dk_at dksX4_init_5 6 rfl rfl)
theorem dX4_init_126 : decode cX4_init 126 = .ok (.newarray .int, 2) := dk_188_10 (dk_at dksX4_init_5 8 rfl rfl)
theorem dX4_init_128 : decode cX4_init 128 = .ok (.putfield 55, 3) := dk_181 0 55 (dk_at dksX4_init_5 10 rfl rfl)
theorem dX4_init_131 : decode cX4_init 131 = .ok (.aload_n 0, 1) := dk_42 (dk_at dksX4_init_5 13 rfl rfl)
theorem dX4_init_132 : decode cX4_init 132 = .ok (.bipush 40, 2) := dk_16 40 (dk_at dksX4_init_5 14 rfl rfl)
theorem dX4_init_134 : decode cX4_init 134 = .ok (.newarray .boolean, 2) := dk_188_4 (dk_at dksX4_init_5 16 rfl rfl)
theorem dX4_init_136 : decode cX4_init 136 = .ok (.putfield 58, 3) := dk_181 0 58 (dk_at dksX4_init_5 18 rfl rfl)
theorem dX4_init_139 : decode cX4_init 139 = .ok (.aload_n 0, 1) := dk_42 (dk_at dksX4_init_5 21 rfl rfl)
theorem dX4_init_140 : decode cX4_init 140 = .ok (.bipush 6, 2) := dk_16 6 (dk_at dksX4_init_5 22 rfl rfl)
theorem dX4_init_142 : decode cX4_init 142 = .ok (.newarray .int, 2) := dk_188_10 (dk_at dksX4_init_6 0 rfl rfl)
theorem dX4_init_144 : decode cX4_init 144 = .ok (.putfield 62, 3) := dk_181 0 62 (dk_at dksX4_init_6 2 rfl rfl)
theorem dX4_init_147 : decode cX4_init 147 = .ok (.aload_n 0, 1) := dk_42 (dk_at dksX4_init_6 5 rfl rfl)
theorem dX4_init_148 : decode cX4_init 148 = .ok (.bipush 6, 2) := dk_16 6 (dk_at dksX4_init_6 6 rfl rfl)
theorem dX4_init_150 : decode cX4_init 150 = .ok (.newarray .int, 2) := dk_188_10 (dk_at dksX4_init_6 8 rfl rfl)
theorem dX4_init_152 : decode cX4_init 152 = .ok (.putfield 65, 3) := dk_181 0 65 (dk_at dksX4_init_6 10 rfl rfl)
theorem dX4_init_155 : decode cX4_init 155 = .ok (.aload_n 0, 1) := dk_42 (dk_at dksX4_init_6 13 rfl rfl)
theorem dX4_init_156 : decode cX4_init 156 = .ok (.bipush 6, 2) := dk_16 6 (dk_at dksX4_init_6 14 rfl rfl)
theorem dX4_init_158 : decode cX4_init 158 = .ok (.newarray .int, 2) := dk_188_10 (dk_at dksX4_init_6 16 rfl rfl)
theorem dX4_init_160 : decode cX4_init 160 = .ok (.putfield 68, 3) := dk_181 0 68 (dk_at dksX4_init_6 18 rfl rfl)
theorem dX4_init_163 : decode cX4_init 163 = .ok (.aload_n 0, 1) := dk_42 (dk_at dksX4_init_6 21 rfl rfl)
theorem dX4_init_164 : decode cX4_init 164 = .ok (.bipush 6, 2) := dk_16 6 (dk_at dksX4_init_6 22 rfl rfl)
theorem dX4_init_166 : decode cX4_init 166 = .ok (.newarray .int, 2) := dk_188_10 (dk_at dksX4_init_7 0 rfl rfl)
theorem dX4_init_168 : decode cX4_init 168 = .ok (.putfield 71, 3) := dk_181 0 71 (dk_at dksX4_init_7 2 rfl rfl)
theorem dX4_init_171 : decode cX4_init 171 = .ok (.aload_n 0, 1) := dk_42 (dk_at dksX4_init_7 5 rfl rfl)
theorem dX4_init_172 : decode cX4_init 172 = .ok (.bipush 6, 2) := dk_16 6 (dk_at dksX4_init_7 6 rfl rfl)
theorem dX4_init_174 : decode cX4_init 174 = .ok (.newarray .boolean, 2) := dk_188_4 (dk_at dksX4_init_7 8 rfl rfl)
theorem dX4_init_176 : decode cX4_init 176 = .ok (.putfield 74, 3) := dk_181 0 74 (dk_at dksX4_init_7 10 rfl rfl)
theorem dX4_init_179 : decode cX4_init 179 = .ok (.aload_n 0, 1) := dk_42 (dk_at dksX4_init_7 13 rfl rfl)
theorem dX4_init_180 : decode cX4_init 180 = .ok (.bipush 60, 2) := dk_16 60 (dk_at dksX4_init_7 14 rfl rfl)
theorem dX4_init_182 : decode cX4_init 182 = .ok (.newarray .byte, 2) := dk_188_8 (dk_at dksX4_init_7 16 rfl rfl)
theorem dX4_init_184 : decode cX4_init 184 = .ok (.putfield 77, 3) := dk_181 0 77 (dk_at dksX4_init_7 18 rfl rfl)
theorem dX4_init_187 : decode cX4_init 187 = .ok (.aload_n 0, 1) := dk_42 (dk_at dksX4_init_7 21 rfl rfl)
theorem dX4_init_188 : decode cX4_init 188 = .ok (.invokevirtual 81, 3) := dk_182 0 81 (dk_at dksX4_init_8 0 rfl rfl)
theorem dX4_init_191 : decode cX4_init 191 = .ok (.return_, 1) := dk_177 (dk_at dksX4_init_8 3 rfl rfl)
abbrev cX4_begins : ByteArray := prog_12_method_9_code
def yX4_begins : MethodName := ⟨RX4, "begins", "()V"⟩
def dkwX4_begins_3 : List UInt8 := [132, 1, 1, 167, 255, 241, 177]
abbrev dktX4_begins_3 : List UInt8 := dkwX4_begins_3 ++ []
def dkwX4_begins_2 : List UInt8 := [3, 181, 0, 98, 42, 3, 181, 0, 113, 3, 60, 27, 7, 162, 0, 16, 42, 180, 0, 25, 27, 2, 79]
abbrev dktX4_begins_2 : List UInt8 := dkwX4_begins_2 ++ dktX4_begins_3
def dkwX4_begins_1 : List UInt8 := [180, 0, 7, 3, 2, 79, 42, 180, 0, 13, 3, 2, 79, 42, 2, 181, 0, 110, 42, 3, 181, 0, 95, 42]
abbrev dktX4_begins_1 : List UInt8 := dkwX4_begins_1 ++ dktX4_begins_2
def dkwX4_begins_0 : List UInt8 := [42, 3, 181, 0, 101, 42, 16, 14, 181, 0, 104, 42, 17, 1, 244, 181, 0, 107, 42, 4, 181, 0, 88, 42]
abbrev dktX4_begins_0 : List UInt8 := dkwX4_begins_0 ++ dktX4_begins_1
theorem dksX4_begins_0 : cX4_begins.data.toList.drop 0 = dktX4_begins_0 := by decide +kernel
theorem dksX4_begins_1 : cX4_begins.data.toList.drop 24 = dktX4_begins_1 := dk_seg dksX4_begins_0 24 rfl rfl
theorem dksX4_begins_2 : cX4_begins.data.toList.drop 48 = dktX4_begins_2 := dk_seg dksX4_begins_1 24 rfl rfl
theorem dksX4_begins_3 : cX4_begins.data.toList.drop 71 = dktX4_begins_3 := dk_seg dksX4_begins_2 23 rfl rfl
theorem dX4_begins_0 : decode cX4_begins 0 = .ok (.aload_n 0, 1) := dk_42 (dk_at dksX4_begins_0 0 rfl rfl)
theorem dX4_begins_1 : decode cX4_begins 1 = .ok (.iconst 0, 1) := dk_3 (dk_at dksX4_begins_0 1 rfl rfl)
theorem dX4_begins_2 : decode cX4_begins 2 = .ok (.putfield 101, 3) := dk_181 0 101 (dk_at dksX4_begins_0 2 rfl rfl)
theorem dX4_begins_5 : decode cX4_begins 5 = .ok (.aload_n 0, 1) := dk_42 (dk_at dksX4_begins_0 5 rfl rfl)
theorem dX4_begins_6 : decode cX4_begins 6 = .ok (.bipush 14, 2) := dk_16 14 (dk_at dksX4_begins_0 6 rfl rfl)
theorem dX4_begins_8 : decode cX4_begins 8 = .ok (.putfield 104, 3) := dk_181 0 104 (dk_at dksX4_begins_0 8 rfl rfl)
theorem dX4_begins_11 : decode cX4_begins 11 = .ok (.aload_n 0, 1) := dk_42 (dk_at dksX4_begins_0 11 rfl rfl)
theorem dX4_begins_12 : decode cX4_begins 12 = .ok (.sipush 500, 3) := dk_17 1 244 (dk_at dksX4_begins_0 12 rfl rfl)
theorem dX4_begins_15 : decode cX4_begins 15 = .ok (.putfield 107, 3) := dk_181 0 107 (dk_at dksX4_begins_0 15 rfl rfl)
theorem dX4_begins_18 : decode cX4_begins 18 = .ok (.aload_n 0, 1) := dk_42 (dk_at dksX4_begins_0 18 rfl rfl)
theorem dX4_begins_19 : decode cX4_begins 19 = .ok (.iconst 1, 1) := dk_4 (dk_at dksX4_begins_0 19 rfl rfl)
theorem dX4_begins_20 : decode cX4_begins 20 = .ok (.putfield 88, 3) := dk_181 0 88 (dk_at dksX4_begins_0 20 rfl rfl)
theorem dX4_begins_23 : decode cX4_begins 23 = .ok (.aload_n 0, 1) := dk_42 (dk_at dksX4_begins_0 23 rfl rfl)
theorem dX4_begins_24 : decode cX4_begins 24 = .ok (.getfield 7, 3) := dk_180 0 7 (dk_at dksX4_begins_1 0 rfl rfl)
theorem dX4_begins_27 : decode cX4_begins 27 = .ok (.iconst 0, 1) := dk_3 (dk_at dksX4_begins_1 3 rfl rfl)
theorem dX4_begins_28 : decode cX4_begins 28 = .ok (.iconst (-1), 1) := dk_2 (dk_at dksX4_begins_1 4 rfl rfl)
theorem dX4_begins_29 : decode cX4_begins 29 = .ok (.iastore, 1) := dk_79 (dk_at dksX4_begins_1 5 rfl rfl)
theorem dX4_begins_30 : decode cX4_begins 30 = .ok (.aload_n 0, 1) := dk_42 (dk_at dksX4_begins_1 6 rfl rfl)
theorem dX4_begins_31 : decode cX4_begins 31 = .ok (.getfield 13, 3) := dk_180 0 13 (dk_at dksX4_begins_1 7 rfl rfl)
theorem dX4_begins_34 : decode cX4_begins 34 = .ok (.iconst 0, 1) := dk_3 (dk_at dksX4_begins_1 10 rfl rfl)
theorem dX4_begins_35 : decode cX4_begins 35 = .ok (.iconst (-1), 1) := dk_2 (dk_at dksX4_begins_1 11 rfl rfl)
theorem dX4_begins_36 : decode cX4_begins 36 = .ok (.iastore, 1) := dk_79 (dk_at dksX4_begins_1 12 rfl rfl)
theorem dX4_begins_37 : decode cX4_begins 37 = .ok (.aload_n 0, 1) := dk_42 (dk_at dksX4_begins_1 13 rfl rfl)
theorem dX4_begins_38 : decode cX4_begins 38 = .ok (.iconst (-1), 1) := dk_2 (dk_at dksX4_begins_1 14 rfl rfl)
theorem dX4_begins_39 : decode cX4_begins 39 = .ok (.putfield 110, 3) := dk_181 0 110 (dk_at dksX4_begins_1 15 rfl rfl)
theorem dX4_begins_42 : decode cX4_begins 42 = .ok (.aload_n 0, 1) := dk_42 (dk_at dksX4_begins_1 18 rfl rfl)
theorem dX4_begins_43 : decode cX4_begins 43 = .ok (.iconst 0, 1) := dk_3 (dk_at dksX4_begins_1 19 rfl rfl)
theorem dX4_begins_44 : decode cX4_begins 44 = .ok (.putfield 95, 3) := dk_181 0 95 (dk_at dksX4_begins_1 20 rfl rfl)
theorem dX4_begins_47 : decode cX4_begins 47 = .ok (.aload_n 0, 1) := dk_42 (dk_at dksX4_begins_1 23 rfl rfl)
theorem dX4_begins_48 : decode cX4_begins 48 = .ok (.iconst 0, 1) := dk_3 (dk_at dksX4_begins_2 0 rfl rfl)
theorem dX4_begins_49 : decode cX4_begins 49 = .ok (.putfield 98, 3) := dk_181 0 98 (dk_at dksX4_begins_2 1 rfl rfl)
theorem dX4_begins_52 : decode cX4_begins 52 = .ok (.aload_n 0, 1) := dk_42 (dk_at dksX4_begins_2 4 rfl rfl)
theorem dX4_begins_53 : decode cX4_begins 53 = .ok (.iconst 0, 1) := dk_3 (dk_at dksX4_begins_2 5 rfl rfl)
theorem dX4_begins_54 : decode cX4_begins 54 = .ok (.putfield 113, 3) := dk_181 0 113 (dk_at dksX4_begins_2 6 rfl rfl)
theorem dX4_begins_57 : decode cX4_begins 57 = .ok (.iconst 0, 1) := dk_3 (dk_at dksX4_begins_2 9 rfl rfl)
theorem dX4_begins_58 : decode cX4_begins 58 = .ok (.istore_n 1, 1) := dk_60 (dk_at dksX4_begins_2 10 rfl rfl)
theorem dX4_begins_59 : decode cX4_begins 59 = .ok (.iload_n 1, 1) := dk_27 (dk_at dksX4_begins_2 11 rfl rfl)
theorem dX4_begins_60 : decode cX4_begins 60 = .ok (.iconst 4, 1) := dk_7 (dk_at dksX4_begins_2 12 rfl rfl)
theorem dX4_begins_61 : decode cX4_begins 61 = .ok (.if_icmp .ge 16, 3) := dk_162 0 16 (dk_at dksX4_begins_2 13 rfl rfl)
theorem dX4_begins_64 : decode cX4_begins 64 = .ok (.aload_n 0, 1) := dk_42 (dk_at dksX4_begins_2 16 rfl rfl)
theorem dX4_begins_65 : decode cX4_begins 65 = .ok (.getfield 25, 3) := dk_180 0 25 (dk_at dksX4_begins_2 17 rfl rfl)
theorem dX4_begins_68 : decode cX4_begins 68 = .ok (.iload_n 1, 1) := dk_27 (dk_at dksX4_begins_2 20 rfl rfl)
theorem dX4_begins_69 : decode cX4_begins 69 = .ok (.iconst (-1), 1) := dk_2 (dk_at dksX4_begins_2 21 rfl rfl)
theorem dX4_begins_70 : decode cX4_begins 70 = .ok (.iastore, 1) := dk_79 (dk_at dksX4_begins_2 22 rfl rfl)
theorem dX4_begins_71 : decode cX4_begins 71 = .ok (.iinc 1 1, 3) := dk_132 1 1 (dk_at dksX4_begins_3 0 rfl rfl)
theorem dX4_begins_74 : decode cX4_begins 74 = .ok (.goto (-15), 3) := dk_167 255 241 (dk_at dksX4_begins_3 3 rfl rfl)
theorem dX4_begins_77 : decode cX4_begins 77 = .ok (.return_, 1) := dk_177 (dk_at dksX4_begins_3 6 rfl rfl)
abbrev cX4_thrown : ByteArray := prog_12_method_2_code
def yX4_thrown : MethodName := ⟨RX4, "thrown", "()I"⟩
theorem dX4_thrown_0 : decode cX4_thrown 0 = .ok (.aload_n 0, 1) := by decide +kernel
theorem dX4_thrown_1 : decode cX4_thrown 1 = .ok (.getfield 84, 3) := by decide +kernel
theorem dX4_thrown_4 : decode cX4_thrown 4 = .ok (.ireturn, 1) := by decide +kernel
abbrev cX4_clear : ByteArray := prog_12_method_23_code
def yX4_clear : MethodName := ⟨RX4, "clear", "()I"⟩
def dkwX4_clear_0 : List UInt8 := [42, 180, 0, 98, 60, 42, 182, 0, 81, 42, 27, 182, 0, 161, 172]
abbrev dktX4_clear_0 : List UInt8 := dkwX4_clear_0 ++ []
theorem dksX4_clear_0 : cX4_clear.data.toList.drop 0 = dktX4_clear_0 := by decide +kernel
theorem dX4_clear_0 : decode cX4_clear 0 = .ok (.aload_n 0, 1) := dk_42 (dk_at dksX4_clear_0 0 rfl rfl)
theorem dX4_clear_1 : decode cX4_clear 1 = .ok (.getfield 98, 3) := dk_180 0 98 (dk_at dksX4_clear_0 1 rfl rfl)
theorem dX4_clear_4 : decode cX4_clear 4 = .ok (.istore_n 1, 1) := dk_60 (dk_at dksX4_clear_0 4 rfl rfl)
theorem dX4_clear_5 : decode cX4_clear 5 = .ok (.aload_n 0, 1) := dk_42 (dk_at dksX4_clear_0 5 rfl rfl)
theorem dX4_clear_6 : decode cX4_clear 6 = .ok (.invokevirtual 81, 3) := dk_182 0 81 (dk_at dksX4_clear_0 6 rfl rfl)
theorem dX4_clear_9 : decode cX4_clear 9 = .ok (.aload_n 0, 1) := dk_42 (dk_at dksX4_clear_0 9 rfl rfl)
theorem dX4_clear_10 : decode cX4_clear 10 = .ok (.iload_n 1, 1) := dk_27 (dk_at dksX4_clear_0 10 rfl rfl)
theorem dX4_clear_11 : decode cX4_clear 11 = .ok (.invokevirtual 161, 3) := dk_182 0 161 (dk_at dksX4_clear_0 11 rfl rfl)
theorem dX4_clear_14 : decode cX4_clear 14 = .ok (.ireturn, 1) := dk_172 (dk_at dksX4_clear_0 14 rfl rfl)
abbrev cX4_told : ByteArray := prog_12_method_4_code
def yX4_told : MethodName := ⟨RX4, "told", "(I)I"⟩
def dkwX4_told_0 : List UInt8 := [42, 3, 181, 0, 84, 27, 172]
abbrev dktX4_told_0 : List UInt8 := dkwX4_told_0 ++ []
theorem dksX4_told_0 : cX4_told.data.toList.drop 0 = dktX4_told_0 := by decide +kernel
theorem dX4_told_0 : decode cX4_told 0 = .ok (.aload_n 0, 1) := dk_42 (dk_at dksX4_told_0 0 rfl rfl)
theorem dX4_told_1 : decode cX4_told 1 = .ok (.iconst 0, 1) := dk_3 (dk_at dksX4_told_0 1 rfl rfl)
theorem dX4_told_2 : decode cX4_told 2 = .ok (.putfield 84, 3) := dk_181 0 84 (dk_at dksX4_told_0 2 rfl rfl)
theorem dX4_told_5 : decode cX4_told 5 = .ok (.iload_n 1, 1) := dk_27 (dk_at dksX4_told_0 5 rfl rfl)
theorem dX4_told_6 : decode cX4_told 6 = .ok (.ireturn, 1) := dk_172 (dk_at dksX4_told_0 6 rfl rfl)
abbrev cX4_folder : ByteArray := prog_12_method_24_code
def yX4_folder : MethodName := ⟨RX4, "folder", "(I)I"⟩
def dkwX4_folder_2 : List UInt8 := [79, 42, 89, 180, 0, 88, 4, 96, 181, 0, 88, 42, 42, 180, 0, 88, 4, 100, 182, 0, 161, 172]
abbrev dktX4_folder_2 : List UInt8 := dkwX4_folder_2 ++ []
def dkwX4_folder_1 : List UInt8 := [5, 182, 0, 167, 172, 42, 180, 0, 7, 42, 180, 0, 88, 27, 79, 42, 180, 0, 13, 42, 180, 0, 88, 2]
abbrev dktX4_folder_1 : List UInt8 := dkwX4_folder_1 ++ dktX4_folder_2
def dkwX4_folder_0 : List UInt8 := [42, 27, 182, 0, 164, 154, 0, 9, 42, 4, 182, 0, 167, 172, 42, 180, 0, 88, 16, 10, 160, 0, 9, 42]
abbrev dktX4_folder_0 : List UInt8 := dkwX4_folder_0 ++ dktX4_folder_1
theorem dksX4_folder_0 : cX4_folder.data.toList.drop 0 = dktX4_folder_0 := by decide +kernel
theorem dksX4_folder_1 : cX4_folder.data.toList.drop 24 = dktX4_folder_1 := dk_seg dksX4_folder_0 24 rfl rfl
theorem dksX4_folder_2 : cX4_folder.data.toList.drop 48 = dktX4_folder_2 := dk_seg dksX4_folder_1 24 rfl rfl
theorem dX4_folder_0 : decode cX4_folder 0 = .ok (.aload_n 0, 1) := dk_42 (dk_at dksX4_folder_0 0 rfl rfl)
theorem dX4_folder_1 : decode cX4_folder 1 = .ok (.iload_n 1, 1) := dk_27 (dk_at dksX4_folder_0 1 rfl rfl)
theorem dX4_folder_2 : decode cX4_folder 2 = .ok (.invokevirtual 164, 3) := dk_182 0 164 (dk_at dksX4_folder_0 2 rfl rfl)
theorem dX4_folder_5 : decode cX4_folder 5 = .ok (.ifCond .ne 9, 3) := dk_154 0 9 (dk_at dksX4_folder_0 5 rfl rfl)
theorem dX4_folder_8 : decode cX4_folder 8 = .ok (.aload_n 0, 1) := dk_42 (dk_at dksX4_folder_0 8 rfl rfl)
theorem dX4_folder_9 : decode cX4_folder 9 = .ok (.iconst 1, 1) := dk_4 (dk_at dksX4_folder_0 9 rfl rfl)
theorem dX4_folder_10 : decode cX4_folder 10 = .ok (.invokevirtual 167, 3) := dk_182 0 167 (dk_at dksX4_folder_0 10 rfl rfl)
theorem dX4_folder_13 : decode cX4_folder 13 = .ok (.ireturn, 1) := dk_172 (dk_at dksX4_folder_0 13 rfl rfl)
theorem dX4_folder_14 : decode cX4_folder 14 = .ok (.aload_n 0, 1) := dk_42 (dk_at dksX4_folder_0 14 rfl rfl)
theorem dX4_folder_15 : decode cX4_folder 15 = .ok (.getfield 88, 3) := dk_180 0 88 (dk_at dksX4_folder_0 15 rfl rfl)
theorem dX4_folder_18 : decode cX4_folder 18 = .ok (.bipush 10, 2) := dk_16 10 (dk_at dksX4_folder_0 18 rfl rfl)
theorem dX4_folder_20 : decode cX4_folder 20 = .ok (.if_icmp .ne 9, 3) := dk_160 0 9 (dk_at dksX4_folder_0 20 rfl rfl)
theorem dX4_folder_23 : decode cX4_folder 23 = .ok (.aload_n 0, 1) := dk_42 (dk_at dksX4_folder_0 23 rfl rfl)
theorem dX4_folder_24 : decode cX4_folder 24 = .ok (.iconst 2, 1) := dk_5 (dk_at dksX4_folder_1 0 rfl rfl)
theorem dX4_folder_25 : decode cX4_folder 25 = .ok (.invokevirtual 167, 3) := dk_182 0 167 (dk_at dksX4_folder_1 1 rfl rfl)
theorem dX4_folder_28 : decode cX4_folder 28 = .ok (.ireturn, 1) := dk_172 (dk_at dksX4_folder_1 4 rfl rfl)
theorem dX4_folder_29 : decode cX4_folder 29 = .ok (.aload_n 0, 1) := dk_42 (dk_at dksX4_folder_1 5 rfl rfl)
theorem dX4_folder_30 : decode cX4_folder 30 = .ok (.getfield 7, 3) := dk_180 0 7 (dk_at dksX4_folder_1 6 rfl rfl)
theorem dX4_folder_33 : decode cX4_folder 33 = .ok (.aload_n 0, 1) := dk_42 (dk_at dksX4_folder_1 9 rfl rfl)
theorem dX4_folder_34 : decode cX4_folder 34 = .ok (.getfield 88, 3) := dk_180 0 88 (dk_at dksX4_folder_1 10 rfl rfl)
theorem dX4_folder_37 : decode cX4_folder 37 = .ok (.iload_n 1, 1) := dk_27 (dk_at dksX4_folder_1 13 rfl rfl)
theorem dX4_folder_38 : decode cX4_folder 38 = .ok (.iastore, 1) := dk_79 (dk_at dksX4_folder_1 14 rfl rfl)
theorem dX4_folder_39 : decode cX4_folder 39 = .ok (.aload_n 0, 1) := dk_42 (dk_at dksX4_folder_1 15 rfl rfl)
theorem dX4_folder_40 : decode cX4_folder 40 = .ok (.getfield 13, 3) := dk_180 0 13 (dk_at dksX4_folder_1 16 rfl rfl)
theorem dX4_folder_43 : decode cX4_folder 43 = .ok (.aload_n 0, 1) := dk_42 (dk_at dksX4_folder_1 19 rfl rfl)
theorem dX4_folder_44 : decode cX4_folder 44 = .ok (.getfield 88, 3) := dk_180 0 88 (dk_at dksX4_folder_1 20 rfl rfl)
theorem dX4_folder_47 : decode cX4_folder 47 = .ok (.iconst (-1), 1) := dk_2 (dk_at dksX4_folder_1 23 rfl rfl)
theorem dX4_folder_48 : decode cX4_folder 48 = .ok (.iastore, 1) := dk_79 (dk_at dksX4_folder_2 0 rfl rfl)
theorem dX4_folder_49 : decode cX4_folder 49 = .ok (.aload_n 0, 1) := dk_42 (dk_at dksX4_folder_2 1 rfl rfl)
theorem dX4_folder_50 : decode cX4_folder 50 = .ok (.dup, 1) := dk_89 (dk_at dksX4_folder_2 2 rfl rfl)
theorem dX4_folder_51 : decode cX4_folder 51 = .ok (.getfield 88, 3) := dk_180 0 88 (dk_at dksX4_folder_2 3 rfl rfl)
theorem dX4_folder_54 : decode cX4_folder 54 = .ok (.iconst 1, 1) := dk_4 (dk_at dksX4_folder_2 6 rfl rfl)
theorem dX4_folder_55 : decode cX4_folder 55 = .ok (.iadd, 1) := dk_96 (dk_at dksX4_folder_2 7 rfl rfl)
theorem dX4_folder_56 : decode cX4_folder 56 = .ok (.putfield 88, 3) := dk_181 0 88 (dk_at dksX4_folder_2 8 rfl rfl)
theorem dX4_folder_59 : decode cX4_folder 59 = .ok (.aload_n 0, 1) := dk_42 (dk_at dksX4_folder_2 11 rfl rfl)
theorem dX4_folder_60 : decode cX4_folder 60 = .ok (.aload_n 0, 1) := dk_42 (dk_at dksX4_folder_2 12 rfl rfl)
theorem dX4_folder_61 : decode cX4_folder 61 = .ok (.getfield 88, 3) := dk_180 0 88 (dk_at dksX4_folder_2 13 rfl rfl)
theorem dX4_folder_64 : decode cX4_folder 64 = .ok (.iconst 1, 1) := dk_4 (dk_at dksX4_folder_2 16 rfl rfl)
theorem dX4_folder_65 : decode cX4_folder 65 = .ok (.isub, 1) := dk_100 (dk_at dksX4_folder_2 17 rfl rfl)
theorem dX4_folder_66 : decode cX4_folder 66 = .ok (.invokevirtual 161, 3) := dk_182 0 161 (dk_at dksX4_folder_2 18 rfl rfl)
theorem dX4_folder_69 : decode cX4_folder 69 = .ok (.ireturn, 1) := dk_172 (dk_at dksX4_folder_2 21 rfl rfl)
abbrev cX4_isFolder : ByteArray := prog_12_method_6_code
def yX4_isFolder : MethodName := ⟨RX4, "isFolder", "(I)Z"⟩
def dkwX4_isFolder_0 : List UInt8 := [27, 3, 42, 180, 0, 88, 4, 100, 184, 0, 91, 172]
abbrev dktX4_isFolder_0 : List UInt8 := dkwX4_isFolder_0 ++ []
theorem dksX4_isFolder_0 : cX4_isFolder.data.toList.drop 0 = dktX4_isFolder_0 := by decide +kernel
theorem dX4_isFolder_0 : decode cX4_isFolder 0 = .ok (.iload_n 1, 1) := dk_27 (dk_at dksX4_isFolder_0 0 rfl rfl)
theorem dX4_isFolder_1 : decode cX4_isFolder 1 = .ok (.iconst 0, 1) := dk_3 (dk_at dksX4_isFolder_0 1 rfl rfl)
theorem dX4_isFolder_2 : decode cX4_isFolder 2 = .ok (.aload_n 0, 1) := dk_42 (dk_at dksX4_isFolder_0 2 rfl rfl)
theorem dX4_isFolder_3 : decode cX4_isFolder 3 = .ok (.getfield 88, 3) := dk_180 0 88 (dk_at dksX4_isFolder_0 3 rfl rfl)
theorem dX4_isFolder_6 : decode cX4_isFolder 6 = .ok (.iconst 1, 1) := dk_4 (dk_at dksX4_isFolder_0 6 rfl rfl)
theorem dX4_isFolder_7 : decode cX4_isFolder 7 = .ok (.isub, 1) := dk_100 (dk_at dksX4_isFolder_0 7 rfl rfl)
theorem dX4_isFolder_8 : decode cX4_isFolder 8 = .ok (.invokestatic 91, 3) := dk_184 0 91 (dk_at dksX4_isFolder_0 8 rfl rfl)
theorem dX4_isFolder_11 : decode cX4_isFolder 11 = .ok (.ireturn, 1) := dk_172 (dk_at dksX4_isFolder_0 11 rfl rfl)
abbrev cX4_in : ByteArray := prog_12_method_5_code
def yX4_in : MethodName := ⟨RX4, "in", "(III)Z"⟩
def dkwX4_in_0 : List UInt8 := [26, 27, 161, 0, 12, 26, 28, 163, 0, 7, 4, 167, 0, 4, 3, 172]
abbrev dktX4_in_0 : List UInt8 := dkwX4_in_0 ++ []
theorem dksX4_in_0 : cX4_in.data.toList.drop 0 = dktX4_in_0 := by decide +kernel
theorem dX4_in_0 : decode cX4_in 0 = .ok (.iload_n 0, 1) := dk_26 (dk_at dksX4_in_0 0 rfl rfl)
theorem dX4_in_1 : decode cX4_in 1 = .ok (.iload_n 1, 1) := dk_27 (dk_at dksX4_in_0 1 rfl rfl)
theorem dX4_in_2 : decode cX4_in 2 = .ok (.if_icmp .lt 12, 3) := dk_161 0 12 (dk_at dksX4_in_0 2 rfl rfl)
theorem dX4_in_5 : decode cX4_in 5 = .ok (.iload_n 0, 1) := dk_26 (dk_at dksX4_in_0 5 rfl rfl)
theorem dX4_in_6 : decode cX4_in 6 = .ok (.iload_n 2, 1) := dk_28 (dk_at dksX4_in_0 6 rfl rfl)
theorem dX4_in_7 : decode cX4_in 7 = .ok (.if_icmp .gt 7, 3) := dk_163 0 7 (dk_at dksX4_in_0 7 rfl rfl)
theorem dX4_in_10 : decode cX4_in 10 = .ok (.iconst 1, 1) := dk_4 (dk_at dksX4_in_0 10 rfl rfl)
theorem dX4_in_11 : decode cX4_in 11 = .ok (.goto 4, 3) := dk_167 0 4 (dk_at dksX4_in_0 11 rfl rfl)
theorem dX4_in_14 : decode cX4_in 14 = .ok (.iconst 0, 1) := dk_3 (dk_at dksX4_in_0 14 rfl rfl)
theorem dX4_in_15 : decode cX4_in 15 = .ok (.ireturn, 1) := dk_172 (dk_at dksX4_in_0 15 rfl rfl)
abbrev cX4_refuse : ByteArray := prog_12_method_3_code
def yX4_refuse : MethodName := ⟨RX4, "refuse", "(I)I"⟩
def dkwX4_refuse_0 : List UInt8 := [42, 27, 181, 0, 84, 3, 172]
abbrev dktX4_refuse_0 : List UInt8 := dkwX4_refuse_0 ++ []
theorem dksX4_refuse_0 : cX4_refuse.data.toList.drop 0 = dktX4_refuse_0 := by decide +kernel
theorem dX4_refuse_0 : decode cX4_refuse 0 = .ok (.aload_n 0, 1) := dk_42 (dk_at dksX4_refuse_0 0 rfl rfl)
theorem dX4_refuse_1 : decode cX4_refuse 1 = .ok (.iload_n 1, 1) := dk_27 (dk_at dksX4_refuse_0 1 rfl rfl)
theorem dX4_refuse_2 : decode cX4_refuse 2 = .ok (.putfield 84, 3) := dk_181 0 84 (dk_at dksX4_refuse_0 2 rfl rfl)
theorem dX4_refuse_5 : decode cX4_refuse 5 = .ok (.iconst 0, 1) := dk_3 (dk_at dksX4_refuse_0 5 rfl rfl)
theorem dX4_refuse_6 : decode cX4_refuse 6 = .ok (.ireturn, 1) := dk_172 (dk_at dksX4_refuse_0 6 rfl rfl)
abbrev cX4_tag : ByteArray := prog_12_method_25_code
def yX4_tag : MethodName := ⟨RX4, "tag", "(III)I"⟩
def dkwX4_tag_4 : List UInt8 := [180, 0, 95, 4, 100, 182, 0, 161, 172]
abbrev dktX4_tag_4 : List UInt8 := dkwX4_tag_4 ++ []
def dkwX4_tag_3 : List UInt8 := [42, 180, 0, 22, 42, 180, 0, 95, 29, 79, 42, 89, 180, 0, 95, 4, 96, 181, 0, 95, 42, 42]
abbrev dktX4_tag_3 : List UInt8 := dkwX4_tag_3 ++ dktX4_tag_4
def dkwX4_tag_2 : List UInt8 := [182, 0, 167, 172, 42, 180, 0, 16, 42, 180, 0, 95, 27, 79, 42, 180, 0, 19, 42, 180, 0, 95, 28, 79]
abbrev dktX4_tag_2 : List UInt8 := dkwX4_tag_2 ++ dktX4_tag_3
def dkwX4_tag_1 : List UInt8 := [184, 0, 91, 154, 0, 9, 42, 4, 182, 0, 167, 172, 42, 180, 0, 95, 16, 8, 160, 0, 9, 42, 5]
abbrev dktX4_tag_1 : List UInt8 := dkwX4_tag_1 ++ dktX4_tag_2
def dkwX4_tag_0 : List UInt8 := [27, 3, 5, 184, 0, 91, 153, 0, 23, 28, 3, 8, 184, 0, 91, 153, 0, 14, 29, 3, 17, 3, 232]
abbrev dktX4_tag_0 : List UInt8 := dkwX4_tag_0 ++ dktX4_tag_1
theorem dksX4_tag_0 : cX4_tag.data.toList.drop 0 = dktX4_tag_0 := by decide +kernel
theorem dksX4_tag_1 : cX4_tag.data.toList.drop 23 = dktX4_tag_1 := dk_seg dksX4_tag_0 23 rfl rfl
theorem dksX4_tag_2 : cX4_tag.data.toList.drop 46 = dktX4_tag_2 := dk_seg dksX4_tag_1 23 rfl rfl
theorem dksX4_tag_3 : cX4_tag.data.toList.drop 70 = dktX4_tag_3 := dk_seg dksX4_tag_2 24 rfl rfl
theorem dksX4_tag_4 : cX4_tag.data.toList.drop 92 = dktX4_tag_4 := dk_seg dksX4_tag_3 22 rfl rfl
theorem dX4_tag_0 : decode cX4_tag 0 = .ok (.iload_n 1, 1) := dk_27 (dk_at dksX4_tag_0 0 rfl rfl)
theorem dX4_tag_1 : decode cX4_tag 1 = .ok (.iconst 0, 1) := dk_3 (dk_at dksX4_tag_0 1 rfl rfl)
theorem dX4_tag_2 : decode cX4_tag 2 = .ok (.iconst 2, 1) := dk_5 (dk_at dksX4_tag_0 2 rfl rfl)
theorem dX4_tag_3 : decode cX4_tag 3 = .ok (.invokestatic 91, 3) := dk_184 0 91 (dk_at dksX4_tag_0 3 rfl rfl)
theorem dX4_tag_6 : decode cX4_tag 6 = .ok (.ifCond .eq 23, 3) := dk_153 0 23 (dk_at dksX4_tag_0 6 rfl rfl)
theorem dX4_tag_9 : decode cX4_tag 9 = .ok (.iload_n 2, 1) := dk_28 (dk_at dksX4_tag_0 9 rfl rfl)
theorem dX4_tag_10 : decode cX4_tag 10 = .ok (.iconst 0, 1) := dk_3 (dk_at dksX4_tag_0 10 rfl rfl)
theorem dX4_tag_11 : decode cX4_tag 11 = .ok (.iconst 5, 1) := dk_8 (dk_at dksX4_tag_0 11 rfl rfl)
theorem dX4_tag_12 : decode cX4_tag 12 = .ok (.invokestatic 91, 3) := dk_184 0 91 (dk_at dksX4_tag_0 12 rfl rfl)
theorem dX4_tag_15 : decode cX4_tag 15 = .ok (.ifCond .eq 14, 3) := dk_153 0 14 (dk_at dksX4_tag_0 15 rfl rfl)
theorem dX4_tag_18 : decode cX4_tag 18 = .ok (.iload_n 3, 1) := dk_29 (dk_at dksX4_tag_0 18 rfl rfl)
theorem dX4_tag_19 : decode cX4_tag 19 = .ok (.iconst 0, 1) := dk_3 (dk_at dksX4_tag_0 19 rfl rfl)
theorem dX4_tag_20 : decode cX4_tag 20 = .ok (.sipush 1000, 3) := dk_17 3 232 (dk_at dksX4_tag_0 20 rfl rfl)
theorem dX4_tag_23 : decode cX4_tag 23 = .ok (.invokestatic 91, 3) := dk_184 0 91 (dk_at dksX4_tag_1 0 rfl rfl)
theorem dX4_tag_26 : decode cX4_tag 26 = .ok (.ifCond .ne 9, 3) := dk_154 0 9 (dk_at dksX4_tag_1 3 rfl rfl)
theorem dX4_tag_29 : decode cX4_tag 29 = .ok (.aload_n 0, 1) := dk_42 (dk_at dksX4_tag_1 6 rfl rfl)
theorem dX4_tag_30 : decode cX4_tag 30 = .ok (.iconst 1, 1) := dk_4 (dk_at dksX4_tag_1 7 rfl rfl)
theorem dX4_tag_31 : decode cX4_tag 31 = .ok (.invokevirtual 167, 3) := dk_182 0 167 (dk_at dksX4_tag_1 8 rfl rfl)
theorem dX4_tag_34 : decode cX4_tag 34 = .ok (.ireturn, 1) := dk_172 (dk_at dksX4_tag_1 11 rfl rfl)
theorem dX4_tag_35 : decode cX4_tag 35 = .ok (.aload_n 0, 1) := dk_42 (dk_at dksX4_tag_1 12 rfl rfl)
theorem dX4_tag_36 : decode cX4_tag 36 = .ok (.getfield 95, 3) := dk_180 0 95 (dk_at dksX4_tag_1 13 rfl rfl)
theorem dX4_tag_39 : decode cX4_tag 39 = .ok (.bipush 8, 2) := dk_16 8 (dk_at dksX4_tag_1 16 rfl rfl)
theorem dX4_tag_41 : decode cX4_tag 41 = .ok (.if_icmp .ne 9, 3) := dk_160 0 9 (dk_at dksX4_tag_1 18 rfl rfl)
theorem dX4_tag_44 : decode cX4_tag 44 = .ok (.aload_n 0, 1) := dk_42 (dk_at dksX4_tag_1 21 rfl rfl)
theorem dX4_tag_45 : decode cX4_tag 45 = .ok (.iconst 2, 1) := dk_5 (dk_at dksX4_tag_1 22 rfl rfl)
theorem dX4_tag_46 : decode cX4_tag 46 = .ok (.invokevirtual 167, 3) := dk_182 0 167 (dk_at dksX4_tag_2 0 rfl rfl)
theorem dX4_tag_49 : decode cX4_tag 49 = .ok (.ireturn, 1) := dk_172 (dk_at dksX4_tag_2 3 rfl rfl)
theorem dX4_tag_50 : decode cX4_tag 50 = .ok (.aload_n 0, 1) := dk_42 (dk_at dksX4_tag_2 4 rfl rfl)
theorem dX4_tag_51 : decode cX4_tag 51 = .ok (.getfield 16, 3) := dk_180 0 16 (dk_at dksX4_tag_2 5 rfl rfl)
theorem dX4_tag_54 : decode cX4_tag 54 = .ok (.aload_n 0, 1) := dk_42 (dk_at dksX4_tag_2 8 rfl rfl)
theorem dX4_tag_55 : decode cX4_tag 55 = .ok (.getfield 95, 3) := dk_180 0 95 (dk_at dksX4_tag_2 9 rfl rfl)
theorem dX4_tag_58 : decode cX4_tag 58 = .ok (.iload_n 1, 1) := dk_27 (dk_at dksX4_tag_2 12 rfl rfl)
theorem dX4_tag_59 : decode cX4_tag 59 = .ok (.iastore, 1) := dk_79 (dk_at dksX4_tag_2 13 rfl rfl)
theorem dX4_tag_60 : decode cX4_tag 60 = .ok (.aload_n 0, 1) := dk_42 (dk_at dksX4_tag_2 14 rfl rfl)
theorem dX4_tag_61 : decode cX4_tag 61 = .ok (.getfield 19, 3) := dk_180 0 19 (dk_at dksX4_tag_2 15 rfl rfl)
theorem dX4_tag_64 : decode cX4_tag 64 = .ok (.aload_n 0, 1) := dk_42 (dk_at dksX4_tag_2 18 rfl rfl)
theorem dX4_tag_65 : decode cX4_tag 65 = .ok (.getfield 95, 3) := dk_180 0 95 (dk_at dksX4_tag_2 19 rfl rfl)
theorem dX4_tag_68 : decode cX4_tag 68 = .ok (.iload_n 2, 1) := dk_28 (dk_at dksX4_tag_2 22 rfl rfl)
theorem dX4_tag_69 : decode cX4_tag 69 = .ok (.iastore, 1) := dk_79 (dk_at dksX4_tag_2 23 rfl rfl)
theorem dX4_tag_70 : decode cX4_tag 70 = .ok (.aload_n 0, 1) := dk_42 (dk_at dksX4_tag_3 0 rfl rfl)
theorem dX4_tag_71 : decode cX4_tag 71 = .ok (.getfield 22, 3) := dk_180 0 22 (dk_at dksX4_tag_3 1 rfl rfl)
theorem dX4_tag_74 : decode cX4_tag 74 = .ok (.aload_n 0, 1) := dk_42 (dk_at dksX4_tag_3 4 rfl rfl)
theorem dX4_tag_75 : decode cX4_tag 75 = .ok (.getfield 95, 3) := dk_180 0 95 (dk_at dksX4_tag_3 5 rfl rfl)
theorem dX4_tag_78 : decode cX4_tag 78 = .ok (.iload_n 3, 1) := dk_29 (dk_at dksX4_tag_3 8 rfl rfl)
theorem dX4_tag_79 : decode cX4_tag 79 = .ok (.iastore, 1) := dk_79 (dk_at dksX4_tag_3 9 rfl rfl)
theorem dX4_tag_80 : decode cX4_tag 80 = .ok (.aload_n 0, 1) := dk_42 (dk_at dksX4_tag_3 10 rfl rfl)
theorem dX4_tag_81 : decode cX4_tag 81 = .ok (.dup, 1) := dk_89 (dk_at dksX4_tag_3 11 rfl rfl)
theorem dX4_tag_82 : decode cX4_tag 82 = .ok (.getfield 95, 3) := dk_180 0 95 (dk_at dksX4_tag_3 12 rfl rfl)
theorem dX4_tag_85 : decode cX4_tag 85 = .ok (.iconst 1, 1) := dk_4 (dk_at dksX4_tag_3 15 rfl rfl)
theorem dX4_tag_86 : decode cX4_tag 86 = .ok (.iadd, 1) := dk_96 (dk_at dksX4_tag_3 16 rfl rfl)
theorem dX4_tag_87 : decode cX4_tag 87 = .ok (.putfield 95, 3) := dk_181 0 95 (dk_at dksX4_tag_3 17 rfl rfl)
theorem dX4_tag_90 : decode cX4_tag 90 = .ok (.aload_n 0, 1) := dk_42 (dk_at dksX4_tag_3 20 rfl rfl)
theorem dX4_tag_91 : decode cX4_tag 91 = .ok (.aload_n 0, 1) := dk_42 (dk_at dksX4_tag_3 21 rfl rfl)
theorem dX4_tag_92 : decode cX4_tag 92 = .ok (.getfield 95, 3) := dk_180 0 95 (dk_at dksX4_tag_4 0 rfl rfl)
theorem dX4_tag_95 : decode cX4_tag 95 = .ok (.iconst 1, 1) := dk_4 (dk_at dksX4_tag_4 3 rfl rfl)
theorem dX4_tag_96 : decode cX4_tag 96 = .ok (.isub, 1) := dk_100 (dk_at dksX4_tag_4 4 rfl rfl)
theorem dX4_tag_97 : decode cX4_tag 97 = .ok (.invokevirtual 161, 3) := dk_182 0 161 (dk_at dksX4_tag_4 5 rfl rfl)
theorem dX4_tag_100 : decode cX4_tag 100 = .ok (.ireturn, 1) := dk_172 (dk_at dksX4_tag_4 8 rfl rfl)
abbrev cX4_tagFolder : ByteArray := prog_12_method_26_code
def yX4_tagFolder : MethodName := ⟨RX4, "tagFolder", "(II)I"⟩
def dkwX4_tagFolder_1 : List UInt8 := [180, 0, 13, 27, 46, 62, 42, 180, 0, 13, 27, 28, 79, 42, 29, 182, 0, 161, 172]
abbrev dktX4_tagFolder_1 : List UInt8 := dkwX4_tagFolder_1 ++ []
def dkwX4_tagFolder_0 : List UInt8 := [42, 27, 182, 0, 164, 153, 0, 11, 42, 28, 182, 0, 170, 154, 0, 9, 42, 4, 182, 0, 167, 172, 42]
abbrev dktX4_tagFolder_0 : List UInt8 := dkwX4_tagFolder_0 ++ dktX4_tagFolder_1
theorem dksX4_tagFolder_0 : cX4_tagFolder.data.toList.drop 0 = dktX4_tagFolder_0 := by decide +kernel
theorem dksX4_tagFolder_1 : cX4_tagFolder.data.toList.drop 23 = dktX4_tagFolder_1 := dk_seg dksX4_tagFolder_0 23 rfl rfl
theorem dX4_tagFolder_0 : decode cX4_tagFolder 0 = .ok (.aload_n 0, 1) := dk_42 (dk_at dksX4_tagFolder_0 0 rfl rfl)
theorem dX4_tagFolder_1 : decode cX4_tagFolder 1 = .ok (.iload_n 1, 1) := dk_27 (dk_at dksX4_tagFolder_0 1 rfl rfl)
theorem dX4_tagFolder_2 : decode cX4_tagFolder 2 = .ok (.invokevirtual 164, 3) := dk_182 0 164 (dk_at dksX4_tagFolder_0 2 rfl rfl)
theorem dX4_tagFolder_5 : decode cX4_tagFolder 5 = .ok (.ifCond .eq 11, 3) := dk_153 0 11 (dk_at dksX4_tagFolder_0 5 rfl rfl)
theorem dX4_tagFolder_8 : decode cX4_tagFolder 8 = .ok (.aload_n 0, 1) := dk_42 (dk_at dksX4_tagFolder_0 8 rfl rfl)
theorem dX4_tagFolder_9 : decode cX4_tagFolder 9 = .ok (.iload_n 2, 1) := dk_28 (dk_at dksX4_tagFolder_0 9 rfl rfl)
theorem dX4_tagFolder_10 : decode cX4_tagFolder 10 = .ok (.invokevirtual 170, 3) := dk_182 0 170 (dk_at dksX4_tagFolder_0 10 rfl rfl)
theorem dX4_tagFolder_13 : decode cX4_tagFolder 13 = .ok (.ifCond .ne 9, 3) := dk_154 0 9 (dk_at dksX4_tagFolder_0 13 rfl rfl)
theorem dX4_tagFolder_16 : decode cX4_tagFolder 16 = .ok (.aload_n 0, 1) := dk_42 (dk_at dksX4_tagFolder_0 16 rfl rfl)
theorem dX4_tagFolder_17 : decode cX4_tagFolder 17 = .ok (.iconst 1, 1) := dk_4 (dk_at dksX4_tagFolder_0 17 rfl rfl)
theorem dX4_tagFolder_18 : decode cX4_tagFolder 18 = .ok (.invokevirtual 167, 3) := dk_182 0 167 (dk_at dksX4_tagFolder_0 18 rfl rfl)
theorem dX4_tagFolder_21 : decode cX4_tagFolder 21 = .ok (.ireturn, 1) := dk_172 (dk_at dksX4_tagFolder_0 21 rfl rfl)
theorem dX4_tagFolder_22 : decode cX4_tagFolder 22 = .ok (.aload_n 0, 1) := dk_42 (dk_at dksX4_tagFolder_0 22 rfl rfl)
theorem dX4_tagFolder_23 : decode cX4_tagFolder 23 = .ok (.getfield 13, 3) := dk_180 0 13 (dk_at dksX4_tagFolder_1 0 rfl rfl)
theorem dX4_tagFolder_26 : decode cX4_tagFolder 26 = .ok (.iload_n 1, 1) := dk_27 (dk_at dksX4_tagFolder_1 3 rfl rfl)
theorem dX4_tagFolder_27 : decode cX4_tagFolder 27 = .ok (.iaload, 1) := dk_46 (dk_at dksX4_tagFolder_1 4 rfl rfl)
theorem dX4_tagFolder_28 : decode cX4_tagFolder 28 = .ok (.istore_n 3, 1) := dk_62 (dk_at dksX4_tagFolder_1 5 rfl rfl)
theorem dX4_tagFolder_29 : decode cX4_tagFolder 29 = .ok (.aload_n 0, 1) := dk_42 (dk_at dksX4_tagFolder_1 6 rfl rfl)
theorem dX4_tagFolder_30 : decode cX4_tagFolder 30 = .ok (.getfield 13, 3) := dk_180 0 13 (dk_at dksX4_tagFolder_1 7 rfl rfl)
theorem dX4_tagFolder_33 : decode cX4_tagFolder 33 = .ok (.iload_n 1, 1) := dk_27 (dk_at dksX4_tagFolder_1 10 rfl rfl)
theorem dX4_tagFolder_34 : decode cX4_tagFolder 34 = .ok (.iload_n 2, 1) := dk_28 (dk_at dksX4_tagFolder_1 11 rfl rfl)
theorem dX4_tagFolder_35 : decode cX4_tagFolder 35 = .ok (.iastore, 1) := dk_79 (dk_at dksX4_tagFolder_1 12 rfl rfl)
theorem dX4_tagFolder_36 : decode cX4_tagFolder 36 = .ok (.aload_n 0, 1) := dk_42 (dk_at dksX4_tagFolder_1 13 rfl rfl)
theorem dX4_tagFolder_37 : decode cX4_tagFolder 37 = .ok (.iload_n 3, 1) := dk_29 (dk_at dksX4_tagFolder_1 14 rfl rfl)
theorem dX4_tagFolder_38 : decode cX4_tagFolder 38 = .ok (.invokevirtual 161, 3) := dk_182 0 161 (dk_at dksX4_tagFolder_1 15 rfl rfl)
theorem dX4_tagFolder_41 : decode cX4_tagFolder 41 = .ok (.ireturn, 1) := dk_172 (dk_at dksX4_tagFolder_1 18 rfl rfl)
abbrev cX4_isTagOrNone : ByteArray := prog_12_method_7_code
def yX4_isTagOrNone : MethodName := ⟨RX4, "isTagOrNone", "(I)Z"⟩
def dkwX4_isTagOrNone_0 : List UInt8 := [27, 2, 42, 180, 0, 95, 4, 100, 184, 0, 91, 172]
abbrev dktX4_isTagOrNone_0 : List UInt8 := dkwX4_isTagOrNone_0 ++ []
theorem dksX4_isTagOrNone_0 : cX4_isTagOrNone.data.toList.drop 0 = dktX4_isTagOrNone_0 := by decide +kernel
theorem dX4_isTagOrNone_0 : decode cX4_isTagOrNone 0 = .ok (.iload_n 1, 1) := dk_27 (dk_at dksX4_isTagOrNone_0 0 rfl rfl)
theorem dX4_isTagOrNone_1 : decode cX4_isTagOrNone 1 = .ok (.iconst (-1), 1) := dk_2 (dk_at dksX4_isTagOrNone_0 1 rfl rfl)
theorem dX4_isTagOrNone_2 : decode cX4_isTagOrNone 2 = .ok (.aload_n 0, 1) := dk_42 (dk_at dksX4_isTagOrNone_0 2 rfl rfl)
theorem dX4_isTagOrNone_3 : decode cX4_isTagOrNone 3 = .ok (.getfield 95, 3) := dk_180 0 95 (dk_at dksX4_isTagOrNone_0 3 rfl rfl)
theorem dX4_isTagOrNone_6 : decode cX4_isTagOrNone 6 = .ok (.iconst 1, 1) := dk_4 (dk_at dksX4_isTagOrNone_0 6 rfl rfl)
theorem dX4_isTagOrNone_7 : decode cX4_isTagOrNone 7 = .ok (.isub, 1) := dk_100 (dk_at dksX4_isTagOrNone_0 7 rfl rfl)
theorem dX4_isTagOrNone_8 : decode cX4_isTagOrNone 8 = .ok (.invokestatic 91, 3) := dk_184 0 91 (dk_at dksX4_isTagOrNone_0 8 rfl rfl)
theorem dX4_isTagOrNone_11 : decode cX4_isTagOrNone 11 = .ok (.ireturn, 1) := dk_172 (dk_at dksX4_isTagOrNone_0 11 rfl rfl)
abbrev cX4_tagItem : ByteArray := prog_12_method_27_code
def yX4_tagItem : MethodName := ⟨RX4, "tagItem", "(II)I"⟩
def dkwX4_tagItem_2 : List UInt8 := [180, 0, 43, 27, 28, 79, 42, 29, 182, 0, 161, 172]
abbrev dktX4_tagItem_2 : List UInt8 := dkwX4_tagItem_2 ++ []
def dkwX4_tagItem_1 : List UInt8 := [180, 0, 49, 27, 46, 6, 160, 0, 9, 42, 5, 182, 0, 167, 172, 42, 180, 0, 43, 27, 46, 62, 42]
abbrev dktX4_tagItem_1 : List UInt8 := dkwX4_tagItem_1 ++ dktX4_tagItem_2
def dkwX4_tagItem_0 : List UInt8 := [42, 27, 182, 0, 173, 153, 0, 11, 42, 28, 182, 0, 170, 154, 0, 9, 42, 4, 182, 0, 167, 172, 42]
abbrev dktX4_tagItem_0 : List UInt8 := dkwX4_tagItem_0 ++ dktX4_tagItem_1
theorem dksX4_tagItem_0 : cX4_tagItem.data.toList.drop 0 = dktX4_tagItem_0 := by decide +kernel
theorem dksX4_tagItem_1 : cX4_tagItem.data.toList.drop 23 = dktX4_tagItem_1 := dk_seg dksX4_tagItem_0 23 rfl rfl
theorem dksX4_tagItem_2 : cX4_tagItem.data.toList.drop 46 = dktX4_tagItem_2 := dk_seg dksX4_tagItem_1 23 rfl rfl
theorem dX4_tagItem_0 : decode cX4_tagItem 0 = .ok (.aload_n 0, 1) := dk_42 (dk_at dksX4_tagItem_0 0 rfl rfl)
theorem dX4_tagItem_1 : decode cX4_tagItem 1 = .ok (.iload_n 1, 1) := dk_27 (dk_at dksX4_tagItem_0 1 rfl rfl)
theorem dX4_tagItem_2 : decode cX4_tagItem 2 = .ok (.invokevirtual 173, 3) := dk_182 0 173 (dk_at dksX4_tagItem_0 2 rfl rfl)
theorem dX4_tagItem_5 : decode cX4_tagItem 5 = .ok (.ifCond .eq 11, 3) := dk_153 0 11 (dk_at dksX4_tagItem_0 5 rfl rfl)
theorem dX4_tagItem_8 : decode cX4_tagItem 8 = .ok (.aload_n 0, 1) := dk_42 (dk_at dksX4_tagItem_0 8 rfl rfl)
theorem dX4_tagItem_9 : decode cX4_tagItem 9 = .ok (.iload_n 2, 1) := dk_28 (dk_at dksX4_tagItem_0 9 rfl rfl)
theorem dX4_tagItem_10 : decode cX4_tagItem 10 = .ok (.invokevirtual 170, 3) := dk_182 0 170 (dk_at dksX4_tagItem_0 10 rfl rfl)
theorem dX4_tagItem_13 : decode cX4_tagItem 13 = .ok (.ifCond .ne 9, 3) := dk_154 0 9 (dk_at dksX4_tagItem_0 13 rfl rfl)
theorem dX4_tagItem_16 : decode cX4_tagItem 16 = .ok (.aload_n 0, 1) := dk_42 (dk_at dksX4_tagItem_0 16 rfl rfl)
theorem dX4_tagItem_17 : decode cX4_tagItem 17 = .ok (.iconst 1, 1) := dk_4 (dk_at dksX4_tagItem_0 17 rfl rfl)
theorem dX4_tagItem_18 : decode cX4_tagItem 18 = .ok (.invokevirtual 167, 3) := dk_182 0 167 (dk_at dksX4_tagItem_0 18 rfl rfl)
theorem dX4_tagItem_21 : decode cX4_tagItem 21 = .ok (.ireturn, 1) := dk_172 (dk_at dksX4_tagItem_0 21 rfl rfl)
theorem dX4_tagItem_22 : decode cX4_tagItem 22 = .ok (.aload_n 0, 1) := dk_42 (dk_at dksX4_tagItem_0 22 rfl rfl)
theorem dX4_tagItem_23 : decode cX4_tagItem 23 = .ok (.getfield 49, 3) := dk_180 0 49 (dk_at dksX4_tagItem_1 0 rfl rfl)
theorem dX4_tagItem_26 : decode cX4_tagItem 26 = .ok (.iload_n 1, 1) := dk_27 (dk_at dksX4_tagItem_1 3 rfl rfl)
theorem dX4_tagItem_27 : decode cX4_tagItem 27 = .ok (.iaload, 1) := dk_46 (dk_at dksX4_tagItem_1 4 rfl rfl)
theorem dX4_tagItem_28 : decode cX4_tagItem 28 = .ok (.iconst 3, 1) := dk_6 (dk_at dksX4_tagItem_1 5 rfl rfl)
theorem dX4_tagItem_29 : decode cX4_tagItem 29 = .ok (.if_icmp .ne 9, 3) := dk_160 0 9 (dk_at dksX4_tagItem_1 6 rfl rfl)
theorem dX4_tagItem_32 : decode cX4_tagItem 32 = .ok (.aload_n 0, 1) := dk_42 (dk_at dksX4_tagItem_1 9 rfl rfl)
theorem dX4_tagItem_33 : decode cX4_tagItem 33 = .ok (.iconst 2, 1) := dk_5 (dk_at dksX4_tagItem_1 10 rfl rfl)
theorem dX4_tagItem_34 : decode cX4_tagItem 34 = .ok (.invokevirtual 167, 3) := dk_182 0 167 (dk_at dksX4_tagItem_1 11 rfl rfl)
theorem dX4_tagItem_37 : decode cX4_tagItem 37 = .ok (.ireturn, 1) := dk_172 (dk_at dksX4_tagItem_1 14 rfl rfl)
theorem dX4_tagItem_38 : decode cX4_tagItem 38 = .ok (.aload_n 0, 1) := dk_42 (dk_at dksX4_tagItem_1 15 rfl rfl)
theorem dX4_tagItem_39 : decode cX4_tagItem 39 = .ok (.getfield 43, 3) := dk_180 0 43 (dk_at dksX4_tagItem_1 16 rfl rfl)
theorem dX4_tagItem_42 : decode cX4_tagItem 42 = .ok (.iload_n 1, 1) := dk_27 (dk_at dksX4_tagItem_1 19 rfl rfl)
theorem dX4_tagItem_43 : decode cX4_tagItem 43 = .ok (.iaload, 1) := dk_46 (dk_at dksX4_tagItem_1 20 rfl rfl)
theorem dX4_tagItem_44 : decode cX4_tagItem 44 = .ok (.istore_n 3, 1) := dk_62 (dk_at dksX4_tagItem_1 21 rfl rfl)
theorem dX4_tagItem_45 : decode cX4_tagItem 45 = .ok (.aload_n 0, 1) := dk_42 (dk_at dksX4_tagItem_1 22 rfl rfl)
theorem dX4_tagItem_46 : decode cX4_tagItem 46 = .ok (.getfield 43, 3) := dk_180 0 43 (dk_at dksX4_tagItem_2 0 rfl rfl)
theorem dX4_tagItem_49 : decode cX4_tagItem 49 = .ok (.iload_n 1, 1) := dk_27 (dk_at dksX4_tagItem_2 3 rfl rfl)
theorem dX4_tagItem_50 : decode cX4_tagItem 50 = .ok (.iload_n 2, 1) := dk_28 (dk_at dksX4_tagItem_2 4 rfl rfl)
theorem dX4_tagItem_51 : decode cX4_tagItem 51 = .ok (.iastore, 1) := dk_79 (dk_at dksX4_tagItem_2 5 rfl rfl)
theorem dX4_tagItem_52 : decode cX4_tagItem 52 = .ok (.aload_n 0, 1) := dk_42 (dk_at dksX4_tagItem_2 6 rfl rfl)
theorem dX4_tagItem_53 : decode cX4_tagItem 53 = .ok (.iload_n 3, 1) := dk_29 (dk_at dksX4_tagItem_2 7 rfl rfl)
theorem dX4_tagItem_54 : decode cX4_tagItem 54 = .ok (.invokevirtual 161, 3) := dk_182 0 161 (dk_at dksX4_tagItem_2 8 rfl rfl)
theorem dX4_tagItem_57 : decode cX4_tagItem 57 = .ok (.ireturn, 1) := dk_172 (dk_at dksX4_tagItem_2 11 rfl rfl)
abbrev cX4_isItem : ByteArray := prog_12_method_8_code
def yX4_isItem : MethodName := ⟨RX4, "isItem", "(I)Z"⟩
def dkwX4_isItem_0 : List UInt8 := [27, 3, 42, 180, 0, 98, 4, 100, 184, 0, 91, 172]
abbrev dktX4_isItem_0 : List UInt8 := dkwX4_isItem_0 ++ []
theorem dksX4_isItem_0 : cX4_isItem.data.toList.drop 0 = dktX4_isItem_0 := by decide +kernel
theorem dX4_isItem_0 : decode cX4_isItem 0 = .ok (.iload_n 1, 1) := dk_27 (dk_at dksX4_isItem_0 0 rfl rfl)
theorem dX4_isItem_1 : decode cX4_isItem 1 = .ok (.iconst 0, 1) := dk_3 (dk_at dksX4_isItem_0 1 rfl rfl)
theorem dX4_isItem_2 : decode cX4_isItem 2 = .ok (.aload_n 0, 1) := dk_42 (dk_at dksX4_isItem_0 2 rfl rfl)
theorem dX4_isItem_3 : decode cX4_isItem 3 = .ok (.getfield 98, 3) := dk_180 0 98 (dk_at dksX4_isItem_0 3 rfl rfl)
theorem dX4_isItem_6 : decode cX4_isItem 6 = .ok (.iconst 1, 1) := dk_4 (dk_at dksX4_isItem_0 6 rfl rfl)
theorem dX4_isItem_7 : decode cX4_isItem 7 = .ok (.isub, 1) := dk_100 (dk_at dksX4_isItem_0 7 rfl rfl)
theorem dX4_isItem_8 : decode cX4_isItem 8 = .ok (.invokestatic 91, 3) := dk_184 0 91 (dk_at dksX4_isItem_0 8 rfl rfl)
theorem dX4_isItem_11 : decode cX4_isItem 11 = .ok (.ireturn, 1) := dk_172 (dk_at dksX4_isItem_0 11 rfl rfl)
abbrev cX4_byDefault : ByteArray := prog_12_method_28_code
def yX4_byDefault : MethodName := ⟨RX4, "byDefault", "(I)I"⟩
def dkwX4_byDefault_1 : List UInt8 := [42, 28, 182, 0, 161, 172]
abbrev dktX4_byDefault_1 : List UInt8 := dkwX4_byDefault_1 ++ []
def dkwX4_byDefault_0 : List UInt8 := [42, 27, 182, 0, 170, 154, 0, 9, 42, 4, 182, 0, 167, 172, 42, 180, 0, 110, 61, 42, 27, 181, 0, 110]
abbrev dktX4_byDefault_0 : List UInt8 := dkwX4_byDefault_0 ++ dktX4_byDefault_1
theorem dksX4_byDefault_0 : cX4_byDefault.data.toList.drop 0 = dktX4_byDefault_0 := by decide +kernel
theorem dksX4_byDefault_1 : cX4_byDefault.data.toList.drop 24 = dktX4_byDefault_1 := dk_seg dksX4_byDefault_0 24 rfl rfl
theorem dX4_byDefault_0 : decode cX4_byDefault 0 = .ok (.aload_n 0, 1) := dk_42 (dk_at dksX4_byDefault_0 0 rfl rfl)
theorem dX4_byDefault_1 : decode cX4_byDefault 1 = .ok (.iload_n 1, 1) := dk_27 (dk_at dksX4_byDefault_0 1 rfl rfl)
theorem dX4_byDefault_2 : decode cX4_byDefault 2 = .ok (.invokevirtual 170, 3) := dk_182 0 170 (dk_at dksX4_byDefault_0 2 rfl rfl)
theorem dX4_byDefault_5 : decode cX4_byDefault 5 = .ok (.ifCond .ne 9, 3) := dk_154 0 9 (dk_at dksX4_byDefault_0 5 rfl rfl)
theorem dX4_byDefault_8 : decode cX4_byDefault 8 = .ok (.aload_n 0, 1) := dk_42 (dk_at dksX4_byDefault_0 8 rfl rfl)
theorem dX4_byDefault_9 : decode cX4_byDefault 9 = .ok (.iconst 1, 1) := dk_4 (dk_at dksX4_byDefault_0 9 rfl rfl)
theorem dX4_byDefault_10 : decode cX4_byDefault 10 = .ok (.invokevirtual 167, 3) := dk_182 0 167 (dk_at dksX4_byDefault_0 10 rfl rfl)
theorem dX4_byDefault_13 : decode cX4_byDefault 13 = .ok (.ireturn, 1) := dk_172 (dk_at dksX4_byDefault_0 13 rfl rfl)
theorem dX4_byDefault_14 : decode cX4_byDefault 14 = .ok (.aload_n 0, 1) := dk_42 (dk_at dksX4_byDefault_0 14 rfl rfl)
theorem dX4_byDefault_15 : decode cX4_byDefault 15 = .ok (.getfield 110, 3) := dk_180 0 110 (dk_at dksX4_byDefault_0 15 rfl rfl)
theorem dX4_byDefault_18 : decode cX4_byDefault 18 = .ok (.istore_n 2, 1) := dk_61 (dk_at dksX4_byDefault_0 18 rfl rfl)
theorem dX4_byDefault_19 : decode cX4_byDefault 19 = .ok (.aload_n 0, 1) := dk_42 (dk_at dksX4_byDefault_0 19 rfl rfl)
theorem dX4_byDefault_20 : decode cX4_byDefault 20 = .ok (.iload_n 1, 1) := dk_27 (dk_at dksX4_byDefault_0 20 rfl rfl)
theorem dX4_byDefault_21 : decode cX4_byDefault 21 = .ok (.putfield 110, 3) := dk_181 0 110 (dk_at dksX4_byDefault_0 21 rfl rfl)
theorem dX4_byDefault_24 : decode cX4_byDefault 24 = .ok (.aload_n 0, 1) := dk_42 (dk_at dksX4_byDefault_1 0 rfl rfl)
theorem dX4_byDefault_25 : decode cX4_byDefault 25 = .ok (.iload_n 2, 1) := dk_28 (dk_at dksX4_byDefault_1 1 rfl rfl)
theorem dX4_byDefault_26 : decode cX4_byDefault 26 = .ok (.invokevirtual 161, 3) := dk_182 0 161 (dk_at dksX4_byDefault_1 2 rfl rfl)
theorem dX4_byDefault_29 : decode cX4_byDefault 29 = .ok (.ireturn, 1) := dk_172 (dk_at dksX4_byDefault_1 5 rfl rfl)
abbrev cX4_item : ByteArray := prog_12_method_30_code
def yX4_item : MethodName := ⟨RX4, "item", "(IIII)I"⟩
def dkwX4_item_6 : List UInt8 := [3, 79, 42, 89, 180, 0, 98, 4, 96, 181, 0, 98, 42, 42, 180, 0, 98, 4, 100, 182, 0, 161, 172]
abbrev dktX4_item_6 : List UInt8 := dkwX4_item_6 ++ []
def dkwX4_item_5 : List UInt8 := [42, 180, 0, 98, 2, 79, 42, 180, 0, 46, 42, 180, 0, 98, 2, 79, 42, 180, 0, 49, 42, 180, 0, 98]
abbrev dktX4_item_5 : List UInt8 := dkwX4_item_5 ++ dktX4_item_6
def dkwX4_item_4 : List UInt8 := [42, 180, 0, 98, 21, 4, 79, 42, 180, 0, 40, 42, 180, 0, 98, 42, 180, 0, 101, 79, 42, 180, 0, 43]
abbrev dktX4_item_4 : List UInt8 := dkwX4_item_4 ++ dktX4_item_5
def dkwX4_item_3 : List UInt8 := [42, 180, 0, 31, 42, 180, 0, 98, 28, 79, 42, 180, 0, 34, 42, 180, 0, 98, 29, 79, 42, 180, 0, 37]
abbrev dktX4_item_3 : List UInt8 := dkwX4_item_3 ++ dktX4_item_4
def dkwX4_item_2 : List UInt8 := [180, 0, 98, 16, 40, 160, 0, 9, 42, 6, 182, 0, 167, 172, 42, 180, 0, 28, 42, 180, 0, 98, 27, 79]
abbrev dktX4_item_2 : List UInt8 := dkwX4_item_2 ++ dktX4_item_3
def dkwX4_item_1 : List UInt8 := [184, 0, 176, 153, 0, 14, 21, 4, 4, 16, 50, 184, 0, 91, 154, 0, 9, 42, 5, 182, 0, 167, 172, 42]
abbrev dktX4_item_1 : List UInt8 := dkwX4_item_1 ++ dktX4_item_2
def dkwX4_item_0 : List UInt8 := [42, 27, 182, 0, 164, 154, 0, 9, 42, 4, 182, 0, 167, 172, 28, 184, 0, 176, 153, 0, 21, 29]
abbrev dktX4_item_0 : List UInt8 := dkwX4_item_0 ++ dktX4_item_1
theorem dksX4_item_0 : cX4_item.data.toList.drop 0 = dktX4_item_0 := by decide +kernel
theorem dksX4_item_1 : cX4_item.data.toList.drop 22 = dktX4_item_1 := dk_seg dksX4_item_0 22 rfl rfl
theorem dksX4_item_2 : cX4_item.data.toList.drop 46 = dktX4_item_2 := dk_seg dksX4_item_1 24 rfl rfl
theorem dksX4_item_3 : cX4_item.data.toList.drop 70 = dktX4_item_3 := dk_seg dksX4_item_2 24 rfl rfl
theorem dksX4_item_4 : cX4_item.data.toList.drop 94 = dktX4_item_4 := dk_seg dksX4_item_3 24 rfl rfl
theorem dksX4_item_5 : cX4_item.data.toList.drop 118 = dktX4_item_5 := dk_seg dksX4_item_4 24 rfl rfl
theorem dksX4_item_6 : cX4_item.data.toList.drop 142 = dktX4_item_6 := dk_seg dksX4_item_5 24 rfl rfl
theorem dX4_item_0 : decode cX4_item 0 = .ok (.aload_n 0, 1) := dk_42 (dk_at dksX4_item_0 0 rfl rfl)
theorem dX4_item_1 : decode cX4_item 1 = .ok (.iload_n 1, 1) := dk_27 (dk_at dksX4_item_0 1 rfl rfl)
theorem dX4_item_2 : decode cX4_item 2 = .ok (.invokevirtual 164, 3) := dk_182 0 164 (dk_at dksX4_item_0 2 rfl rfl)
theorem dX4_item_5 : decode cX4_item 5 = .ok (.ifCond .ne 9, 3) := dk_154 0 9 (dk_at dksX4_item_0 5 rfl rfl)
theorem dX4_item_8 : decode cX4_item 8 = .ok (.aload_n 0, 1) := dk_42 (dk_at dksX4_item_0 8 rfl rfl)
theorem dX4_item_9 : decode cX4_item 9 = .ok (.iconst 1, 1) := dk_4 (dk_at dksX4_item_0 9 rfl rfl)
theorem dX4_item_10 : decode cX4_item 10 = .ok (.invokevirtual 167, 3) := dk_182 0 167 (dk_at dksX4_item_0 10 rfl rfl)
theorem dX4_item_13 : decode cX4_item 13 = .ok (.ireturn, 1) := dk_172 (dk_at dksX4_item_0 13 rfl rfl)
theorem dX4_item_14 : decode cX4_item 14 = .ok (.iload_n 2, 1) := dk_28 (dk_at dksX4_item_0 14 rfl rfl)
theorem dX4_item_15 : decode cX4_item 15 = .ok (.invokestatic 176, 3) := dk_184 0 176 (dk_at dksX4_item_0 15 rfl rfl)
theorem dX4_item_18 : decode cX4_item 18 = .ok (.ifCond .eq 21, 3) := dk_153 0 21 (dk_at dksX4_item_0 18 rfl rfl)
theorem dX4_item_21 : decode cX4_item 21 = .ok (.iload_n 3, 1) := dk_29 (dk_at dksX4_item_0 21 rfl rfl)
theorem dX4_item_22 : decode cX4_item 22 = .ok (.invokestatic 176, 3) := dk_184 0 176 (dk_at dksX4_item_1 0 rfl rfl)
theorem dX4_item_25 : decode cX4_item 25 = .ok (.ifCond .eq 14, 3) := dk_153 0 14 (dk_at dksX4_item_1 3 rfl rfl)
theorem dX4_item_28 : decode cX4_item 28 = .ok (.iload 4, 2) := dk_21 4 (dk_at dksX4_item_1 6 rfl rfl)
theorem dX4_item_30 : decode cX4_item 30 = .ok (.iconst 1, 1) := dk_4 (dk_at dksX4_item_1 8 rfl rfl)
theorem dX4_item_31 : decode cX4_item 31 = .ok (.bipush 50, 2) := dk_16 50 (dk_at dksX4_item_1 9 rfl rfl)
theorem dX4_item_33 : decode cX4_item 33 = .ok (.invokestatic 91, 3) := dk_184 0 91 (dk_at dksX4_item_1 11 rfl rfl)
theorem dX4_item_36 : decode cX4_item 36 = .ok (.ifCond .ne 9, 3) := dk_154 0 9 (dk_at dksX4_item_1 14 rfl rfl)
theorem dX4_item_39 : decode cX4_item 39 = .ok (.aload_n 0, 1) := dk_42 (dk_at dksX4_item_1 17 rfl rfl)
theorem dX4_item_40 : decode cX4_item 40 = .ok (.iconst 2, 1) := dk_5 (dk_at dksX4_item_1 18 rfl rfl)
theorem dX4_item_41 : decode cX4_item 41 = .ok (.invokevirtual 167, 3) := dk_182 0 167 (dk_at dksX4_item_1 19 rfl rfl)
theorem dX4_item_44 : decode cX4_item 44 = .ok (.ireturn, 1) := dk_172 (dk_at dksX4_item_1 22 rfl rfl)
theorem dX4_item_45 : decode cX4_item 45 = .ok (.aload_n 0, 1) := dk_42 (dk_at dksX4_item_1 23 rfl rfl)
theorem dX4_item_46 : decode cX4_item 46 = .ok (.getfield 98, 3) := dk_180 0 98 (dk_at dksX4_item_2 0 rfl rfl)
theorem dX4_item_49 : decode cX4_item 49 = .ok (.bipush 40, 2) := dk_16 40 (dk_at dksX4_item_2 3 rfl rfl)
theorem dX4_item_51 : decode cX4_item 51 = .ok (.if_icmp .ne 9, 3) := dk_160 0 9 (dk_at dksX4_item_2 5 rfl rfl)
theorem dX4_item_54 : decode cX4_item 54 = .ok (.aload_n 0, 1) := dk_42 (dk_at dksX4_item_2 8 rfl rfl)
theorem dX4_item_55 : decode cX4_item 55 = .ok (.iconst 3, 1) := dk_6 (dk_at dksX4_item_2 9 rfl rfl)
theorem dX4_item_56 : decode cX4_item 56 = .ok (.invokevirtual 167, 3) := dk_182 0 167 (dk_at dksX4_item_2 10 rfl rfl)
theorem dX4_item_59 : decode cX4_item 59 = .ok (.ireturn, 1) := dk_172 (dk_at dksX4_item_2 13 rfl rfl)
theorem dX4_item_60 : decode cX4_item 60 = .ok (.aload_n 0, 1) := dk_42 (dk_at dksX4_item_2 14 rfl rfl)
theorem dX4_item_61 : decode cX4_item 61 = .ok (.getfield 28, 3) := dk_180 0 28 (dk_at dksX4_item_2 15 rfl rfl)
theorem dX4_item_64 : decode cX4_item 64 = .ok (.aload_n 0, 1) := dk_42 (dk_at dksX4_item_2 18 rfl rfl)
theorem dX4_item_65 : decode cX4_item 65 = .ok (.getfield 98, 3) := dk_180 0 98 (dk_at dksX4_item_2 19 rfl rfl)
theorem dX4_item_68 : decode cX4_item 68 = .ok (.iload_n 1, 1) := dk_27 (dk_at dksX4_item_2 22 rfl rfl)
theorem dX4_item_69 : decode cX4_item 69 = .ok (.iastore, 1) := dk_79 (dk_at dksX4_item_2 23 rfl rfl)
theorem dX4_item_70 : decode cX4_item 70 = .ok (.aload_n 0, 1) := dk_42 (dk_at dksX4_item_3 0 rfl rfl)
theorem dX4_item_71 : decode cX4_item 71 = .ok (.getfield 31, 3) := dk_180 0 31 (dk_at dksX4_item_3 1 rfl rfl)
theorem dX4_item_74 : decode cX4_item 74 = .ok (.aload_n 0, 1) := dk_42 (dk_at dksX4_item_3 4 rfl rfl)
theorem dX4_item_75 : decode cX4_item 75 = .ok (.getfield 98, 3) := dk_180 0 98 (dk_at dksX4_item_3 5 rfl rfl)
theorem dX4_item_78 : decode cX4_item 78 = .ok (.iload_n 2, 1) := dk_28 (dk_at dksX4_item_3 8 rfl rfl)
theorem dX4_item_79 : decode cX4_item 79 = .ok (.iastore, 1) := dk_79 (dk_at dksX4_item_3 9 rfl rfl)
theorem dX4_item_80 : decode cX4_item 80 = .ok (.aload_n 0, 1) := dk_42 (dk_at dksX4_item_3 10 rfl rfl)
theorem dX4_item_81 : decode cX4_item 81 = .ok (.getfield 34, 3) := dk_180 0 34 (dk_at dksX4_item_3 11 rfl rfl)
theorem dX4_item_84 : decode cX4_item 84 = .ok (.aload_n 0, 1) := dk_42 (dk_at dksX4_item_3 14 rfl rfl)
theorem dX4_item_85 : decode cX4_item 85 = .ok (.getfield 98, 3) := dk_180 0 98 (dk_at dksX4_item_3 15 rfl rfl)
theorem dX4_item_88 : decode cX4_item 88 = .ok (.iload_n 3, 1) := dk_29 (dk_at dksX4_item_3 18 rfl rfl)
theorem dX4_item_89 : decode cX4_item 89 = .ok (.iastore, 1) := dk_79 (dk_at dksX4_item_3 19 rfl rfl)
theorem dX4_item_90 : decode cX4_item 90 = .ok (.aload_n 0, 1) := dk_42 (dk_at dksX4_item_3 20 rfl rfl)
theorem dX4_item_91 : decode cX4_item 91 = .ok (.getfield 37, 3) := dk_180 0 37 (dk_at dksX4_item_3 21 rfl rfl)
theorem dX4_item_94 : decode cX4_item 94 = .ok (.aload_n 0, 1) := dk_42 (dk_at dksX4_item_4 0 rfl rfl)
theorem dX4_item_95 : decode cX4_item 95 = .ok (.getfield 98, 3) := dk_180 0 98 (dk_at dksX4_item_4 1 rfl rfl)
theorem dX4_item_98 : decode cX4_item 98 = .ok (.iload 4, 2) := dk_21 4 (dk_at dksX4_item_4 4 rfl rfl)
theorem dX4_item_100 : decode cX4_item 100 = .ok (.iastore, 1) := dk_79 (dk_at dksX4_item_4 6 rfl rfl)
theorem dX4_item_101 : decode cX4_item 101 = .ok (.aload_n 0, 1) := dk_42 (dk_at dksX4_item_4 7 rfl rfl)
theorem dX4_item_102 : decode cX4_item 102 = .ok (.getfield 40, 3) := dk_180 0 40 (dk_at dksX4_item_4 8 rfl rfl)
theorem dX4_item_105 : decode cX4_item 105 = .ok (.aload_n 0, 1) := dk_42 (dk_at dksX4_item_4 11 rfl rfl)
theorem dX4_item_106 : decode cX4_item 106 = .ok (.getfield 98, 3) := dk_180 0 98 (dk_at dksX4_item_4 12 rfl rfl)
theorem dX4_item_109 : decode cX4_item 109 = .ok (.aload_n 0, 1) := dk_42 (dk_at dksX4_item_4 15 rfl rfl)
theorem dX4_item_110 : decode cX4_item 110 = .ok (.getfield 101, 3) := dk_180 0 101 (dk_at dksX4_item_4 16 rfl rfl)
theorem dX4_item_113 : decode cX4_item 113 = .ok (.iastore, 1) := dk_79 (dk_at dksX4_item_4 19 rfl rfl)
theorem dX4_item_114 : decode cX4_item 114 = .ok (.aload_n 0, 1) := dk_42 (dk_at dksX4_item_4 20 rfl rfl)
theorem dX4_item_115 : decode cX4_item 115 = .ok (.getfield 43, 3) := dk_180 0 43 (dk_at dksX4_item_4 21 rfl rfl)
theorem dX4_item_118 : decode cX4_item 118 = .ok (.aload_n 0, 1) := dk_42 (dk_at dksX4_item_5 0 rfl rfl)
theorem dX4_item_119 : decode cX4_item 119 = .ok (.getfield 98, 3) := dk_180 0 98 (dk_at dksX4_item_5 1 rfl rfl)
theorem dX4_item_122 : decode cX4_item 122 = .ok (.iconst (-1), 1) := dk_2 (dk_at dksX4_item_5 4 rfl rfl)
theorem dX4_item_123 : decode cX4_item 123 = .ok (.iastore, 1) := dk_79 (dk_at dksX4_item_5 5 rfl rfl)
theorem dX4_item_124 : decode cX4_item 124 = .ok (.aload_n 0, 1) := dk_42 (dk_at dksX4_item_5 6 rfl rfl)
theorem dX4_item_125 : decode cX4_item 125 = .ok (.getfield 46, 3) := dk_180 0 46 (dk_at dksX4_item_5 7 rfl rfl)
theorem dX4_item_128 : decode cX4_item 128 = .ok (.aload_n 0, 1) := dk_42 (dk_at dksX4_item_5 10 rfl rfl)
theorem dX4_item_129 : decode cX4_item 129 = .ok (.getfield 98, 3) := dk_180 0 98 (dk_at dksX4_item_5 11 rfl rfl)
theorem dX4_item_132 : decode cX4_item 132 = .ok (.iconst (-1), 1) := dk_2 (dk_at dksX4_item_5 14 rfl rfl)
theorem dX4_item_133 : decode cX4_item 133 = .ok (.iastore, 1) := dk_79 (dk_at dksX4_item_5 15 rfl rfl)
theorem dX4_item_134 : decode cX4_item 134 = .ok (.aload_n 0, 1) := dk_42 (dk_at dksX4_item_5 16 rfl rfl)
theorem dX4_item_135 : decode cX4_item 135 = .ok (.getfield 49, 3) := dk_180 0 49 (dk_at dksX4_item_5 17 rfl rfl)
theorem dX4_item_138 : decode cX4_item 138 = .ok (.aload_n 0, 1) := dk_42 (dk_at dksX4_item_5 20 rfl rfl)
theorem dX4_item_139 : decode cX4_item 139 = .ok (.getfield 98, 3) := dk_180 0 98 (dk_at dksX4_item_5 21 rfl rfl)
theorem dX4_item_142 : decode cX4_item 142 = .ok (.iconst 0, 1) := dk_3 (dk_at dksX4_item_6 0 rfl rfl)
theorem dX4_item_143 : decode cX4_item 143 = .ok (.iastore, 1) := dk_79 (dk_at dksX4_item_6 1 rfl rfl)
theorem dX4_item_144 : decode cX4_item 144 = .ok (.aload_n 0, 1) := dk_42 (dk_at dksX4_item_6 2 rfl rfl)
theorem dX4_item_145 : decode cX4_item 145 = .ok (.dup, 1) := dk_89 (dk_at dksX4_item_6 3 rfl rfl)
theorem dX4_item_146 : decode cX4_item 146 = .ok (.getfield 98, 3) := dk_180 0 98 (dk_at dksX4_item_6 4 rfl rfl)
theorem dX4_item_149 : decode cX4_item 149 = .ok (.iconst 1, 1) := dk_4 (dk_at dksX4_item_6 7 rfl rfl)
theorem dX4_item_150 : decode cX4_item 150 = .ok (.iadd, 1) := dk_96 (dk_at dksX4_item_6 8 rfl rfl)
theorem dX4_item_151 : decode cX4_item 151 = .ok (.putfield 98, 3) := dk_181 0 98 (dk_at dksX4_item_6 9 rfl rfl)
theorem dX4_item_154 : decode cX4_item 154 = .ok (.aload_n 0, 1) := dk_42 (dk_at dksX4_item_6 12 rfl rfl)
theorem dX4_item_155 : decode cX4_item 155 = .ok (.aload_n 0, 1) := dk_42 (dk_at dksX4_item_6 13 rfl rfl)
theorem dX4_item_156 : decode cX4_item 156 = .ok (.getfield 98, 3) := dk_180 0 98 (dk_at dksX4_item_6 14 rfl rfl)
theorem dX4_item_159 : decode cX4_item 159 = .ok (.iconst 1, 1) := dk_4 (dk_at dksX4_item_6 17 rfl rfl)
theorem dX4_item_160 : decode cX4_item 160 = .ok (.isub, 1) := dk_100 (dk_at dksX4_item_6 18 rfl rfl)
theorem dX4_item_161 : decode cX4_item 161 = .ok (.invokevirtual 161, 3) := dk_182 0 161 (dk_at dksX4_item_6 19 rfl rfl)
theorem dX4_item_164 : decode cX4_item 164 = .ok (.ireturn, 1) := dk_172 (dk_at dksX4_item_6 22 rfl rfl)
abbrev cX4_isDigit : ByteArray := prog_12_method_29_code
def yX4_isDigit : MethodName := ⟨RX4, "isDigit", "(I)Z"⟩
def dkwX4_isDigit_0 : List UInt8 := [26, 3, 16, 9, 184, 0, 91, 172]
abbrev dktX4_isDigit_0 : List UInt8 := dkwX4_isDigit_0 ++ []
theorem dksX4_isDigit_0 : cX4_isDigit.data.toList.drop 0 = dktX4_isDigit_0 := by decide +kernel
theorem dX4_isDigit_0 : decode cX4_isDigit 0 = .ok (.iload_n 0, 1) := dk_26 (dk_at dksX4_isDigit_0 0 rfl rfl)
theorem dX4_isDigit_1 : decode cX4_isDigit 1 = .ok (.iconst 0, 1) := dk_3 (dk_at dksX4_isDigit_0 1 rfl rfl)
theorem dX4_isDigit_2 : decode cX4_isDigit 2 = .ok (.bipush 9, 2) := dk_16 9 (dk_at dksX4_isDigit_0 2 rfl rfl)
theorem dX4_isDigit_4 : decode cX4_isDigit 4 = .ok (.invokestatic 91, 3) := dk_184 0 91 (dk_at dksX4_isDigit_0 4 rfl rfl)
theorem dX4_isDigit_7 : decode cX4_isDigit 7 = .ok (.ireturn, 1) := dk_172 (dk_at dksX4_isDigit_0 7 rfl rfl)
abbrev cX4_meeting : ByteArray := prog_12_method_31_code
def yX4_meeting : MethodName := ⟨RX4, "meeting", "(II)I"⟩
def dkwX4_meeting_2 : List UInt8 := [180, 0, 46, 27, 46, 62, 42, 180, 0, 46, 27, 28, 79, 42, 29, 182, 0, 161, 172]
abbrev dktX4_meeting_2 : List UInt8 := dkwX4_meeting_2 ++ []
def dkwX4_meeting_1 : List UInt8 := [42, 5, 182, 0, 167, 172, 42, 180, 0, 49, 27, 46, 6, 160, 0, 9, 42, 6, 182, 0, 167, 172, 42]
abbrev dktX4_meeting_1 : List UInt8 := dkwX4_meeting_1 ++ dktX4_meeting_2
def dkwX4_meeting_0 : List UInt8 := [42, 27, 182, 0, 173, 154, 0, 9, 42, 4, 182, 0, 167, 172, 28, 2, 18, 179, 184, 0, 91, 154, 0, 9]
abbrev dktX4_meeting_0 : List UInt8 := dkwX4_meeting_0 ++ dktX4_meeting_1
theorem dksX4_meeting_0 : cX4_meeting.data.toList.drop 0 = dktX4_meeting_0 := by decide +kernel
theorem dksX4_meeting_1 : cX4_meeting.data.toList.drop 24 = dktX4_meeting_1 := dk_seg dksX4_meeting_0 24 rfl rfl
theorem dksX4_meeting_2 : cX4_meeting.data.toList.drop 47 = dktX4_meeting_2 := dk_seg dksX4_meeting_1 23 rfl rfl
theorem dX4_meeting_0 : decode cX4_meeting 0 = .ok (.aload_n 0, 1) := dk_42 (dk_at dksX4_meeting_0 0 rfl rfl)
theorem dX4_meeting_1 : decode cX4_meeting 1 = .ok (.iload_n 1, 1) := dk_27 (dk_at dksX4_meeting_0 1 rfl rfl)
theorem dX4_meeting_2 : decode cX4_meeting 2 = .ok (.invokevirtual 173, 3) := dk_182 0 173 (dk_at dksX4_meeting_0 2 rfl rfl)
theorem dX4_meeting_5 : decode cX4_meeting 5 = .ok (.ifCond .ne 9, 3) := dk_154 0 9 (dk_at dksX4_meeting_0 5 rfl rfl)
theorem dX4_meeting_8 : decode cX4_meeting 8 = .ok (.aload_n 0, 1) := dk_42 (dk_at dksX4_meeting_0 8 rfl rfl)
theorem dX4_meeting_9 : decode cX4_meeting 9 = .ok (.iconst 1, 1) := dk_4 (dk_at dksX4_meeting_0 9 rfl rfl)
theorem dX4_meeting_10 : decode cX4_meeting 10 = .ok (.invokevirtual 167, 3) := dk_182 0 167 (dk_at dksX4_meeting_0 10 rfl rfl)
theorem dX4_meeting_13 : decode cX4_meeting 13 = .ok (.ireturn, 1) := dk_172 (dk_at dksX4_meeting_0 13 rfl rfl)
theorem dX4_meeting_14 : decode cX4_meeting 14 = .ok (.iload_n 2, 1) := dk_28 (dk_at dksX4_meeting_0 14 rfl rfl)
theorem dX4_meeting_15 : decode cX4_meeting 15 = .ok (.iconst (-1), 1) := dk_2 (dk_at dksX4_meeting_0 15 rfl rfl)
theorem dX4_meeting_16 : decode cX4_meeting 16 = .ok (.ldc 179, 2) := dk_18 179 (dk_at dksX4_meeting_0 16 rfl rfl)
theorem dX4_meeting_18 : decode cX4_meeting 18 = .ok (.invokestatic 91, 3) := dk_184 0 91 (dk_at dksX4_meeting_0 18 rfl rfl)
theorem dX4_meeting_21 : decode cX4_meeting 21 = .ok (.ifCond .ne 9, 3) := dk_154 0 9 (dk_at dksX4_meeting_0 21 rfl rfl)
theorem dX4_meeting_24 : decode cX4_meeting 24 = .ok (.aload_n 0, 1) := dk_42 (dk_at dksX4_meeting_1 0 rfl rfl)
theorem dX4_meeting_25 : decode cX4_meeting 25 = .ok (.iconst 2, 1) := dk_5 (dk_at dksX4_meeting_1 1 rfl rfl)
theorem dX4_meeting_26 : decode cX4_meeting 26 = .ok (.invokevirtual 167, 3) := dk_182 0 167 (dk_at dksX4_meeting_1 2 rfl rfl)
theorem dX4_meeting_29 : decode cX4_meeting 29 = .ok (.ireturn, 1) := dk_172 (dk_at dksX4_meeting_1 5 rfl rfl)
theorem dX4_meeting_30 : decode cX4_meeting 30 = .ok (.aload_n 0, 1) := dk_42 (dk_at dksX4_meeting_1 6 rfl rfl)
theorem dX4_meeting_31 : decode cX4_meeting 31 = .ok (.getfield 49, 3) := dk_180 0 49 (dk_at dksX4_meeting_1 7 rfl rfl)
theorem dX4_meeting_34 : decode cX4_meeting 34 = .ok (.iload_n 1, 1) := dk_27 (dk_at dksX4_meeting_1 10 rfl rfl)
theorem dX4_meeting_35 : decode cX4_meeting 35 = .ok (.iaload, 1) := dk_46 (dk_at dksX4_meeting_1 11 rfl rfl)
theorem dX4_meeting_36 : decode cX4_meeting 36 = .ok (.iconst 3, 1) := dk_6 (dk_at dksX4_meeting_1 12 rfl rfl)
theorem dX4_meeting_37 : decode cX4_meeting 37 = .ok (.if_icmp .ne 9, 3) := dk_160 0 9 (dk_at dksX4_meeting_1 13 rfl rfl)
theorem dX4_meeting_40 : decode cX4_meeting 40 = .ok (.aload_n 0, 1) := dk_42 (dk_at dksX4_meeting_1 16 rfl rfl)
theorem dX4_meeting_41 : decode cX4_meeting 41 = .ok (.iconst 3, 1) := dk_6 (dk_at dksX4_meeting_1 17 rfl rfl)
theorem dX4_meeting_42 : decode cX4_meeting 42 = .ok (.invokevirtual 167, 3) := dk_182 0 167 (dk_at dksX4_meeting_1 18 rfl rfl)
theorem dX4_meeting_45 : decode cX4_meeting 45 = .ok (.ireturn, 1) := dk_172 (dk_at dksX4_meeting_1 21 rfl rfl)
theorem dX4_meeting_46 : decode cX4_meeting 46 = .ok (.aload_n 0, 1) := dk_42 (dk_at dksX4_meeting_1 22 rfl rfl)
theorem dX4_meeting_47 : decode cX4_meeting 47 = .ok (.getfield 46, 3) := dk_180 0 46 (dk_at dksX4_meeting_2 0 rfl rfl)
theorem dX4_meeting_50 : decode cX4_meeting 50 = .ok (.iload_n 1, 1) := dk_27 (dk_at dksX4_meeting_2 3 rfl rfl)
theorem dX4_meeting_51 : decode cX4_meeting 51 = .ok (.iaload, 1) := dk_46 (dk_at dksX4_meeting_2 4 rfl rfl)
theorem dX4_meeting_52 : decode cX4_meeting 52 = .ok (.istore_n 3, 1) := dk_62 (dk_at dksX4_meeting_2 5 rfl rfl)
theorem dX4_meeting_53 : decode cX4_meeting 53 = .ok (.aload_n 0, 1) := dk_42 (dk_at dksX4_meeting_2 6 rfl rfl)
theorem dX4_meeting_54 : decode cX4_meeting 54 = .ok (.getfield 46, 3) := dk_180 0 46 (dk_at dksX4_meeting_2 7 rfl rfl)
theorem dX4_meeting_57 : decode cX4_meeting 57 = .ok (.iload_n 1, 1) := dk_27 (dk_at dksX4_meeting_2 10 rfl rfl)
theorem dX4_meeting_58 : decode cX4_meeting 58 = .ok (.iload_n 2, 1) := dk_28 (dk_at dksX4_meeting_2 11 rfl rfl)
theorem dX4_meeting_59 : decode cX4_meeting 59 = .ok (.iastore, 1) := dk_79 (dk_at dksX4_meeting_2 12 rfl rfl)
theorem dX4_meeting_60 : decode cX4_meeting 60 = .ok (.aload_n 0, 1) := dk_42 (dk_at dksX4_meeting_2 13 rfl rfl)
theorem dX4_meeting_61 : decode cX4_meeting 61 = .ok (.iload_n 3, 1) := dk_29 (dk_at dksX4_meeting_2 14 rfl rfl)
theorem dX4_meeting_62 : decode cX4_meeting 62 = .ok (.invokevirtual 161, 3) := dk_182 0 161 (dk_at dksX4_meeting_2 15 rfl rfl)
theorem dX4_meeting_65 : decode cX4_meeting 65 = .ok (.ireturn, 1) := dk_172 (dk_at dksX4_meeting_2 18 rfl rfl)
abbrev cX4_event : ByteArray := prog_12_method_32_code
def yX4_event : MethodName := ⟨RX4, "event", "(II)I"⟩
def dkwX4_event_1 : List UInt8 := [172, 42, 180, 0, 25, 27, 46, 62, 42, 180, 0, 25, 27, 28, 79, 42, 29, 182, 0, 161, 172]
abbrev dktX4_event_1 : List UInt8 := dkwX4_event_1 ++ []
def dkwX4_event_0 : List UInt8 := [27, 3, 6, 184, 0, 91, 153, 0, 13, 28, 2, 18, 179, 184, 0, 91, 154, 0, 9, 42, 4, 182, 0, 167]
abbrev dktX4_event_0 : List UInt8 := dkwX4_event_0 ++ dktX4_event_1
theorem dksX4_event_0 : cX4_event.data.toList.drop 0 = dktX4_event_0 := by decide +kernel
theorem dksX4_event_1 : cX4_event.data.toList.drop 24 = dktX4_event_1 := dk_seg dksX4_event_0 24 rfl rfl
theorem dX4_event_0 : decode cX4_event 0 = .ok (.iload_n 1, 1) := dk_27 (dk_at dksX4_event_0 0 rfl rfl)
theorem dX4_event_1 : decode cX4_event 1 = .ok (.iconst 0, 1) := dk_3 (dk_at dksX4_event_0 1 rfl rfl)
theorem dX4_event_2 : decode cX4_event 2 = .ok (.iconst 3, 1) := dk_6 (dk_at dksX4_event_0 2 rfl rfl)
theorem dX4_event_3 : decode cX4_event 3 = .ok (.invokestatic 91, 3) := dk_184 0 91 (dk_at dksX4_event_0 3 rfl rfl)
theorem dX4_event_6 : decode cX4_event 6 = .ok (.ifCond .eq 13, 3) := dk_153 0 13 (dk_at dksX4_event_0 6 rfl rfl)
theorem dX4_event_9 : decode cX4_event 9 = .ok (.iload_n 2, 1) := dk_28 (dk_at dksX4_event_0 9 rfl rfl)
theorem dX4_event_10 : decode cX4_event 10 = .ok (.iconst (-1), 1) := dk_2 (dk_at dksX4_event_0 10 rfl rfl)
theorem dX4_event_11 : decode cX4_event 11 = .ok (.ldc 179, 2) := dk_18 179 (dk_at dksX4_event_0 11 rfl rfl)
theorem dX4_event_13 : decode cX4_event 13 = .ok (.invokestatic 91, 3) := dk_184 0 91 (dk_at dksX4_event_0 13 rfl rfl)
theorem dX4_event_16 : decode cX4_event 16 = .ok (.ifCond .ne 9, 3) := dk_154 0 9 (dk_at dksX4_event_0 16 rfl rfl)
theorem dX4_event_19 : decode cX4_event 19 = .ok (.aload_n 0, 1) := dk_42 (dk_at dksX4_event_0 19 rfl rfl)
theorem dX4_event_20 : decode cX4_event 20 = .ok (.iconst 1, 1) := dk_4 (dk_at dksX4_event_0 20 rfl rfl)
theorem dX4_event_21 : decode cX4_event 21 = .ok (.invokevirtual 167, 3) := dk_182 0 167 (dk_at dksX4_event_0 21 rfl rfl)
theorem dX4_event_24 : decode cX4_event 24 = .ok (.ireturn, 1) := dk_172 (dk_at dksX4_event_1 0 rfl rfl)
theorem dX4_event_25 : decode cX4_event 25 = .ok (.aload_n 0, 1) := dk_42 (dk_at dksX4_event_1 1 rfl rfl)
theorem dX4_event_26 : decode cX4_event 26 = .ok (.getfield 25, 3) := dk_180 0 25 (dk_at dksX4_event_1 2 rfl rfl)
theorem dX4_event_29 : decode cX4_event 29 = .ok (.iload_n 1, 1) := dk_27 (dk_at dksX4_event_1 5 rfl rfl)
theorem dX4_event_30 : decode cX4_event 30 = .ok (.iaload, 1) := dk_46 (dk_at dksX4_event_1 6 rfl rfl)
theorem dX4_event_31 : decode cX4_event 31 = .ok (.istore_n 3, 1) := dk_62 (dk_at dksX4_event_1 7 rfl rfl)
theorem dX4_event_32 : decode cX4_event 32 = .ok (.aload_n 0, 1) := dk_42 (dk_at dksX4_event_1 8 rfl rfl)
theorem dX4_event_33 : decode cX4_event 33 = .ok (.getfield 25, 3) := dk_180 0 25 (dk_at dksX4_event_1 9 rfl rfl)
theorem dX4_event_36 : decode cX4_event 36 = .ok (.iload_n 1, 1) := dk_27 (dk_at dksX4_event_1 12 rfl rfl)
theorem dX4_event_37 : decode cX4_event 37 = .ok (.iload_n 2, 1) := dk_28 (dk_at dksX4_event_1 13 rfl rfl)
theorem dX4_event_38 : decode cX4_event 38 = .ok (.iastore, 1) := dk_79 (dk_at dksX4_event_1 14 rfl rfl)
theorem dX4_event_39 : decode cX4_event 39 = .ok (.aload_n 0, 1) := dk_42 (dk_at dksX4_event_1 15 rfl rfl)
theorem dX4_event_40 : decode cX4_event 40 = .ok (.iload_n 3, 1) := dk_29 (dk_at dksX4_event_1 16 rfl rfl)
theorem dX4_event_41 : decode cX4_event 41 = .ok (.invokevirtual 161, 3) := dk_182 0 161 (dk_at dksX4_event_1 17 rfl rfl)
theorem dX4_event_44 : decode cX4_event 44 = .ok (.ireturn, 1) := dk_172 (dk_at dksX4_event_1 20 rfl rfl)
abbrev cX4_move : ByteArray := prog_12_method_33_code
def yX4_move : MethodName := ⟨RX4, "move", "(II)I"⟩
def dkwX4_move_2 : List UInt8 := [180, 0, 28, 27, 28, 79, 42, 29, 182, 0, 161, 172]
abbrev dktX4_move_2 : List UInt8 := dkwX4_move_2 ++ []
def dkwX4_move_1 : List UInt8 := [180, 0, 49, 27, 46, 5, 161, 0, 9, 42, 5, 182, 0, 167, 172, 42, 180, 0, 28, 27, 46, 62, 42]
abbrev dktX4_move_1 : List UInt8 := dkwX4_move_1 ++ dktX4_move_2
def dkwX4_move_0 : List UInt8 := [42, 27, 182, 0, 173, 153, 0, 11, 42, 28, 182, 0, 164, 154, 0, 9, 42, 4, 182, 0, 167, 172, 42]
abbrev dktX4_move_0 : List UInt8 := dkwX4_move_0 ++ dktX4_move_1
theorem dksX4_move_0 : cX4_move.data.toList.drop 0 = dktX4_move_0 := by decide +kernel
theorem dksX4_move_1 : cX4_move.data.toList.drop 23 = dktX4_move_1 := dk_seg dksX4_move_0 23 rfl rfl
theorem dksX4_move_2 : cX4_move.data.toList.drop 46 = dktX4_move_2 := dk_seg dksX4_move_1 23 rfl rfl
theorem dX4_move_0 : decode cX4_move 0 = .ok (.aload_n 0, 1) := dk_42 (dk_at dksX4_move_0 0 rfl rfl)
theorem dX4_move_1 : decode cX4_move 1 = .ok (.iload_n 1, 1) := dk_27 (dk_at dksX4_move_0 1 rfl rfl)
theorem dX4_move_2 : decode cX4_move 2 = .ok (.invokevirtual 173, 3) := dk_182 0 173 (dk_at dksX4_move_0 2 rfl rfl)
theorem dX4_move_5 : decode cX4_move 5 = .ok (.ifCond .eq 11, 3) := dk_153 0 11 (dk_at dksX4_move_0 5 rfl rfl)
theorem dX4_move_8 : decode cX4_move 8 = .ok (.aload_n 0, 1) := dk_42 (dk_at dksX4_move_0 8 rfl rfl)
theorem dX4_move_9 : decode cX4_move 9 = .ok (.iload_n 2, 1) := dk_28 (dk_at dksX4_move_0 9 rfl rfl)
theorem dX4_move_10 : decode cX4_move 10 = .ok (.invokevirtual 164, 3) := dk_182 0 164 (dk_at dksX4_move_0 10 rfl rfl)
theorem dX4_move_13 : decode cX4_move 13 = .ok (.ifCond .ne 9, 3) := dk_154 0 9 (dk_at dksX4_move_0 13 rfl rfl)
theorem dX4_move_16 : decode cX4_move 16 = .ok (.aload_n 0, 1) := dk_42 (dk_at dksX4_move_0 16 rfl rfl)
theorem dX4_move_17 : decode cX4_move 17 = .ok (.iconst 1, 1) := dk_4 (dk_at dksX4_move_0 17 rfl rfl)
theorem dX4_move_18 : decode cX4_move 18 = .ok (.invokevirtual 167, 3) := dk_182 0 167 (dk_at dksX4_move_0 18 rfl rfl)
theorem dX4_move_21 : decode cX4_move 21 = .ok (.ireturn, 1) := dk_172 (dk_at dksX4_move_0 21 rfl rfl)
theorem dX4_move_22 : decode cX4_move 22 = .ok (.aload_n 0, 1) := dk_42 (dk_at dksX4_move_0 22 rfl rfl)
theorem dX4_move_23 : decode cX4_move 23 = .ok (.getfield 49, 3) := dk_180 0 49 (dk_at dksX4_move_1 0 rfl rfl)
theorem dX4_move_26 : decode cX4_move 26 = .ok (.iload_n 1, 1) := dk_27 (dk_at dksX4_move_1 3 rfl rfl)
theorem dX4_move_27 : decode cX4_move 27 = .ok (.iaload, 1) := dk_46 (dk_at dksX4_move_1 4 rfl rfl)
theorem dX4_move_28 : decode cX4_move 28 = .ok (.iconst 2, 1) := dk_5 (dk_at dksX4_move_1 5 rfl rfl)
theorem dX4_move_29 : decode cX4_move 29 = .ok (.if_icmp .lt 9, 3) := dk_161 0 9 (dk_at dksX4_move_1 6 rfl rfl)
theorem dX4_move_32 : decode cX4_move 32 = .ok (.aload_n 0, 1) := dk_42 (dk_at dksX4_move_1 9 rfl rfl)
theorem dX4_move_33 : decode cX4_move 33 = .ok (.iconst 2, 1) := dk_5 (dk_at dksX4_move_1 10 rfl rfl)
theorem dX4_move_34 : decode cX4_move 34 = .ok (.invokevirtual 167, 3) := dk_182 0 167 (dk_at dksX4_move_1 11 rfl rfl)
theorem dX4_move_37 : decode cX4_move 37 = .ok (.ireturn, 1) := dk_172 (dk_at dksX4_move_1 14 rfl rfl)
theorem dX4_move_38 : decode cX4_move 38 = .ok (.aload_n 0, 1) := dk_42 (dk_at dksX4_move_1 15 rfl rfl)
theorem dX4_move_39 : decode cX4_move 39 = .ok (.getfield 28, 3) := dk_180 0 28 (dk_at dksX4_move_1 16 rfl rfl)
theorem dX4_move_42 : decode cX4_move 42 = .ok (.iload_n 1, 1) := dk_27 (dk_at dksX4_move_1 19 rfl rfl)
theorem dX4_move_43 : decode cX4_move 43 = .ok (.iaload, 1) := dk_46 (dk_at dksX4_move_1 20 rfl rfl)
theorem dX4_move_44 : decode cX4_move 44 = .ok (.istore_n 3, 1) := dk_62 (dk_at dksX4_move_1 21 rfl rfl)
theorem dX4_move_45 : decode cX4_move 45 = .ok (.aload_n 0, 1) := dk_42 (dk_at dksX4_move_1 22 rfl rfl)
theorem dX4_move_46 : decode cX4_move 46 = .ok (.getfield 28, 3) := dk_180 0 28 (dk_at dksX4_move_2 0 rfl rfl)
theorem dX4_move_49 : decode cX4_move 49 = .ok (.iload_n 1, 1) := dk_27 (dk_at dksX4_move_2 3 rfl rfl)
theorem dX4_move_50 : decode cX4_move 50 = .ok (.iload_n 2, 1) := dk_28 (dk_at dksX4_move_2 4 rfl rfl)
theorem dX4_move_51 : decode cX4_move 51 = .ok (.iastore, 1) := dk_79 (dk_at dksX4_move_2 5 rfl rfl)
theorem dX4_move_52 : decode cX4_move 52 = .ok (.aload_n 0, 1) := dk_42 (dk_at dksX4_move_2 6 rfl rfl)
theorem dX4_move_53 : decode cX4_move 53 = .ok (.iload_n 3, 1) := dk_29 (dk_at dksX4_move_2 7 rfl rfl)
theorem dX4_move_54 : decode cX4_move 54 = .ok (.invokevirtual 161, 3) := dk_182 0 161 (dk_at dksX4_move_2 8 rfl rfl)
theorem dX4_move_57 : decode cX4_move 57 = .ok (.ireturn, 1) := dk_172 (dk_at dksX4_move_2 11 rfl rfl)
abbrev cX4_edit : ByteArray := prog_12_method_35_code
def yX4_edit : MethodName := ⟨RX4, "edit", "(II)I"⟩
def dkwX4_edit_4 : List UInt8 := [54, 4, 42, 180, 0, 34, 27, 28, 79, 29, 153, 0, 7, 42, 182, 0, 158, 42, 21, 4, 182, 0, 161, 172]
abbrev dktX4_edit_4 : List UInt8 := dkwX4_edit_4 ++ []
def dkwX4_edit_3 : List UInt8 := [16, 40, 160, 0, 9, 42, 6, 182, 0, 167, 172, 2, 54, 4, 29, 153, 0, 10, 42, 27, 182, 0, 180]
abbrev dktX4_edit_3 : List UInt8 := dkwX4_edit_3 ++ dktX4_edit_4
def dkwX4_edit_2 : List UInt8 := [167, 0, 4, 3, 62, 42, 180, 0, 49, 27, 46, 5, 162, 0, 16, 29, 153, 0, 18, 42, 180, 0, 98]
abbrev dktX4_edit_2 : List UInt8 := dkwX4_edit_2 ++ dktX4_edit_3
def dkwX4_edit_1 : List UInt8 := [182, 0, 167, 172, 28, 42, 180, 0, 34, 27, 46, 159, 0, 15, 42, 27, 182, 0, 137, 153, 0, 7, 4]
abbrev dktX4_edit_1 : List UInt8 := dkwX4_edit_1 ++ dktX4_edit_2
def dkwX4_edit_0 : List UInt8 := [42, 27, 182, 0, 173, 154, 0, 9, 42, 4, 182, 0, 167, 172, 28, 184, 0, 176, 154, 0, 9, 42, 5]
abbrev dktX4_edit_0 : List UInt8 := dkwX4_edit_0 ++ dktX4_edit_1
theorem dksX4_edit_0 : cX4_edit.data.toList.drop 0 = dktX4_edit_0 := by decide +kernel
theorem dksX4_edit_1 : cX4_edit.data.toList.drop 23 = dktX4_edit_1 := dk_seg dksX4_edit_0 23 rfl rfl
theorem dksX4_edit_2 : cX4_edit.data.toList.drop 46 = dktX4_edit_2 := dk_seg dksX4_edit_1 23 rfl rfl
theorem dksX4_edit_3 : cX4_edit.data.toList.drop 69 = dktX4_edit_3 := dk_seg dksX4_edit_2 23 rfl rfl
theorem dksX4_edit_4 : cX4_edit.data.toList.drop 92 = dktX4_edit_4 := dk_seg dksX4_edit_3 23 rfl rfl
theorem dX4_edit_0 : decode cX4_edit 0 = .ok (.aload_n 0, 1) := dk_42 (dk_at dksX4_edit_0 0 rfl rfl)
theorem dX4_edit_1 : decode cX4_edit 1 = .ok (.iload_n 1, 1) := dk_27 (dk_at dksX4_edit_0 1 rfl rfl)
theorem dX4_edit_2 : decode cX4_edit 2 = .ok (.invokevirtual 173, 3) := dk_182 0 173 (dk_at dksX4_edit_0 2 rfl rfl)
theorem dX4_edit_5 : decode cX4_edit 5 = .ok (.ifCond .ne 9, 3) := dk_154 0 9 (dk_at dksX4_edit_0 5 rfl rfl)
theorem dX4_edit_8 : decode cX4_edit 8 = .ok (.aload_n 0, 1) := dk_42 (dk_at dksX4_edit_0 8 rfl rfl)
theorem dX4_edit_9 : decode cX4_edit 9 = .ok (.iconst 1, 1) := dk_4 (dk_at dksX4_edit_0 9 rfl rfl)
theorem dX4_edit_10 : decode cX4_edit 10 = .ok (.invokevirtual 167, 3) := dk_182 0 167 (dk_at dksX4_edit_0 10 rfl rfl)
theorem dX4_edit_13 : decode cX4_edit 13 = .ok (.ireturn, 1) := dk_172 (dk_at dksX4_edit_0 13 rfl rfl)
theorem dX4_edit_14 : decode cX4_edit 14 = .ok (.iload_n 2, 1) := dk_28 (dk_at dksX4_edit_0 14 rfl rfl)
theorem dX4_edit_15 : decode cX4_edit 15 = .ok (.invokestatic 176, 3) := dk_184 0 176 (dk_at dksX4_edit_0 15 rfl rfl)
theorem dX4_edit_18 : decode cX4_edit 18 = .ok (.ifCond .ne 9, 3) := dk_154 0 9 (dk_at dksX4_edit_0 18 rfl rfl)
theorem dX4_edit_21 : decode cX4_edit 21 = .ok (.aload_n 0, 1) := dk_42 (dk_at dksX4_edit_0 21 rfl rfl)
theorem dX4_edit_22 : decode cX4_edit 22 = .ok (.iconst 2, 1) := dk_5 (dk_at dksX4_edit_0 22 rfl rfl)
theorem dX4_edit_23 : decode cX4_edit 23 = .ok (.invokevirtual 167, 3) := dk_182 0 167 (dk_at dksX4_edit_1 0 rfl rfl)
theorem dX4_edit_26 : decode cX4_edit 26 = .ok (.ireturn, 1) := dk_172 (dk_at dksX4_edit_1 3 rfl rfl)
theorem dX4_edit_27 : decode cX4_edit 27 = .ok (.iload_n 2, 1) := dk_28 (dk_at dksX4_edit_1 4 rfl rfl)
theorem dX4_edit_28 : decode cX4_edit 28 = .ok (.aload_n 0, 1) := dk_42 (dk_at dksX4_edit_1 5 rfl rfl)
theorem dX4_edit_29 : decode cX4_edit 29 = .ok (.getfield 34, 3) := dk_180 0 34 (dk_at dksX4_edit_1 6 rfl rfl)
theorem dX4_edit_32 : decode cX4_edit 32 = .ok (.iload_n 1, 1) := dk_27 (dk_at dksX4_edit_1 9 rfl rfl)
theorem dX4_edit_33 : decode cX4_edit 33 = .ok (.iaload, 1) := dk_46 (dk_at dksX4_edit_1 10 rfl rfl)
theorem dX4_edit_34 : decode cX4_edit 34 = .ok (.if_icmp .eq 15, 3) := dk_159 0 15 (dk_at dksX4_edit_1 11 rfl rfl)
theorem dX4_edit_37 : decode cX4_edit 37 = .ok (.aload_n 0, 1) := dk_42 (dk_at dksX4_edit_1 14 rfl rfl)
theorem dX4_edit_38 : decode cX4_edit 38 = .ok (.iload_n 1, 1) := dk_27 (dk_at dksX4_edit_1 15 rfl rfl)
theorem dX4_edit_39 : decode cX4_edit 39 = .ok (.invokevirtual 137, 3) := dk_182 0 137 (dk_at dksX4_edit_1 16 rfl rfl)
theorem dX4_edit_42 : decode cX4_edit 42 = .ok (.ifCond .eq 7, 3) := dk_153 0 7 (dk_at dksX4_edit_1 19 rfl rfl)
theorem dX4_edit_45 : decode cX4_edit 45 = .ok (.iconst 1, 1) := dk_4 (dk_at dksX4_edit_1 22 rfl rfl)
theorem dX4_edit_46 : decode cX4_edit 46 = .ok (.goto 4, 3) := dk_167 0 4 (dk_at dksX4_edit_2 0 rfl rfl)
theorem dX4_edit_49 : decode cX4_edit 49 = .ok (.iconst 0, 1) := dk_3 (dk_at dksX4_edit_2 3 rfl rfl)
theorem dX4_edit_50 : decode cX4_edit 50 = .ok (.istore_n 3, 1) := dk_62 (dk_at dksX4_edit_2 4 rfl rfl)
theorem dX4_edit_51 : decode cX4_edit 51 = .ok (.aload_n 0, 1) := dk_42 (dk_at dksX4_edit_2 5 rfl rfl)
theorem dX4_edit_52 : decode cX4_edit 52 = .ok (.getfield 49, 3) := dk_180 0 49 (dk_at dksX4_edit_2 6 rfl rfl)
theorem dX4_edit_55 : decode cX4_edit 55 = .ok (.iload_n 1, 1) := dk_27 (dk_at dksX4_edit_2 9 rfl rfl)
theorem dX4_edit_56 : decode cX4_edit 56 = .ok (.iaload, 1) := dk_46 (dk_at dksX4_edit_2 10 rfl rfl)
theorem dX4_edit_57 : decode cX4_edit 57 = .ok (.iconst 2, 1) := dk_5 (dk_at dksX4_edit_2 11 rfl rfl)
theorem dX4_edit_58 : decode cX4_edit 58 = .ok (.if_icmp .ge 16, 3) := dk_162 0 16 (dk_at dksX4_edit_2 12 rfl rfl)
theorem dX4_edit_61 : decode cX4_edit 61 = .ok (.iload_n 3, 1) := dk_29 (dk_at dksX4_edit_2 15 rfl rfl)
theorem dX4_edit_62 : decode cX4_edit 62 = .ok (.ifCond .eq 18, 3) := dk_153 0 18 (dk_at dksX4_edit_2 16 rfl rfl)
theorem dX4_edit_65 : decode cX4_edit 65 = .ok (.aload_n 0, 1) := dk_42 (dk_at dksX4_edit_2 19 rfl rfl)
theorem dX4_edit_66 : decode cX4_edit 66 = .ok (.getfield 98, 3) := dk_180 0 98 (dk_at dksX4_edit_2 20 rfl rfl)
theorem dX4_edit_69 : decode cX4_edit 69 = .ok (.bipush 40, 2) := dk_16 40 (dk_at dksX4_edit_3 0 rfl rfl)
theorem dX4_edit_71 : decode cX4_edit 71 = .ok (.if_icmp .ne 9, 3) := dk_160 0 9 (dk_at dksX4_edit_3 2 rfl rfl)
theorem dX4_edit_74 : decode cX4_edit 74 = .ok (.aload_n 0, 1) := dk_42 (dk_at dksX4_edit_3 5 rfl rfl)
theorem dX4_edit_75 : decode cX4_edit 75 = .ok (.iconst 3, 1) := dk_6 (dk_at dksX4_edit_3 6 rfl rfl)
theorem dX4_edit_76 : decode cX4_edit 76 = .ok (.invokevirtual 167, 3) := dk_182 0 167 (dk_at dksX4_edit_3 7 rfl rfl)
theorem dX4_edit_79 : decode cX4_edit 79 = .ok (.ireturn, 1) := dk_172 (dk_at dksX4_edit_3 10 rfl rfl)
theorem dX4_edit_80 : decode cX4_edit 80 = .ok (.iconst (-1), 1) := dk_2 (dk_at dksX4_edit_3 11 rfl rfl)
theorem dX4_edit_81 : decode cX4_edit 81 = .ok (.istore 4, 2) := dk_54 4 (dk_at dksX4_edit_3 12 rfl rfl)
theorem dX4_edit_83 : decode cX4_edit 83 = .ok (.iload_n 3, 1) := dk_29 (dk_at dksX4_edit_3 14 rfl rfl)
theorem dX4_edit_84 : decode cX4_edit 84 = .ok (.ifCond .eq 10, 3) := dk_153 0 10 (dk_at dksX4_edit_3 15 rfl rfl)
theorem dX4_edit_87 : decode cX4_edit 87 = .ok (.aload_n 0, 1) := dk_42 (dk_at dksX4_edit_3 18 rfl rfl)
theorem dX4_edit_88 : decode cX4_edit 88 = .ok (.iload_n 1, 1) := dk_27 (dk_at dksX4_edit_3 19 rfl rfl)
theorem dX4_edit_89 : decode cX4_edit 89 = .ok (.invokevirtual 180, 3) := dk_182 0 180 (dk_at dksX4_edit_3 20 rfl rfl)
theorem dX4_edit_92 : decode cX4_edit 92 = .ok (.istore 4, 2) := dk_54 4 (dk_at dksX4_edit_4 0 rfl rfl)
theorem dX4_edit_94 : decode cX4_edit 94 = .ok (.aload_n 0, 1) := dk_42 (dk_at dksX4_edit_4 2 rfl rfl)
theorem dX4_edit_95 : decode cX4_edit 95 = .ok (.getfield 34, 3) := dk_180 0 34 (dk_at dksX4_edit_4 3 rfl rfl)
theorem dX4_edit_98 : decode cX4_edit 98 = .ok (.iload_n 1, 1) := dk_27 (dk_at dksX4_edit_4 6 rfl rfl)
theorem dX4_edit_99 : decode cX4_edit 99 = .ok (.iload_n 2, 1) := dk_28 (dk_at dksX4_edit_4 7 rfl rfl)
theorem dX4_edit_100 : decode cX4_edit 100 = .ok (.iastore, 1) := dk_79 (dk_at dksX4_edit_4 8 rfl rfl)
theorem dX4_edit_101 : decode cX4_edit 101 = .ok (.iload_n 3, 1) := dk_29 (dk_at dksX4_edit_4 9 rfl rfl)
theorem dX4_edit_102 : decode cX4_edit 102 = .ok (.ifCond .eq 7, 3) := dk_153 0 7 (dk_at dksX4_edit_4 10 rfl rfl)
theorem dX4_edit_105 : decode cX4_edit 105 = .ok (.aload_n 0, 1) := dk_42 (dk_at dksX4_edit_4 13 rfl rfl)
theorem dX4_edit_106 : decode cX4_edit 106 = .ok (.invokevirtual 158, 3) := dk_182 0 158 (dk_at dksX4_edit_4 14 rfl rfl)
theorem dX4_edit_109 : decode cX4_edit 109 = .ok (.aload_n 0, 1) := dk_42 (dk_at dksX4_edit_4 17 rfl rfl)
theorem dX4_edit_110 : decode cX4_edit 110 = .ok (.iload 4, 2) := dk_21 4 (dk_at dksX4_edit_4 18 rfl rfl)
theorem dX4_edit_112 : decode cX4_edit 112 = .ok (.invokevirtual 161, 3) := dk_182 0 161 (dk_at dksX4_edit_4 20 rfl rfl)
theorem dX4_edit_115 : decode cX4_edit 115 = .ok (.ireturn, 1) := dk_172 (dk_at dksX4_edit_4 23 rfl rfl)
abbrev cX4_isHeld : ByteArray := prog_12_method_16_code
def yX4_isHeld : MethodName := ⟨RX4, "isHeld", "(I)Z"⟩
def dkwX4_isHeld_1 : List UInt8 := [167, 255, 234, 3, 172]
abbrev dktX4_isHeld_1 : List UInt8 := dkwX4_isHeld_1 ++ []
def dkwX4_isHeld_0 : List UInt8 := [3, 61, 28, 42, 180, 0, 113, 162, 0, 20, 42, 28, 27, 182, 0, 130, 153, 0, 5, 4, 172, 132, 2, 1]
abbrev dktX4_isHeld_0 : List UInt8 := dkwX4_isHeld_0 ++ dktX4_isHeld_1
theorem dksX4_isHeld_0 : cX4_isHeld.data.toList.drop 0 = dktX4_isHeld_0 := by decide +kernel
theorem dksX4_isHeld_1 : cX4_isHeld.data.toList.drop 24 = dktX4_isHeld_1 := dk_seg dksX4_isHeld_0 24 rfl rfl
theorem dX4_isHeld_0 : decode cX4_isHeld 0 = .ok (.iconst 0, 1) := dk_3 (dk_at dksX4_isHeld_0 0 rfl rfl)
theorem dX4_isHeld_1 : decode cX4_isHeld 1 = .ok (.istore_n 2, 1) := dk_61 (dk_at dksX4_isHeld_0 1 rfl rfl)
theorem dX4_isHeld_2 : decode cX4_isHeld 2 = .ok (.iload_n 2, 1) := dk_28 (dk_at dksX4_isHeld_0 2 rfl rfl)
theorem dX4_isHeld_3 : decode cX4_isHeld 3 = .ok (.aload_n 0, 1) := dk_42 (dk_at dksX4_isHeld_0 3 rfl rfl)
theorem dX4_isHeld_4 : decode cX4_isHeld 4 = .ok (.getfield 113, 3) := dk_180 0 113 (dk_at dksX4_isHeld_0 4 rfl rfl)
theorem dX4_isHeld_7 : decode cX4_isHeld 7 = .ok (.if_icmp .ge 20, 3) := dk_162 0 20 (dk_at dksX4_isHeld_0 7 rfl rfl)
theorem dX4_isHeld_10 : decode cX4_isHeld 10 = .ok (.aload_n 0, 1) := dk_42 (dk_at dksX4_isHeld_0 10 rfl rfl)
theorem dX4_isHeld_11 : decode cX4_isHeld 11 = .ok (.iload_n 2, 1) := dk_28 (dk_at dksX4_isHeld_0 11 rfl rfl)
theorem dX4_isHeld_12 : decode cX4_isHeld 12 = .ok (.iload_n 1, 1) := dk_27 (dk_at dksX4_isHeld_0 12 rfl rfl)
theorem dX4_isHeld_13 : decode cX4_isHeld 13 = .ok (.invokevirtual 130, 3) := dk_182 0 130 (dk_at dksX4_isHeld_0 13 rfl rfl)
theorem dX4_isHeld_16 : decode cX4_isHeld 16 = .ok (.ifCond .eq 5, 3) := dk_153 0 5 (dk_at dksX4_isHeld_0 16 rfl rfl)
theorem dX4_isHeld_19 : decode cX4_isHeld 19 = .ok (.iconst 1, 1) := dk_4 (dk_at dksX4_isHeld_0 19 rfl rfl)
theorem dX4_isHeld_20 : decode cX4_isHeld 20 = .ok (.ireturn, 1) := dk_172 (dk_at dksX4_isHeld_0 20 rfl rfl)
theorem dX4_isHeld_21 : decode cX4_isHeld 21 = .ok (.iinc 2 1, 3) := dk_132 2 1 (dk_at dksX4_isHeld_0 21 rfl rfl)
theorem dX4_isHeld_24 : decode cX4_isHeld 24 = .ok (.goto (-22), 3) := dk_167 255 234 (dk_at dksX4_isHeld_1 0 rfl rfl)
theorem dX4_isHeld_27 : decode cX4_isHeld 27 = .ok (.iconst 0, 1) := dk_3 (dk_at dksX4_isHeld_1 3 rfl rfl)
theorem dX4_isHeld_28 : decode cX4_isHeld 28 = .ok (.ireturn, 1) := dk_172 (dk_at dksX4_isHeld_1 4 rfl rfl)
abbrev cX4_holdsItem : ByteArray := prog_12_method_15_code
def yX4_holdsItem : MethodName := ⟨RX4, "holdsItem", "(II)Z"⟩
def dkwX4_holdsItem_5 : List UInt8 := [167, 0, 4, 3, 172]
abbrev dktX4_holdsItem_5 : List UInt8 := dkwX4_holdsItem_5 ++ []
def dkwX4_holdsItem_4 : List UInt8 := [180, 0, 40, 28, 46, 42, 180, 0, 68, 27, 46, 42, 180, 0, 71, 27, 46, 184, 0, 91, 153, 0, 7, 4]
abbrev dktX4_holdsItem_4 : List UInt8 := dkwX4_holdsItem_4 ++ dktX4_holdsItem_5
def dkwX4_holdsItem_3 : List UInt8 := [27, 46, 42, 180, 0, 34, 28, 46, 160, 0, 7, 4, 167, 0, 4, 3, 62, 29, 153, 0, 31, 42]
abbrev dktX4_holdsItem_3 : List UInt8 := dkwX4_holdsItem_3 ++ dktX4_holdsItem_4
def dkwX4_holdsItem_2 : List UInt8 := [4, 167, 0, 4, 3, 62, 29, 153, 0, 32, 42, 180, 0, 65, 27, 46, 2, 159, 0, 18, 42, 180, 0, 65]
abbrev dktX4_holdsItem_2 : List UInt8 := dkwX4_holdsItem_2 ++ dktX4_holdsItem_3
def dkwX4_holdsItem_1 : List UInt8 := [180, 0, 62, 27, 46, 2, 159, 0, 18, 42, 180, 0, 62, 27, 46, 42, 180, 0, 31, 28, 46, 160, 0, 7]
abbrev dktX4_holdsItem_1 : List UInt8 := dkwX4_holdsItem_1 ++ dktX4_holdsItem_2
def dkwX4_holdsItem_0 : List UInt8 := [42, 180, 0, 74, 27, 51, 154, 0, 13, 42, 180, 0, 49, 28, 46, 6, 160, 0, 5, 3, 172, 42]
abbrev dktX4_holdsItem_0 : List UInt8 := dkwX4_holdsItem_0 ++ dktX4_holdsItem_1
theorem dksX4_holdsItem_0 : cX4_holdsItem.data.toList.drop 0 = dktX4_holdsItem_0 := by decide +kernel
theorem dksX4_holdsItem_1 : cX4_holdsItem.data.toList.drop 22 = dktX4_holdsItem_1 := dk_seg dksX4_holdsItem_0 22 rfl rfl
theorem dksX4_holdsItem_2 : cX4_holdsItem.data.toList.drop 46 = dktX4_holdsItem_2 := dk_seg dksX4_holdsItem_1 24 rfl rfl
theorem dksX4_holdsItem_3 : cX4_holdsItem.data.toList.drop 70 = dktX4_holdsItem_3 := dk_seg dksX4_holdsItem_2 24 rfl rfl
theorem dksX4_holdsItem_4 : cX4_holdsItem.data.toList.drop 92 = dktX4_holdsItem_4 := dk_seg dksX4_holdsItem_3 22 rfl rfl
theorem dksX4_holdsItem_5 : cX4_holdsItem.data.toList.drop 116 = dktX4_holdsItem_5 := dk_seg dksX4_holdsItem_4 24 rfl rfl
theorem dX4_holdsItem_0 : decode cX4_holdsItem 0 = .ok (.aload_n 0, 1) := dk_42 (dk_at dksX4_holdsItem_0 0 rfl rfl)
theorem dX4_holdsItem_1 : decode cX4_holdsItem 1 = .ok (.getfield 74, 3) := dk_180 0 74 (dk_at dksX4_holdsItem_0 1 rfl rfl)
theorem dX4_holdsItem_4 : decode cX4_holdsItem 4 = .ok (.iload_n 1, 1) := dk_27 (dk_at dksX4_holdsItem_0 4 rfl rfl)
theorem dX4_holdsItem_5 : decode cX4_holdsItem 5 = .ok (.baload, 1) := dk_51 (dk_at dksX4_holdsItem_0 5 rfl rfl)
theorem dX4_holdsItem_6 : decode cX4_holdsItem 6 = .ok (.ifCond .ne 13, 3) := dk_154 0 13 (dk_at dksX4_holdsItem_0 6 rfl rfl)
theorem dX4_holdsItem_9 : decode cX4_holdsItem 9 = .ok (.aload_n 0, 1) := dk_42 (dk_at dksX4_holdsItem_0 9 rfl rfl)
theorem dX4_holdsItem_10 : decode cX4_holdsItem 10 = .ok (.getfield 49, 3) := dk_180 0 49 (dk_at dksX4_holdsItem_0 10 rfl rfl)
theorem dX4_holdsItem_13 : decode cX4_holdsItem 13 = .ok (.iload_n 2, 1) := dk_28 (dk_at dksX4_holdsItem_0 13 rfl rfl)
theorem dX4_holdsItem_14 : decode cX4_holdsItem 14 = .ok (.iaload, 1) := dk_46 (dk_at dksX4_holdsItem_0 14 rfl rfl)
theorem dX4_holdsItem_15 : decode cX4_holdsItem 15 = .ok (.iconst 3, 1) := dk_6 (dk_at dksX4_holdsItem_0 15 rfl rfl)
theorem dX4_holdsItem_16 : decode cX4_holdsItem 16 = .ok (.if_icmp .ne 5, 3) := dk_160 0 5 (dk_at dksX4_holdsItem_0 16 rfl rfl)
theorem dX4_holdsItem_19 : decode cX4_holdsItem 19 = .ok (.iconst 0, 1) := dk_3 (dk_at dksX4_holdsItem_0 19 rfl rfl)
theorem dX4_holdsItem_20 : decode cX4_holdsItem 20 = .ok (.ireturn, 1) := dk_172 (dk_at dksX4_holdsItem_0 20 rfl rfl)
theorem dX4_holdsItem_21 : decode cX4_holdsItem 21 = .ok (.aload_n 0, 1) := dk_42 (dk_at dksX4_holdsItem_0 21 rfl rfl)
theorem dX4_holdsItem_22 : decode cX4_holdsItem 22 = .ok (.getfield 62, 3) := dk_180 0 62 (dk_at dksX4_holdsItem_1 0 rfl rfl)
theorem dX4_holdsItem_25 : decode cX4_holdsItem 25 = .ok (.iload_n 1, 1) := dk_27 (dk_at dksX4_holdsItem_1 3 rfl rfl)
theorem dX4_holdsItem_26 : decode cX4_holdsItem 26 = .ok (.iaload, 1) := dk_46 (dk_at dksX4_holdsItem_1 4 rfl rfl)
theorem dX4_holdsItem_27 : decode cX4_holdsItem 27 = .ok (.iconst (-1), 1) := dk_2 (dk_at dksX4_holdsItem_1 5 rfl rfl)
theorem dX4_holdsItem_28 : decode cX4_holdsItem 28 = .ok (.if_icmp .eq 18, 3) := dk_159 0 18 (dk_at dksX4_holdsItem_1 6 rfl rfl)
theorem dX4_holdsItem_31 : decode cX4_holdsItem 31 = .ok (.aload_n 0, 1) := dk_42 (dk_at dksX4_holdsItem_1 9 rfl rfl)
theorem dX4_holdsItem_32 : decode cX4_holdsItem 32 = .ok (.getfield 62, 3) := dk_180 0 62 (dk_at dksX4_holdsItem_1 10 rfl rfl)
theorem dX4_holdsItem_35 : decode cX4_holdsItem 35 = .ok (.iload_n 1, 1) := dk_27 (dk_at dksX4_holdsItem_1 13 rfl rfl)
theorem dX4_holdsItem_36 : decode cX4_holdsItem 36 = .ok (.iaload, 1) := dk_46 (dk_at dksX4_holdsItem_1 14 rfl rfl)
theorem dX4_holdsItem_37 : decode cX4_holdsItem 37 = .ok (.aload_n 0, 1) := dk_42 (dk_at dksX4_holdsItem_1 15 rfl rfl)
theorem dX4_holdsItem_38 : decode cX4_holdsItem 38 = .ok (.getfield 31, 3) := dk_180 0 31 (dk_at dksX4_holdsItem_1 16 rfl rfl)
theorem dX4_holdsItem_41 : decode cX4_holdsItem 41 = .ok (.iload_n 2, 1) := dk_28 (dk_at dksX4_holdsItem_1 19 rfl rfl)
theorem dX4_holdsItem_42 : decode cX4_holdsItem 42 = .ok (.iaload, 1) := dk_46 (dk_at dksX4_holdsItem_1 20 rfl rfl)
theorem dX4_holdsItem_43 : decode cX4_holdsItem 43 = .ok (.if_icmp .ne 7, 3) := dk_160 0 7 (dk_at dksX4_holdsItem_1 21 rfl rfl)
theorem dX4_holdsItem_46 : decode cX4_holdsItem 46 = .ok (.iconst 1, 1) := dk_4 (dk_at dksX4_holdsItem_2 0 rfl rfl)
theorem dX4_holdsItem_47 : decode cX4_holdsItem 47 = .ok (.goto 4, 3) := dk_167 0 4 (dk_at dksX4_holdsItem_2 1 rfl rfl)
theorem dX4_holdsItem_50 : decode cX4_holdsItem 50 = .ok (.iconst 0, 1) := dk_3 (dk_at dksX4_holdsItem_2 4 rfl rfl)
theorem dX4_holdsItem_51 : decode cX4_holdsItem 51 = .ok (.istore_n 3, 1) := dk_62 (dk_at dksX4_holdsItem_2 5 rfl rfl)
theorem dX4_holdsItem_52 : decode cX4_holdsItem 52 = .ok (.iload_n 3, 1) := dk_29 (dk_at dksX4_holdsItem_2 6 rfl rfl)
theorem dX4_holdsItem_53 : decode cX4_holdsItem 53 = .ok (.ifCond .eq 32, 3) := dk_153 0 32 (dk_at dksX4_holdsItem_2 7 rfl rfl)
theorem dX4_holdsItem_56 : decode cX4_holdsItem 56 = .ok (.aload_n 0, 1) := dk_42 (dk_at dksX4_holdsItem_2 10 rfl rfl)
theorem dX4_holdsItem_57 : decode cX4_holdsItem 57 = .ok (.getfield 65, 3) := dk_180 0 65 (dk_at dksX4_holdsItem_2 11 rfl rfl)
theorem dX4_holdsItem_60 : decode cX4_holdsItem 60 = .ok (.iload_n 1, 1) := dk_27 (dk_at dksX4_holdsItem_2 14 rfl rfl)
theorem dX4_holdsItem_61 : decode cX4_holdsItem 61 = .ok (.iaload, 1) := dk_46 (dk_at dksX4_holdsItem_2 15 rfl rfl)
theorem dX4_holdsItem_62 : decode cX4_holdsItem 62 = .ok (.iconst (-1), 1) := dk_2 (dk_at dksX4_holdsItem_2 16 rfl rfl)
theorem dX4_holdsItem_63 : decode cX4_holdsItem 63 = .ok (.if_icmp .eq 18, 3) := dk_159 0 18 (dk_at dksX4_holdsItem_2 17 rfl rfl)
theorem dX4_holdsItem_66 : decode cX4_holdsItem 66 = .ok (.aload_n 0, 1) := dk_42 (dk_at dksX4_holdsItem_2 20 rfl rfl)
theorem dX4_holdsItem_67 : decode cX4_holdsItem 67 = .ok (.getfield 65, 3) := dk_180 0 65 (dk_at dksX4_holdsItem_2 21 rfl rfl)
theorem dX4_holdsItem_70 : decode cX4_holdsItem 70 = .ok (.iload_n 1, 1) := dk_27 (dk_at dksX4_holdsItem_3 0 rfl rfl)
theorem dX4_holdsItem_71 : decode cX4_holdsItem 71 = .ok (.iaload, 1) := dk_46 (dk_at dksX4_holdsItem_3 1 rfl rfl)
theorem dX4_holdsItem_72 : decode cX4_holdsItem 72 = .ok (.aload_n 0, 1) := dk_42 (dk_at dksX4_holdsItem_3 2 rfl rfl)
theorem dX4_holdsItem_73 : decode cX4_holdsItem 73 = .ok (.getfield 34, 3) := dk_180 0 34 (dk_at dksX4_holdsItem_3 3 rfl rfl)
theorem dX4_holdsItem_76 : decode cX4_holdsItem 76 = .ok (.iload_n 2, 1) := dk_28 (dk_at dksX4_holdsItem_3 6 rfl rfl)
theorem dX4_holdsItem_77 : decode cX4_holdsItem 77 = .ok (.iaload, 1) := dk_46 (dk_at dksX4_holdsItem_3 7 rfl rfl)
theorem dX4_holdsItem_78 : decode cX4_holdsItem 78 = .ok (.if_icmp .ne 7, 3) := dk_160 0 7 (dk_at dksX4_holdsItem_3 8 rfl rfl)
theorem dX4_holdsItem_81 : decode cX4_holdsItem 81 = .ok (.iconst 1, 1) := dk_4 (dk_at dksX4_holdsItem_3 11 rfl rfl)
theorem dX4_holdsItem_82 : decode cX4_holdsItem 82 = .ok (.goto 4, 3) := dk_167 0 4 (dk_at dksX4_holdsItem_3 12 rfl rfl)
theorem dX4_holdsItem_85 : decode cX4_holdsItem 85 = .ok (.iconst 0, 1) := dk_3 (dk_at dksX4_holdsItem_3 15 rfl rfl)
theorem dX4_holdsItem_86 : decode cX4_holdsItem 86 = .ok (.istore_n 3, 1) := dk_62 (dk_at dksX4_holdsItem_3 16 rfl rfl)
theorem dX4_holdsItem_87 : decode cX4_holdsItem 87 = .ok (.iload_n 3, 1) := dk_29 (dk_at dksX4_holdsItem_3 17 rfl rfl)
theorem dX4_holdsItem_88 : decode cX4_holdsItem 88 = .ok (.ifCond .eq 31, 3) := dk_153 0 31 (dk_at dksX4_holdsItem_3 18 rfl rfl)
theorem dX4_holdsItem_91 : decode cX4_holdsItem 91 = .ok (.aload_n 0, 1) := dk_42 (dk_at dksX4_holdsItem_3 21 rfl rfl)
theorem dX4_holdsItem_92 : decode cX4_holdsItem 92 = .ok (.getfield 40, 3) := dk_180 0 40 (dk_at dksX4_holdsItem_4 0 rfl rfl)
theorem dX4_holdsItem_95 : decode cX4_holdsItem 95 = .ok (.iload_n 2, 1) := dk_28 (dk_at dksX4_holdsItem_4 3 rfl rfl)
theorem dX4_holdsItem_96 : decode cX4_holdsItem 96 = .ok (.iaload, 1) := dk_46 (dk_at dksX4_holdsItem_4 4 rfl rfl)
theorem dX4_holdsItem_97 : decode cX4_holdsItem 97 = .ok (.aload_n 0, 1) := dk_42 (dk_at dksX4_holdsItem_4 5 rfl rfl)
theorem dX4_holdsItem_98 : decode cX4_holdsItem 98 = .ok (.getfield 68, 3) := dk_180 0 68 (dk_at dksX4_holdsItem_4 6 rfl rfl)
theorem dX4_holdsItem_101 : decode cX4_holdsItem 101 = .ok (.iload_n 1, 1) := dk_27 (dk_at dksX4_holdsItem_4 9 rfl rfl)
theorem dX4_holdsItem_102 : decode cX4_holdsItem 102 = .ok (.iaload, 1) := dk_46 (dk_at dksX4_holdsItem_4 10 rfl rfl)
theorem dX4_holdsItem_103 : decode cX4_holdsItem 103 = .ok (.aload_n 0, 1) := dk_42 (dk_at dksX4_holdsItem_4 11 rfl rfl)
theorem dX4_holdsItem_104 : decode cX4_holdsItem 104 = .ok (.getfield 71, 3) := dk_180 0 71 (dk_at dksX4_holdsItem_4 12 rfl rfl)
theorem dX4_holdsItem_107 : decode cX4_holdsItem 107 = .ok (.iload_n 1, 1) := dk_27 (dk_at dksX4_holdsItem_4 15 rfl rfl)
theorem dX4_holdsItem_108 : decode cX4_holdsItem 108 = .ok (.iaload, 1) := dk_46 (dk_at dksX4_holdsItem_4 16 rfl rfl)
theorem dX4_holdsItem_109 : decode cX4_holdsItem 109 = .ok (.invokestatic 91, 3) := dk_184 0 91 (dk_at dksX4_holdsItem_4 17 rfl rfl)
theorem dX4_holdsItem_112 : decode cX4_holdsItem 112 = .ok (.ifCond .eq 7, 3) := dk_153 0 7 (dk_at dksX4_holdsItem_4 20 rfl rfl)
theorem dX4_holdsItem_115 : decode cX4_holdsItem 115 = .ok (.iconst 1, 1) := dk_4 (dk_at dksX4_holdsItem_4 23 rfl rfl)
theorem dX4_holdsItem_116 : decode cX4_holdsItem 116 = .ok (.goto 4, 3) := dk_167 0 4 (dk_at dksX4_holdsItem_5 0 rfl rfl)
theorem dX4_holdsItem_119 : decode cX4_holdsItem 119 = .ok (.iconst 0, 1) := dk_3 (dk_at dksX4_holdsItem_5 3 rfl rfl)
theorem dX4_holdsItem_120 : decode cX4_holdsItem 120 = .ok (.ireturn, 1) := dk_172 (dk_at dksX4_holdsItem_5 4 rfl rfl)
abbrev cX4_copies : ByteArray := prog_12_method_34_code
def yX4_copies : MethodName := ⟨RX4, "copies", "(I)I"⟩
def dkwX4_copies_4 : List UInt8 := [27, 46, 79, 42, 28, 182, 0, 155, 28, 172]
abbrev dktX4_copies_4 : List UInt8 := dkwX4_copies_4 ++ []
def dkwX4_copies_3 : List UInt8 := [27, 46, 79, 42, 180, 0, 43, 28, 42, 180, 0, 43, 27, 46, 79, 42, 180, 0, 46, 28, 42, 180, 0, 46]
abbrev dktX4_copies_3 : List UInt8 := dkwX4_copies_3 ++ dktX4_copies_4
def dkwX4_copies_2 : List UInt8 := [27, 46, 79, 42, 180, 0, 37, 28, 42, 180, 0, 37, 27, 46, 79, 42, 180, 0, 40, 28, 42, 180, 0, 40]
abbrev dktX4_copies_2 : List UInt8 := dkwX4_copies_2 ++ dktX4_copies_3
def dkwX4_copies_1 : List UInt8 := [27, 46, 79, 42, 180, 0, 31, 28, 42, 180, 0, 31, 27, 46, 79, 42, 180, 0, 34, 28, 42, 180, 0, 34]
abbrev dktX4_copies_1 : List UInt8 := dkwX4_copies_1 ++ dktX4_copies_2
def dkwX4_copies_0 : List UInt8 := [42, 180, 0, 98, 61, 42, 89, 180, 0, 98, 4, 96, 181, 0, 98, 42, 180, 0, 28, 28, 42, 180, 0, 28]
abbrev dktX4_copies_0 : List UInt8 := dkwX4_copies_0 ++ dktX4_copies_1
theorem dksX4_copies_0 : cX4_copies.data.toList.drop 0 = dktX4_copies_0 := by decide +kernel
theorem dksX4_copies_1 : cX4_copies.data.toList.drop 24 = dktX4_copies_1 := dk_seg dksX4_copies_0 24 rfl rfl
theorem dksX4_copies_2 : cX4_copies.data.toList.drop 48 = dktX4_copies_2 := dk_seg dksX4_copies_1 24 rfl rfl
theorem dksX4_copies_3 : cX4_copies.data.toList.drop 72 = dktX4_copies_3 := dk_seg dksX4_copies_2 24 rfl rfl
theorem dksX4_copies_4 : cX4_copies.data.toList.drop 96 = dktX4_copies_4 := dk_seg dksX4_copies_3 24 rfl rfl
theorem dX4_copies_0 : decode cX4_copies 0 = .ok (.aload_n 0, 1) := dk_42 (dk_at dksX4_copies_0 0 rfl rfl)
theorem dX4_copies_1 : decode cX4_copies 1 = .ok (.getfield 98, 3) := dk_180 0 98 (dk_at dksX4_copies_0 1 rfl rfl)
theorem dX4_copies_4 : decode cX4_copies 4 = .ok (.istore_n 2, 1) := dk_61 (dk_at dksX4_copies_0 4 rfl rfl)
theorem dX4_copies_5 : decode cX4_copies 5 = .ok (.aload_n 0, 1) := dk_42 (dk_at dksX4_copies_0 5 rfl rfl)
theorem dX4_copies_6 : decode cX4_copies 6 = .ok (.dup, 1) := dk_89 (dk_at dksX4_copies_0 6 rfl rfl)
theorem dX4_copies_7 : decode cX4_copies 7 = .ok (.getfield 98, 3) := dk_180 0 98 (dk_at dksX4_copies_0 7 rfl rfl)
theorem dX4_copies_10 : decode cX4_copies 10 = .ok (.iconst 1, 1) := dk_4 (dk_at dksX4_copies_0 10 rfl rfl)
theorem dX4_copies_11 : decode cX4_copies 11 = .ok (.iadd, 1) := dk_96 (dk_at dksX4_copies_0 11 rfl rfl)
theorem dX4_copies_12 : decode cX4_copies 12 = .ok (.putfield 98, 3) := dk_181 0 98 (dk_at dksX4_copies_0 12 rfl rfl)
theorem dX4_copies_15 : decode cX4_copies 15 = .ok (.aload_n 0, 1) := dk_42 (dk_at dksX4_copies_0 15 rfl rfl)
theorem dX4_copies_16 : decode cX4_copies 16 = .ok (.getfield 28, 3) := dk_180 0 28 (dk_at dksX4_copies_0 16 rfl rfl)
theorem dX4_copies_19 : decode cX4_copies 19 = .ok (.iload_n 2, 1) := dk_28 (dk_at dksX4_copies_0 19 rfl rfl)
theorem dX4_copies_20 : decode cX4_copies 20 = .ok (.aload_n 0, 1) := dk_42 (dk_at dksX4_copies_0 20 rfl rfl)
theorem dX4_copies_21 : decode cX4_copies 21 = .ok (.getfield 28, 3) := dk_180 0 28 (dk_at dksX4_copies_0 21 rfl rfl)
theorem dX4_copies_24 : decode cX4_copies 24 = .ok (.iload_n 1, 1) := dk_27 (dk_at dksX4_copies_1 0 rfl rfl)
theorem dX4_copies_25 : decode cX4_copies 25 = .ok (.iaload, 1) := dk_46 (dk_at dksX4_copies_1 1 rfl rfl)
theorem dX4_copies_26 : decode cX4_copies 26 = .ok (.iastore, 1) := dk_79 (dk_at dksX4_copies_1 2 rfl rfl)
theorem dX4_copies_27 : decode cX4_copies 27 = .ok (.aload_n 0, 1) := dk_42 (dk_at dksX4_copies_1 3 rfl rfl)
theorem dX4_copies_28 : decode cX4_copies 28 = .ok (.getfield 31, 3) := dk_180 0 31 (dk_at dksX4_copies_1 4 rfl rfl)
theorem dX4_copies_31 : decode cX4_copies 31 = .ok (.iload_n 2, 1) := dk_28 (dk_at dksX4_copies_1 7 rfl rfl)
theorem dX4_copies_32 : decode cX4_copies 32 = .ok (.aload_n 0, 1) := dk_42 (dk_at dksX4_copies_1 8 rfl rfl)
theorem dX4_copies_33 : decode cX4_copies 33 = .ok (.getfield 31, 3) := dk_180 0 31 (dk_at dksX4_copies_1 9 rfl rfl)
theorem dX4_copies_36 : decode cX4_copies 36 = .ok (.iload_n 1, 1) := dk_27 (dk_at dksX4_copies_1 12 rfl rfl)
theorem dX4_copies_37 : decode cX4_copies 37 = .ok (.iaload, 1) := dk_46 (dk_at dksX4_copies_1 13 rfl rfl)
theorem dX4_copies_38 : decode cX4_copies 38 = .ok (.iastore, 1) := dk_79 (dk_at dksX4_copies_1 14 rfl rfl)
theorem dX4_copies_39 : decode cX4_copies 39 = .ok (.aload_n 0, 1) := dk_42 (dk_at dksX4_copies_1 15 rfl rfl)
theorem dX4_copies_40 : decode cX4_copies 40 = .ok (.getfield 34, 3) := dk_180 0 34 (dk_at dksX4_copies_1 16 rfl rfl)
theorem dX4_copies_43 : decode cX4_copies 43 = .ok (.iload_n 2, 1) := dk_28 (dk_at dksX4_copies_1 19 rfl rfl)
theorem dX4_copies_44 : decode cX4_copies 44 = .ok (.aload_n 0, 1) := dk_42 (dk_at dksX4_copies_1 20 rfl rfl)
theorem dX4_copies_45 : decode cX4_copies 45 = .ok (.getfield 34, 3) := dk_180 0 34 (dk_at dksX4_copies_1 21 rfl rfl)
theorem dX4_copies_48 : decode cX4_copies 48 = .ok (.iload_n 1, 1) := dk_27 (dk_at dksX4_copies_2 0 rfl rfl)
theorem dX4_copies_49 : decode cX4_copies 49 = .ok (.iaload, 1) := dk_46 (dk_at dksX4_copies_2 1 rfl rfl)
theorem dX4_copies_50 : decode cX4_copies 50 = .ok (.iastore, 1) := dk_79 (dk_at dksX4_copies_2 2 rfl rfl)
theorem dX4_copies_51 : decode cX4_copies 51 = .ok (.aload_n 0, 1) := dk_42 (dk_at dksX4_copies_2 3 rfl rfl)
theorem dX4_copies_52 : decode cX4_copies 52 = .ok (.getfield 37, 3) := dk_180 0 37 (dk_at dksX4_copies_2 4 rfl rfl)
theorem dX4_copies_55 : decode cX4_copies 55 = .ok (.iload_n 2, 1) := dk_28 (dk_at dksX4_copies_2 7 rfl rfl)
theorem dX4_copies_56 : decode cX4_copies 56 = .ok (.aload_n 0, 1) := dk_42 (dk_at dksX4_copies_2 8 rfl rfl)
theorem dX4_copies_57 : decode cX4_copies 57 = .ok (.getfield 37, 3) := dk_180 0 37 (dk_at dksX4_copies_2 9 rfl rfl)
theorem dX4_copies_60 : decode cX4_copies 60 = .ok (.iload_n 1, 1) := dk_27 (dk_at dksX4_copies_2 12 rfl rfl)
theorem dX4_copies_61 : decode cX4_copies 61 = .ok (.iaload, 1) := dk_46 (dk_at dksX4_copies_2 13 rfl rfl)
theorem dX4_copies_62 : decode cX4_copies 62 = .ok (.iastore, 1) := dk_79 (dk_at dksX4_copies_2 14 rfl rfl)
theorem dX4_copies_63 : decode cX4_copies 63 = .ok (.aload_n 0, 1) := dk_42 (dk_at dksX4_copies_2 15 rfl rfl)
theorem dX4_copies_64 : decode cX4_copies 64 = .ok (.getfield 40, 3) := dk_180 0 40 (dk_at dksX4_copies_2 16 rfl rfl)
theorem dX4_copies_67 : decode cX4_copies 67 = .ok (.iload_n 2, 1) := dk_28 (dk_at dksX4_copies_2 19 rfl rfl)
theorem dX4_copies_68 : decode cX4_copies 68 = .ok (.aload_n 0, 1) := dk_42 (dk_at dksX4_copies_2 20 rfl rfl)
theorem dX4_copies_69 : decode cX4_copies 69 = .ok (.getfield 40, 3) := dk_180 0 40 (dk_at dksX4_copies_2 21 rfl rfl)
theorem dX4_copies_72 : decode cX4_copies 72 = .ok (.iload_n 1, 1) := dk_27 (dk_at dksX4_copies_3 0 rfl rfl)
theorem dX4_copies_73 : decode cX4_copies 73 = .ok (.iaload, 1) := dk_46 (dk_at dksX4_copies_3 1 rfl rfl)
theorem dX4_copies_74 : decode cX4_copies 74 = .ok (.iastore, 1) := dk_79 (dk_at dksX4_copies_3 2 rfl rfl)
theorem dX4_copies_75 : decode cX4_copies 75 = .ok (.aload_n 0, 1) := dk_42 (dk_at dksX4_copies_3 3 rfl rfl)
theorem dX4_copies_76 : decode cX4_copies 76 = .ok (.getfield 43, 3) := dk_180 0 43 (dk_at dksX4_copies_3 4 rfl rfl)
theorem dX4_copies_79 : decode cX4_copies 79 = .ok (.iload_n 2, 1) := dk_28 (dk_at dksX4_copies_3 7 rfl rfl)
theorem dX4_copies_80 : decode cX4_copies 80 = .ok (.aload_n 0, 1) := dk_42 (dk_at dksX4_copies_3 8 rfl rfl)
theorem dX4_copies_81 : decode cX4_copies 81 = .ok (.getfield 43, 3) := dk_180 0 43 (dk_at dksX4_copies_3 9 rfl rfl)
theorem dX4_copies_84 : decode cX4_copies 84 = .ok (.iload_n 1, 1) := dk_27 (dk_at dksX4_copies_3 12 rfl rfl)
theorem dX4_copies_85 : decode cX4_copies 85 = .ok (.iaload, 1) := dk_46 (dk_at dksX4_copies_3 13 rfl rfl)
theorem dX4_copies_86 : decode cX4_copies 86 = .ok (.iastore, 1) := dk_79 (dk_at dksX4_copies_3 14 rfl rfl)
theorem dX4_copies_87 : decode cX4_copies 87 = .ok (.aload_n 0, 1) := dk_42 (dk_at dksX4_copies_3 15 rfl rfl)
theorem dX4_copies_88 : decode cX4_copies 88 = .ok (.getfield 46, 3) := dk_180 0 46 (dk_at dksX4_copies_3 16 rfl rfl)
theorem dX4_copies_91 : decode cX4_copies 91 = .ok (.iload_n 2, 1) := dk_28 (dk_at dksX4_copies_3 19 rfl rfl)
theorem dX4_copies_92 : decode cX4_copies 92 = .ok (.aload_n 0, 1) := dk_42 (dk_at dksX4_copies_3 20 rfl rfl)
theorem dX4_copies_93 : decode cX4_copies 93 = .ok (.getfield 46, 3) := dk_180 0 46 (dk_at dksX4_copies_3 21 rfl rfl)
theorem dX4_copies_96 : decode cX4_copies 96 = .ok (.iload_n 1, 1) := dk_27 (dk_at dksX4_copies_4 0 rfl rfl)
theorem dX4_copies_97 : decode cX4_copies 97 = .ok (.iaload, 1) := dk_46 (dk_at dksX4_copies_4 1 rfl rfl)
theorem dX4_copies_98 : decode cX4_copies 98 = .ok (.iastore, 1) := dk_79 (dk_at dksX4_copies_4 2 rfl rfl)
theorem dX4_copies_99 : decode cX4_copies 99 = .ok (.aload_n 0, 1) := dk_42 (dk_at dksX4_copies_4 3 rfl rfl)
theorem dX4_copies_100 : decode cX4_copies 100 = .ok (.iload_n 2, 1) := dk_28 (dk_at dksX4_copies_4 4 rfl rfl)
theorem dX4_copies_101 : decode cX4_copies 101 = .ok (.invokevirtual 155, 3) := dk_182 0 155 (dk_at dksX4_copies_4 5 rfl rfl)
theorem dX4_copies_104 : decode cX4_copies 104 = .ok (.iload_n 2, 1) := dk_28 (dk_at dksX4_copies_4 8 rfl rfl)
theorem dX4_copies_105 : decode cX4_copies 105 = .ok (.ireturn, 1) := dk_172 (dk_at dksX4_copies_4 9 rfl rfl)
abbrev cX4_becomesRecoverable : ByteArray := prog_12_method_18_code
def yX4_becomesRecoverable : MethodName := ⟨RX4, "becomesRecoverable", "(I)V"⟩
def dkwX4_becomesRecoverable_0 : List UInt8 := [42, 180, 0, 49, 27, 5, 79, 42, 180, 0, 52, 27, 42, 180, 0, 101, 79, 177]
abbrev dktX4_becomesRecoverable_0 : List UInt8 := dkwX4_becomesRecoverable_0 ++ []
theorem dksX4_becomesRecoverable_0 : cX4_becomesRecoverable.data.toList.drop 0 = dktX4_becomesRecoverable_0 := by decide +kernel
theorem dX4_becomesRecoverable_0 : decode cX4_becomesRecoverable 0 = .ok (.aload_n 0, 1) := dk_42 (dk_at dksX4_becomesRecoverable_0 0 rfl rfl)
theorem dX4_becomesRecoverable_1 : decode cX4_becomesRecoverable 1 = .ok (.getfield 49, 3) := dk_180 0 49 (dk_at dksX4_becomesRecoverable_0 1 rfl rfl)
theorem dX4_becomesRecoverable_4 : decode cX4_becomesRecoverable 4 = .ok (.iload_n 1, 1) := dk_27 (dk_at dksX4_becomesRecoverable_0 4 rfl rfl)
theorem dX4_becomesRecoverable_5 : decode cX4_becomesRecoverable 5 = .ok (.iconst 2, 1) := dk_5 (dk_at dksX4_becomesRecoverable_0 5 rfl rfl)
theorem dX4_becomesRecoverable_6 : decode cX4_becomesRecoverable 6 = .ok (.iastore, 1) := dk_79 (dk_at dksX4_becomesRecoverable_0 6 rfl rfl)
theorem dX4_becomesRecoverable_7 : decode cX4_becomesRecoverable 7 = .ok (.aload_n 0, 1) := dk_42 (dk_at dksX4_becomesRecoverable_0 7 rfl rfl)
theorem dX4_becomesRecoverable_8 : decode cX4_becomesRecoverable 8 = .ok (.getfield 52, 3) := dk_180 0 52 (dk_at dksX4_becomesRecoverable_0 8 rfl rfl)
theorem dX4_becomesRecoverable_11 : decode cX4_becomesRecoverable 11 = .ok (.iload_n 1, 1) := dk_27 (dk_at dksX4_becomesRecoverable_0 11 rfl rfl)
theorem dX4_becomesRecoverable_12 : decode cX4_becomesRecoverable 12 = .ok (.aload_n 0, 1) := dk_42 (dk_at dksX4_becomesRecoverable_0 12 rfl rfl)
theorem dX4_becomesRecoverable_13 : decode cX4_becomesRecoverable 13 = .ok (.getfield 101, 3) := dk_180 0 101 (dk_at dksX4_becomesRecoverable_0 13 rfl rfl)
theorem dX4_becomesRecoverable_16 : decode cX4_becomesRecoverable 16 = .ok (.iastore, 1) := dk_79 (dk_at dksX4_becomesRecoverable_0 16 rfl rfl)
theorem dX4_becomesRecoverable_17 : decode cX4_becomesRecoverable 17 = .ok (.return_, 1) := dk_177 (dk_at dksX4_becomesRecoverable_0 17 rfl rfl)
abbrev cX4_countsQuota : ByteArray := prog_12_method_21_code
def yX4_countsQuota : MethodName := ⟨RX4, "countsQuota", "()V"⟩
def dkwX4_countsQuota_1 : List UInt8 := [182, 0, 148, 42, 182, 0, 141, 60, 167, 255, 229, 177]
abbrev dktX4_countsQuota_1 : List UInt8 := dkwX4_countsQuota_1 ++ []
def dkwX4_countsQuota_0 : List UInt8 := [42, 182, 0, 141, 60, 42, 5, 182, 0, 145, 42, 180, 0, 107, 164, 0, 21, 27, 2, 159, 0, 16, 42, 27]
abbrev dktX4_countsQuota_0 : List UInt8 := dkwX4_countsQuota_0 ++ dktX4_countsQuota_1
theorem dksX4_countsQuota_0 : cX4_countsQuota.data.toList.drop 0 = dktX4_countsQuota_0 := by decide +kernel
theorem dksX4_countsQuota_1 : cX4_countsQuota.data.toList.drop 24 = dktX4_countsQuota_1 := dk_seg dksX4_countsQuota_0 24 rfl rfl
theorem dX4_countsQuota_0 : decode cX4_countsQuota 0 = .ok (.aload_n 0, 1) := dk_42 (dk_at dksX4_countsQuota_0 0 rfl rfl)
theorem dX4_countsQuota_1 : decode cX4_countsQuota 1 = .ok (.invokevirtual 141, 3) := dk_182 0 141 (dk_at dksX4_countsQuota_0 1 rfl rfl)
theorem dX4_countsQuota_4 : decode cX4_countsQuota 4 = .ok (.istore_n 1, 1) := dk_60 (dk_at dksX4_countsQuota_0 4 rfl rfl)
theorem dX4_countsQuota_5 : decode cX4_countsQuota 5 = .ok (.aload_n 0, 1) := dk_42 (dk_at dksX4_countsQuota_0 5 rfl rfl)
theorem dX4_countsQuota_6 : decode cX4_countsQuota 6 = .ok (.iconst 2, 1) := dk_5 (dk_at dksX4_countsQuota_0 6 rfl rfl)
theorem dX4_countsQuota_7 : decode cX4_countsQuota 7 = .ok (.invokevirtual 145, 3) := dk_182 0 145 (dk_at dksX4_countsQuota_0 7 rfl rfl)
theorem dX4_countsQuota_10 : decode cX4_countsQuota 10 = .ok (.aload_n 0, 1) := dk_42 (dk_at dksX4_countsQuota_0 10 rfl rfl)
theorem dX4_countsQuota_11 : decode cX4_countsQuota 11 = .ok (.getfield 107, 3) := dk_180 0 107 (dk_at dksX4_countsQuota_0 11 rfl rfl)
theorem dX4_countsQuota_14 : decode cX4_countsQuota 14 = .ok (.if_icmp .le 21, 3) := dk_164 0 21 (dk_at dksX4_countsQuota_0 14 rfl rfl)
theorem dX4_countsQuota_17 : decode cX4_countsQuota 17 = .ok (.iload_n 1, 1) := dk_27 (dk_at dksX4_countsQuota_0 17 rfl rfl)
theorem dX4_countsQuota_18 : decode cX4_countsQuota 18 = .ok (.iconst (-1), 1) := dk_2 (dk_at dksX4_countsQuota_0 18 rfl rfl)
theorem dX4_countsQuota_19 : decode cX4_countsQuota 19 = .ok (.if_icmp .eq 16, 3) := dk_159 0 16 (dk_at dksX4_countsQuota_0 19 rfl rfl)
theorem dX4_countsQuota_22 : decode cX4_countsQuota 22 = .ok (.aload_n 0, 1) := dk_42 (dk_at dksX4_countsQuota_0 22 rfl rfl)
theorem dX4_countsQuota_23 : decode cX4_countsQuota 23 = .ok (.iload_n 1, 1) := dk_27 (dk_at dksX4_countsQuota_0 23 rfl rfl)
theorem dX4_countsQuota_24 : decode cX4_countsQuota 24 = .ok (.invokevirtual 148, 3) := dk_182 0 148 (dk_at dksX4_countsQuota_1 0 rfl rfl)
theorem dX4_countsQuota_27 : decode cX4_countsQuota 27 = .ok (.aload_n 0, 1) := dk_42 (dk_at dksX4_countsQuota_1 3 rfl rfl)
theorem dX4_countsQuota_28 : decode cX4_countsQuota 28 = .ok (.invokevirtual 141, 3) := dk_182 0 141 (dk_at dksX4_countsQuota_1 4 rfl rfl)
theorem dX4_countsQuota_31 : decode cX4_countsQuota 31 = .ok (.istore_n 1, 1) := dk_60 (dk_at dksX4_countsQuota_1 7 rfl rfl)
theorem dX4_countsQuota_32 : decode cX4_countsQuota 32 = .ok (.goto (-27), 3) := dk_167 255 229 (dk_at dksX4_countsQuota_1 8 rfl rfl)
theorem dX4_countsQuota_35 : decode cX4_countsQuota 35 = .ok (.return_, 1) := dk_177 (dk_at dksX4_countsQuota_1 11 rfl rfl)
abbrev cX4_outFirst : ByteArray := prog_12_method_20_code
def yX4_outFirst : MethodName := ⟨RX4, "outFirst", "()I"⟩
def dkwX4_outFirst_2 : List UInt8 := [162, 0, 5, 28, 60, 132, 2, 1, 167, 255, 205, 27, 172]
abbrev dktX4_outFirst_2 : List UInt8 := dkwX4_outFirst_2 ++ []
def dkwX4_outFirst_1 : List UInt8 := [182, 0, 137, 154, 0, 25, 27, 2, 159, 0, 18, 42, 180, 0, 52, 28, 46, 42, 180, 0, 52, 27, 46]
abbrev dktX4_outFirst_1 : List UInt8 := dkwX4_outFirst_1 ++ dktX4_outFirst_2
def dkwX4_outFirst_0 : List UInt8 := [2, 60, 3, 61, 28, 42, 180, 0, 98, 162, 0, 49, 42, 180, 0, 49, 28, 46, 5, 160, 0, 33, 42, 28]
abbrev dktX4_outFirst_0 : List UInt8 := dkwX4_outFirst_0 ++ dktX4_outFirst_1
theorem dksX4_outFirst_0 : cX4_outFirst.data.toList.drop 0 = dktX4_outFirst_0 := by decide +kernel
theorem dksX4_outFirst_1 : cX4_outFirst.data.toList.drop 24 = dktX4_outFirst_1 := dk_seg dksX4_outFirst_0 24 rfl rfl
theorem dksX4_outFirst_2 : cX4_outFirst.data.toList.drop 47 = dktX4_outFirst_2 := dk_seg dksX4_outFirst_1 23 rfl rfl
theorem dX4_outFirst_0 : decode cX4_outFirst 0 = .ok (.iconst (-1), 1) := dk_2 (dk_at dksX4_outFirst_0 0 rfl rfl)
theorem dX4_outFirst_1 : decode cX4_outFirst 1 = .ok (.istore_n 1, 1) := dk_60 (dk_at dksX4_outFirst_0 1 rfl rfl)
theorem dX4_outFirst_2 : decode cX4_outFirst 2 = .ok (.iconst 0, 1) := dk_3 (dk_at dksX4_outFirst_0 2 rfl rfl)
theorem dX4_outFirst_3 : decode cX4_outFirst 3 = .ok (.istore_n 2, 1) := dk_61 (dk_at dksX4_outFirst_0 3 rfl rfl)
theorem dX4_outFirst_4 : decode cX4_outFirst 4 = .ok (.iload_n 2, 1) := dk_28 (dk_at dksX4_outFirst_0 4 rfl rfl)
theorem dX4_outFirst_5 : decode cX4_outFirst 5 = .ok (.aload_n 0, 1) := dk_42 (dk_at dksX4_outFirst_0 5 rfl rfl)
theorem dX4_outFirst_6 : decode cX4_outFirst 6 = .ok (.getfield 98, 3) := dk_180 0 98 (dk_at dksX4_outFirst_0 6 rfl rfl)
theorem dX4_outFirst_9 : decode cX4_outFirst 9 = .ok (.if_icmp .ge 49, 3) := dk_162 0 49 (dk_at dksX4_outFirst_0 9 rfl rfl)
theorem dX4_outFirst_12 : decode cX4_outFirst 12 = .ok (.aload_n 0, 1) := dk_42 (dk_at dksX4_outFirst_0 12 rfl rfl)
theorem dX4_outFirst_13 : decode cX4_outFirst 13 = .ok (.getfield 49, 3) := dk_180 0 49 (dk_at dksX4_outFirst_0 13 rfl rfl)
theorem dX4_outFirst_16 : decode cX4_outFirst 16 = .ok (.iload_n 2, 1) := dk_28 (dk_at dksX4_outFirst_0 16 rfl rfl)
theorem dX4_outFirst_17 : decode cX4_outFirst 17 = .ok (.iaload, 1) := dk_46 (dk_at dksX4_outFirst_0 17 rfl rfl)
theorem dX4_outFirst_18 : decode cX4_outFirst 18 = .ok (.iconst 2, 1) := dk_5 (dk_at dksX4_outFirst_0 18 rfl rfl)
theorem dX4_outFirst_19 : decode cX4_outFirst 19 = .ok (.if_icmp .ne 33, 3) := dk_160 0 33 (dk_at dksX4_outFirst_0 19 rfl rfl)
theorem dX4_outFirst_22 : decode cX4_outFirst 22 = .ok (.aload_n 0, 1) := dk_42 (dk_at dksX4_outFirst_0 22 rfl rfl)
theorem dX4_outFirst_23 : decode cX4_outFirst 23 = .ok (.iload_n 2, 1) := dk_28 (dk_at dksX4_outFirst_0 23 rfl rfl)
theorem dX4_outFirst_24 : decode cX4_outFirst 24 = .ok (.invokevirtual 137, 3) := dk_182 0 137 (dk_at dksX4_outFirst_1 0 rfl rfl)
theorem dX4_outFirst_27 : decode cX4_outFirst 27 = .ok (.ifCond .ne 25, 3) := dk_154 0 25 (dk_at dksX4_outFirst_1 3 rfl rfl)
theorem dX4_outFirst_30 : decode cX4_outFirst 30 = .ok (.iload_n 1, 1) := dk_27 (dk_at dksX4_outFirst_1 6 rfl rfl)
theorem dX4_outFirst_31 : decode cX4_outFirst 31 = .ok (.iconst (-1), 1) := dk_2 (dk_at dksX4_outFirst_1 7 rfl rfl)
theorem dX4_outFirst_32 : decode cX4_outFirst 32 = .ok (.if_icmp .eq 18, 3) := dk_159 0 18 (dk_at dksX4_outFirst_1 8 rfl rfl)
theorem dX4_outFirst_35 : decode cX4_outFirst 35 = .ok (.aload_n 0, 1) := dk_42 (dk_at dksX4_outFirst_1 11 rfl rfl)
theorem dX4_outFirst_36 : decode cX4_outFirst 36 = .ok (.getfield 52, 3) := dk_180 0 52 (dk_at dksX4_outFirst_1 12 rfl rfl)
theorem dX4_outFirst_39 : decode cX4_outFirst 39 = .ok (.iload_n 2, 1) := dk_28 (dk_at dksX4_outFirst_1 15 rfl rfl)
theorem dX4_outFirst_40 : decode cX4_outFirst 40 = .ok (.iaload, 1) := dk_46 (dk_at dksX4_outFirst_1 16 rfl rfl)
theorem dX4_outFirst_41 : decode cX4_outFirst 41 = .ok (.aload_n 0, 1) := dk_42 (dk_at dksX4_outFirst_1 17 rfl rfl)
theorem dX4_outFirst_42 : decode cX4_outFirst 42 = .ok (.getfield 52, 3) := dk_180 0 52 (dk_at dksX4_outFirst_1 18 rfl rfl)
theorem dX4_outFirst_45 : decode cX4_outFirst 45 = .ok (.iload_n 1, 1) := dk_27 (dk_at dksX4_outFirst_1 21 rfl rfl)
theorem dX4_outFirst_46 : decode cX4_outFirst 46 = .ok (.iaload, 1) := dk_46 (dk_at dksX4_outFirst_1 22 rfl rfl)
theorem dX4_outFirst_47 : decode cX4_outFirst 47 = .ok (.if_icmp .ge 5, 3) := dk_162 0 5 (dk_at dksX4_outFirst_2 0 rfl rfl)
theorem dX4_outFirst_50 : decode cX4_outFirst 50 = .ok (.iload_n 2, 1) := dk_28 (dk_at dksX4_outFirst_2 3 rfl rfl)
theorem dX4_outFirst_51 : decode cX4_outFirst 51 = .ok (.istore_n 1, 1) := dk_60 (dk_at dksX4_outFirst_2 4 rfl rfl)
theorem dX4_outFirst_52 : decode cX4_outFirst 52 = .ok (.iinc 2 1, 3) := dk_132 2 1 (dk_at dksX4_outFirst_2 5 rfl rfl)
theorem dX4_outFirst_55 : decode cX4_outFirst 55 = .ok (.goto (-51), 3) := dk_167 255 205 (dk_at dksX4_outFirst_2 8 rfl rfl)
theorem dX4_outFirst_58 : decode cX4_outFirst 58 = .ok (.iload_n 1, 1) := dk_27 (dk_at dksX4_outFirst_2 11 rfl rfl)
theorem dX4_outFirst_59 : decode cX4_outFirst 59 = .ok (.ireturn, 1) := dk_172 (dk_at dksX4_outFirst_2 12 rfl rfl)
abbrev cX4_sumOf : ByteArray := prog_12_method_19_code
def yX4_sumOf : MethodName := ⟨RX4, "sumOf", "(I)I"⟩
def dkwX4_sumOf_1 : List UInt8 := [180, 0, 37, 29, 46, 96, 61, 132, 3, 1, 167, 255, 226, 28, 172]
abbrev dktX4_sumOf_1 : List UInt8 := dkwX4_sumOf_1 ++ []
def dkwX4_sumOf_0 : List UInt8 := [3, 61, 3, 62, 29, 42, 180, 0, 98, 162, 0, 28, 42, 180, 0, 49, 29, 46, 27, 160, 0, 12, 28, 42]
abbrev dktX4_sumOf_0 : List UInt8 := dkwX4_sumOf_0 ++ dktX4_sumOf_1
theorem dksX4_sumOf_0 : cX4_sumOf.data.toList.drop 0 = dktX4_sumOf_0 := by decide +kernel
theorem dksX4_sumOf_1 : cX4_sumOf.data.toList.drop 24 = dktX4_sumOf_1 := dk_seg dksX4_sumOf_0 24 rfl rfl
theorem dX4_sumOf_0 : decode cX4_sumOf 0 = .ok (.iconst 0, 1) := dk_3 (dk_at dksX4_sumOf_0 0 rfl rfl)
theorem dX4_sumOf_1 : decode cX4_sumOf 1 = .ok (.istore_n 2, 1) := dk_61 (dk_at dksX4_sumOf_0 1 rfl rfl)
theorem dX4_sumOf_2 : decode cX4_sumOf 2 = .ok (.iconst 0, 1) := dk_3 (dk_at dksX4_sumOf_0 2 rfl rfl)
theorem dX4_sumOf_3 : decode cX4_sumOf 3 = .ok (.istore_n 3, 1) := dk_62 (dk_at dksX4_sumOf_0 3 rfl rfl)
theorem dX4_sumOf_4 : decode cX4_sumOf 4 = .ok (.iload_n 3, 1) := dk_29 (dk_at dksX4_sumOf_0 4 rfl rfl)
theorem dX4_sumOf_5 : decode cX4_sumOf 5 = .ok (.aload_n 0, 1) := dk_42 (dk_at dksX4_sumOf_0 5 rfl rfl)
theorem dX4_sumOf_6 : decode cX4_sumOf 6 = .ok (.getfield 98, 3) := dk_180 0 98 (dk_at dksX4_sumOf_0 6 rfl rfl)
theorem dX4_sumOf_9 : decode cX4_sumOf 9 = .ok (.if_icmp .ge 28, 3) := dk_162 0 28 (dk_at dksX4_sumOf_0 9 rfl rfl)
theorem dX4_sumOf_12 : decode cX4_sumOf 12 = .ok (.aload_n 0, 1) := dk_42 (dk_at dksX4_sumOf_0 12 rfl rfl)
theorem dX4_sumOf_13 : decode cX4_sumOf 13 = .ok (.getfield 49, 3) := dk_180 0 49 (dk_at dksX4_sumOf_0 13 rfl rfl)
theorem dX4_sumOf_16 : decode cX4_sumOf 16 = .ok (.iload_n 3, 1) := dk_29 (dk_at dksX4_sumOf_0 16 rfl rfl)
theorem dX4_sumOf_17 : decode cX4_sumOf 17 = .ok (.iaload, 1) := dk_46 (dk_at dksX4_sumOf_0 17 rfl rfl)
theorem dX4_sumOf_18 : decode cX4_sumOf 18 = .ok (.iload_n 1, 1) := dk_27 (dk_at dksX4_sumOf_0 18 rfl rfl)
theorem dX4_sumOf_19 : decode cX4_sumOf 19 = .ok (.if_icmp .ne 12, 3) := dk_160 0 12 (dk_at dksX4_sumOf_0 19 rfl rfl)
theorem dX4_sumOf_22 : decode cX4_sumOf 22 = .ok (.iload_n 2, 1) := dk_28 (dk_at dksX4_sumOf_0 22 rfl rfl)
theorem dX4_sumOf_23 : decode cX4_sumOf 23 = .ok (.aload_n 0, 1) := dk_42 (dk_at dksX4_sumOf_0 23 rfl rfl)
theorem dX4_sumOf_24 : decode cX4_sumOf 24 = .ok (.getfield 37, 3) := dk_180 0 37 (dk_at dksX4_sumOf_1 0 rfl rfl)
theorem dX4_sumOf_27 : decode cX4_sumOf 27 = .ok (.iload_n 3, 1) := dk_29 (dk_at dksX4_sumOf_1 3 rfl rfl)
theorem dX4_sumOf_28 : decode cX4_sumOf 28 = .ok (.iaload, 1) := dk_46 (dk_at dksX4_sumOf_1 4 rfl rfl)
theorem dX4_sumOf_29 : decode cX4_sumOf 29 = .ok (.iadd, 1) := dk_96 (dk_at dksX4_sumOf_1 5 rfl rfl)
theorem dX4_sumOf_30 : decode cX4_sumOf 30 = .ok (.istore_n 2, 1) := dk_61 (dk_at dksX4_sumOf_1 6 rfl rfl)
theorem dX4_sumOf_31 : decode cX4_sumOf 31 = .ok (.iinc 3 1, 3) := dk_132 3 1 (dk_at dksX4_sumOf_1 7 rfl rfl)
theorem dX4_sumOf_34 : decode cX4_sumOf 34 = .ok (.goto (-30), 3) := dk_167 255 226 (dk_at dksX4_sumOf_1 10 rfl rfl)
theorem dX4_sumOf_37 : decode cX4_sumOf 37 = .ok (.iload_n 2, 1) := dk_28 (dk_at dksX4_sumOf_1 13 rfl rfl)
theorem dX4_sumOf_38 : decode cX4_sumOf 38 = .ok (.ireturn, 1) := dk_172 (dk_at dksX4_sumOf_1 14 rfl rfl)
abbrev cX4_becomesGone : ByteArray := prog_12_method_17_code
def yX4_becomesGone : MethodName := ⟨RX4, "becomesGone", "(I)V"⟩
def dkwX4_becomesGone_1 : List UInt8 := [181, 0, 134, 177]
abbrev dktX4_becomesGone_1 : List UInt8 := dkwX4_becomesGone_1 ++ []
def dkwX4_becomesGone_0 : List UInt8 := [42, 180, 0, 49, 27, 6, 79, 42, 180, 0, 55, 27, 42, 180, 0, 101, 79, 42, 89, 180, 0, 134, 4, 96]
abbrev dktX4_becomesGone_0 : List UInt8 := dkwX4_becomesGone_0 ++ dktX4_becomesGone_1
theorem dksX4_becomesGone_0 : cX4_becomesGone.data.toList.drop 0 = dktX4_becomesGone_0 := by decide +kernel
theorem dksX4_becomesGone_1 : cX4_becomesGone.data.toList.drop 24 = dktX4_becomesGone_1 := dk_seg dksX4_becomesGone_0 24 rfl rfl
theorem dX4_becomesGone_0 : decode cX4_becomesGone 0 = .ok (.aload_n 0, 1) := dk_42 (dk_at dksX4_becomesGone_0 0 rfl rfl)
theorem dX4_becomesGone_1 : decode cX4_becomesGone 1 = .ok (.getfield 49, 3) := dk_180 0 49 (dk_at dksX4_becomesGone_0 1 rfl rfl)
theorem dX4_becomesGone_4 : decode cX4_becomesGone 4 = .ok (.iload_n 1, 1) := dk_27 (dk_at dksX4_becomesGone_0 4 rfl rfl)
theorem dX4_becomesGone_5 : decode cX4_becomesGone 5 = .ok (.iconst 3, 1) := dk_6 (dk_at dksX4_becomesGone_0 5 rfl rfl)
theorem dX4_becomesGone_6 : decode cX4_becomesGone 6 = .ok (.iastore, 1) := dk_79 (dk_at dksX4_becomesGone_0 6 rfl rfl)
theorem dX4_becomesGone_7 : decode cX4_becomesGone 7 = .ok (.aload_n 0, 1) := dk_42 (dk_at dksX4_becomesGone_0 7 rfl rfl)
theorem dX4_becomesGone_8 : decode cX4_becomesGone 8 = .ok (.getfield 55, 3) := dk_180 0 55 (dk_at dksX4_becomesGone_0 8 rfl rfl)
theorem dX4_becomesGone_11 : decode cX4_becomesGone 11 = .ok (.iload_n 1, 1) := dk_27 (dk_at dksX4_becomesGone_0 11 rfl rfl)
theorem dX4_becomesGone_12 : decode cX4_becomesGone 12 = .ok (.aload_n 0, 1) := dk_42 (dk_at dksX4_becomesGone_0 12 rfl rfl)
theorem dX4_becomesGone_13 : decode cX4_becomesGone 13 = .ok (.getfield 101, 3) := dk_180 0 101 (dk_at dksX4_becomesGone_0 13 rfl rfl)
theorem dX4_becomesGone_16 : decode cX4_becomesGone 16 = .ok (.iastore, 1) := dk_79 (dk_at dksX4_becomesGone_0 16 rfl rfl)
theorem dX4_becomesGone_17 : decode cX4_becomesGone 17 = .ok (.aload_n 0, 1) := dk_42 (dk_at dksX4_becomesGone_0 17 rfl rfl)
theorem dX4_becomesGone_18 : decode cX4_becomesGone 18 = .ok (.dup, 1) := dk_89 (dk_at dksX4_becomesGone_0 18 rfl rfl)
theorem dX4_becomesGone_19 : decode cX4_becomesGone 19 = .ok (.getfield 134, 3) := dk_180 0 134 (dk_at dksX4_becomesGone_0 19 rfl rfl)
theorem dX4_becomesGone_22 : decode cX4_becomesGone 22 = .ok (.iconst 1, 1) := dk_4 (dk_at dksX4_becomesGone_0 22 rfl rfl)
theorem dX4_becomesGone_23 : decode cX4_becomesGone 23 = .ok (.iadd, 1) := dk_96 (dk_at dksX4_becomesGone_0 23 rfl rfl)
theorem dX4_becomesGone_24 : decode cX4_becomesGone 24 = .ok (.putfield 134, 3) := dk_181 0 134 (dk_at dksX4_becomesGone_1 0 rfl rfl)
theorem dX4_becomesGone_27 : decode cX4_becomesGone 27 = .ok (.return_, 1) := dk_177 (dk_at dksX4_becomesGone_1 3 rfl rfl)
abbrev cX4_delete : ByteArray := prog_12_method_36_code
def yX4_delete : MethodName := ⟨RX4, "delete", "(I)I"⟩
def dkwX4_delete_2 : List UInt8 := [182, 0, 161, 172]
abbrev dktX4_delete_2 : List UInt8 := dkwX4_delete_2 ++ []
def dkwX4_delete_1 : List UInt8 := [42, 5, 182, 0, 167, 172, 42, 27, 182, 0, 155, 42, 182, 0, 158, 42, 42, 180, 0, 49, 27, 46]
abbrev dktX4_delete_1 : List UInt8 := dkwX4_delete_1 ++ dktX4_delete_2
def dkwX4_delete_0 : List UInt8 := [42, 27, 182, 0, 173, 154, 0, 9, 42, 4, 182, 0, 167, 172, 42, 180, 0, 49, 27, 46, 5, 161, 0, 9]
abbrev dktX4_delete_0 : List UInt8 := dkwX4_delete_0 ++ dktX4_delete_1
theorem dksX4_delete_0 : cX4_delete.data.toList.drop 0 = dktX4_delete_0 := by decide +kernel
theorem dksX4_delete_1 : cX4_delete.data.toList.drop 24 = dktX4_delete_1 := dk_seg dksX4_delete_0 24 rfl rfl
theorem dksX4_delete_2 : cX4_delete.data.toList.drop 46 = dktX4_delete_2 := dk_seg dksX4_delete_1 22 rfl rfl
theorem dX4_delete_0 : decode cX4_delete 0 = .ok (.aload_n 0, 1) := dk_42 (dk_at dksX4_delete_0 0 rfl rfl)
theorem dX4_delete_1 : decode cX4_delete 1 = .ok (.iload_n 1, 1) := dk_27 (dk_at dksX4_delete_0 1 rfl rfl)
theorem dX4_delete_2 : decode cX4_delete 2 = .ok (.invokevirtual 173, 3) := dk_182 0 173 (dk_at dksX4_delete_0 2 rfl rfl)
theorem dX4_delete_5 : decode cX4_delete 5 = .ok (.ifCond .ne 9, 3) := dk_154 0 9 (dk_at dksX4_delete_0 5 rfl rfl)
theorem dX4_delete_8 : decode cX4_delete 8 = .ok (.aload_n 0, 1) := dk_42 (dk_at dksX4_delete_0 8 rfl rfl)
theorem dX4_delete_9 : decode cX4_delete 9 = .ok (.iconst 1, 1) := dk_4 (dk_at dksX4_delete_0 9 rfl rfl)
theorem dX4_delete_10 : decode cX4_delete 10 = .ok (.invokevirtual 167, 3) := dk_182 0 167 (dk_at dksX4_delete_0 10 rfl rfl)
theorem dX4_delete_13 : decode cX4_delete 13 = .ok (.ireturn, 1) := dk_172 (dk_at dksX4_delete_0 13 rfl rfl)
theorem dX4_delete_14 : decode cX4_delete 14 = .ok (.aload_n 0, 1) := dk_42 (dk_at dksX4_delete_0 14 rfl rfl)
theorem dX4_delete_15 : decode cX4_delete 15 = .ok (.getfield 49, 3) := dk_180 0 49 (dk_at dksX4_delete_0 15 rfl rfl)
theorem dX4_delete_18 : decode cX4_delete 18 = .ok (.iload_n 1, 1) := dk_27 (dk_at dksX4_delete_0 18 rfl rfl)
theorem dX4_delete_19 : decode cX4_delete 19 = .ok (.iaload, 1) := dk_46 (dk_at dksX4_delete_0 19 rfl rfl)
theorem dX4_delete_20 : decode cX4_delete 20 = .ok (.iconst 2, 1) := dk_5 (dk_at dksX4_delete_0 20 rfl rfl)
theorem dX4_delete_21 : decode cX4_delete 21 = .ok (.if_icmp .lt 9, 3) := dk_161 0 9 (dk_at dksX4_delete_0 21 rfl rfl)
theorem dX4_delete_24 : decode cX4_delete 24 = .ok (.aload_n 0, 1) := dk_42 (dk_at dksX4_delete_1 0 rfl rfl)
theorem dX4_delete_25 : decode cX4_delete 25 = .ok (.iconst 2, 1) := dk_5 (dk_at dksX4_delete_1 1 rfl rfl)
theorem dX4_delete_26 : decode cX4_delete 26 = .ok (.invokevirtual 167, 3) := dk_182 0 167 (dk_at dksX4_delete_1 2 rfl rfl)
theorem dX4_delete_29 : decode cX4_delete 29 = .ok (.ireturn, 1) := dk_172 (dk_at dksX4_delete_1 5 rfl rfl)
theorem dX4_delete_30 : decode cX4_delete 30 = .ok (.aload_n 0, 1) := dk_42 (dk_at dksX4_delete_1 6 rfl rfl)
theorem dX4_delete_31 : decode cX4_delete 31 = .ok (.iload_n 1, 1) := dk_27 (dk_at dksX4_delete_1 7 rfl rfl)
theorem dX4_delete_32 : decode cX4_delete 32 = .ok (.invokevirtual 155, 3) := dk_182 0 155 (dk_at dksX4_delete_1 8 rfl rfl)
theorem dX4_delete_35 : decode cX4_delete 35 = .ok (.aload_n 0, 1) := dk_42 (dk_at dksX4_delete_1 11 rfl rfl)
theorem dX4_delete_36 : decode cX4_delete 36 = .ok (.invokevirtual 158, 3) := dk_182 0 158 (dk_at dksX4_delete_1 12 rfl rfl)
theorem dX4_delete_39 : decode cX4_delete 39 = .ok (.aload_n 0, 1) := dk_42 (dk_at dksX4_delete_1 15 rfl rfl)
theorem dX4_delete_40 : decode cX4_delete 40 = .ok (.aload_n 0, 1) := dk_42 (dk_at dksX4_delete_1 16 rfl rfl)
theorem dX4_delete_41 : decode cX4_delete 41 = .ok (.getfield 49, 3) := dk_180 0 49 (dk_at dksX4_delete_1 17 rfl rfl)
theorem dX4_delete_44 : decode cX4_delete 44 = .ok (.iload_n 1, 1) := dk_27 (dk_at dksX4_delete_1 20 rfl rfl)
theorem dX4_delete_45 : decode cX4_delete 45 = .ok (.iaload, 1) := dk_46 (dk_at dksX4_delete_1 21 rfl rfl)
theorem dX4_delete_46 : decode cX4_delete 46 = .ok (.invokevirtual 161, 3) := dk_182 0 161 (dk_at dksX4_delete_2 0 rfl rfl)
theorem dX4_delete_49 : decode cX4_delete 49 = .ok (.ireturn, 1) := dk_172 (dk_at dksX4_delete_2 3 rfl rfl)
abbrev cX4_purge : ByteArray := prog_12_method_37_code
def yX4_purge : MethodName := ⟨RX4, "purge", "(I)Z"⟩
def dkwX4_purge_2 : List UInt8 := [172, 42, 27, 182, 0, 148, 4, 172]
abbrev dktX4_purge_2 : List UInt8 := dkwX4_purge_2 ++ []
def dkwX4_purge_1 : List UInt8 := [159, 0, 10, 42, 5, 181, 0, 84, 3, 172, 42, 3, 181, 0, 84, 42, 27, 182, 0, 137, 153, 0, 5, 3]
abbrev dktX4_purge_1 : List UInt8 := dkwX4_purge_1 ++ dktX4_purge_2
def dkwX4_purge_0 : List UInt8 := [42, 27, 182, 0, 173, 154, 0, 10, 42, 4, 181, 0, 84, 3, 172, 42, 180, 0, 49, 27, 46, 5]
abbrev dktX4_purge_0 : List UInt8 := dkwX4_purge_0 ++ dktX4_purge_1
theorem dksX4_purge_0 : cX4_purge.data.toList.drop 0 = dktX4_purge_0 := by decide +kernel
theorem dksX4_purge_1 : cX4_purge.data.toList.drop 22 = dktX4_purge_1 := dk_seg dksX4_purge_0 22 rfl rfl
theorem dksX4_purge_2 : cX4_purge.data.toList.drop 46 = dktX4_purge_2 := dk_seg dksX4_purge_1 24 rfl rfl
theorem dX4_purge_0 : decode cX4_purge 0 = .ok (.aload_n 0, 1) := dk_42 (dk_at dksX4_purge_0 0 rfl rfl)
theorem dX4_purge_1 : decode cX4_purge 1 = .ok (.iload_n 1, 1) := dk_27 (dk_at dksX4_purge_0 1 rfl rfl)
theorem dX4_purge_2 : decode cX4_purge 2 = .ok (.invokevirtual 173, 3) := dk_182 0 173 (dk_at dksX4_purge_0 2 rfl rfl)
theorem dX4_purge_5 : decode cX4_purge 5 = .ok (.ifCond .ne 10, 3) := dk_154 0 10 (dk_at dksX4_purge_0 5 rfl rfl)
theorem dX4_purge_8 : decode cX4_purge 8 = .ok (.aload_n 0, 1) := dk_42 (dk_at dksX4_purge_0 8 rfl rfl)
theorem dX4_purge_9 : decode cX4_purge 9 = .ok (.iconst 1, 1) := dk_4 (dk_at dksX4_purge_0 9 rfl rfl)
theorem dX4_purge_10 : decode cX4_purge 10 = .ok (.putfield 84, 3) := dk_181 0 84 (dk_at dksX4_purge_0 10 rfl rfl)
theorem dX4_purge_13 : decode cX4_purge 13 = .ok (.iconst 0, 1) := dk_3 (dk_at dksX4_purge_0 13 rfl rfl)
theorem dX4_purge_14 : decode cX4_purge 14 = .ok (.ireturn, 1) := dk_172 (dk_at dksX4_purge_0 14 rfl rfl)
theorem dX4_purge_15 : decode cX4_purge 15 = .ok (.aload_n 0, 1) := dk_42 (dk_at dksX4_purge_0 15 rfl rfl)
theorem dX4_purge_16 : decode cX4_purge 16 = .ok (.getfield 49, 3) := dk_180 0 49 (dk_at dksX4_purge_0 16 rfl rfl)
theorem dX4_purge_19 : decode cX4_purge 19 = .ok (.iload_n 1, 1) := dk_27 (dk_at dksX4_purge_0 19 rfl rfl)
theorem dX4_purge_20 : decode cX4_purge 20 = .ok (.iaload, 1) := dk_46 (dk_at dksX4_purge_0 20 rfl rfl)
theorem dX4_purge_21 : decode cX4_purge 21 = .ok (.iconst 2, 1) := dk_5 (dk_at dksX4_purge_0 21 rfl rfl)
theorem dX4_purge_22 : decode cX4_purge 22 = .ok (.if_icmp .eq 10, 3) := dk_159 0 10 (dk_at dksX4_purge_1 0 rfl rfl)
theorem dX4_purge_25 : decode cX4_purge 25 = .ok (.aload_n 0, 1) := dk_42 (dk_at dksX4_purge_1 3 rfl rfl)
theorem dX4_purge_26 : decode cX4_purge 26 = .ok (.iconst 2, 1) := dk_5 (dk_at dksX4_purge_1 4 rfl rfl)
theorem dX4_purge_27 : decode cX4_purge 27 = .ok (.putfield 84, 3) := dk_181 0 84 (dk_at dksX4_purge_1 5 rfl rfl)
theorem dX4_purge_30 : decode cX4_purge 30 = .ok (.iconst 0, 1) := dk_3 (dk_at dksX4_purge_1 8 rfl rfl)
theorem dX4_purge_31 : decode cX4_purge 31 = .ok (.ireturn, 1) := dk_172 (dk_at dksX4_purge_1 9 rfl rfl)
theorem dX4_purge_32 : decode cX4_purge 32 = .ok (.aload_n 0, 1) := dk_42 (dk_at dksX4_purge_1 10 rfl rfl)
theorem dX4_purge_33 : decode cX4_purge 33 = .ok (.iconst 0, 1) := dk_3 (dk_at dksX4_purge_1 11 rfl rfl)
theorem dX4_purge_34 : decode cX4_purge 34 = .ok (.putfield 84, 3) := dk_181 0 84 (dk_at dksX4_purge_1 12 rfl rfl)
theorem dX4_purge_37 : decode cX4_purge 37 = .ok (.aload_n 0, 1) := dk_42 (dk_at dksX4_purge_1 15 rfl rfl)
theorem dX4_purge_38 : decode cX4_purge 38 = .ok (.iload_n 1, 1) := dk_27 (dk_at dksX4_purge_1 16 rfl rfl)
theorem dX4_purge_39 : decode cX4_purge 39 = .ok (.invokevirtual 137, 3) := dk_182 0 137 (dk_at dksX4_purge_1 17 rfl rfl)
theorem dX4_purge_42 : decode cX4_purge 42 = .ok (.ifCond .eq 5, 3) := dk_153 0 5 (dk_at dksX4_purge_1 20 rfl rfl)
theorem dX4_purge_45 : decode cX4_purge 45 = .ok (.iconst 0, 1) := dk_3 (dk_at dksX4_purge_1 23 rfl rfl)
theorem dX4_purge_46 : decode cX4_purge 46 = .ok (.ireturn, 1) := dk_172 (dk_at dksX4_purge_2 0 rfl rfl)
theorem dX4_purge_47 : decode cX4_purge 47 = .ok (.aload_n 0, 1) := dk_42 (dk_at dksX4_purge_2 1 rfl rfl)
theorem dX4_purge_48 : decode cX4_purge 48 = .ok (.iload_n 1, 1) := dk_27 (dk_at dksX4_purge_2 2 rfl rfl)
theorem dX4_purge_49 : decode cX4_purge 49 = .ok (.invokevirtual 148, 3) := dk_182 0 148 (dk_at dksX4_purge_2 3 rfl rfl)
theorem dX4_purge_52 : decode cX4_purge 52 = .ok (.iconst 1, 1) := dk_4 (dk_at dksX4_purge_2 6 rfl rfl)
theorem dX4_purge_53 : decode cX4_purge 53 = .ok (.ireturn, 1) := dk_172 (dk_at dksX4_purge_2 7 rfl rfl)
abbrev cX4_recover : ByteArray := prog_12_method_38_code
def yX4_recover : MethodName := ⟨RX4, "recover", "(I)I"⟩
def dkwX4_recover_2 : List UInt8 := [100, 182, 0, 161, 172]
abbrev dktX4_recover_2 : List UInt8 := dkwX4_recover_2 ++ []
def dkwX4_recover_1 : List UInt8 := [42, 5, 182, 0, 167, 172, 42, 180, 0, 49, 27, 3, 79, 42, 42, 180, 0, 101, 42, 180, 0, 52, 27, 46]
abbrev dktX4_recover_1 : List UInt8 := dkwX4_recover_1 ++ dktX4_recover_2
def dkwX4_recover_0 : List UInt8 := [42, 27, 182, 0, 173, 154, 0, 9, 42, 4, 182, 0, 167, 172, 42, 180, 0, 49, 27, 46, 5, 159, 0, 9]
abbrev dktX4_recover_0 : List UInt8 := dkwX4_recover_0 ++ dktX4_recover_1
theorem dksX4_recover_0 : cX4_recover.data.toList.drop 0 = dktX4_recover_0 := by decide +kernel
theorem dksX4_recover_1 : cX4_recover.data.toList.drop 24 = dktX4_recover_1 := dk_seg dksX4_recover_0 24 rfl rfl
theorem dksX4_recover_2 : cX4_recover.data.toList.drop 48 = dktX4_recover_2 := dk_seg dksX4_recover_1 24 rfl rfl
theorem dX4_recover_0 : decode cX4_recover 0 = .ok (.aload_n 0, 1) := dk_42 (dk_at dksX4_recover_0 0 rfl rfl)
theorem dX4_recover_1 : decode cX4_recover 1 = .ok (.iload_n 1, 1) := dk_27 (dk_at dksX4_recover_0 1 rfl rfl)
theorem dX4_recover_2 : decode cX4_recover 2 = .ok (.invokevirtual 173, 3) := dk_182 0 173 (dk_at dksX4_recover_0 2 rfl rfl)
theorem dX4_recover_5 : decode cX4_recover 5 = .ok (.ifCond .ne 9, 3) := dk_154 0 9 (dk_at dksX4_recover_0 5 rfl rfl)
theorem dX4_recover_8 : decode cX4_recover 8 = .ok (.aload_n 0, 1) := dk_42 (dk_at dksX4_recover_0 8 rfl rfl)
theorem dX4_recover_9 : decode cX4_recover 9 = .ok (.iconst 1, 1) := dk_4 (dk_at dksX4_recover_0 9 rfl rfl)
theorem dX4_recover_10 : decode cX4_recover 10 = .ok (.invokevirtual 167, 3) := dk_182 0 167 (dk_at dksX4_recover_0 10 rfl rfl)
theorem dX4_recover_13 : decode cX4_recover 13 = .ok (.ireturn, 1) := dk_172 (dk_at dksX4_recover_0 13 rfl rfl)
theorem dX4_recover_14 : decode cX4_recover 14 = .ok (.aload_n 0, 1) := dk_42 (dk_at dksX4_recover_0 14 rfl rfl)
theorem dX4_recover_15 : decode cX4_recover 15 = .ok (.getfield 49, 3) := dk_180 0 49 (dk_at dksX4_recover_0 15 rfl rfl)
theorem dX4_recover_18 : decode cX4_recover 18 = .ok (.iload_n 1, 1) := dk_27 (dk_at dksX4_recover_0 18 rfl rfl)
theorem dX4_recover_19 : decode cX4_recover 19 = .ok (.iaload, 1) := dk_46 (dk_at dksX4_recover_0 19 rfl rfl)
theorem dX4_recover_20 : decode cX4_recover 20 = .ok (.iconst 2, 1) := dk_5 (dk_at dksX4_recover_0 20 rfl rfl)
theorem dX4_recover_21 : decode cX4_recover 21 = .ok (.if_icmp .eq 9, 3) := dk_159 0 9 (dk_at dksX4_recover_0 21 rfl rfl)
theorem dX4_recover_24 : decode cX4_recover 24 = .ok (.aload_n 0, 1) := dk_42 (dk_at dksX4_recover_1 0 rfl rfl)
theorem dX4_recover_25 : decode cX4_recover 25 = .ok (.iconst 2, 1) := dk_5 (dk_at dksX4_recover_1 1 rfl rfl)
theorem dX4_recover_26 : decode cX4_recover 26 = .ok (.invokevirtual 167, 3) := dk_182 0 167 (dk_at dksX4_recover_1 2 rfl rfl)
theorem dX4_recover_29 : decode cX4_recover 29 = .ok (.ireturn, 1) := dk_172 (dk_at dksX4_recover_1 5 rfl rfl)
theorem dX4_recover_30 : decode cX4_recover 30 = .ok (.aload_n 0, 1) := dk_42 (dk_at dksX4_recover_1 6 rfl rfl)
theorem dX4_recover_31 : decode cX4_recover 31 = .ok (.getfield 49, 3) := dk_180 0 49 (dk_at dksX4_recover_1 7 rfl rfl)
theorem dX4_recover_34 : decode cX4_recover 34 = .ok (.iload_n 1, 1) := dk_27 (dk_at dksX4_recover_1 10 rfl rfl)
theorem dX4_recover_35 : decode cX4_recover 35 = .ok (.iconst 0, 1) := dk_3 (dk_at dksX4_recover_1 11 rfl rfl)
theorem dX4_recover_36 : decode cX4_recover 36 = .ok (.iastore, 1) := dk_79 (dk_at dksX4_recover_1 12 rfl rfl)
theorem dX4_recover_37 : decode cX4_recover 37 = .ok (.aload_n 0, 1) := dk_42 (dk_at dksX4_recover_1 13 rfl rfl)
theorem dX4_recover_38 : decode cX4_recover 38 = .ok (.aload_n 0, 1) := dk_42 (dk_at dksX4_recover_1 14 rfl rfl)
theorem dX4_recover_39 : decode cX4_recover 39 = .ok (.getfield 101, 3) := dk_180 0 101 (dk_at dksX4_recover_1 15 rfl rfl)
theorem dX4_recover_42 : decode cX4_recover 42 = .ok (.aload_n 0, 1) := dk_42 (dk_at dksX4_recover_1 18 rfl rfl)
theorem dX4_recover_43 : decode cX4_recover 43 = .ok (.getfield 52, 3) := dk_180 0 52 (dk_at dksX4_recover_1 19 rfl rfl)
theorem dX4_recover_46 : decode cX4_recover 46 = .ok (.iload_n 1, 1) := dk_27 (dk_at dksX4_recover_1 22 rfl rfl)
theorem dX4_recover_47 : decode cX4_recover 47 = .ok (.iaload, 1) := dk_46 (dk_at dksX4_recover_1 23 rfl rfl)
theorem dX4_recover_48 : decode cX4_recover 48 = .ok (.isub, 1) := dk_100 (dk_at dksX4_recover_2 0 rfl rfl)
theorem dX4_recover_49 : decode cX4_recover 49 = .ok (.invokevirtual 161, 3) := dk_182 0 161 (dk_at dksX4_recover_2 1 rfl rfl)
theorem dX4_recover_52 : decode cX4_recover 52 = .ok (.ireturn, 1) := dk_172 (dk_at dksX4_recover_2 4 rfl rfl)
abbrev cX4_keep : ByteArray := prog_12_method_39_code
def yX4_keep : MethodName := ⟨RX4, "keep", "(II)I"⟩
def dkwX4_keep_2 : List UInt8 := [42, 180, 0, 134, 182, 0, 161, 172]
abbrev dktX4_keep_2 : List UInt8 := dkwX4_keep_2 ++ []
def dkwX4_keep_1 : List UInt8 := [182, 0, 167, 172, 42, 27, 181, 0, 104, 42, 28, 181, 0, 107, 42, 3, 181, 0, 134, 42, 182, 0, 158, 42]
abbrev dktX4_keep_1 : List UInt8 := dkwX4_keep_1 ++ dktX4_keep_2
def dkwX4_keep_0 : List UInt8 := [27, 4, 16, 60, 184, 0, 91, 153, 0, 14, 28, 3, 17, 7, 208, 184, 0, 91, 154, 0, 9, 42, 4]
abbrev dktX4_keep_0 : List UInt8 := dkwX4_keep_0 ++ dktX4_keep_1
theorem dksX4_keep_0 : cX4_keep.data.toList.drop 0 = dktX4_keep_0 := by decide +kernel
theorem dksX4_keep_1 : cX4_keep.data.toList.drop 23 = dktX4_keep_1 := dk_seg dksX4_keep_0 23 rfl rfl
theorem dksX4_keep_2 : cX4_keep.data.toList.drop 47 = dktX4_keep_2 := dk_seg dksX4_keep_1 24 rfl rfl
theorem dX4_keep_0 : decode cX4_keep 0 = .ok (.iload_n 1, 1) := dk_27 (dk_at dksX4_keep_0 0 rfl rfl)
theorem dX4_keep_1 : decode cX4_keep 1 = .ok (.iconst 1, 1) := dk_4 (dk_at dksX4_keep_0 1 rfl rfl)
theorem dX4_keep_2 : decode cX4_keep 2 = .ok (.bipush 60, 2) := dk_16 60 (dk_at dksX4_keep_0 2 rfl rfl)
theorem dX4_keep_4 : decode cX4_keep 4 = .ok (.invokestatic 91, 3) := dk_184 0 91 (dk_at dksX4_keep_0 4 rfl rfl)
theorem dX4_keep_7 : decode cX4_keep 7 = .ok (.ifCond .eq 14, 3) := dk_153 0 14 (dk_at dksX4_keep_0 7 rfl rfl)
theorem dX4_keep_10 : decode cX4_keep 10 = .ok (.iload_n 2, 1) := dk_28 (dk_at dksX4_keep_0 10 rfl rfl)
theorem dX4_keep_11 : decode cX4_keep 11 = .ok (.iconst 0, 1) := dk_3 (dk_at dksX4_keep_0 11 rfl rfl)
theorem dX4_keep_12 : decode cX4_keep 12 = .ok (.sipush 2000, 3) := dk_17 7 208 (dk_at dksX4_keep_0 12 rfl rfl)
theorem dX4_keep_15 : decode cX4_keep 15 = .ok (.invokestatic 91, 3) := dk_184 0 91 (dk_at dksX4_keep_0 15 rfl rfl)
theorem dX4_keep_18 : decode cX4_keep 18 = .ok (.ifCond .ne 9, 3) := dk_154 0 9 (dk_at dksX4_keep_0 18 rfl rfl)
theorem dX4_keep_21 : decode cX4_keep 21 = .ok (.aload_n 0, 1) := dk_42 (dk_at dksX4_keep_0 21 rfl rfl)
theorem dX4_keep_22 : decode cX4_keep 22 = .ok (.iconst 1, 1) := dk_4 (dk_at dksX4_keep_0 22 rfl rfl)
theorem dX4_keep_23 : decode cX4_keep 23 = .ok (.invokevirtual 167, 3) := dk_182 0 167 (dk_at dksX4_keep_1 0 rfl rfl)
theorem dX4_keep_26 : decode cX4_keep 26 = .ok (.ireturn, 1) := dk_172 (dk_at dksX4_keep_1 3 rfl rfl)
theorem dX4_keep_27 : decode cX4_keep 27 = .ok (.aload_n 0, 1) := dk_42 (dk_at dksX4_keep_1 4 rfl rfl)
theorem dX4_keep_28 : decode cX4_keep 28 = .ok (.iload_n 1, 1) := dk_27 (dk_at dksX4_keep_1 5 rfl rfl)
theorem dX4_keep_29 : decode cX4_keep 29 = .ok (.putfield 104, 3) := dk_181 0 104 (dk_at dksX4_keep_1 6 rfl rfl)
theorem dX4_keep_32 : decode cX4_keep 32 = .ok (.aload_n 0, 1) := dk_42 (dk_at dksX4_keep_1 9 rfl rfl)
theorem dX4_keep_33 : decode cX4_keep 33 = .ok (.iload_n 2, 1) := dk_28 (dk_at dksX4_keep_1 10 rfl rfl)
theorem dX4_keep_34 : decode cX4_keep 34 = .ok (.putfield 107, 3) := dk_181 0 107 (dk_at dksX4_keep_1 11 rfl rfl)
theorem dX4_keep_37 : decode cX4_keep 37 = .ok (.aload_n 0, 1) := dk_42 (dk_at dksX4_keep_1 14 rfl rfl)
theorem dX4_keep_38 : decode cX4_keep 38 = .ok (.iconst 0, 1) := dk_3 (dk_at dksX4_keep_1 15 rfl rfl)
theorem dX4_keep_39 : decode cX4_keep 39 = .ok (.putfield 134, 3) := dk_181 0 134 (dk_at dksX4_keep_1 16 rfl rfl)
theorem dX4_keep_42 : decode cX4_keep 42 = .ok (.aload_n 0, 1) := dk_42 (dk_at dksX4_keep_1 19 rfl rfl)
theorem dX4_keep_43 : decode cX4_keep 43 = .ok (.invokevirtual 158, 3) := dk_182 0 158 (dk_at dksX4_keep_1 20 rfl rfl)
theorem dX4_keep_46 : decode cX4_keep 46 = .ok (.aload_n 0, 1) := dk_42 (dk_at dksX4_keep_1 23 rfl rfl)
theorem dX4_keep_47 : decode cX4_keep 47 = .ok (.aload_n 0, 1) := dk_42 (dk_at dksX4_keep_2 0 rfl rfl)
theorem dX4_keep_48 : decode cX4_keep 48 = .ok (.getfield 134, 3) := dk_180 0 134 (dk_at dksX4_keep_2 1 rfl rfl)
theorem dX4_keep_51 : decode cX4_keep 51 = .ok (.invokevirtual 161, 3) := dk_182 0 161 (dk_at dksX4_keep_2 4 rfl rfl)
theorem dX4_keep_54 : decode cX4_keep 54 = .ok (.ireturn, 1) := dk_172 (dk_at dksX4_keep_2 7 rfl rfl)
abbrev cX4_pass : ByteArray := prog_12_method_40_code
def yX4_pass : MethodName := ⟨RX4, "pass", "(I)I"⟩
def dkwX4_pass_1 : List UInt8 := [28, 27, 162, 0, 13, 42, 182, 0, 183, 132, 2, 1, 167, 255, 244, 42, 42, 180, 0, 134, 182, 0, 161, 172]
abbrev dktX4_pass_1 : List UInt8 := dkwX4_pass_1 ++ []
def dkwX4_pass_0 : List UInt8 := [27, 4, 17, 1, 144, 184, 0, 91, 154, 0, 9, 42, 4, 182, 0, 167, 172, 42, 3, 181, 0, 134, 3, 61]
abbrev dktX4_pass_0 : List UInt8 := dkwX4_pass_0 ++ dktX4_pass_1
theorem dksX4_pass_0 : cX4_pass.data.toList.drop 0 = dktX4_pass_0 := by decide +kernel
theorem dksX4_pass_1 : cX4_pass.data.toList.drop 24 = dktX4_pass_1 := dk_seg dksX4_pass_0 24 rfl rfl
theorem dX4_pass_0 : decode cX4_pass 0 = .ok (.iload_n 1, 1) := dk_27 (dk_at dksX4_pass_0 0 rfl rfl)
theorem dX4_pass_1 : decode cX4_pass 1 = .ok (.iconst 1, 1) := dk_4 (dk_at dksX4_pass_0 1 rfl rfl)
theorem dX4_pass_2 : decode cX4_pass 2 = .ok (.sipush 400, 3) := dk_17 1 144 (dk_at dksX4_pass_0 2 rfl rfl)
theorem dX4_pass_5 : decode cX4_pass 5 = .ok (.invokestatic 91, 3) := dk_184 0 91 (dk_at dksX4_pass_0 5 rfl rfl)
theorem dX4_pass_8 : decode cX4_pass 8 = .ok (.ifCond .ne 9, 3) := dk_154 0 9 (dk_at dksX4_pass_0 8 rfl rfl)
theorem dX4_pass_11 : decode cX4_pass 11 = .ok (.aload_n 0, 1) := dk_42 (dk_at dksX4_pass_0 11 rfl rfl)
theorem dX4_pass_12 : decode cX4_pass 12 = .ok (.iconst 1, 1) := dk_4 (dk_at dksX4_pass_0 12 rfl rfl)
theorem dX4_pass_13 : decode cX4_pass 13 = .ok (.invokevirtual 167, 3) := dk_182 0 167 (dk_at dksX4_pass_0 13 rfl rfl)
theorem dX4_pass_16 : decode cX4_pass 16 = .ok (.ireturn, 1) := dk_172 (dk_at dksX4_pass_0 16 rfl rfl)
theorem dX4_pass_17 : decode cX4_pass 17 = .ok (.aload_n 0, 1) := dk_42 (dk_at dksX4_pass_0 17 rfl rfl)
theorem dX4_pass_18 : decode cX4_pass 18 = .ok (.iconst 0, 1) := dk_3 (dk_at dksX4_pass_0 18 rfl rfl)
theorem dX4_pass_19 : decode cX4_pass 19 = .ok (.putfield 134, 3) := dk_181 0 134 (dk_at dksX4_pass_0 19 rfl rfl)
theorem dX4_pass_22 : decode cX4_pass 22 = .ok (.iconst 0, 1) := dk_3 (dk_at dksX4_pass_0 22 rfl rfl)
theorem dX4_pass_23 : decode cX4_pass 23 = .ok (.istore_n 2, 1) := dk_61 (dk_at dksX4_pass_0 23 rfl rfl)
theorem dX4_pass_24 : decode cX4_pass 24 = .ok (.iload_n 2, 1) := dk_28 (dk_at dksX4_pass_1 0 rfl rfl)
theorem dX4_pass_25 : decode cX4_pass 25 = .ok (.iload_n 1, 1) := dk_27 (dk_at dksX4_pass_1 1 rfl rfl)
theorem dX4_pass_26 : decode cX4_pass 26 = .ok (.if_icmp .ge 13, 3) := dk_162 0 13 (dk_at dksX4_pass_1 2 rfl rfl)
theorem dX4_pass_29 : decode cX4_pass 29 = .ok (.aload_n 0, 1) := dk_42 (dk_at dksX4_pass_1 5 rfl rfl)
theorem dX4_pass_30 : decode cX4_pass 30 = .ok (.invokevirtual 183, 3) := dk_182 0 183 (dk_at dksX4_pass_1 6 rfl rfl)
theorem dX4_pass_33 : decode cX4_pass 33 = .ok (.iinc 2 1, 3) := dk_132 2 1 (dk_at dksX4_pass_1 9 rfl rfl)
theorem dX4_pass_36 : decode cX4_pass 36 = .ok (.goto (-12), 3) := dk_167 255 244 (dk_at dksX4_pass_1 12 rfl rfl)
theorem dX4_pass_39 : decode cX4_pass 39 = .ok (.aload_n 0, 1) := dk_42 (dk_at dksX4_pass_1 15 rfl rfl)
theorem dX4_pass_40 : decode cX4_pass 40 = .ok (.aload_n 0, 1) := dk_42 (dk_at dksX4_pass_1 16 rfl rfl)
theorem dX4_pass_41 : decode cX4_pass 41 = .ok (.getfield 134, 3) := dk_180 0 134 (dk_at dksX4_pass_1 17 rfl rfl)
theorem dX4_pass_44 : decode cX4_pass 44 = .ok (.invokevirtual 161, 3) := dk_182 0 161 (dk_at dksX4_pass_1 20 rfl rfl)
theorem dX4_pass_47 : decode cX4_pass 47 = .ok (.ireturn, 1) := dk_172 (dk_at dksX4_pass_1 23 rfl rfl)
abbrev cX4_dayPasses : ByteArray := prog_12_method_22_code
def yX4_dayPasses : MethodName := ⟨RX4, "dayPasses", "()V"⟩
def dkwX4_dayPasses_6 : List UInt8 := [132, 1, 1, 167, 255, 204, 42, 182, 0, 158, 177]
abbrev dktX4_dayPasses_6 : List UInt8 := dkwX4_dayPasses_6 ++ []
def dkwX4_dayPasses_5 : List UInt8 := [42, 180, 0, 101, 42, 180, 0, 52, 27, 46, 100, 42, 180, 0, 104, 161, 0, 8, 42, 27, 182, 0, 148]
abbrev dktX4_dayPasses_5 : List UInt8 := dkwX4_dayPasses_5 ++ dktX4_dayPasses_6
def dkwX4_dayPasses_4 : List UInt8 := [180, 0, 98, 162, 0, 50, 42, 180, 0, 49, 27, 46, 5, 160, 0, 34, 42, 27, 182, 0, 137, 154, 0, 26]
abbrev dktX4_dayPasses_4 : List UInt8 := dkwX4_dayPasses_4 ++ dktX4_dayPasses_5
def dkwX4_dayPasses_3 : List UInt8 := [4, 182, 0, 152, 153, 0, 10, 42, 180, 0, 49, 27, 4, 79, 132, 1, 1, 167, 255, 220, 3, 60, 27, 42]
abbrev dktX4_dayPasses_3 : List UInt8 := dkwX4_dayPasses_3 ++ dktX4_dayPasses_4
def dkwX4_dayPasses_2 : List UInt8 := [167, 255, 221, 3, 60, 27, 42, 180, 0, 98, 162, 0, 34, 42, 180, 0, 49, 27, 46, 154, 0, 19, 42, 27]
abbrev dktX4_dayPasses_2 : List UInt8 := dkwX4_dayPasses_2 ++ dktX4_dayPasses_3
def dkwX4_dayPasses_1 : List UInt8 := [27, 46, 4, 163, 0, 17, 42, 27, 3, 182, 0, 152, 153, 0, 8, 42, 27, 182, 0, 155, 132, 1, 1]
abbrev dktX4_dayPasses_1 : List UInt8 := dkwX4_dayPasses_1 ++ dktX4_dayPasses_2
def dkwX4_dayPasses_0 : List UInt8 := [42, 89, 180, 0, 101, 4, 96, 181, 0, 101, 3, 60, 27, 42, 180, 0, 98, 162, 0, 33, 42, 180, 0, 49]
abbrev dktX4_dayPasses_0 : List UInt8 := dkwX4_dayPasses_0 ++ dktX4_dayPasses_1
theorem dksX4_dayPasses_0 : cX4_dayPasses.data.toList.drop 0 = dktX4_dayPasses_0 := by decide +kernel
theorem dksX4_dayPasses_1 : cX4_dayPasses.data.toList.drop 24 = dktX4_dayPasses_1 := dk_seg dksX4_dayPasses_0 24 rfl rfl
theorem dksX4_dayPasses_2 : cX4_dayPasses.data.toList.drop 47 = dktX4_dayPasses_2 := dk_seg dksX4_dayPasses_1 23 rfl rfl
theorem dksX4_dayPasses_3 : cX4_dayPasses.data.toList.drop 71 = dktX4_dayPasses_3 := dk_seg dksX4_dayPasses_2 24 rfl rfl
theorem dksX4_dayPasses_4 : cX4_dayPasses.data.toList.drop 95 = dktX4_dayPasses_4 := dk_seg dksX4_dayPasses_3 24 rfl rfl
theorem dksX4_dayPasses_5 : cX4_dayPasses.data.toList.drop 119 = dktX4_dayPasses_5 := dk_seg dksX4_dayPasses_4 24 rfl rfl
theorem dksX4_dayPasses_6 : cX4_dayPasses.data.toList.drop 142 = dktX4_dayPasses_6 := dk_seg dksX4_dayPasses_5 23 rfl rfl
theorem dX4_dayPasses_0 : decode cX4_dayPasses 0 = .ok (.aload_n 0, 1) := dk_42 (dk_at dksX4_dayPasses_0 0 rfl rfl)
theorem dX4_dayPasses_1 : decode cX4_dayPasses 1 = .ok (.dup, 1) := dk_89 (dk_at dksX4_dayPasses_0 1 rfl rfl)
theorem dX4_dayPasses_2 : decode cX4_dayPasses 2 = .ok (.getfield 101, 3) := dk_180 0 101 (dk_at dksX4_dayPasses_0 2 rfl rfl)
theorem dX4_dayPasses_5 : decode cX4_dayPasses 5 = .ok (.iconst 1, 1) := dk_4 (dk_at dksX4_dayPasses_0 5 rfl rfl)
theorem dX4_dayPasses_6 : decode cX4_dayPasses 6 = .ok (.iadd, 1) := dk_96 (dk_at dksX4_dayPasses_0 6 rfl rfl)
theorem dX4_dayPasses_7 : decode cX4_dayPasses 7 = .ok (.putfield 101, 3) := dk_181 0 101 (dk_at dksX4_dayPasses_0 7 rfl rfl)
theorem dX4_dayPasses_10 : decode cX4_dayPasses 10 = .ok (.iconst 0, 1) := dk_3 (dk_at dksX4_dayPasses_0 10 rfl rfl)
theorem dX4_dayPasses_11 : decode cX4_dayPasses 11 = .ok (.istore_n 1, 1) := dk_60 (dk_at dksX4_dayPasses_0 11 rfl rfl)
theorem dX4_dayPasses_12 : decode cX4_dayPasses 12 = .ok (.iload_n 1, 1) := dk_27 (dk_at dksX4_dayPasses_0 12 rfl rfl)
theorem dX4_dayPasses_13 : decode cX4_dayPasses 13 = .ok (.aload_n 0, 1) := dk_42 (dk_at dksX4_dayPasses_0 13 rfl rfl)
theorem dX4_dayPasses_14 : decode cX4_dayPasses 14 = .ok (.getfield 98, 3) := dk_180 0 98 (dk_at dksX4_dayPasses_0 14 rfl rfl)
theorem dX4_dayPasses_17 : decode cX4_dayPasses 17 = .ok (.if_icmp .ge 33, 3) := dk_162 0 33 (dk_at dksX4_dayPasses_0 17 rfl rfl)
theorem dX4_dayPasses_20 : decode cX4_dayPasses 20 = .ok (.aload_n 0, 1) := dk_42 (dk_at dksX4_dayPasses_0 20 rfl rfl)
theorem dX4_dayPasses_21 : decode cX4_dayPasses 21 = .ok (.getfield 49, 3) := dk_180 0 49 (dk_at dksX4_dayPasses_0 21 rfl rfl)
theorem dX4_dayPasses_24 : decode cX4_dayPasses 24 = .ok (.iload_n 1, 1) := dk_27 (dk_at dksX4_dayPasses_1 0 rfl rfl)
theorem dX4_dayPasses_25 : decode cX4_dayPasses 25 = .ok (.iaload, 1) := dk_46 (dk_at dksX4_dayPasses_1 1 rfl rfl)
theorem dX4_dayPasses_26 : decode cX4_dayPasses 26 = .ok (.iconst 1, 1) := dk_4 (dk_at dksX4_dayPasses_1 2 rfl rfl)
theorem dX4_dayPasses_27 : decode cX4_dayPasses 27 = .ok (.if_icmp .gt 17, 3) := dk_163 0 17 (dk_at dksX4_dayPasses_1 3 rfl rfl)
theorem dX4_dayPasses_30 : decode cX4_dayPasses 30 = .ok (.aload_n 0, 1) := dk_42 (dk_at dksX4_dayPasses_1 6 rfl rfl)
theorem dX4_dayPasses_31 : decode cX4_dayPasses 31 = .ok (.iload_n 1, 1) := dk_27 (dk_at dksX4_dayPasses_1 7 rfl rfl)
theorem dX4_dayPasses_32 : decode cX4_dayPasses 32 = .ok (.iconst 0, 1) := dk_3 (dk_at dksX4_dayPasses_1 8 rfl rfl)
theorem dX4_dayPasses_33 : decode cX4_dayPasses 33 = .ok (.invokevirtual 152, 3) := dk_182 0 152 (dk_at dksX4_dayPasses_1 9 rfl rfl)
theorem dX4_dayPasses_36 : decode cX4_dayPasses 36 = .ok (.ifCond .eq 8, 3) := dk_153 0 8 (dk_at dksX4_dayPasses_1 12 rfl rfl)
theorem dX4_dayPasses_39 : decode cX4_dayPasses 39 = .ok (.aload_n 0, 1) := dk_42 (dk_at dksX4_dayPasses_1 15 rfl rfl)
theorem dX4_dayPasses_40 : decode cX4_dayPasses 40 = .ok (.iload_n 1, 1) := dk_27 (dk_at dksX4_dayPasses_1 16 rfl rfl)
theorem dX4_dayPasses_41 : decode cX4_dayPasses 41 = .ok (.invokevirtual 155, 3) := dk_182 0 155 (dk_at dksX4_dayPasses_1 17 rfl rfl)
theorem dX4_dayPasses_44 : decode cX4_dayPasses 44 = .ok (.iinc 1 1, 3) := dk_132 1 1 (dk_at dksX4_dayPasses_1 20 rfl rfl)
theorem dX4_dayPasses_47 : decode cX4_dayPasses 47 = .ok (.goto (-35), 3) := dk_167 255 221 (dk_at dksX4_dayPasses_2 0 rfl rfl)
theorem dX4_dayPasses_50 : decode cX4_dayPasses 50 = .ok (.iconst 0, 1) := dk_3 (dk_at dksX4_dayPasses_2 3 rfl rfl)
theorem dX4_dayPasses_51 : decode cX4_dayPasses 51 = .ok (.istore_n 1, 1) := dk_60 (dk_at dksX4_dayPasses_2 4 rfl rfl)
theorem dX4_dayPasses_52 : decode cX4_dayPasses 52 = .ok (.iload_n 1, 1) := dk_27 (dk_at dksX4_dayPasses_2 5 rfl rfl)
theorem dX4_dayPasses_53 : decode cX4_dayPasses 53 = .ok (.aload_n 0, 1) := dk_42 (dk_at dksX4_dayPasses_2 6 rfl rfl)
theorem dX4_dayPasses_54 : decode cX4_dayPasses 54 = .ok (.getfield 98, 3) := dk_180 0 98 (dk_at dksX4_dayPasses_2 7 rfl rfl)
theorem dX4_dayPasses_57 : decode cX4_dayPasses 57 = .ok (.if_icmp .ge 34, 3) := dk_162 0 34 (dk_at dksX4_dayPasses_2 10 rfl rfl)
theorem dX4_dayPasses_60 : decode cX4_dayPasses 60 = .ok (.aload_n 0, 1) := dk_42 (dk_at dksX4_dayPasses_2 13 rfl rfl)
theorem dX4_dayPasses_61 : decode cX4_dayPasses 61 = .ok (.getfield 49, 3) := dk_180 0 49 (dk_at dksX4_dayPasses_2 14 rfl rfl)
theorem dX4_dayPasses_64 : decode cX4_dayPasses 64 = .ok (.iload_n 1, 1) := dk_27 (dk_at dksX4_dayPasses_2 17 rfl rfl)
theorem dX4_dayPasses_65 : decode cX4_dayPasses 65 = .ok (.iaload, 1) := dk_46 (dk_at dksX4_dayPasses_2 18 rfl rfl)
theorem dX4_dayPasses_66 : decode cX4_dayPasses 66 = .ok (.ifCond .ne 19, 3) := dk_154 0 19 (dk_at dksX4_dayPasses_2 19 rfl rfl)
theorem dX4_dayPasses_69 : decode cX4_dayPasses 69 = .ok (.aload_n 0, 1) := dk_42 (dk_at dksX4_dayPasses_2 22 rfl rfl)
theorem dX4_dayPasses_70 : decode cX4_dayPasses 70 = .ok (.iload_n 1, 1) := dk_27 (dk_at dksX4_dayPasses_2 23 rfl rfl)
theorem dX4_dayPasses_71 : decode cX4_dayPasses 71 = .ok (.iconst 1, 1) := dk_4 (dk_at dksX4_dayPasses_3 0 rfl rfl)
theorem dX4_dayPasses_72 : decode cX4_dayPasses 72 = .ok (.invokevirtual 152, 3) := dk_182 0 152 (dk_at dksX4_dayPasses_3 1 rfl rfl)
theorem dX4_dayPasses_75 : decode cX4_dayPasses 75 = .ok (.ifCond .eq 10, 3) := dk_153 0 10 (dk_at dksX4_dayPasses_3 4 rfl rfl)
theorem dX4_dayPasses_78 : decode cX4_dayPasses 78 = .ok (.aload_n 0, 1) := dk_42 (dk_at dksX4_dayPasses_3 7 rfl rfl)
theorem dX4_dayPasses_79 : decode cX4_dayPasses 79 = .ok (.getfield 49, 3) := dk_180 0 49 (dk_at dksX4_dayPasses_3 8 rfl rfl)
theorem dX4_dayPasses_82 : decode cX4_dayPasses 82 = .ok (.iload_n 1, 1) := dk_27 (dk_at dksX4_dayPasses_3 11 rfl rfl)
theorem dX4_dayPasses_83 : decode cX4_dayPasses 83 = .ok (.iconst 1, 1) := dk_4 (dk_at dksX4_dayPasses_3 12 rfl rfl)
theorem dX4_dayPasses_84 : decode cX4_dayPasses 84 = .ok (.iastore, 1) := dk_79 (dk_at dksX4_dayPasses_3 13 rfl rfl)
theorem dX4_dayPasses_85 : decode cX4_dayPasses 85 = .ok (.iinc 1 1, 3) := dk_132 1 1 (dk_at dksX4_dayPasses_3 14 rfl rfl)
theorem dX4_dayPasses_88 : decode cX4_dayPasses 88 = .ok (.goto (-36), 3) := dk_167 255 220 (dk_at dksX4_dayPasses_3 17 rfl rfl)
theorem dX4_dayPasses_91 : decode cX4_dayPasses 91 = .ok (.iconst 0, 1) := dk_3 (dk_at dksX4_dayPasses_3 20 rfl rfl)
theorem dX4_dayPasses_92 : decode cX4_dayPasses 92 = .ok (.istore_n 1, 1) := dk_60 (dk_at dksX4_dayPasses_3 21 rfl rfl)
theorem dX4_dayPasses_93 : decode cX4_dayPasses 93 = .ok (.iload_n 1, 1) := dk_27 (dk_at dksX4_dayPasses_3 22 rfl rfl)
theorem dX4_dayPasses_94 : decode cX4_dayPasses 94 = .ok (.aload_n 0, 1) := dk_42 (dk_at dksX4_dayPasses_3 23 rfl rfl)
theorem dX4_dayPasses_95 : decode cX4_dayPasses 95 = .ok (.getfield 98, 3) := dk_180 0 98 (dk_at dksX4_dayPasses_4 0 rfl rfl)
theorem dX4_dayPasses_98 : decode cX4_dayPasses 98 = .ok (.if_icmp .ge 50, 3) := dk_162 0 50 (dk_at dksX4_dayPasses_4 3 rfl rfl)
theorem dX4_dayPasses_101 : decode cX4_dayPasses 101 = .ok (.aload_n 0, 1) := dk_42 (dk_at dksX4_dayPasses_4 6 rfl rfl)
theorem dX4_dayPasses_102 : decode cX4_dayPasses 102 = .ok (.getfield 49, 3) := dk_180 0 49 (dk_at dksX4_dayPasses_4 7 rfl rfl)
theorem dX4_dayPasses_105 : decode cX4_dayPasses 105 = .ok (.iload_n 1, 1) := dk_27 (dk_at dksX4_dayPasses_4 10 rfl rfl)
theorem dX4_dayPasses_106 : decode cX4_dayPasses 106 = .ok (.iaload, 1) := dk_46 (dk_at dksX4_dayPasses_4 11 rfl rfl)
theorem dX4_dayPasses_107 : decode cX4_dayPasses 107 = .ok (.iconst 2, 1) := dk_5 (dk_at dksX4_dayPasses_4 12 rfl rfl)
theorem dX4_dayPasses_108 : decode cX4_dayPasses 108 = .ok (.if_icmp .ne 34, 3) := dk_160 0 34 (dk_at dksX4_dayPasses_4 13 rfl rfl)
theorem dX4_dayPasses_111 : decode cX4_dayPasses 111 = .ok (.aload_n 0, 1) := dk_42 (dk_at dksX4_dayPasses_4 16 rfl rfl)
theorem dX4_dayPasses_112 : decode cX4_dayPasses 112 = .ok (.iload_n 1, 1) := dk_27 (dk_at dksX4_dayPasses_4 17 rfl rfl)
theorem dX4_dayPasses_113 : decode cX4_dayPasses 113 = .ok (.invokevirtual 137, 3) := dk_182 0 137 (dk_at dksX4_dayPasses_4 18 rfl rfl)
theorem dX4_dayPasses_116 : decode cX4_dayPasses 116 = .ok (.ifCond .ne 26, 3) := dk_154 0 26 (dk_at dksX4_dayPasses_4 21 rfl rfl)
theorem dX4_dayPasses_119 : decode cX4_dayPasses 119 = .ok (.aload_n 0, 1) := dk_42 (dk_at dksX4_dayPasses_5 0 rfl rfl)
theorem dX4_dayPasses_120 : decode cX4_dayPasses 120 = .ok (.getfield 101, 3) := dk_180 0 101 (dk_at dksX4_dayPasses_5 1 rfl rfl)
theorem dX4_dayPasses_123 : decode cX4_dayPasses 123 = .ok (.aload_n 0, 1) := dk_42 (dk_at dksX4_dayPasses_5 4 rfl rfl)
theorem dX4_dayPasses_124 : decode cX4_dayPasses 124 = .ok (.getfield 52, 3) := dk_180 0 52 (dk_at dksX4_dayPasses_5 5 rfl rfl)
theorem dX4_dayPasses_127 : decode cX4_dayPasses 127 = .ok (.iload_n 1, 1) := dk_27 (dk_at dksX4_dayPasses_5 8 rfl rfl)
theorem dX4_dayPasses_128 : decode cX4_dayPasses 128 = .ok (.iaload, 1) := dk_46 (dk_at dksX4_dayPasses_5 9 rfl rfl)
theorem dX4_dayPasses_129 : decode cX4_dayPasses 129 = .ok (.isub, 1) := dk_100 (dk_at dksX4_dayPasses_5 10 rfl rfl)
theorem dX4_dayPasses_130 : decode cX4_dayPasses 130 = .ok (.aload_n 0, 1) := dk_42 (dk_at dksX4_dayPasses_5 11 rfl rfl)
theorem dX4_dayPasses_131 : decode cX4_dayPasses 131 = .ok (.getfield 104, 3) := dk_180 0 104 (dk_at dksX4_dayPasses_5 12 rfl rfl)
theorem dX4_dayPasses_134 : decode cX4_dayPasses 134 = .ok (.if_icmp .lt 8, 3) := dk_161 0 8 (dk_at dksX4_dayPasses_5 15 rfl rfl)
theorem dX4_dayPasses_137 : decode cX4_dayPasses 137 = .ok (.aload_n 0, 1) := dk_42 (dk_at dksX4_dayPasses_5 18 rfl rfl)
theorem dX4_dayPasses_138 : decode cX4_dayPasses 138 = .ok (.iload_n 1, 1) := dk_27 (dk_at dksX4_dayPasses_5 19 rfl rfl)
theorem dX4_dayPasses_139 : decode cX4_dayPasses 139 = .ok (.invokevirtual 148, 3) := dk_182 0 148 (dk_at dksX4_dayPasses_5 20 rfl rfl)
theorem dX4_dayPasses_142 : decode cX4_dayPasses 142 = .ok (.iinc 1 1, 3) := dk_132 1 1 (dk_at dksX4_dayPasses_6 0 rfl rfl)
theorem dX4_dayPasses_145 : decode cX4_dayPasses 145 = .ok (.goto (-52), 3) := dk_167 255 204 (dk_at dksX4_dayPasses_6 3 rfl rfl)
theorem dX4_dayPasses_148 : decode cX4_dayPasses 148 = .ok (.aload_n 0, 1) := dk_42 (dk_at dksX4_dayPasses_6 6 rfl rfl)
theorem dX4_dayPasses_149 : decode cX4_dayPasses 149 = .ok (.invokevirtual 158, 3) := dk_182 0 158 (dk_at dksX4_dayPasses_6 7 rfl rfl)
theorem dX4_dayPasses_152 : decode cX4_dayPasses 152 = .ok (.return_, 1) := dk_177 (dk_at dksX4_dayPasses_6 10 rfl rfl)
abbrev cX4_isDue : ByteArray := prog_12_method_14_code
def yX4_isDue : MethodName := ⟨RX4, "isDue", "(II)Z"⟩
def dkwX4_isDue_2 : List UInt8 := [167, 0, 4, 3, 172]
abbrev dktX4_isDue_2 : List UInt8 := dkwX4_isDue_2 ++ []
def dkwX4_isDue_1 : List UInt8 := [29, 46, 28, 160, 0, 22, 21, 4, 2, 159, 0, 16, 21, 4, 42, 180, 0, 101, 163, 0, 7, 4]
abbrev dktX4_isDue_1 : List UInt8 := dkwX4_isDue_1 ++ dktX4_isDue_2
def dkwX4_isDue_0 : List UInt8 := [42, 27, 182, 0, 120, 62, 29, 2, 160, 0, 5, 3, 172, 42, 27, 182, 0, 127, 54, 4, 42, 180, 0, 16]
abbrev dktX4_isDue_0 : List UInt8 := dkwX4_isDue_0 ++ dktX4_isDue_1
theorem dksX4_isDue_0 : cX4_isDue.data.toList.drop 0 = dktX4_isDue_0 := by decide +kernel
theorem dksX4_isDue_1 : cX4_isDue.data.toList.drop 24 = dktX4_isDue_1 := dk_seg dksX4_isDue_0 24 rfl rfl
theorem dksX4_isDue_2 : cX4_isDue.data.toList.drop 46 = dktX4_isDue_2 := dk_seg dksX4_isDue_1 22 rfl rfl
theorem dX4_isDue_0 : decode cX4_isDue 0 = .ok (.aload_n 0, 1) := dk_42 (dk_at dksX4_isDue_0 0 rfl rfl)
theorem dX4_isDue_1 : decode cX4_isDue 1 = .ok (.iload_n 1, 1) := dk_27 (dk_at dksX4_isDue_0 1 rfl rfl)
theorem dX4_isDue_2 : decode cX4_isDue 2 = .ok (.invokevirtual 120, 3) := dk_182 0 120 (dk_at dksX4_isDue_0 2 rfl rfl)
theorem dX4_isDue_5 : decode cX4_isDue 5 = .ok (.istore_n 3, 1) := dk_62 (dk_at dksX4_isDue_0 5 rfl rfl)
theorem dX4_isDue_6 : decode cX4_isDue 6 = .ok (.iload_n 3, 1) := dk_29 (dk_at dksX4_isDue_0 6 rfl rfl)
theorem dX4_isDue_7 : decode cX4_isDue 7 = .ok (.iconst (-1), 1) := dk_2 (dk_at dksX4_isDue_0 7 rfl rfl)
theorem dX4_isDue_8 : decode cX4_isDue 8 = .ok (.if_icmp .ne 5, 3) := dk_160 0 5 (dk_at dksX4_isDue_0 8 rfl rfl)
theorem dX4_isDue_11 : decode cX4_isDue 11 = .ok (.iconst 0, 1) := dk_3 (dk_at dksX4_isDue_0 11 rfl rfl)
theorem dX4_isDue_12 : decode cX4_isDue 12 = .ok (.ireturn, 1) := dk_172 (dk_at dksX4_isDue_0 12 rfl rfl)
theorem dX4_isDue_13 : decode cX4_isDue 13 = .ok (.aload_n 0, 1) := dk_42 (dk_at dksX4_isDue_0 13 rfl rfl)
theorem dX4_isDue_14 : decode cX4_isDue 14 = .ok (.iload_n 1, 1) := dk_27 (dk_at dksX4_isDue_0 14 rfl rfl)
theorem dX4_isDue_15 : decode cX4_isDue 15 = .ok (.invokevirtual 127, 3) := dk_182 0 127 (dk_at dksX4_isDue_0 15 rfl rfl)
theorem dX4_isDue_18 : decode cX4_isDue 18 = .ok (.istore 4, 2) := dk_54 4 (dk_at dksX4_isDue_0 18 rfl rfl)
theorem dX4_isDue_20 : decode cX4_isDue 20 = .ok (.aload_n 0, 1) := dk_42 (dk_at dksX4_isDue_0 20 rfl rfl)
theorem dX4_isDue_21 : decode cX4_isDue 21 = .ok (.getfield 16, 3) := dk_180 0 16 (dk_at dksX4_isDue_0 21 rfl rfl)
theorem dX4_isDue_24 : decode cX4_isDue 24 = .ok (.iload_n 3, 1) := dk_29 (dk_at dksX4_isDue_1 0 rfl rfl)
theorem dX4_isDue_25 : decode cX4_isDue 25 = .ok (.iaload, 1) := dk_46 (dk_at dksX4_isDue_1 1 rfl rfl)
theorem dX4_isDue_26 : decode cX4_isDue 26 = .ok (.iload_n 2, 1) := dk_28 (dk_at dksX4_isDue_1 2 rfl rfl)
theorem dX4_isDue_27 : decode cX4_isDue 27 = .ok (.if_icmp .ne 22, 3) := dk_160 0 22 (dk_at dksX4_isDue_1 3 rfl rfl)
theorem dX4_isDue_30 : decode cX4_isDue 30 = .ok (.iload 4, 2) := dk_21 4 (dk_at dksX4_isDue_1 6 rfl rfl)
theorem dX4_isDue_32 : decode cX4_isDue 32 = .ok (.iconst (-1), 1) := dk_2 (dk_at dksX4_isDue_1 8 rfl rfl)
theorem dX4_isDue_33 : decode cX4_isDue 33 = .ok (.if_icmp .eq 16, 3) := dk_159 0 16 (dk_at dksX4_isDue_1 9 rfl rfl)
theorem dX4_isDue_36 : decode cX4_isDue 36 = .ok (.iload 4, 2) := dk_21 4 (dk_at dksX4_isDue_1 12 rfl rfl)
theorem dX4_isDue_38 : decode cX4_isDue 38 = .ok (.aload_n 0, 1) := dk_42 (dk_at dksX4_isDue_1 14 rfl rfl)
theorem dX4_isDue_39 : decode cX4_isDue 39 = .ok (.getfield 101, 3) := dk_180 0 101 (dk_at dksX4_isDue_1 15 rfl rfl)
theorem dX4_isDue_42 : decode cX4_isDue 42 = .ok (.if_icmp .gt 7, 3) := dk_163 0 7 (dk_at dksX4_isDue_1 18 rfl rfl)
theorem dX4_isDue_45 : decode cX4_isDue 45 = .ok (.iconst 1, 1) := dk_4 (dk_at dksX4_isDue_1 21 rfl rfl)
theorem dX4_isDue_46 : decode cX4_isDue 46 = .ok (.goto 4, 3) := dk_167 0 4 (dk_at dksX4_isDue_2 0 rfl rfl)
theorem dX4_isDue_49 : decode cX4_isDue 49 = .ok (.iconst 0, 1) := dk_3 (dk_at dksX4_isDue_2 3 rfl rfl)
theorem dX4_isDue_50 : decode cX4_isDue 50 = .ok (.ireturn, 1) := dk_172 (dk_at dksX4_isDue_2 4 rfl rfl)
abbrev cX4_countingTag : ByteArray := prog_12_method_11_code
def yX4_countingTag : MethodName := ⟨RX4, "countingTag", "(I)I"⟩
def dkwX4_countingTag_1 : List UInt8 := [2, 159, 0, 10, 42, 180, 0, 13, 28, 46, 172, 42, 180, 0, 110, 172]
abbrev dktX4_countingTag_1 : List UInt8 := dkwX4_countingTag_1 ++ []
def dkwX4_countingTag_0 : List UInt8 := [42, 180, 0, 43, 27, 46, 2, 159, 0, 10, 42, 180, 0, 43, 27, 46, 172, 42, 27, 182, 0, 116, 61, 28]
abbrev dktX4_countingTag_0 : List UInt8 := dkwX4_countingTag_0 ++ dktX4_countingTag_1
theorem dksX4_countingTag_0 : cX4_countingTag.data.toList.drop 0 = dktX4_countingTag_0 := by decide +kernel
theorem dksX4_countingTag_1 : cX4_countingTag.data.toList.drop 24 = dktX4_countingTag_1 := dk_seg dksX4_countingTag_0 24 rfl rfl
theorem dX4_countingTag_0 : decode cX4_countingTag 0 = .ok (.aload_n 0, 1) := dk_42 (dk_at dksX4_countingTag_0 0 rfl rfl)
theorem dX4_countingTag_1 : decode cX4_countingTag 1 = .ok (.getfield 43, 3) := dk_180 0 43 (dk_at dksX4_countingTag_0 1 rfl rfl)
theorem dX4_countingTag_4 : decode cX4_countingTag 4 = .ok (.iload_n 1, 1) := dk_27 (dk_at dksX4_countingTag_0 4 rfl rfl)
theorem dX4_countingTag_5 : decode cX4_countingTag 5 = .ok (.iaload, 1) := dk_46 (dk_at dksX4_countingTag_0 5 rfl rfl)
theorem dX4_countingTag_6 : decode cX4_countingTag 6 = .ok (.iconst (-1), 1) := dk_2 (dk_at dksX4_countingTag_0 6 rfl rfl)
theorem dX4_countingTag_7 : decode cX4_countingTag 7 = .ok (.if_icmp .eq 10, 3) := dk_159 0 10 (dk_at dksX4_countingTag_0 7 rfl rfl)
theorem dX4_countingTag_10 : decode cX4_countingTag 10 = .ok (.aload_n 0, 1) := dk_42 (dk_at dksX4_countingTag_0 10 rfl rfl)
theorem dX4_countingTag_11 : decode cX4_countingTag 11 = .ok (.getfield 43, 3) := dk_180 0 43 (dk_at dksX4_countingTag_0 11 rfl rfl)
theorem dX4_countingTag_14 : decode cX4_countingTag 14 = .ok (.iload_n 1, 1) := dk_27 (dk_at dksX4_countingTag_0 14 rfl rfl)
theorem dX4_countingTag_15 : decode cX4_countingTag 15 = .ok (.iaload, 1) := dk_46 (dk_at dksX4_countingTag_0 15 rfl rfl)
theorem dX4_countingTag_16 : decode cX4_countingTag 16 = .ok (.ireturn, 1) := dk_172 (dk_at dksX4_countingTag_0 16 rfl rfl)
theorem dX4_countingTag_17 : decode cX4_countingTag 17 = .ok (.aload_n 0, 1) := dk_42 (dk_at dksX4_countingTag_0 17 rfl rfl)
theorem dX4_countingTag_18 : decode cX4_countingTag 18 = .ok (.iload_n 1, 1) := dk_27 (dk_at dksX4_countingTag_0 18 rfl rfl)
theorem dX4_countingTag_19 : decode cX4_countingTag 19 = .ok (.invokevirtual 116, 3) := dk_182 0 116 (dk_at dksX4_countingTag_0 19 rfl rfl)
theorem dX4_countingTag_22 : decode cX4_countingTag 22 = .ok (.istore_n 2, 1) := dk_61 (dk_at dksX4_countingTag_0 22 rfl rfl)
theorem dX4_countingTag_23 : decode cX4_countingTag 23 = .ok (.iload_n 2, 1) := dk_28 (dk_at dksX4_countingTag_0 23 rfl rfl)
theorem dX4_countingTag_24 : decode cX4_countingTag 24 = .ok (.iconst (-1), 1) := dk_2 (dk_at dksX4_countingTag_1 0 rfl rfl)
theorem dX4_countingTag_25 : decode cX4_countingTag 25 = .ok (.if_icmp .eq 10, 3) := dk_159 0 10 (dk_at dksX4_countingTag_1 1 rfl rfl)
theorem dX4_countingTag_28 : decode cX4_countingTag 28 = .ok (.aload_n 0, 1) := dk_42 (dk_at dksX4_countingTag_1 4 rfl rfl)
theorem dX4_countingTag_29 : decode cX4_countingTag 29 = .ok (.getfield 13, 3) := dk_180 0 13 (dk_at dksX4_countingTag_1 5 rfl rfl)
theorem dX4_countingTag_32 : decode cX4_countingTag 32 = .ok (.iload_n 2, 1) := dk_28 (dk_at dksX4_countingTag_1 8 rfl rfl)
theorem dX4_countingTag_33 : decode cX4_countingTag 33 = .ok (.iaload, 1) := dk_46 (dk_at dksX4_countingTag_1 9 rfl rfl)
theorem dX4_countingTag_34 : decode cX4_countingTag 34 = .ok (.ireturn, 1) := dk_172 (dk_at dksX4_countingTag_1 10 rfl rfl)
theorem dX4_countingTag_35 : decode cX4_countingTag 35 = .ok (.aload_n 0, 1) := dk_42 (dk_at dksX4_countingTag_1 11 rfl rfl)
theorem dX4_countingTag_36 : decode cX4_countingTag 36 = .ok (.getfield 110, 3) := dk_180 0 110 (dk_at dksX4_countingTag_1 12 rfl rfl)
theorem dX4_countingTag_39 : decode cX4_countingTag 39 = .ok (.ireturn, 1) := dk_172 (dk_at dksX4_countingTag_1 15 rfl rfl)
abbrev cX4_tellingFolder : ByteArray := prog_12_method_10_code
def yX4_tellingFolder : MethodName := ⟨RX4, "tellingFolder", "(I)I"⟩
def dkwX4_tellingFolder_1 : List UInt8 := [42, 180, 0, 7, 28, 46, 61, 167, 255, 232, 2, 172]
abbrev dktX4_tellingFolder_1 : List UInt8 := dkwX4_tellingFolder_1 ++ []
def dkwX4_tellingFolder_0 : List UInt8 := [42, 180, 0, 28, 27, 46, 61, 28, 2, 159, 0, 25, 42, 180, 0, 13, 28, 46, 2, 159, 0, 5, 28, 172]
abbrev dktX4_tellingFolder_0 : List UInt8 := dkwX4_tellingFolder_0 ++ dktX4_tellingFolder_1
theorem dksX4_tellingFolder_0 : cX4_tellingFolder.data.toList.drop 0 = dktX4_tellingFolder_0 := by decide +kernel
theorem dksX4_tellingFolder_1 : cX4_tellingFolder.data.toList.drop 24 = dktX4_tellingFolder_1 := dk_seg dksX4_tellingFolder_0 24 rfl rfl
theorem dX4_tellingFolder_0 : decode cX4_tellingFolder 0 = .ok (.aload_n 0, 1) := dk_42 (dk_at dksX4_tellingFolder_0 0 rfl rfl)
theorem dX4_tellingFolder_1 : decode cX4_tellingFolder 1 = .ok (.getfield 28, 3) := dk_180 0 28 (dk_at dksX4_tellingFolder_0 1 rfl rfl)
theorem dX4_tellingFolder_4 : decode cX4_tellingFolder 4 = .ok (.iload_n 1, 1) := dk_27 (dk_at dksX4_tellingFolder_0 4 rfl rfl)
theorem dX4_tellingFolder_5 : decode cX4_tellingFolder 5 = .ok (.iaload, 1) := dk_46 (dk_at dksX4_tellingFolder_0 5 rfl rfl)
theorem dX4_tellingFolder_6 : decode cX4_tellingFolder 6 = .ok (.istore_n 2, 1) := dk_61 (dk_at dksX4_tellingFolder_0 6 rfl rfl)
theorem dX4_tellingFolder_7 : decode cX4_tellingFolder 7 = .ok (.iload_n 2, 1) := dk_28 (dk_at dksX4_tellingFolder_0 7 rfl rfl)
theorem dX4_tellingFolder_8 : decode cX4_tellingFolder 8 = .ok (.iconst (-1), 1) := dk_2 (dk_at dksX4_tellingFolder_0 8 rfl rfl)
theorem dX4_tellingFolder_9 : decode cX4_tellingFolder 9 = .ok (.if_icmp .eq 25, 3) := dk_159 0 25 (dk_at dksX4_tellingFolder_0 9 rfl rfl)
theorem dX4_tellingFolder_12 : decode cX4_tellingFolder 12 = .ok (.aload_n 0, 1) := dk_42 (dk_at dksX4_tellingFolder_0 12 rfl rfl)
theorem dX4_tellingFolder_13 : decode cX4_tellingFolder 13 = .ok (.getfield 13, 3) := dk_180 0 13 (dk_at dksX4_tellingFolder_0 13 rfl rfl)
theorem dX4_tellingFolder_16 : decode cX4_tellingFolder 16 = .ok (.iload_n 2, 1) := dk_28 (dk_at dksX4_tellingFolder_0 16 rfl rfl)
theorem dX4_tellingFolder_17 : decode cX4_tellingFolder 17 = .ok (.iaload, 1) := dk_46 (dk_at dksX4_tellingFolder_0 17 rfl rfl)
theorem dX4_tellingFolder_18 : decode cX4_tellingFolder 18 = .ok (.iconst (-1), 1) := dk_2 (dk_at dksX4_tellingFolder_0 18 rfl rfl)
theorem dX4_tellingFolder_19 : decode cX4_tellingFolder 19 = .ok (.if_icmp .eq 5, 3) := dk_159 0 5 (dk_at dksX4_tellingFolder_0 19 rfl rfl)
theorem dX4_tellingFolder_22 : decode cX4_tellingFolder 22 = .ok (.iload_n 2, 1) := dk_28 (dk_at dksX4_tellingFolder_0 22 rfl rfl)
theorem dX4_tellingFolder_23 : decode cX4_tellingFolder 23 = .ok (.ireturn, 1) := dk_172 (dk_at dksX4_tellingFolder_0 23 rfl rfl)
theorem dX4_tellingFolder_24 : decode cX4_tellingFolder 24 = .ok (.aload_n 0, 1) := dk_42 (dk_at dksX4_tellingFolder_1 0 rfl rfl)
theorem dX4_tellingFolder_25 : decode cX4_tellingFolder 25 = .ok (.getfield 7, 3) := dk_180 0 7 (dk_at dksX4_tellingFolder_1 1 rfl rfl)
theorem dX4_tellingFolder_28 : decode cX4_tellingFolder 28 = .ok (.iload_n 2, 1) := dk_28 (dk_at dksX4_tellingFolder_1 4 rfl rfl)
theorem dX4_tellingFolder_29 : decode cX4_tellingFolder 29 = .ok (.iaload, 1) := dk_46 (dk_at dksX4_tellingFolder_1 5 rfl rfl)
theorem dX4_tellingFolder_30 : decode cX4_tellingFolder 30 = .ok (.istore_n 2, 1) := dk_61 (dk_at dksX4_tellingFolder_1 6 rfl rfl)
theorem dX4_tellingFolder_31 : decode cX4_tellingFolder 31 = .ok (.goto (-24), 3) := dk_167 255 232 (dk_at dksX4_tellingFolder_1 7 rfl rfl)
theorem dX4_tellingFolder_34 : decode cX4_tellingFolder 34 = .ok (.iconst (-1), 1) := dk_2 (dk_at dksX4_tellingFolder_1 10 rfl rfl)
theorem dX4_tellingFolder_35 : decode cX4_tellingFolder 35 = .ok (.ireturn, 1) := dk_172 (dk_at dksX4_tellingFolder_1 11 rfl rfl)
abbrev cX4_dueDay : ByteArray := prog_12_method_13_code
def yX4_dueDay : MethodName := ⟨RX4, "dueDay", "(I)I"⟩
def dkwX4_dueDay_1 : List UInt8 := [28, 46, 5, 159, 0, 8, 29, 2, 160, 0, 5, 2, 172, 29, 42, 180, 0, 22, 28, 46, 96, 172]
abbrev dktX4_dueDay_1 : List UInt8 := dkwX4_dueDay_1 ++ []
def dkwX4_dueDay_0 : List UInt8 := [42, 27, 182, 0, 120, 61, 28, 2, 160, 0, 5, 2, 172, 42, 27, 28, 182, 0, 123, 62, 42, 180, 0, 16]
abbrev dktX4_dueDay_0 : List UInt8 := dkwX4_dueDay_0 ++ dktX4_dueDay_1
theorem dksX4_dueDay_0 : cX4_dueDay.data.toList.drop 0 = dktX4_dueDay_0 := by decide +kernel
theorem dksX4_dueDay_1 : cX4_dueDay.data.toList.drop 24 = dktX4_dueDay_1 := dk_seg dksX4_dueDay_0 24 rfl rfl
theorem dX4_dueDay_0 : decode cX4_dueDay 0 = .ok (.aload_n 0, 1) := dk_42 (dk_at dksX4_dueDay_0 0 rfl rfl)
theorem dX4_dueDay_1 : decode cX4_dueDay 1 = .ok (.iload_n 1, 1) := dk_27 (dk_at dksX4_dueDay_0 1 rfl rfl)
theorem dX4_dueDay_2 : decode cX4_dueDay 2 = .ok (.invokevirtual 120, 3) := dk_182 0 120 (dk_at dksX4_dueDay_0 2 rfl rfl)
theorem dX4_dueDay_5 : decode cX4_dueDay 5 = .ok (.istore_n 2, 1) := dk_61 (dk_at dksX4_dueDay_0 5 rfl rfl)
theorem dX4_dueDay_6 : decode cX4_dueDay 6 = .ok (.iload_n 2, 1) := dk_28 (dk_at dksX4_dueDay_0 6 rfl rfl)
theorem dX4_dueDay_7 : decode cX4_dueDay 7 = .ok (.iconst (-1), 1) := dk_2 (dk_at dksX4_dueDay_0 7 rfl rfl)
theorem dX4_dueDay_8 : decode cX4_dueDay 8 = .ok (.if_icmp .ne 5, 3) := dk_160 0 5 (dk_at dksX4_dueDay_0 8 rfl rfl)
theorem dX4_dueDay_11 : decode cX4_dueDay 11 = .ok (.iconst (-1), 1) := dk_2 (dk_at dksX4_dueDay_0 11 rfl rfl)
theorem dX4_dueDay_12 : decode cX4_dueDay 12 = .ok (.ireturn, 1) := dk_172 (dk_at dksX4_dueDay_0 12 rfl rfl)
theorem dX4_dueDay_13 : decode cX4_dueDay 13 = .ok (.aload_n 0, 1) := dk_42 (dk_at dksX4_dueDay_0 13 rfl rfl)
theorem dX4_dueDay_14 : decode cX4_dueDay 14 = .ok (.iload_n 1, 1) := dk_27 (dk_at dksX4_dueDay_0 14 rfl rfl)
theorem dX4_dueDay_15 : decode cX4_dueDay 15 = .ok (.iload_n 2, 1) := dk_28 (dk_at dksX4_dueDay_0 15 rfl rfl)
theorem dX4_dueDay_16 : decode cX4_dueDay 16 = .ok (.invokevirtual 123, 3) := dk_182 0 123 (dk_at dksX4_dueDay_0 16 rfl rfl)
theorem dX4_dueDay_19 : decode cX4_dueDay 19 = .ok (.istore_n 3, 1) := dk_62 (dk_at dksX4_dueDay_0 19 rfl rfl)
theorem dX4_dueDay_20 : decode cX4_dueDay 20 = .ok (.aload_n 0, 1) := dk_42 (dk_at dksX4_dueDay_0 20 rfl rfl)
theorem dX4_dueDay_21 : decode cX4_dueDay 21 = .ok (.getfield 16, 3) := dk_180 0 16 (dk_at dksX4_dueDay_0 21 rfl rfl)
theorem dX4_dueDay_24 : decode cX4_dueDay 24 = .ok (.iload_n 2, 1) := dk_28 (dk_at dksX4_dueDay_1 0 rfl rfl)
theorem dX4_dueDay_25 : decode cX4_dueDay 25 = .ok (.iaload, 1) := dk_46 (dk_at dksX4_dueDay_1 1 rfl rfl)
theorem dX4_dueDay_26 : decode cX4_dueDay 26 = .ok (.iconst 2, 1) := dk_5 (dk_at dksX4_dueDay_1 2 rfl rfl)
theorem dX4_dueDay_27 : decode cX4_dueDay 27 = .ok (.if_icmp .eq 8, 3) := dk_159 0 8 (dk_at dksX4_dueDay_1 3 rfl rfl)
theorem dX4_dueDay_30 : decode cX4_dueDay 30 = .ok (.iload_n 3, 1) := dk_29 (dk_at dksX4_dueDay_1 6 rfl rfl)
theorem dX4_dueDay_31 : decode cX4_dueDay 31 = .ok (.iconst (-1), 1) := dk_2 (dk_at dksX4_dueDay_1 7 rfl rfl)
theorem dX4_dueDay_32 : decode cX4_dueDay 32 = .ok (.if_icmp .ne 5, 3) := dk_160 0 5 (dk_at dksX4_dueDay_1 8 rfl rfl)
theorem dX4_dueDay_35 : decode cX4_dueDay 35 = .ok (.iconst (-1), 1) := dk_2 (dk_at dksX4_dueDay_1 11 rfl rfl)
theorem dX4_dueDay_36 : decode cX4_dueDay 36 = .ok (.ireturn, 1) := dk_172 (dk_at dksX4_dueDay_1 12 rfl rfl)
theorem dX4_dueDay_37 : decode cX4_dueDay 37 = .ok (.iload_n 3, 1) := dk_29 (dk_at dksX4_dueDay_1 13 rfl rfl)
theorem dX4_dueDay_38 : decode cX4_dueDay 38 = .ok (.aload_n 0, 1) := dk_42 (dk_at dksX4_dueDay_1 14 rfl rfl)
theorem dX4_dueDay_39 : decode cX4_dueDay 39 = .ok (.getfield 22, 3) := dk_180 0 22 (dk_at dksX4_dueDay_1 15 rfl rfl)
theorem dX4_dueDay_42 : decode cX4_dueDay 42 = .ok (.iload_n 2, 1) := dk_28 (dk_at dksX4_dueDay_1 18 rfl rfl)
theorem dX4_dueDay_43 : decode cX4_dueDay 43 = .ok (.iaload, 1) := dk_46 (dk_at dksX4_dueDay_1 19 rfl rfl)
theorem dX4_dueDay_44 : decode cX4_dueDay 44 = .ok (.iadd, 1) := dk_96 (dk_at dksX4_dueDay_1 20 rfl rfl)
theorem dX4_dueDay_45 : decode cX4_dueDay 45 = .ok (.ireturn, 1) := dk_172 (dk_at dksX4_dueDay_1 21 rfl rfl)
abbrev cX4_startDay : ByteArray := prog_12_method_12_code
def yX4_startDay : MethodName := ⟨RX4, "startDay", "(II)I"⟩
def dkwX4_startDay_2 : List UInt8 := [27, 46, 172, 42, 180, 0, 25, 42, 180, 0, 19, 28, 46, 5, 100, 46, 172]
abbrev dktX4_startDay_2 : List UInt8 := dkwX4_startDay_2 ++ []
def dkwX4_startDay_1 : List UInt8 := [160, 0, 27, 42, 180, 0, 46, 27, 46, 2, 160, 0, 10, 42, 180, 0, 40, 27, 46, 172, 42, 180, 0, 46]
abbrev dktX4_startDay_1 : List UInt8 := dkwX4_startDay_1 ++ dktX4_startDay_2
def dkwX4_startDay_0 : List UInt8 := [42, 180, 0, 19, 28, 46, 154, 0, 10, 42, 180, 0, 40, 27, 46, 172, 42, 180, 0, 19, 28, 46, 4]
abbrev dktX4_startDay_0 : List UInt8 := dkwX4_startDay_0 ++ dktX4_startDay_1
theorem dksX4_startDay_0 : cX4_startDay.data.toList.drop 0 = dktX4_startDay_0 := by decide +kernel
theorem dksX4_startDay_1 : cX4_startDay.data.toList.drop 23 = dktX4_startDay_1 := dk_seg dksX4_startDay_0 23 rfl rfl
theorem dksX4_startDay_2 : cX4_startDay.data.toList.drop 47 = dktX4_startDay_2 := dk_seg dksX4_startDay_1 24 rfl rfl
theorem dX4_startDay_0 : decode cX4_startDay 0 = .ok (.aload_n 0, 1) := dk_42 (dk_at dksX4_startDay_0 0 rfl rfl)
theorem dX4_startDay_1 : decode cX4_startDay 1 = .ok (.getfield 19, 3) := dk_180 0 19 (dk_at dksX4_startDay_0 1 rfl rfl)
theorem dX4_startDay_4 : decode cX4_startDay 4 = .ok (.iload_n 2, 1) := dk_28 (dk_at dksX4_startDay_0 4 rfl rfl)
theorem dX4_startDay_5 : decode cX4_startDay 5 = .ok (.iaload, 1) := dk_46 (dk_at dksX4_startDay_0 5 rfl rfl)
theorem dX4_startDay_6 : decode cX4_startDay 6 = .ok (.ifCond .ne 10, 3) := dk_154 0 10 (dk_at dksX4_startDay_0 6 rfl rfl)
theorem dX4_startDay_9 : decode cX4_startDay 9 = .ok (.aload_n 0, 1) := dk_42 (dk_at dksX4_startDay_0 9 rfl rfl)
theorem dX4_startDay_10 : decode cX4_startDay 10 = .ok (.getfield 40, 3) := dk_180 0 40 (dk_at dksX4_startDay_0 10 rfl rfl)
theorem dX4_startDay_13 : decode cX4_startDay 13 = .ok (.iload_n 1, 1) := dk_27 (dk_at dksX4_startDay_0 13 rfl rfl)
theorem dX4_startDay_14 : decode cX4_startDay 14 = .ok (.iaload, 1) := dk_46 (dk_at dksX4_startDay_0 14 rfl rfl)
theorem dX4_startDay_15 : decode cX4_startDay 15 = .ok (.ireturn, 1) := dk_172 (dk_at dksX4_startDay_0 15 rfl rfl)
theorem dX4_startDay_16 : decode cX4_startDay 16 = .ok (.aload_n 0, 1) := dk_42 (dk_at dksX4_startDay_0 16 rfl rfl)
theorem dX4_startDay_17 : decode cX4_startDay 17 = .ok (.getfield 19, 3) := dk_180 0 19 (dk_at dksX4_startDay_0 17 rfl rfl)
theorem dX4_startDay_20 : decode cX4_startDay 20 = .ok (.iload_n 2, 1) := dk_28 (dk_at dksX4_startDay_0 20 rfl rfl)
theorem dX4_startDay_21 : decode cX4_startDay 21 = .ok (.iaload, 1) := dk_46 (dk_at dksX4_startDay_0 21 rfl rfl)
theorem dX4_startDay_22 : decode cX4_startDay 22 = .ok (.iconst 1, 1) := dk_4 (dk_at dksX4_startDay_0 22 rfl rfl)
theorem dX4_startDay_23 : decode cX4_startDay 23 = .ok (.if_icmp .ne 27, 3) := dk_160 0 27 (dk_at dksX4_startDay_1 0 rfl rfl)
theorem dX4_startDay_26 : decode cX4_startDay 26 = .ok (.aload_n 0, 1) := dk_42 (dk_at dksX4_startDay_1 3 rfl rfl)
theorem dX4_startDay_27 : decode cX4_startDay 27 = .ok (.getfield 46, 3) := dk_180 0 46 (dk_at dksX4_startDay_1 4 rfl rfl)
theorem dX4_startDay_30 : decode cX4_startDay 30 = .ok (.iload_n 1, 1) := dk_27 (dk_at dksX4_startDay_1 7 rfl rfl)
theorem dX4_startDay_31 : decode cX4_startDay 31 = .ok (.iaload, 1) := dk_46 (dk_at dksX4_startDay_1 8 rfl rfl)
theorem dX4_startDay_32 : decode cX4_startDay 32 = .ok (.iconst (-1), 1) := dk_2 (dk_at dksX4_startDay_1 9 rfl rfl)
theorem dX4_startDay_33 : decode cX4_startDay 33 = .ok (.if_icmp .ne 10, 3) := dk_160 0 10 (dk_at dksX4_startDay_1 10 rfl rfl)
theorem dX4_startDay_36 : decode cX4_startDay 36 = .ok (.aload_n 0, 1) := dk_42 (dk_at dksX4_startDay_1 13 rfl rfl)
theorem dX4_startDay_37 : decode cX4_startDay 37 = .ok (.getfield 40, 3) := dk_180 0 40 (dk_at dksX4_startDay_1 14 rfl rfl)
theorem dX4_startDay_40 : decode cX4_startDay 40 = .ok (.iload_n 1, 1) := dk_27 (dk_at dksX4_startDay_1 17 rfl rfl)
theorem dX4_startDay_41 : decode cX4_startDay 41 = .ok (.iaload, 1) := dk_46 (dk_at dksX4_startDay_1 18 rfl rfl)
theorem dX4_startDay_42 : decode cX4_startDay 42 = .ok (.ireturn, 1) := dk_172 (dk_at dksX4_startDay_1 19 rfl rfl)
theorem dX4_startDay_43 : decode cX4_startDay 43 = .ok (.aload_n 0, 1) := dk_42 (dk_at dksX4_startDay_1 20 rfl rfl)
theorem dX4_startDay_44 : decode cX4_startDay 44 = .ok (.getfield 46, 3) := dk_180 0 46 (dk_at dksX4_startDay_1 21 rfl rfl)
theorem dX4_startDay_47 : decode cX4_startDay 47 = .ok (.iload_n 1, 1) := dk_27 (dk_at dksX4_startDay_2 0 rfl rfl)
theorem dX4_startDay_48 : decode cX4_startDay 48 = .ok (.iaload, 1) := dk_46 (dk_at dksX4_startDay_2 1 rfl rfl)
theorem dX4_startDay_49 : decode cX4_startDay 49 = .ok (.ireturn, 1) := dk_172 (dk_at dksX4_startDay_2 2 rfl rfl)
theorem dX4_startDay_50 : decode cX4_startDay 50 = .ok (.aload_n 0, 1) := dk_42 (dk_at dksX4_startDay_2 3 rfl rfl)
theorem dX4_startDay_51 : decode cX4_startDay 51 = .ok (.getfield 25, 3) := dk_180 0 25 (dk_at dksX4_startDay_2 4 rfl rfl)
theorem dX4_startDay_54 : decode cX4_startDay 54 = .ok (.aload_n 0, 1) := dk_42 (dk_at dksX4_startDay_2 7 rfl rfl)
theorem dX4_startDay_55 : decode cX4_startDay 55 = .ok (.getfield 19, 3) := dk_180 0 19 (dk_at dksX4_startDay_2 8 rfl rfl)
theorem dX4_startDay_58 : decode cX4_startDay 58 = .ok (.iload_n 2, 1) := dk_28 (dk_at dksX4_startDay_2 11 rfl rfl)
theorem dX4_startDay_59 : decode cX4_startDay 59 = .ok (.iaload, 1) := dk_46 (dk_at dksX4_startDay_2 12 rfl rfl)
theorem dX4_startDay_60 : decode cX4_startDay 60 = .ok (.iconst 2, 1) := dk_5 (dk_at dksX4_startDay_2 13 rfl rfl)
theorem dX4_startDay_61 : decode cX4_startDay 61 = .ok (.isub, 1) := dk_100 (dk_at dksX4_startDay_2 14 rfl rfl)
theorem dX4_startDay_62 : decode cX4_startDay 62 = .ok (.iaload, 1) := dk_46 (dk_at dksX4_startDay_2 15 rfl rfl)
theorem dX4_startDay_63 : decode cX4_startDay 63 = .ok (.ireturn, 1) := dk_172 (dk_at dksX4_startDay_2 16 rfl rfl)
abbrev cX4_hold : ByteArray := prog_12_method_41_code
def yX4_hold : MethodName := ⟨RX4, "hold", "(IIII)I"⟩
def dkwX4_hold_5 : List UInt8 := [4, 100, 182, 0, 161, 172]
abbrev dktX4_hold_5 : List UInt8 := dkwX4_hold_5 ++ []
def dkwX4_hold_4 : List UInt8 := [180, 0, 74, 42, 180, 0, 113, 3, 84, 42, 89, 180, 0, 113, 4, 96, 181, 0, 113, 42, 42, 180, 0, 113]
abbrev dktX4_hold_4 : List UInt8 := dkwX4_hold_4 ++ dktX4_hold_5
def dkwX4_hold_3 : List UInt8 := [42, 180, 0, 68, 42, 180, 0, 113, 29, 79, 42, 180, 0, 71, 42, 180, 0, 113, 21, 4, 79, 42]
abbrev dktX4_hold_3 : List UInt8 := dkwX4_hold_3 ++ dktX4_hold_4
def dkwX4_hold_2 : List UInt8 := [182, 0, 167, 172, 42, 180, 0, 62, 42, 180, 0, 113, 27, 79, 42, 180, 0, 65, 42, 180, 0, 113, 28, 79]
abbrev dktX4_hold_2 : List UInt8 := dkwX4_hold_2 ++ dktX4_hold_3
def dkwX4_hold_1 : List UInt8 := [21, 4, 29, 162, 0, 9, 42, 4, 182, 0, 167, 172, 42, 180, 0, 113, 16, 6, 160, 0, 9, 42, 5]
abbrev dktX4_hold_1 : List UInt8 := dkwX4_hold_1 ++ dktX4_hold_2
def dkwX4_hold_0 : List UInt8 := [27, 2, 16, 9, 184, 0, 91, 153, 0, 23, 28, 2, 16, 9, 184, 0, 91, 153, 0, 13, 29, 155, 0, 9]
abbrev dktX4_hold_0 : List UInt8 := dkwX4_hold_0 ++ dktX4_hold_1
theorem dksX4_hold_0 : cX4_hold.data.toList.drop 0 = dktX4_hold_0 := by decide +kernel
theorem dksX4_hold_1 : cX4_hold.data.toList.drop 24 = dktX4_hold_1 := dk_seg dksX4_hold_0 24 rfl rfl
theorem dksX4_hold_2 : cX4_hold.data.toList.drop 47 = dktX4_hold_2 := dk_seg dksX4_hold_1 23 rfl rfl
theorem dksX4_hold_3 : cX4_hold.data.toList.drop 71 = dktX4_hold_3 := dk_seg dksX4_hold_2 24 rfl rfl
theorem dksX4_hold_4 : cX4_hold.data.toList.drop 93 = dktX4_hold_4 := dk_seg dksX4_hold_3 22 rfl rfl
theorem dksX4_hold_5 : cX4_hold.data.toList.drop 117 = dktX4_hold_5 := dk_seg dksX4_hold_4 24 rfl rfl
theorem dX4_hold_0 : decode cX4_hold 0 = .ok (.iload_n 1, 1) := dk_27 (dk_at dksX4_hold_0 0 rfl rfl)
theorem dX4_hold_1 : decode cX4_hold 1 = .ok (.iconst (-1), 1) := dk_2 (dk_at dksX4_hold_0 1 rfl rfl)
theorem dX4_hold_2 : decode cX4_hold 2 = .ok (.bipush 9, 2) := dk_16 9 (dk_at dksX4_hold_0 2 rfl rfl)
theorem dX4_hold_4 : decode cX4_hold 4 = .ok (.invokestatic 91, 3) := dk_184 0 91 (dk_at dksX4_hold_0 4 rfl rfl)
theorem dX4_hold_7 : decode cX4_hold 7 = .ok (.ifCond .eq 23, 3) := dk_153 0 23 (dk_at dksX4_hold_0 7 rfl rfl)
theorem dX4_hold_10 : decode cX4_hold 10 = .ok (.iload_n 2, 1) := dk_28 (dk_at dksX4_hold_0 10 rfl rfl)
theorem dX4_hold_11 : decode cX4_hold 11 = .ok (.iconst (-1), 1) := dk_2 (dk_at dksX4_hold_0 11 rfl rfl)
theorem dX4_hold_12 : decode cX4_hold 12 = .ok (.bipush 9, 2) := dk_16 9 (dk_at dksX4_hold_0 12 rfl rfl)
theorem dX4_hold_14 : decode cX4_hold 14 = .ok (.invokestatic 91, 3) := dk_184 0 91 (dk_at dksX4_hold_0 14 rfl rfl)
theorem dX4_hold_17 : decode cX4_hold 17 = .ok (.ifCond .eq 13, 3) := dk_153 0 13 (dk_at dksX4_hold_0 17 rfl rfl)
theorem dX4_hold_20 : decode cX4_hold 20 = .ok (.iload_n 3, 1) := dk_29 (dk_at dksX4_hold_0 20 rfl rfl)
theorem dX4_hold_21 : decode cX4_hold 21 = .ok (.ifCond .lt 9, 3) := dk_155 0 9 (dk_at dksX4_hold_0 21 rfl rfl)
theorem dX4_hold_24 : decode cX4_hold 24 = .ok (.iload 4, 2) := dk_21 4 (dk_at dksX4_hold_1 0 rfl rfl)
theorem dX4_hold_26 : decode cX4_hold 26 = .ok (.iload_n 3, 1) := dk_29 (dk_at dksX4_hold_1 2 rfl rfl)
theorem dX4_hold_27 : decode cX4_hold 27 = .ok (.if_icmp .ge 9, 3) := dk_162 0 9 (dk_at dksX4_hold_1 3 rfl rfl)
theorem dX4_hold_30 : decode cX4_hold 30 = .ok (.aload_n 0, 1) := dk_42 (dk_at dksX4_hold_1 6 rfl rfl)
theorem dX4_hold_31 : decode cX4_hold 31 = .ok (.iconst 1, 1) := dk_4 (dk_at dksX4_hold_1 7 rfl rfl)
theorem dX4_hold_32 : decode cX4_hold 32 = .ok (.invokevirtual 167, 3) := dk_182 0 167 (dk_at dksX4_hold_1 8 rfl rfl)
theorem dX4_hold_35 : decode cX4_hold 35 = .ok (.ireturn, 1) := dk_172 (dk_at dksX4_hold_1 11 rfl rfl)
theorem dX4_hold_36 : decode cX4_hold 36 = .ok (.aload_n 0, 1) := dk_42 (dk_at dksX4_hold_1 12 rfl rfl)
theorem dX4_hold_37 : decode cX4_hold 37 = .ok (.getfield 113, 3) := dk_180 0 113 (dk_at dksX4_hold_1 13 rfl rfl)
theorem dX4_hold_40 : decode cX4_hold 40 = .ok (.bipush 6, 2) := dk_16 6 (dk_at dksX4_hold_1 16 rfl rfl)
theorem dX4_hold_42 : decode cX4_hold 42 = .ok (.if_icmp .ne 9, 3) := dk_160 0 9 (dk_at dksX4_hold_1 18 rfl rfl)
theorem dX4_hold_45 : decode cX4_hold 45 = .ok (.aload_n 0, 1) := dk_42 (dk_at dksX4_hold_1 21 rfl rfl)
theorem dX4_hold_46 : decode cX4_hold 46 = .ok (.iconst 2, 1) := dk_5 (dk_at dksX4_hold_1 22 rfl rfl)
theorem dX4_hold_47 : decode cX4_hold 47 = .ok (.invokevirtual 167, 3) := dk_182 0 167 (dk_at dksX4_hold_2 0 rfl rfl)
theorem dX4_hold_50 : decode cX4_hold 50 = .ok (.ireturn, 1) := dk_172 (dk_at dksX4_hold_2 3 rfl rfl)
theorem dX4_hold_51 : decode cX4_hold 51 = .ok (.aload_n 0, 1) := dk_42 (dk_at dksX4_hold_2 4 rfl rfl)
theorem dX4_hold_52 : decode cX4_hold 52 = .ok (.getfield 62, 3) := dk_180 0 62 (dk_at dksX4_hold_2 5 rfl rfl)
theorem dX4_hold_55 : decode cX4_hold 55 = .ok (.aload_n 0, 1) := dk_42 (dk_at dksX4_hold_2 8 rfl rfl)
theorem dX4_hold_56 : decode cX4_hold 56 = .ok (.getfield 113, 3) := dk_180 0 113 (dk_at dksX4_hold_2 9 rfl rfl)
theorem dX4_hold_59 : decode cX4_hold 59 = .ok (.iload_n 1, 1) := dk_27 (dk_at dksX4_hold_2 12 rfl rfl)
theorem dX4_hold_60 : decode cX4_hold 60 = .ok (.iastore, 1) := dk_79 (dk_at dksX4_hold_2 13 rfl rfl)
theorem dX4_hold_61 : decode cX4_hold 61 = .ok (.aload_n 0, 1) := dk_42 (dk_at dksX4_hold_2 14 rfl rfl)
theorem dX4_hold_62 : decode cX4_hold 62 = .ok (.getfield 65, 3) := dk_180 0 65 (dk_at dksX4_hold_2 15 rfl rfl)
theorem dX4_hold_65 : decode cX4_hold 65 = .ok (.aload_n 0, 1) := dk_42 (dk_at dksX4_hold_2 18 rfl rfl)
theorem dX4_hold_66 : decode cX4_hold 66 = .ok (.getfield 113, 3) := dk_180 0 113 (dk_at dksX4_hold_2 19 rfl rfl)
theorem dX4_hold_69 : decode cX4_hold 69 = .ok (.iload_n 2, 1) := dk_28 (dk_at dksX4_hold_2 22 rfl rfl)
theorem dX4_hold_70 : decode cX4_hold 70 = .ok (.iastore, 1) := dk_79 (dk_at dksX4_hold_2 23 rfl rfl)
theorem dX4_hold_71 : decode cX4_hold 71 = .ok (.aload_n 0, 1) := dk_42 (dk_at dksX4_hold_3 0 rfl rfl)
theorem dX4_hold_72 : decode cX4_hold 72 = .ok (.getfield 68, 3) := dk_180 0 68 (dk_at dksX4_hold_3 1 rfl rfl)
theorem dX4_hold_75 : decode cX4_hold 75 = .ok (.aload_n 0, 1) := dk_42 (dk_at dksX4_hold_3 4 rfl rfl)
theorem dX4_hold_76 : decode cX4_hold 76 = .ok (.getfield 113, 3) := dk_180 0 113 (dk_at dksX4_hold_3 5 rfl rfl)
theorem dX4_hold_79 : decode cX4_hold 79 = .ok (.iload_n 3, 1) := dk_29 (dk_at dksX4_hold_3 8 rfl rfl)
theorem dX4_hold_80 : decode cX4_hold 80 = .ok (.iastore, 1) := dk_79 (dk_at dksX4_hold_3 9 rfl rfl)
theorem dX4_hold_81 : decode cX4_hold 81 = .ok (.aload_n 0, 1) := dk_42 (dk_at dksX4_hold_3 10 rfl rfl)
theorem dX4_hold_82 : decode cX4_hold 82 = .ok (.getfield 71, 3) := dk_180 0 71 (dk_at dksX4_hold_3 11 rfl rfl)
theorem dX4_hold_85 : decode cX4_hold 85 = .ok (.aload_n 0, 1) := dk_42 (dk_at dksX4_hold_3 14 rfl rfl)
theorem dX4_hold_86 : decode cX4_hold 86 = .ok (.getfield 113, 3) := dk_180 0 113 (dk_at dksX4_hold_3 15 rfl rfl)
theorem dX4_hold_89 : decode cX4_hold 89 = .ok (.iload 4, 2) := dk_21 4 (dk_at dksX4_hold_3 18 rfl rfl)
theorem dX4_hold_91 : decode cX4_hold 91 = .ok (.iastore, 1) := dk_79 (dk_at dksX4_hold_3 20 rfl rfl)
theorem dX4_hold_92 : decode cX4_hold 92 = .ok (.aload_n 0, 1) := dk_42 (dk_at dksX4_hold_3 21 rfl rfl)
theorem dX4_hold_93 : decode cX4_hold 93 = .ok (.getfield 74, 3) := dk_180 0 74 (dk_at dksX4_hold_4 0 rfl rfl)
theorem dX4_hold_96 : decode cX4_hold 96 = .ok (.aload_n 0, 1) := dk_42 (dk_at dksX4_hold_4 3 rfl rfl)
theorem dX4_hold_97 : decode cX4_hold 97 = .ok (.getfield 113, 3) := dk_180 0 113 (dk_at dksX4_hold_4 4 rfl rfl)
theorem dX4_hold_100 : decode cX4_hold 100 = .ok (.iconst 0, 1) := dk_3 (dk_at dksX4_hold_4 7 rfl rfl)
theorem dX4_hold_101 : decode cX4_hold 101 = .ok (.bastore, 1) := dk_84 (dk_at dksX4_hold_4 8 rfl rfl)
theorem dX4_hold_102 : decode cX4_hold 102 = .ok (.aload_n 0, 1) := dk_42 (dk_at dksX4_hold_4 9 rfl rfl)
theorem dX4_hold_103 : decode cX4_hold 103 = .ok (.dup, 1) := dk_89 (dk_at dksX4_hold_4 10 rfl rfl)
theorem dX4_hold_104 : decode cX4_hold 104 = .ok (.getfield 113, 3) := dk_180 0 113 (dk_at dksX4_hold_4 11 rfl rfl)
theorem dX4_hold_107 : decode cX4_hold 107 = .ok (.iconst 1, 1) := dk_4 (dk_at dksX4_hold_4 14 rfl rfl)
theorem dX4_hold_108 : decode cX4_hold 108 = .ok (.iadd, 1) := dk_96 (dk_at dksX4_hold_4 15 rfl rfl)
theorem dX4_hold_109 : decode cX4_hold 109 = .ok (.putfield 113, 3) := dk_181 0 113 (dk_at dksX4_hold_4 16 rfl rfl)
theorem dX4_hold_112 : decode cX4_hold 112 = .ok (.aload_n 0, 1) := dk_42 (dk_at dksX4_hold_4 19 rfl rfl)
theorem dX4_hold_113 : decode cX4_hold 113 = .ok (.aload_n 0, 1) := dk_42 (dk_at dksX4_hold_4 20 rfl rfl)
theorem dX4_hold_114 : decode cX4_hold 114 = .ok (.getfield 113, 3) := dk_180 0 113 (dk_at dksX4_hold_4 21 rfl rfl)
theorem dX4_hold_117 : decode cX4_hold 117 = .ok (.iconst 1, 1) := dk_4 (dk_at dksX4_hold_5 0 rfl rfl)
theorem dX4_hold_118 : decode cX4_hold 118 = .ok (.isub, 1) := dk_100 (dk_at dksX4_hold_5 1 rfl rfl)
theorem dX4_hold_119 : decode cX4_hold 119 = .ok (.invokevirtual 161, 3) := dk_182 0 161 (dk_at dksX4_hold_5 2 rfl rfl)
theorem dX4_hold_122 : decode cX4_hold 122 = .ok (.ireturn, 1) := dk_172 (dk_at dksX4_hold_5 5 rfl rfl)
abbrev cX4_release : ByteArray := prog_12_method_42_code
def yX4_release : MethodName := ⟨RX4, "release", "(I)I"⟩
def dkwX4_release_4 : List UInt8 := [182, 0, 137, 154, 0, 6, 132, 2, 1, 132, 3, 1, 167, 255, 225, 42, 28, 182, 0, 161, 172]
abbrev dktX4_release_4 : List UInt8 := dkwX4_release_4 ++ []
def dkwX4_release_3 : List UInt8 := [61, 3, 62, 29, 42, 180, 0, 98, 162, 0, 29, 42, 180, 0, 58, 29, 51, 153, 0, 14, 42, 29]
abbrev dktX4_release_3 : List UInt8 := dkwX4_release_3 ++ dktX4_release_4
def dkwX4_release_2 : List UInt8 := [180, 0, 58, 28, 42, 28, 182, 0, 137, 84, 132, 2, 1, 167, 255, 234, 42, 180, 0, 74, 27, 4, 84, 3]
abbrev dktX4_release_2 : List UInt8 := dkwX4_release_2 ++ dktX4_release_3
def dkwX4_release_1 : List UInt8 := [27, 51, 153, 0, 9, 42, 5, 182, 0, 167, 172, 3, 61, 28, 42, 180, 0, 98, 162, 0, 20, 42]
abbrev dktX4_release_1 : List UInt8 := dkwX4_release_1 ++ dktX4_release_2
def dkwX4_release_0 : List UInt8 := [27, 3, 42, 180, 0, 113, 4, 100, 184, 0, 91, 154, 0, 9, 42, 4, 182, 0, 167, 172, 42, 180, 0, 74]
abbrev dktX4_release_0 : List UInt8 := dkwX4_release_0 ++ dktX4_release_1
theorem dksX4_release_0 : cX4_release.data.toList.drop 0 = dktX4_release_0 := by decide +kernel
theorem dksX4_release_1 : cX4_release.data.toList.drop 24 = dktX4_release_1 := dk_seg dksX4_release_0 24 rfl rfl
theorem dksX4_release_2 : cX4_release.data.toList.drop 46 = dktX4_release_2 := dk_seg dksX4_release_1 22 rfl rfl
theorem dksX4_release_3 : cX4_release.data.toList.drop 70 = dktX4_release_3 := dk_seg dksX4_release_2 24 rfl rfl
theorem dksX4_release_4 : cX4_release.data.toList.drop 92 = dktX4_release_4 := dk_seg dksX4_release_3 22 rfl rfl
theorem dX4_release_0 : decode cX4_release 0 = .ok (.iload_n 1, 1) := dk_27 (dk_at dksX4_release_0 0 rfl rfl)
theorem dX4_release_1 : decode cX4_release 1 = .ok (.iconst 0, 1) := dk_3 (dk_at dksX4_release_0 1 rfl rfl)
theorem dX4_release_2 : decode cX4_release 2 = .ok (.aload_n 0, 1) := dk_42 (dk_at dksX4_release_0 2 rfl rfl)
theorem dX4_release_3 : decode cX4_release 3 = .ok (.getfield 113, 3) := dk_180 0 113 (dk_at dksX4_release_0 3 rfl rfl)
theorem dX4_release_6 : decode cX4_release 6 = .ok (.iconst 1, 1) := dk_4 (dk_at dksX4_release_0 6 rfl rfl)
theorem dX4_release_7 : decode cX4_release 7 = .ok (.isub, 1) := dk_100 (dk_at dksX4_release_0 7 rfl rfl)
theorem dX4_release_8 : decode cX4_release 8 = .ok (.invokestatic 91, 3) := dk_184 0 91 (dk_at dksX4_release_0 8 rfl rfl)
theorem dX4_release_11 : decode cX4_release 11 = .ok (.ifCond .ne 9, 3) := dk_154 0 9 (dk_at dksX4_release_0 11 rfl rfl)
theorem dX4_release_14 : decode cX4_release 14 = .ok (.aload_n 0, 1) := dk_42 (dk_at dksX4_release_0 14 rfl rfl)
theorem dX4_release_15 : decode cX4_release 15 = .ok (.iconst 1, 1) := dk_4 (dk_at dksX4_release_0 15 rfl rfl)
theorem dX4_release_16 : decode cX4_release 16 = .ok (.invokevirtual 167, 3) := dk_182 0 167 (dk_at dksX4_release_0 16 rfl rfl)
theorem dX4_release_19 : decode cX4_release 19 = .ok (.ireturn, 1) := dk_172 (dk_at dksX4_release_0 19 rfl rfl)
theorem dX4_release_20 : decode cX4_release 20 = .ok (.aload_n 0, 1) := dk_42 (dk_at dksX4_release_0 20 rfl rfl)
theorem dX4_release_21 : decode cX4_release 21 = .ok (.getfield 74, 3) := dk_180 0 74 (dk_at dksX4_release_0 21 rfl rfl)
theorem dX4_release_24 : decode cX4_release 24 = .ok (.iload_n 1, 1) := dk_27 (dk_at dksX4_release_1 0 rfl rfl)
theorem dX4_release_25 : decode cX4_release 25 = .ok (.baload, 1) := dk_51 (dk_at dksX4_release_1 1 rfl rfl)
theorem dX4_release_26 : decode cX4_release 26 = .ok (.ifCond .eq 9, 3) := dk_153 0 9 (dk_at dksX4_release_1 2 rfl rfl)
theorem dX4_release_29 : decode cX4_release 29 = .ok (.aload_n 0, 1) := dk_42 (dk_at dksX4_release_1 5 rfl rfl)
theorem dX4_release_30 : decode cX4_release 30 = .ok (.iconst 2, 1) := dk_5 (dk_at dksX4_release_1 6 rfl rfl)
theorem dX4_release_31 : decode cX4_release 31 = .ok (.invokevirtual 167, 3) := dk_182 0 167 (dk_at dksX4_release_1 7 rfl rfl)
theorem dX4_release_34 : decode cX4_release 34 = .ok (.ireturn, 1) := dk_172 (dk_at dksX4_release_1 10 rfl rfl)
theorem dX4_release_35 : decode cX4_release 35 = .ok (.iconst 0, 1) := dk_3 (dk_at dksX4_release_1 11 rfl rfl)
theorem dX4_release_36 : decode cX4_release 36 = .ok (.istore_n 2, 1) := dk_61 (dk_at dksX4_release_1 12 rfl rfl)
theorem dX4_release_37 : decode cX4_release 37 = .ok (.iload_n 2, 1) := dk_28 (dk_at dksX4_release_1 13 rfl rfl)
theorem dX4_release_38 : decode cX4_release 38 = .ok (.aload_n 0, 1) := dk_42 (dk_at dksX4_release_1 14 rfl rfl)
theorem dX4_release_39 : decode cX4_release 39 = .ok (.getfield 98, 3) := dk_180 0 98 (dk_at dksX4_release_1 15 rfl rfl)
theorem dX4_release_42 : decode cX4_release 42 = .ok (.if_icmp .ge 20, 3) := dk_162 0 20 (dk_at dksX4_release_1 18 rfl rfl)
theorem dX4_release_45 : decode cX4_release 45 = .ok (.aload_n 0, 1) := dk_42 (dk_at dksX4_release_1 21 rfl rfl)
theorem dX4_release_46 : decode cX4_release 46 = .ok (.getfield 58, 3) := dk_180 0 58 (dk_at dksX4_release_2 0 rfl rfl)
theorem dX4_release_49 : decode cX4_release 49 = .ok (.iload_n 2, 1) := dk_28 (dk_at dksX4_release_2 3 rfl rfl)
theorem dX4_release_50 : decode cX4_release 50 = .ok (.aload_n 0, 1) := dk_42 (dk_at dksX4_release_2 4 rfl rfl)
theorem dX4_release_51 : decode cX4_release 51 = .ok (.iload_n 2, 1) := dk_28 (dk_at dksX4_release_2 5 rfl rfl)
theorem dX4_release_52 : decode cX4_release 52 = .ok (.invokevirtual 137, 3) := dk_182 0 137 (dk_at dksX4_release_2 6 rfl rfl)
theorem dX4_release_55 : decode cX4_release 55 = .ok (.bastore, 1) := dk_84 (dk_at dksX4_release_2 9 rfl rfl)
theorem dX4_release_56 : decode cX4_release 56 = .ok (.iinc 2 1, 3) := dk_132 2 1 (dk_at dksX4_release_2 10 rfl rfl)
theorem dX4_release_59 : decode cX4_release 59 = .ok (.goto (-22), 3) := dk_167 255 234 (dk_at dksX4_release_2 13 rfl rfl)
theorem dX4_release_62 : decode cX4_release 62 = .ok (.aload_n 0, 1) := dk_42 (dk_at dksX4_release_2 16 rfl rfl)
theorem dX4_release_63 : decode cX4_release 63 = .ok (.getfield 74, 3) := dk_180 0 74 (dk_at dksX4_release_2 17 rfl rfl)
theorem dX4_release_66 : decode cX4_release 66 = .ok (.iload_n 1, 1) := dk_27 (dk_at dksX4_release_2 20 rfl rfl)
theorem dX4_release_67 : decode cX4_release 67 = .ok (.iconst 1, 1) := dk_4 (dk_at dksX4_release_2 21 rfl rfl)
theorem dX4_release_68 : decode cX4_release 68 = .ok (.bastore, 1) := dk_84 (dk_at dksX4_release_2 22 rfl rfl)
theorem dX4_release_69 : decode cX4_release 69 = .ok (.iconst 0, 1) := dk_3 (dk_at dksX4_release_2 23 rfl rfl)
theorem dX4_release_70 : decode cX4_release 70 = .ok (.istore_n 2, 1) := dk_61 (dk_at dksX4_release_3 0 rfl rfl)
theorem dX4_release_71 : decode cX4_release 71 = .ok (.iconst 0, 1) := dk_3 (dk_at dksX4_release_3 1 rfl rfl)
theorem dX4_release_72 : decode cX4_release 72 = .ok (.istore_n 3, 1) := dk_62 (dk_at dksX4_release_3 2 rfl rfl)
theorem dX4_release_73 : decode cX4_release 73 = .ok (.iload_n 3, 1) := dk_29 (dk_at dksX4_release_3 3 rfl rfl)
theorem dX4_release_74 : decode cX4_release 74 = .ok (.aload_n 0, 1) := dk_42 (dk_at dksX4_release_3 4 rfl rfl)
theorem dX4_release_75 : decode cX4_release 75 = .ok (.getfield 98, 3) := dk_180 0 98 (dk_at dksX4_release_3 5 rfl rfl)
theorem dX4_release_78 : decode cX4_release 78 = .ok (.if_icmp .ge 29, 3) := dk_162 0 29 (dk_at dksX4_release_3 8 rfl rfl)
theorem dX4_release_81 : decode cX4_release 81 = .ok (.aload_n 0, 1) := dk_42 (dk_at dksX4_release_3 11 rfl rfl)
theorem dX4_release_82 : decode cX4_release 82 = .ok (.getfield 58, 3) := dk_180 0 58 (dk_at dksX4_release_3 12 rfl rfl)
theorem dX4_release_85 : decode cX4_release 85 = .ok (.iload_n 3, 1) := dk_29 (dk_at dksX4_release_3 15 rfl rfl)
theorem dX4_release_86 : decode cX4_release 86 = .ok (.baload, 1) := dk_51 (dk_at dksX4_release_3 16 rfl rfl)
theorem dX4_release_87 : decode cX4_release 87 = .ok (.ifCond .eq 14, 3) := dk_153 0 14 (dk_at dksX4_release_3 17 rfl rfl)
theorem dX4_release_90 : decode cX4_release 90 = .ok (.aload_n 0, 1) := dk_42 (dk_at dksX4_release_3 20 rfl rfl)
theorem dX4_release_91 : decode cX4_release 91 = .ok (.iload_n 3, 1) := dk_29 (dk_at dksX4_release_3 21 rfl rfl)
theorem dX4_release_92 : decode cX4_release 92 = .ok (.invokevirtual 137, 3) := dk_182 0 137 (dk_at dksX4_release_4 0 rfl rfl)
theorem dX4_release_95 : decode cX4_release 95 = .ok (.ifCond .ne 6, 3) := dk_154 0 6 (dk_at dksX4_release_4 3 rfl rfl)
theorem dX4_release_98 : decode cX4_release 98 = .ok (.iinc 2 1, 3) := dk_132 2 1 (dk_at dksX4_release_4 6 rfl rfl)
theorem dX4_release_101 : decode cX4_release 101 = .ok (.iinc 3 1, 3) := dk_132 3 1 (dk_at dksX4_release_4 9 rfl rfl)
theorem dX4_release_104 : decode cX4_release 104 = .ok (.goto (-31), 3) := dk_167 255 225 (dk_at dksX4_release_4 12 rfl rfl)
theorem dX4_release_107 : decode cX4_release 107 = .ok (.aload_n 0, 1) := dk_42 (dk_at dksX4_release_4 15 rfl rfl)
theorem dX4_release_108 : decode cX4_release 108 = .ok (.iload_n 2, 1) := dk_28 (dk_at dksX4_release_4 16 rfl rfl)
theorem dX4_release_109 : decode cX4_release 109 = .ok (.invokevirtual 161, 3) := dk_182 0 161 (dk_at dksX4_release_4 17 rfl rfl)
theorem dX4_release_112 : decode cX4_release 112 = .ok (.ireturn, 1) := dk_172 (dk_at dksX4_release_4 20 rfl rfl)
abbrev cX4_holds : ByteArray := prog_12_method_43_code
def yX4_holds : MethodName := ⟨RX4, "holds", "(I)I"⟩
def dkwX4_holds_2 : List UInt8 := [42, 28, 182, 0, 161, 172]
abbrev dktX4_holds_2 : List UInt8 := dkwX4_holds_2 ++ []
def dkwX4_holds_1 : List UInt8 := [162, 0, 24, 42, 29, 27, 182, 0, 130, 153, 0, 9, 28, 4, 29, 120, 128, 61, 132, 3, 1, 167, 255, 230]
abbrev dktX4_holds_1 : List UInt8 := dkwX4_holds_1 ++ dktX4_holds_2
def dkwX4_holds_0 : List UInt8 := [42, 27, 182, 0, 173, 154, 0, 9, 42, 4, 182, 0, 167, 172, 3, 61, 3, 62, 29, 42, 180, 0, 113]
abbrev dktX4_holds_0 : List UInt8 := dkwX4_holds_0 ++ dktX4_holds_1
theorem dksX4_holds_0 : cX4_holds.data.toList.drop 0 = dktX4_holds_0 := by decide +kernel
theorem dksX4_holds_1 : cX4_holds.data.toList.drop 23 = dktX4_holds_1 := dk_seg dksX4_holds_0 23 rfl rfl
theorem dksX4_holds_2 : cX4_holds.data.toList.drop 47 = dktX4_holds_2 := dk_seg dksX4_holds_1 24 rfl rfl
theorem dX4_holds_0 : decode cX4_holds 0 = .ok (.aload_n 0, 1) := dk_42 (dk_at dksX4_holds_0 0 rfl rfl)
theorem dX4_holds_1 : decode cX4_holds 1 = .ok (.iload_n 1, 1) := dk_27 (dk_at dksX4_holds_0 1 rfl rfl)
theorem dX4_holds_2 : decode cX4_holds 2 = .ok (.invokevirtual 173, 3) := dk_182 0 173 (dk_at dksX4_holds_0 2 rfl rfl)
theorem dX4_holds_5 : decode cX4_holds 5 = .ok (.ifCond .ne 9, 3) := dk_154 0 9 (dk_at dksX4_holds_0 5 rfl rfl)
theorem dX4_holds_8 : decode cX4_holds 8 = .ok (.aload_n 0, 1) := dk_42 (dk_at dksX4_holds_0 8 rfl rfl)
theorem dX4_holds_9 : decode cX4_holds 9 = .ok (.iconst 1, 1) := dk_4 (dk_at dksX4_holds_0 9 rfl rfl)
theorem dX4_holds_10 : decode cX4_holds 10 = .ok (.invokevirtual 167, 3) := dk_182 0 167 (dk_at dksX4_holds_0 10 rfl rfl)
theorem dX4_holds_13 : decode cX4_holds 13 = .ok (.ireturn, 1) := dk_172 (dk_at dksX4_holds_0 13 rfl rfl)
theorem dX4_holds_14 : decode cX4_holds 14 = .ok (.iconst 0, 1) := dk_3 (dk_at dksX4_holds_0 14 rfl rfl)
theorem dX4_holds_15 : decode cX4_holds 15 = .ok (.istore_n 2, 1) := dk_61 (dk_at dksX4_holds_0 15 rfl rfl)
theorem dX4_holds_16 : decode cX4_holds 16 = .ok (.iconst 0, 1) := dk_3 (dk_at dksX4_holds_0 16 rfl rfl)
theorem dX4_holds_17 : decode cX4_holds 17 = .ok (.istore_n 3, 1) := dk_62 (dk_at dksX4_holds_0 17 rfl rfl)
theorem dX4_holds_18 : decode cX4_holds 18 = .ok (.iload_n 3, 1) := dk_29 (dk_at dksX4_holds_0 18 rfl rfl)
theorem dX4_holds_19 : decode cX4_holds 19 = .ok (.aload_n 0, 1) := dk_42 (dk_at dksX4_holds_0 19 rfl rfl)
theorem dX4_holds_20 : decode cX4_holds 20 = .ok (.getfield 113, 3) := dk_180 0 113 (dk_at dksX4_holds_0 20 rfl rfl)
theorem dX4_holds_23 : decode cX4_holds 23 = .ok (.if_icmp .ge 24, 3) := dk_162 0 24 (dk_at dksX4_holds_1 0 rfl rfl)
theorem dX4_holds_26 : decode cX4_holds 26 = .ok (.aload_n 0, 1) := dk_42 (dk_at dksX4_holds_1 3 rfl rfl)
theorem dX4_holds_27 : decode cX4_holds 27 = .ok (.iload_n 3, 1) := dk_29 (dk_at dksX4_holds_1 4 rfl rfl)
theorem dX4_holds_28 : decode cX4_holds 28 = .ok (.iload_n 1, 1) := dk_27 (dk_at dksX4_holds_1 5 rfl rfl)
theorem dX4_holds_29 : decode cX4_holds 29 = .ok (.invokevirtual 130, 3) := dk_182 0 130 (dk_at dksX4_holds_1 6 rfl rfl)
theorem dX4_holds_32 : decode cX4_holds 32 = .ok (.ifCond .eq 9, 3) := dk_153 0 9 (dk_at dksX4_holds_1 9 rfl rfl)
theorem dX4_holds_35 : decode cX4_holds 35 = .ok (.iload_n 2, 1) := dk_28 (dk_at dksX4_holds_1 12 rfl rfl)
theorem dX4_holds_36 : decode cX4_holds 36 = .ok (.iconst 1, 1) := dk_4 (dk_at dksX4_holds_1 13 rfl rfl)
theorem dX4_holds_37 : decode cX4_holds 37 = .ok (.iload_n 3, 1) := dk_29 (dk_at dksX4_holds_1 14 rfl rfl)
theorem dX4_holds_38 : decode cX4_holds 38 = .ok (.ishl, 1) := dk_120 (dk_at dksX4_holds_1 15 rfl rfl)
theorem dX4_holds_39 : decode cX4_holds 39 = .ok (.ior, 1) := dk_128 (dk_at dksX4_holds_1 16 rfl rfl)
theorem dX4_holds_40 : decode cX4_holds 40 = .ok (.istore_n 2, 1) := dk_61 (dk_at dksX4_holds_1 17 rfl rfl)
theorem dX4_holds_41 : decode cX4_holds 41 = .ok (.iinc 3 1, 3) := dk_132 3 1 (dk_at dksX4_holds_1 18 rfl rfl)
theorem dX4_holds_44 : decode cX4_holds 44 = .ok (.goto (-26), 3) := dk_167 255 230 (dk_at dksX4_holds_1 21 rfl rfl)
theorem dX4_holds_47 : decode cX4_holds 47 = .ok (.aload_n 0, 1) := dk_42 (dk_at dksX4_holds_2 0 rfl rfl)
theorem dX4_holds_48 : decode cX4_holds 48 = .ok (.iload_n 2, 1) := dk_28 (dk_at dksX4_holds_2 1 rfl rfl)
theorem dX4_holds_49 : decode cX4_holds 49 = .ok (.invokevirtual 161, 3) := dk_182 0 161 (dk_at dksX4_holds_2 2 rfl rfl)
theorem dX4_holds_52 : decode cX4_holds 52 = .ok (.ireturn, 1) := dk_172 (dk_at dksX4_holds_2 5 rfl rfl)
abbrev cX4_today : ByteArray := prog_12_method_44_code
def yX4_today : MethodName := ⟨RX4, "today", "()I"⟩
def dkwX4_today_0 : List UInt8 := [42, 42, 180, 0, 101, 182, 0, 161, 172]
abbrev dktX4_today_0 : List UInt8 := dkwX4_today_0 ++ []
theorem dksX4_today_0 : cX4_today.data.toList.drop 0 = dktX4_today_0 := by decide +kernel
theorem dX4_today_0 : decode cX4_today 0 = .ok (.aload_n 0, 1) := dk_42 (dk_at dksX4_today_0 0 rfl rfl)
theorem dX4_today_1 : decode cX4_today 1 = .ok (.aload_n 0, 1) := dk_42 (dk_at dksX4_today_0 1 rfl rfl)
theorem dX4_today_2 : decode cX4_today 2 = .ok (.getfield 101, 3) := dk_180 0 101 (dk_at dksX4_today_0 2 rfl rfl)
theorem dX4_today_5 : decode cX4_today 5 = .ok (.invokevirtual 161, 3) := dk_182 0 161 (dk_at dksX4_today_0 5 rfl rfl)
theorem dX4_today_8 : decode cX4_today 8 = .ok (.ireturn, 1) := dk_172 (dk_at dksX4_today_0 8 rfl rfl)
abbrev cX4_state : ByteArray := prog_12_method_45_code
def yX4_state : MethodName := ⟨RX4, "state", "(I)I"⟩
def dkwX4_state_1 : List UInt8 := [172]
abbrev dktX4_state_1 : List UInt8 := dkwX4_state_1 ++ []
def dkwX4_state_0 : List UInt8 := [42, 27, 182, 0, 173, 154, 0, 9, 42, 4, 182, 0, 167, 172, 42, 42, 180, 0, 49, 27, 46, 182, 0, 161]
abbrev dktX4_state_0 : List UInt8 := dkwX4_state_0 ++ dktX4_state_1
theorem dksX4_state_0 : cX4_state.data.toList.drop 0 = dktX4_state_0 := by decide +kernel
theorem dksX4_state_1 : cX4_state.data.toList.drop 24 = dktX4_state_1 := dk_seg dksX4_state_0 24 rfl rfl
theorem dX4_state_0 : decode cX4_state 0 = .ok (.aload_n 0, 1) := dk_42 (dk_at dksX4_state_0 0 rfl rfl)
theorem dX4_state_1 : decode cX4_state 1 = .ok (.iload_n 1, 1) := dk_27 (dk_at dksX4_state_0 1 rfl rfl)
theorem dX4_state_2 : decode cX4_state 2 = .ok (.invokevirtual 173, 3) := dk_182 0 173 (dk_at dksX4_state_0 2 rfl rfl)
theorem dX4_state_5 : decode cX4_state 5 = .ok (.ifCond .ne 9, 3) := dk_154 0 9 (dk_at dksX4_state_0 5 rfl rfl)
theorem dX4_state_8 : decode cX4_state 8 = .ok (.aload_n 0, 1) := dk_42 (dk_at dksX4_state_0 8 rfl rfl)
theorem dX4_state_9 : decode cX4_state 9 = .ok (.iconst 1, 1) := dk_4 (dk_at dksX4_state_0 9 rfl rfl)
theorem dX4_state_10 : decode cX4_state 10 = .ok (.invokevirtual 167, 3) := dk_182 0 167 (dk_at dksX4_state_0 10 rfl rfl)
theorem dX4_state_13 : decode cX4_state 13 = .ok (.ireturn, 1) := dk_172 (dk_at dksX4_state_0 13 rfl rfl)
theorem dX4_state_14 : decode cX4_state 14 = .ok (.aload_n 0, 1) := dk_42 (dk_at dksX4_state_0 14 rfl rfl)
theorem dX4_state_15 : decode cX4_state 15 = .ok (.aload_n 0, 1) := dk_42 (dk_at dksX4_state_0 15 rfl rfl)
theorem dX4_state_16 : decode cX4_state 16 = .ok (.getfield 49, 3) := dk_180 0 49 (dk_at dksX4_state_0 16 rfl rfl)
theorem dX4_state_19 : decode cX4_state 19 = .ok (.iload_n 1, 1) := dk_27 (dk_at dksX4_state_0 19 rfl rfl)
theorem dX4_state_20 : decode cX4_state 20 = .ok (.iaload, 1) := dk_46 (dk_at dksX4_state_0 20 rfl rfl)
theorem dX4_state_21 : decode cX4_state 21 = .ok (.invokevirtual 161, 3) := dk_182 0 161 (dk_at dksX4_state_0 21 rfl rfl)
theorem dX4_state_24 : decode cX4_state 24 = .ok (.ireturn, 1) := dk_172 (dk_at dksX4_state_1 0 rfl rfl)
abbrev cX4_count : ByteArray := prog_12_method_46_code
def yX4_count : MethodName := ⟨RX4, "count", "(IZ)I"⟩
def dkwX4_count_3 : List UInt8 := [172]
abbrev dktX4_count_3 : List UInt8 := dkwX4_count_3 ++ []
def dkwX4_count_2 : List UInt8 := [180, 0, 49, 21, 4, 46, 27, 160, 0, 6, 132, 3, 1, 132, 4, 1, 167, 255, 230, 42, 29, 182, 0, 161]
abbrev dktX4_count_2 : List UInt8 := dkwX4_count_2 ++ dktX4_count_3
def dkwX4_count_1 : List UInt8 := [182, 0, 145, 182, 0, 161, 172, 3, 62, 3, 54, 4, 21, 4, 42, 180, 0, 98, 162, 0, 23, 42]
abbrev dktX4_count_1 : List UInt8 := dkwX4_count_1 ++ dktX4_count_2
def dkwX4_count_0 : List UInt8 := [27, 3, 6, 184, 0, 91, 154, 0, 9, 42, 4, 182, 0, 167, 172, 28, 153, 0, 13, 42, 42, 27]
abbrev dktX4_count_0 : List UInt8 := dkwX4_count_0 ++ dktX4_count_1
theorem dksX4_count_0 : cX4_count.data.toList.drop 0 = dktX4_count_0 := by decide +kernel
theorem dksX4_count_1 : cX4_count.data.toList.drop 22 = dktX4_count_1 := dk_seg dksX4_count_0 22 rfl rfl
theorem dksX4_count_2 : cX4_count.data.toList.drop 44 = dktX4_count_2 := dk_seg dksX4_count_1 22 rfl rfl
theorem dksX4_count_3 : cX4_count.data.toList.drop 68 = dktX4_count_3 := dk_seg dksX4_count_2 24 rfl rfl
theorem dX4_count_0 : decode cX4_count 0 = .ok (.iload_n 1, 1) := dk_27 (dk_at dksX4_count_0 0 rfl rfl)
theorem dX4_count_1 : decode cX4_count 1 = .ok (.iconst 0, 1) := dk_3 (dk_at dksX4_count_0 1 rfl rfl)
theorem dX4_count_2 : decode cX4_count 2 = .ok (.iconst 3, 1) := dk_6 (dk_at dksX4_count_0 2 rfl rfl)
theorem dX4_count_3 : decode cX4_count 3 = .ok (.invokestatic 91, 3) := dk_184 0 91 (dk_at dksX4_count_0 3 rfl rfl)
theorem dX4_count_6 : decode cX4_count 6 = .ok (.ifCond .ne 9, 3) := dk_154 0 9 (dk_at dksX4_count_0 6 rfl rfl)
theorem dX4_count_9 : decode cX4_count 9 = .ok (.aload_n 0, 1) := dk_42 (dk_at dksX4_count_0 9 rfl rfl)
theorem dX4_count_10 : decode cX4_count 10 = .ok (.iconst 1, 1) := dk_4 (dk_at dksX4_count_0 10 rfl rfl)
theorem dX4_count_11 : decode cX4_count 11 = .ok (.invokevirtual 167, 3) := dk_182 0 167 (dk_at dksX4_count_0 11 rfl rfl)
theorem dX4_count_14 : decode cX4_count 14 = .ok (.ireturn, 1) := dk_172 (dk_at dksX4_count_0 14 rfl rfl)
theorem dX4_count_15 : decode cX4_count 15 = .ok (.iload_n 2, 1) := dk_28 (dk_at dksX4_count_0 15 rfl rfl)
theorem dX4_count_16 : decode cX4_count 16 = .ok (.ifCond .eq 13, 3) := dk_153 0 13 (dk_at dksX4_count_0 16 rfl rfl)
theorem dX4_count_19 : decode cX4_count 19 = .ok (.aload_n 0, 1) := dk_42 (dk_at dksX4_count_0 19 rfl rfl)
theorem dX4_count_20 : decode cX4_count 20 = .ok (.aload_n 0, 1) := dk_42 (dk_at dksX4_count_0 20 rfl rfl)
theorem dX4_count_21 : decode cX4_count 21 = .ok (.iload_n 1, 1) := dk_27 (dk_at dksX4_count_0 21 rfl rfl)
theorem dX4_count_22 : decode cX4_count 22 = .ok (.invokevirtual 145, 3) := dk_182 0 145 (dk_at dksX4_count_1 0 rfl rfl)
theorem dX4_count_25 : decode cX4_count 25 = .ok (.invokevirtual 161, 3) := dk_182 0 161 (dk_at dksX4_count_1 3 rfl rfl)
theorem dX4_count_28 : decode cX4_count 28 = .ok (.ireturn, 1) := dk_172 (dk_at dksX4_count_1 6 rfl rfl)
theorem dX4_count_29 : decode cX4_count 29 = .ok (.iconst 0, 1) := dk_3 (dk_at dksX4_count_1 7 rfl rfl)
theorem dX4_count_30 : decode cX4_count 30 = .ok (.istore_n 3, 1) := dk_62 (dk_at dksX4_count_1 8 rfl rfl)
theorem dX4_count_31 : decode cX4_count 31 = .ok (.iconst 0, 1) := dk_3 (dk_at dksX4_count_1 9 rfl rfl)
theorem dX4_count_32 : decode cX4_count 32 = .ok (.istore 4, 2) := dk_54 4 (dk_at dksX4_count_1 10 rfl rfl)
theorem dX4_count_34 : decode cX4_count 34 = .ok (.iload 4, 2) := dk_21 4 (dk_at dksX4_count_1 12 rfl rfl)
theorem dX4_count_36 : decode cX4_count 36 = .ok (.aload_n 0, 1) := dk_42 (dk_at dksX4_count_1 14 rfl rfl)
theorem dX4_count_37 : decode cX4_count 37 = .ok (.getfield 98, 3) := dk_180 0 98 (dk_at dksX4_count_1 15 rfl rfl)
theorem dX4_count_40 : decode cX4_count 40 = .ok (.if_icmp .ge 23, 3) := dk_162 0 23 (dk_at dksX4_count_1 18 rfl rfl)
theorem dX4_count_43 : decode cX4_count 43 = .ok (.aload_n 0, 1) := dk_42 (dk_at dksX4_count_1 21 rfl rfl)
theorem dX4_count_44 : decode cX4_count 44 = .ok (.getfield 49, 3) := dk_180 0 49 (dk_at dksX4_count_2 0 rfl rfl)
theorem dX4_count_47 : decode cX4_count 47 = .ok (.iload 4, 2) := dk_21 4 (dk_at dksX4_count_2 3 rfl rfl)
theorem dX4_count_49 : decode cX4_count 49 = .ok (.iaload, 1) := dk_46 (dk_at dksX4_count_2 5 rfl rfl)
theorem dX4_count_50 : decode cX4_count 50 = .ok (.iload_n 1, 1) := dk_27 (dk_at dksX4_count_2 6 rfl rfl)
theorem dX4_count_51 : decode cX4_count 51 = .ok (.if_icmp .ne 6, 3) := dk_160 0 6 (dk_at dksX4_count_2 7 rfl rfl)
theorem dX4_count_54 : decode cX4_count 54 = .ok (.iinc 3 1, 3) := dk_132 3 1 (dk_at dksX4_count_2 10 rfl rfl)
theorem dX4_count_57 : decode cX4_count 57 = .ok (.iinc 4 1, 3) := dk_132 4 1 (dk_at dksX4_count_2 13 rfl rfl)
theorem dX4_count_60 : decode cX4_count 60 = .ok (.goto (-26), 3) := dk_167 255 230 (dk_at dksX4_count_2 16 rfl rfl)
theorem dX4_count_63 : decode cX4_count 63 = .ok (.aload_n 0, 1) := dk_42 (dk_at dksX4_count_2 19 rfl rfl)
theorem dX4_count_64 : decode cX4_count 64 = .ok (.iload_n 3, 1) := dk_29 (dk_at dksX4_count_2 20 rfl rfl)
theorem dX4_count_65 : decode cX4_count 65 = .ok (.invokevirtual 161, 3) := dk_182 0 161 (dk_at dksX4_count_2 21 rfl rfl)
theorem dX4_count_68 : decode cX4_count 68 = .ok (.ireturn, 1) := dk_172 (dk_at dksX4_count_3 0 rfl rfl)
abbrev cX4_tagOf : ByteArray := prog_12_method_47_code
def yX4_tagOf : MethodName := ⟨RX4, "tagOf", "(I)I"⟩
def dkwX4_tagOf_0 : List UInt8 := [42, 27, 182, 0, 173, 154, 0, 9, 42, 4, 182, 0, 167, 172, 42, 42, 27, 182, 0, 120, 182, 0, 161, 172]
abbrev dktX4_tagOf_0 : List UInt8 := dkwX4_tagOf_0 ++ []
theorem dksX4_tagOf_0 : cX4_tagOf.data.toList.drop 0 = dktX4_tagOf_0 := by decide +kernel
theorem dX4_tagOf_0 : decode cX4_tagOf 0 = .ok (.aload_n 0, 1) := dk_42 (dk_at dksX4_tagOf_0 0 rfl rfl)
theorem dX4_tagOf_1 : decode cX4_tagOf 1 = .ok (.iload_n 1, 1) := dk_27 (dk_at dksX4_tagOf_0 1 rfl rfl)
theorem dX4_tagOf_2 : decode cX4_tagOf 2 = .ok (.invokevirtual 173, 3) := dk_182 0 173 (dk_at dksX4_tagOf_0 2 rfl rfl)
theorem dX4_tagOf_5 : decode cX4_tagOf 5 = .ok (.ifCond .ne 9, 3) := dk_154 0 9 (dk_at dksX4_tagOf_0 5 rfl rfl)
theorem dX4_tagOf_8 : decode cX4_tagOf 8 = .ok (.aload_n 0, 1) := dk_42 (dk_at dksX4_tagOf_0 8 rfl rfl)
theorem dX4_tagOf_9 : decode cX4_tagOf 9 = .ok (.iconst 1, 1) := dk_4 (dk_at dksX4_tagOf_0 9 rfl rfl)
theorem dX4_tagOf_10 : decode cX4_tagOf 10 = .ok (.invokevirtual 167, 3) := dk_182 0 167 (dk_at dksX4_tagOf_0 10 rfl rfl)
theorem dX4_tagOf_13 : decode cX4_tagOf 13 = .ok (.ireturn, 1) := dk_172 (dk_at dksX4_tagOf_0 13 rfl rfl)
theorem dX4_tagOf_14 : decode cX4_tagOf 14 = .ok (.aload_n 0, 1) := dk_42 (dk_at dksX4_tagOf_0 14 rfl rfl)
theorem dX4_tagOf_15 : decode cX4_tagOf 15 = .ok (.aload_n 0, 1) := dk_42 (dk_at dksX4_tagOf_0 15 rfl rfl)
theorem dX4_tagOf_16 : decode cX4_tagOf 16 = .ok (.iload_n 1, 1) := dk_27 (dk_at dksX4_tagOf_0 16 rfl rfl)
theorem dX4_tagOf_17 : decode cX4_tagOf 17 = .ok (.invokevirtual 120, 3) := dk_182 0 120 (dk_at dksX4_tagOf_0 17 rfl rfl)
theorem dX4_tagOf_20 : decode cX4_tagOf 20 = .ok (.invokevirtual 161, 3) := dk_182 0 161 (dk_at dksX4_tagOf_0 20 rfl rfl)
theorem dX4_tagOf_23 : decode cX4_tagOf 23 = .ok (.ireturn, 1) := dk_172 (dk_at dksX4_tagOf_0 23 rfl rfl)
abbrev cX4_ruleOf : ByteArray := prog_12_method_48_code
def yX4_ruleOf : MethodName := ⟨RX4, "ruleOf", "(I)I"⟩
def dkwX4_ruleOf_2 : List UInt8 := [182, 0, 161, 172, 42, 180, 0, 110, 2, 159, 0, 9, 42, 5, 182, 0, 161, 172, 42, 2, 182, 0, 161, 172]
abbrev dktX4_ruleOf_2 : List UInt8 := dkwX4_ruleOf_2 ++ []
def dkwX4_ruleOf_1 : List UInt8 := [42, 4, 182, 0, 161, 172, 42, 27, 182, 0, 116, 61, 28, 2, 159, 0, 12, 42, 16, 10, 28, 96]
abbrev dktX4_ruleOf_1 : List UInt8 := dkwX4_ruleOf_1 ++ dktX4_ruleOf_2
def dkwX4_ruleOf_0 : List UInt8 := [42, 27, 182, 0, 173, 154, 0, 9, 42, 4, 182, 0, 167, 172, 42, 180, 0, 43, 27, 46, 2, 159, 0, 9]
abbrev dktX4_ruleOf_0 : List UInt8 := dkwX4_ruleOf_0 ++ dktX4_ruleOf_1
theorem dksX4_ruleOf_0 : cX4_ruleOf.data.toList.drop 0 = dktX4_ruleOf_0 := by decide +kernel
theorem dksX4_ruleOf_1 : cX4_ruleOf.data.toList.drop 24 = dktX4_ruleOf_1 := dk_seg dksX4_ruleOf_0 24 rfl rfl
theorem dksX4_ruleOf_2 : cX4_ruleOf.data.toList.drop 46 = dktX4_ruleOf_2 := dk_seg dksX4_ruleOf_1 22 rfl rfl
theorem dX4_ruleOf_0 : decode cX4_ruleOf 0 = .ok (.aload_n 0, 1) := dk_42 (dk_at dksX4_ruleOf_0 0 rfl rfl)
theorem dX4_ruleOf_1 : decode cX4_ruleOf 1 = .ok (.iload_n 1, 1) := dk_27 (dk_at dksX4_ruleOf_0 1 rfl rfl)
theorem dX4_ruleOf_2 : decode cX4_ruleOf 2 = .ok (.invokevirtual 173, 3) := dk_182 0 173 (dk_at dksX4_ruleOf_0 2 rfl rfl)
theorem dX4_ruleOf_5 : decode cX4_ruleOf 5 = .ok (.ifCond .ne 9, 3) := dk_154 0 9 (dk_at dksX4_ruleOf_0 5 rfl rfl)
theorem dX4_ruleOf_8 : decode cX4_ruleOf 8 = .ok (.aload_n 0, 1) := dk_42 (dk_at dksX4_ruleOf_0 8 rfl rfl)
theorem dX4_ruleOf_9 : decode cX4_ruleOf 9 = .ok (.iconst 1, 1) := dk_4 (dk_at dksX4_ruleOf_0 9 rfl rfl)
theorem dX4_ruleOf_10 : decode cX4_ruleOf 10 = .ok (.invokevirtual 167, 3) := dk_182 0 167 (dk_at dksX4_ruleOf_0 10 rfl rfl)
theorem dX4_ruleOf_13 : decode cX4_ruleOf 13 = .ok (.ireturn, 1) := dk_172 (dk_at dksX4_ruleOf_0 13 rfl rfl)
theorem dX4_ruleOf_14 : decode cX4_ruleOf 14 = .ok (.aload_n 0, 1) := dk_42 (dk_at dksX4_ruleOf_0 14 rfl rfl)
theorem dX4_ruleOf_15 : decode cX4_ruleOf 15 = .ok (.getfield 43, 3) := dk_180 0 43 (dk_at dksX4_ruleOf_0 15 rfl rfl)
theorem dX4_ruleOf_18 : decode cX4_ruleOf 18 = .ok (.iload_n 1, 1) := dk_27 (dk_at dksX4_ruleOf_0 18 rfl rfl)
theorem dX4_ruleOf_19 : decode cX4_ruleOf 19 = .ok (.iaload, 1) := dk_46 (dk_at dksX4_ruleOf_0 19 rfl rfl)
theorem dX4_ruleOf_20 : decode cX4_ruleOf 20 = .ok (.iconst (-1), 1) := dk_2 (dk_at dksX4_ruleOf_0 20 rfl rfl)
theorem dX4_ruleOf_21 : decode cX4_ruleOf 21 = .ok (.if_icmp .eq 9, 3) := dk_159 0 9 (dk_at dksX4_ruleOf_0 21 rfl rfl)
theorem dX4_ruleOf_24 : decode cX4_ruleOf 24 = .ok (.aload_n 0, 1) := dk_42 (dk_at dksX4_ruleOf_1 0 rfl rfl)
theorem dX4_ruleOf_25 : decode cX4_ruleOf 25 = .ok (.iconst 1, 1) := dk_4 (dk_at dksX4_ruleOf_1 1 rfl rfl)
theorem dX4_ruleOf_26 : decode cX4_ruleOf 26 = .ok (.invokevirtual 161, 3) := dk_182 0 161 (dk_at dksX4_ruleOf_1 2 rfl rfl)
theorem dX4_ruleOf_29 : decode cX4_ruleOf 29 = .ok (.ireturn, 1) := dk_172 (dk_at dksX4_ruleOf_1 5 rfl rfl)
theorem dX4_ruleOf_30 : decode cX4_ruleOf 30 = .ok (.aload_n 0, 1) := dk_42 (dk_at dksX4_ruleOf_1 6 rfl rfl)
theorem dX4_ruleOf_31 : decode cX4_ruleOf 31 = .ok (.iload_n 1, 1) := dk_27 (dk_at dksX4_ruleOf_1 7 rfl rfl)
theorem dX4_ruleOf_32 : decode cX4_ruleOf 32 = .ok (.invokevirtual 116, 3) := dk_182 0 116 (dk_at dksX4_ruleOf_1 8 rfl rfl)
theorem dX4_ruleOf_35 : decode cX4_ruleOf 35 = .ok (.istore_n 2, 1) := dk_61 (dk_at dksX4_ruleOf_1 11 rfl rfl)
theorem dX4_ruleOf_36 : decode cX4_ruleOf 36 = .ok (.iload_n 2, 1) := dk_28 (dk_at dksX4_ruleOf_1 12 rfl rfl)
theorem dX4_ruleOf_37 : decode cX4_ruleOf 37 = .ok (.iconst (-1), 1) := dk_2 (dk_at dksX4_ruleOf_1 13 rfl rfl)
theorem dX4_ruleOf_38 : decode cX4_ruleOf 38 = .ok (.if_icmp .eq 12, 3) := dk_159 0 12 (dk_at dksX4_ruleOf_1 14 rfl rfl)
theorem dX4_ruleOf_41 : decode cX4_ruleOf 41 = .ok (.aload_n 0, 1) := dk_42 (dk_at dksX4_ruleOf_1 17 rfl rfl)
theorem dX4_ruleOf_42 : decode cX4_ruleOf 42 = .ok (.bipush 10, 2) := dk_16 10 (dk_at dksX4_ruleOf_1 18 rfl rfl)
theorem dX4_ruleOf_44 : decode cX4_ruleOf 44 = .ok (.iload_n 2, 1) := dk_28 (dk_at dksX4_ruleOf_1 20 rfl rfl)
theorem dX4_ruleOf_45 : decode cX4_ruleOf 45 = .ok (.iadd, 1) := dk_96 (dk_at dksX4_ruleOf_1 21 rfl rfl)
theorem dX4_ruleOf_46 : decode cX4_ruleOf 46 = .ok (.invokevirtual 161, 3) := dk_182 0 161 (dk_at dksX4_ruleOf_2 0 rfl rfl)
theorem dX4_ruleOf_49 : decode cX4_ruleOf 49 = .ok (.ireturn, 1) := dk_172 (dk_at dksX4_ruleOf_2 3 rfl rfl)
theorem dX4_ruleOf_50 : decode cX4_ruleOf 50 = .ok (.aload_n 0, 1) := dk_42 (dk_at dksX4_ruleOf_2 4 rfl rfl)
theorem dX4_ruleOf_51 : decode cX4_ruleOf 51 = .ok (.getfield 110, 3) := dk_180 0 110 (dk_at dksX4_ruleOf_2 5 rfl rfl)
theorem dX4_ruleOf_54 : decode cX4_ruleOf 54 = .ok (.iconst (-1), 1) := dk_2 (dk_at dksX4_ruleOf_2 8 rfl rfl)
theorem dX4_ruleOf_55 : decode cX4_ruleOf 55 = .ok (.if_icmp .eq 9, 3) := dk_159 0 9 (dk_at dksX4_ruleOf_2 9 rfl rfl)
theorem dX4_ruleOf_58 : decode cX4_ruleOf 58 = .ok (.aload_n 0, 1) := dk_42 (dk_at dksX4_ruleOf_2 12 rfl rfl)
theorem dX4_ruleOf_59 : decode cX4_ruleOf 59 = .ok (.iconst 2, 1) := dk_5 (dk_at dksX4_ruleOf_2 13 rfl rfl)
theorem dX4_ruleOf_60 : decode cX4_ruleOf 60 = .ok (.invokevirtual 161, 3) := dk_182 0 161 (dk_at dksX4_ruleOf_2 14 rfl rfl)
theorem dX4_ruleOf_63 : decode cX4_ruleOf 63 = .ok (.ireturn, 1) := dk_172 (dk_at dksX4_ruleOf_2 17 rfl rfl)
theorem dX4_ruleOf_64 : decode cX4_ruleOf 64 = .ok (.aload_n 0, 1) := dk_42 (dk_at dksX4_ruleOf_2 18 rfl rfl)
theorem dX4_ruleOf_65 : decode cX4_ruleOf 65 = .ok (.iconst (-1), 1) := dk_2 (dk_at dksX4_ruleOf_2 19 rfl rfl)
theorem dX4_ruleOf_66 : decode cX4_ruleOf 66 = .ok (.invokevirtual 161, 3) := dk_182 0 161 (dk_at dksX4_ruleOf_2 20 rfl rfl)
theorem dX4_ruleOf_69 : decode cX4_ruleOf 69 = .ok (.ireturn, 1) := dk_172 (dk_at dksX4_ruleOf_2 23 rfl rfl)
abbrev cX4_due : ByteArray := prog_12_method_49_code
def yX4_due : MethodName := ⟨RX4, "due", "(I)I"⟩
def dkwX4_due_0 : List UInt8 := [42, 27, 182, 0, 173, 154, 0, 9, 42, 4, 182, 0, 167, 172, 42, 42, 27, 182, 0, 127, 182, 0, 161, 172]
abbrev dktX4_due_0 : List UInt8 := dkwX4_due_0 ++ []
theorem dksX4_due_0 : cX4_due.data.toList.drop 0 = dktX4_due_0 := by decide +kernel
theorem dX4_due_0 : decode cX4_due 0 = .ok (.aload_n 0, 1) := dk_42 (dk_at dksX4_due_0 0 rfl rfl)
theorem dX4_due_1 : decode cX4_due 1 = .ok (.iload_n 1, 1) := dk_27 (dk_at dksX4_due_0 1 rfl rfl)
theorem dX4_due_2 : decode cX4_due 2 = .ok (.invokevirtual 173, 3) := dk_182 0 173 (dk_at dksX4_due_0 2 rfl rfl)
theorem dX4_due_5 : decode cX4_due 5 = .ok (.ifCond .ne 9, 3) := dk_154 0 9 (dk_at dksX4_due_0 5 rfl rfl)
theorem dX4_due_8 : decode cX4_due 8 = .ok (.aload_n 0, 1) := dk_42 (dk_at dksX4_due_0 8 rfl rfl)
theorem dX4_due_9 : decode cX4_due 9 = .ok (.iconst 1, 1) := dk_4 (dk_at dksX4_due_0 9 rfl rfl)
theorem dX4_due_10 : decode cX4_due 10 = .ok (.invokevirtual 167, 3) := dk_182 0 167 (dk_at dksX4_due_0 10 rfl rfl)
theorem dX4_due_13 : decode cX4_due 13 = .ok (.ireturn, 1) := dk_172 (dk_at dksX4_due_0 13 rfl rfl)
theorem dX4_due_14 : decode cX4_due 14 = .ok (.aload_n 0, 1) := dk_42 (dk_at dksX4_due_0 14 rfl rfl)
theorem dX4_due_15 : decode cX4_due 15 = .ok (.aload_n 0, 1) := dk_42 (dk_at dksX4_due_0 15 rfl rfl)
theorem dX4_due_16 : decode cX4_due 16 = .ok (.iload_n 1, 1) := dk_27 (dk_at dksX4_due_0 16 rfl rfl)
theorem dX4_due_17 : decode cX4_due 17 = .ok (.invokevirtual 127, 3) := dk_182 0 127 (dk_at dksX4_due_0 17 rfl rfl)
theorem dX4_due_20 : decode cX4_due 20 = .ok (.invokevirtual 161, 3) := dk_182 0 161 (dk_at dksX4_due_0 20 rfl rfl)
theorem dX4_due_23 : decode cX4_due 23 = .ok (.ireturn, 1) := dk_172 (dk_at dksX4_due_0 23 rfl rfl)
abbrev cX4_end : ByteArray := prog_12_method_52_code
def yX4_end : MethodName := ⟨RX4, "end", "(I)I"⟩
def dkwX4_end_0 : List UInt8 := [42, 27, 182, 0, 173, 154, 0, 9, 42, 4, 182, 0, 167, 172, 42, 42, 27, 182, 0, 189, 182, 0, 161, 172]
abbrev dktX4_end_0 : List UInt8 := dkwX4_end_0 ++ []
theorem dksX4_end_0 : cX4_end.data.toList.drop 0 = dktX4_end_0 := by decide +kernel
theorem dX4_end_0 : decode cX4_end 0 = .ok (.aload_n 0, 1) := dk_42 (dk_at dksX4_end_0 0 rfl rfl)
theorem dX4_end_1 : decode cX4_end 1 = .ok (.iload_n 1, 1) := dk_27 (dk_at dksX4_end_0 1 rfl rfl)
theorem dX4_end_2 : decode cX4_end 2 = .ok (.invokevirtual 173, 3) := dk_182 0 173 (dk_at dksX4_end_0 2 rfl rfl)
theorem dX4_end_5 : decode cX4_end 5 = .ok (.ifCond .ne 9, 3) := dk_154 0 9 (dk_at dksX4_end_0 5 rfl rfl)
theorem dX4_end_8 : decode cX4_end 8 = .ok (.aload_n 0, 1) := dk_42 (dk_at dksX4_end_0 8 rfl rfl)
theorem dX4_end_9 : decode cX4_end 9 = .ok (.iconst 1, 1) := dk_4 (dk_at dksX4_end_0 9 rfl rfl)
theorem dX4_end_10 : decode cX4_end 10 = .ok (.invokevirtual 167, 3) := dk_182 0 167 (dk_at dksX4_end_0 10 rfl rfl)
theorem dX4_end_13 : decode cX4_end 13 = .ok (.ireturn, 1) := dk_172 (dk_at dksX4_end_0 13 rfl rfl)
theorem dX4_end_14 : decode cX4_end 14 = .ok (.aload_n 0, 1) := dk_42 (dk_at dksX4_end_0 14 rfl rfl)
theorem dX4_end_15 : decode cX4_end 15 = .ok (.aload_n 0, 1) := dk_42 (dk_at dksX4_end_0 15 rfl rfl)
theorem dX4_end_16 : decode cX4_end 16 = .ok (.iload_n 1, 1) := dk_27 (dk_at dksX4_end_0 16 rfl rfl)
theorem dX4_end_17 : decode cX4_end 17 = .ok (.invokevirtual 189, 3) := dk_182 0 189 (dk_at dksX4_end_0 17 rfl rfl)
theorem dX4_end_20 : decode cX4_end 20 = .ok (.invokevirtual 161, 3) := dk_182 0 161 (dk_at dksX4_end_0 20 rfl rfl)
theorem dX4_end_23 : decode cX4_end 23 = .ok (.ireturn, 1) := dk_172 (dk_at dksX4_end_0 23 rfl rfl)
abbrev cX4_endDay : ByteArray := prog_12_method_51_code
def yX4_endDay : MethodName := ⟨RX4, "endDay", "(I)I"⟩
def dkwX4_endDay_4 : List UInt8 := [153, 0, 5, 2, 172, 29, 42, 180, 0, 101, 4, 96, 184, 0, 186, 42, 180, 0, 104, 96, 172]
abbrev dktX4_endDay_4 : List UInt8 := dkwX4_endDay_4 ++ []
def dkwX4_endDay_3 : List UInt8 := [182, 0, 127, 62, 28, 2, 159, 0, 8, 29, 2, 160, 0, 5, 2, 172, 42, 180, 0, 16, 28, 46]
abbrev dktX4_endDay_3 : List UInt8 := dkwX4_endDay_3 ++ dktX4_endDay_4
def dkwX4_endDay_2 : List UInt8 := [180, 0, 104, 96, 42, 180, 0, 101, 4, 96, 184, 0, 186, 172, 42, 27, 182, 0, 120, 61, 42, 27]
abbrev dktX4_endDay_2 : List UInt8 := dkwX4_endDay_2 ++ dktX4_endDay_3
def dkwX4_endDay_1 : List UInt8 := [153, 0, 5, 2, 172, 42, 180, 0, 49, 27, 46, 5, 160, 0, 24, 42, 180, 0, 52, 27, 46, 42]
abbrev dktX4_endDay_1 : List UInt8 := dkwX4_endDay_1 ++ dktX4_endDay_2
def dkwX4_endDay_0 : List UInt8 := [42, 180, 0, 49, 27, 46, 6, 160, 0, 10, 42, 180, 0, 55, 27, 46, 172, 42, 27, 182, 0, 137]
abbrev dktX4_endDay_0 : List UInt8 := dkwX4_endDay_0 ++ dktX4_endDay_1
theorem dksX4_endDay_0 : cX4_endDay.data.toList.drop 0 = dktX4_endDay_0 := by decide +kernel
theorem dksX4_endDay_1 : cX4_endDay.data.toList.drop 22 = dktX4_endDay_1 := dk_seg dksX4_endDay_0 22 rfl rfl
theorem dksX4_endDay_2 : cX4_endDay.data.toList.drop 44 = dktX4_endDay_2 := dk_seg dksX4_endDay_1 22 rfl rfl
theorem dksX4_endDay_3 : cX4_endDay.data.toList.drop 66 = dktX4_endDay_3 := dk_seg dksX4_endDay_2 22 rfl rfl
theorem dksX4_endDay_4 : cX4_endDay.data.toList.drop 88 = dktX4_endDay_4 := dk_seg dksX4_endDay_3 22 rfl rfl
theorem dX4_endDay_0 : decode cX4_endDay 0 = .ok (.aload_n 0, 1) := dk_42 (dk_at dksX4_endDay_0 0 rfl rfl)
theorem dX4_endDay_1 : decode cX4_endDay 1 = .ok (.getfield 49, 3) := dk_180 0 49 (dk_at dksX4_endDay_0 1 rfl rfl)
theorem dX4_endDay_4 : decode cX4_endDay 4 = .ok (.iload_n 1, 1) := dk_27 (dk_at dksX4_endDay_0 4 rfl rfl)
theorem dX4_endDay_5 : decode cX4_endDay 5 = .ok (.iaload, 1) := dk_46 (dk_at dksX4_endDay_0 5 rfl rfl)
theorem dX4_endDay_6 : decode cX4_endDay 6 = .ok (.iconst 3, 1) := dk_6 (dk_at dksX4_endDay_0 6 rfl rfl)
theorem dX4_endDay_7 : decode cX4_endDay 7 = .ok (.if_icmp .ne 10, 3) := dk_160 0 10 (dk_at dksX4_endDay_0 7 rfl rfl)
theorem dX4_endDay_10 : decode cX4_endDay 10 = .ok (.aload_n 0, 1) := dk_42 (dk_at dksX4_endDay_0 10 rfl rfl)
theorem dX4_endDay_11 : decode cX4_endDay 11 = .ok (.getfield 55, 3) := dk_180 0 55 (dk_at dksX4_endDay_0 11 rfl rfl)
theorem dX4_endDay_14 : decode cX4_endDay 14 = .ok (.iload_n 1, 1) := dk_27 (dk_at dksX4_endDay_0 14 rfl rfl)
theorem dX4_endDay_15 : decode cX4_endDay 15 = .ok (.iaload, 1) := dk_46 (dk_at dksX4_endDay_0 15 rfl rfl)
theorem dX4_endDay_16 : decode cX4_endDay 16 = .ok (.ireturn, 1) := dk_172 (dk_at dksX4_endDay_0 16 rfl rfl)
theorem dX4_endDay_17 : decode cX4_endDay 17 = .ok (.aload_n 0, 1) := dk_42 (dk_at dksX4_endDay_0 17 rfl rfl)
theorem dX4_endDay_18 : decode cX4_endDay 18 = .ok (.iload_n 1, 1) := dk_27 (dk_at dksX4_endDay_0 18 rfl rfl)
theorem dX4_endDay_19 : decode cX4_endDay 19 = .ok (.invokevirtual 137, 3) := dk_182 0 137 (dk_at dksX4_endDay_0 19 rfl rfl)
theorem dX4_endDay_22 : decode cX4_endDay 22 = .ok (.ifCond .eq 5, 3) := dk_153 0 5 (dk_at dksX4_endDay_1 0 rfl rfl)
theorem dX4_endDay_25 : decode cX4_endDay 25 = .ok (.iconst (-1), 1) := dk_2 (dk_at dksX4_endDay_1 3 rfl rfl)
theorem dX4_endDay_26 : decode cX4_endDay 26 = .ok (.ireturn, 1) := dk_172 (dk_at dksX4_endDay_1 4 rfl rfl)
theorem dX4_endDay_27 : decode cX4_endDay 27 = .ok (.aload_n 0, 1) := dk_42 (dk_at dksX4_endDay_1 5 rfl rfl)
theorem dX4_endDay_28 : decode cX4_endDay 28 = .ok (.getfield 49, 3) := dk_180 0 49 (dk_at dksX4_endDay_1 6 rfl rfl)
theorem dX4_endDay_31 : decode cX4_endDay 31 = .ok (.iload_n 1, 1) := dk_27 (dk_at dksX4_endDay_1 9 rfl rfl)
theorem dX4_endDay_32 : decode cX4_endDay 32 = .ok (.iaload, 1) := dk_46 (dk_at dksX4_endDay_1 10 rfl rfl)
theorem dX4_endDay_33 : decode cX4_endDay 33 = .ok (.iconst 2, 1) := dk_5 (dk_at dksX4_endDay_1 11 rfl rfl)
theorem dX4_endDay_34 : decode cX4_endDay 34 = .ok (.if_icmp .ne 24, 3) := dk_160 0 24 (dk_at dksX4_endDay_1 12 rfl rfl)
theorem dX4_endDay_37 : decode cX4_endDay 37 = .ok (.aload_n 0, 1) := dk_42 (dk_at dksX4_endDay_1 15 rfl rfl)
theorem dX4_endDay_38 : decode cX4_endDay 38 = .ok (.getfield 52, 3) := dk_180 0 52 (dk_at dksX4_endDay_1 16 rfl rfl)
theorem dX4_endDay_41 : decode cX4_endDay 41 = .ok (.iload_n 1, 1) := dk_27 (dk_at dksX4_endDay_1 19 rfl rfl)
theorem dX4_endDay_42 : decode cX4_endDay 42 = .ok (.iaload, 1) := dk_46 (dk_at dksX4_endDay_1 20 rfl rfl)
theorem dX4_endDay_43 : decode cX4_endDay 43 = .ok (.aload_n 0, 1) := dk_42 (dk_at dksX4_endDay_1 21 rfl rfl)
theorem dX4_endDay_44 : decode cX4_endDay 44 = .ok (.getfield 104, 3) := dk_180 0 104 (dk_at dksX4_endDay_2 0 rfl rfl)
theorem dX4_endDay_47 : decode cX4_endDay 47 = .ok (.iadd, 1) := dk_96 (dk_at dksX4_endDay_2 3 rfl rfl)
theorem dX4_endDay_48 : decode cX4_endDay 48 = .ok (.aload_n 0, 1) := dk_42 (dk_at dksX4_endDay_2 4 rfl rfl)
theorem dX4_endDay_49 : decode cX4_endDay 49 = .ok (.getfield 101, 3) := dk_180 0 101 (dk_at dksX4_endDay_2 5 rfl rfl)
theorem dX4_endDay_52 : decode cX4_endDay 52 = .ok (.iconst 1, 1) := dk_4 (dk_at dksX4_endDay_2 8 rfl rfl)
theorem dX4_endDay_53 : decode cX4_endDay 53 = .ok (.iadd, 1) := dk_96 (dk_at dksX4_endDay_2 9 rfl rfl)
theorem dX4_endDay_54 : decode cX4_endDay 54 = .ok (.invokestatic 186, 3) := dk_184 0 186 (dk_at dksX4_endDay_2 10 rfl rfl)
theorem dX4_endDay_57 : decode cX4_endDay 57 = .ok (.ireturn, 1) := dk_172 (dk_at dksX4_endDay_2 13 rfl rfl)
theorem dX4_endDay_58 : decode cX4_endDay 58 = .ok (.aload_n 0, 1) := dk_42 (dk_at dksX4_endDay_2 14 rfl rfl)
theorem dX4_endDay_59 : decode cX4_endDay 59 = .ok (.iload_n 1, 1) := dk_27 (dk_at dksX4_endDay_2 15 rfl rfl)
theorem dX4_endDay_60 : decode cX4_endDay 60 = .ok (.invokevirtual 120, 3) := dk_182 0 120 (dk_at dksX4_endDay_2 16 rfl rfl)
theorem dX4_endDay_63 : decode cX4_endDay 63 = .ok (.istore_n 2, 1) := dk_61 (dk_at dksX4_endDay_2 19 rfl rfl)
theorem dX4_endDay_64 : decode cX4_endDay 64 = .ok (.aload_n 0, 1) := dk_42 (dk_at dksX4_endDay_2 20 rfl rfl)
theorem dX4_endDay_65 : decode cX4_endDay 65 = .ok (.iload_n 1, 1) := dk_27 (dk_at dksX4_endDay_2 21 rfl rfl)
theorem dX4_endDay_66 : decode cX4_endDay 66 = .ok (.invokevirtual 127, 3) := dk_182 0 127 (dk_at dksX4_endDay_3 0 rfl rfl)
theorem dX4_endDay_69 : decode cX4_endDay 69 = .ok (.istore_n 3, 1) := dk_62 (dk_at dksX4_endDay_3 3 rfl rfl)
theorem dX4_endDay_70 : decode cX4_endDay 70 = .ok (.iload_n 2, 1) := dk_28 (dk_at dksX4_endDay_3 4 rfl rfl)
theorem dX4_endDay_71 : decode cX4_endDay 71 = .ok (.iconst (-1), 1) := dk_2 (dk_at dksX4_endDay_3 5 rfl rfl)
theorem dX4_endDay_72 : decode cX4_endDay 72 = .ok (.if_icmp .eq 8, 3) := dk_159 0 8 (dk_at dksX4_endDay_3 6 rfl rfl)
theorem dX4_endDay_75 : decode cX4_endDay 75 = .ok (.iload_n 3, 1) := dk_29 (dk_at dksX4_endDay_3 9 rfl rfl)
theorem dX4_endDay_76 : decode cX4_endDay 76 = .ok (.iconst (-1), 1) := dk_2 (dk_at dksX4_endDay_3 10 rfl rfl)
theorem dX4_endDay_77 : decode cX4_endDay 77 = .ok (.if_icmp .ne 5, 3) := dk_160 0 5 (dk_at dksX4_endDay_3 11 rfl rfl)
theorem dX4_endDay_80 : decode cX4_endDay 80 = .ok (.iconst (-1), 1) := dk_2 (dk_at dksX4_endDay_3 14 rfl rfl)
theorem dX4_endDay_81 : decode cX4_endDay 81 = .ok (.ireturn, 1) := dk_172 (dk_at dksX4_endDay_3 15 rfl rfl)
theorem dX4_endDay_82 : decode cX4_endDay 82 = .ok (.aload_n 0, 1) := dk_42 (dk_at dksX4_endDay_3 16 rfl rfl)
theorem dX4_endDay_83 : decode cX4_endDay 83 = .ok (.getfield 16, 3) := dk_180 0 16 (dk_at dksX4_endDay_3 17 rfl rfl)
theorem dX4_endDay_86 : decode cX4_endDay 86 = .ok (.iload_n 2, 1) := dk_28 (dk_at dksX4_endDay_3 20 rfl rfl)
theorem dX4_endDay_87 : decode cX4_endDay 87 = .ok (.iaload, 1) := dk_46 (dk_at dksX4_endDay_3 21 rfl rfl)
theorem dX4_endDay_88 : decode cX4_endDay 88 = .ok (.ifCond .eq 5, 3) := dk_153 0 5 (dk_at dksX4_endDay_4 0 rfl rfl)
theorem dX4_endDay_91 : decode cX4_endDay 91 = .ok (.iconst (-1), 1) := dk_2 (dk_at dksX4_endDay_4 3 rfl rfl)
theorem dX4_endDay_92 : decode cX4_endDay 92 = .ok (.ireturn, 1) := dk_172 (dk_at dksX4_endDay_4 4 rfl rfl)
theorem dX4_endDay_93 : decode cX4_endDay 93 = .ok (.iload_n 3, 1) := dk_29 (dk_at dksX4_endDay_4 5 rfl rfl)
theorem dX4_endDay_94 : decode cX4_endDay 94 = .ok (.aload_n 0, 1) := dk_42 (dk_at dksX4_endDay_4 6 rfl rfl)
theorem dX4_endDay_95 : decode cX4_endDay 95 = .ok (.getfield 101, 3) := dk_180 0 101 (dk_at dksX4_endDay_4 7 rfl rfl)
theorem dX4_endDay_98 : decode cX4_endDay 98 = .ok (.iconst 1, 1) := dk_4 (dk_at dksX4_endDay_4 10 rfl rfl)
theorem dX4_endDay_99 : decode cX4_endDay 99 = .ok (.iadd, 1) := dk_96 (dk_at dksX4_endDay_4 11 rfl rfl)
theorem dX4_endDay_100 : decode cX4_endDay 100 = .ok (.invokestatic 186, 3) := dk_184 0 186 (dk_at dksX4_endDay_4 12 rfl rfl)
theorem dX4_endDay_103 : decode cX4_endDay 103 = .ok (.aload_n 0, 1) := dk_42 (dk_at dksX4_endDay_4 15 rfl rfl)
theorem dX4_endDay_104 : decode cX4_endDay 104 = .ok (.getfield 104, 3) := dk_180 0 104 (dk_at dksX4_endDay_4 16 rfl rfl)
theorem dX4_endDay_107 : decode cX4_endDay 107 = .ok (.iadd, 1) := dk_96 (dk_at dksX4_endDay_4 19 rfl rfl)
theorem dX4_endDay_108 : decode cX4_endDay 108 = .ok (.ireturn, 1) := dk_172 (dk_at dksX4_endDay_4 20 rfl rfl)
abbrev cX4_later : ByteArray := prog_12_method_50_code
def yX4_later : MethodName := ⟨RX4, "later", "(II)I"⟩
def dkwX4_later_0 : List UInt8 := [26, 27, 164, 0, 5, 26, 172, 27, 172]
abbrev dktX4_later_0 : List UInt8 := dkwX4_later_0 ++ []
theorem dksX4_later_0 : cX4_later.data.toList.drop 0 = dktX4_later_0 := by decide +kernel
theorem dX4_later_0 : decode cX4_later 0 = .ok (.iload_n 0, 1) := dk_26 (dk_at dksX4_later_0 0 rfl rfl)
theorem dX4_later_1 : decode cX4_later 1 = .ok (.iload_n 1, 1) := dk_27 (dk_at dksX4_later_0 1 rfl rfl)
theorem dX4_later_2 : decode cX4_later 2 = .ok (.if_icmp .le 5, 3) := dk_164 0 5 (dk_at dksX4_later_0 2 rfl rfl)
theorem dX4_later_5 : decode cX4_later 5 = .ok (.iload_n 0, 1) := dk_26 (dk_at dksX4_later_0 5 rfl rfl)
theorem dX4_later_6 : decode cX4_later 6 = .ok (.ireturn, 1) := dk_172 (dk_at dksX4_later_0 6 rfl rfl)
theorem dX4_later_7 : decode cX4_later 7 = .ok (.iload_n 1, 1) := dk_27 (dk_at dksX4_later_0 7 rfl rfl)
theorem dX4_later_8 : decode cX4_later 8 = .ok (.ireturn, 1) := dk_172 (dk_at dksX4_later_0 8 rfl rfl)
abbrev cX4_firstOut : ByteArray := prog_12_method_53_code
def yX4_firstOut : MethodName := ⟨RX4, "firstOut", "()I"⟩
def dkwX4_firstOut_0 : List UInt8 := [42, 182, 0, 141, 60, 27, 2, 160, 0, 9, 42, 4, 182, 0, 167, 172, 42, 27, 182, 0, 161, 172]
abbrev dktX4_firstOut_0 : List UInt8 := dkwX4_firstOut_0 ++ []
theorem dksX4_firstOut_0 : cX4_firstOut.data.toList.drop 0 = dktX4_firstOut_0 := by decide +kernel
theorem dX4_firstOut_0 : decode cX4_firstOut 0 = .ok (.aload_n 0, 1) := dk_42 (dk_at dksX4_firstOut_0 0 rfl rfl)
theorem dX4_firstOut_1 : decode cX4_firstOut 1 = .ok (.invokevirtual 141, 3) := dk_182 0 141 (dk_at dksX4_firstOut_0 1 rfl rfl)
theorem dX4_firstOut_4 : decode cX4_firstOut 4 = .ok (.istore_n 1, 1) := dk_60 (dk_at dksX4_firstOut_0 4 rfl rfl)
theorem dX4_firstOut_5 : decode cX4_firstOut 5 = .ok (.iload_n 1, 1) := dk_27 (dk_at dksX4_firstOut_0 5 rfl rfl)
theorem dX4_firstOut_6 : decode cX4_firstOut 6 = .ok (.iconst (-1), 1) := dk_2 (dk_at dksX4_firstOut_0 6 rfl rfl)
theorem dX4_firstOut_7 : decode cX4_firstOut 7 = .ok (.if_icmp .ne 9, 3) := dk_160 0 9 (dk_at dksX4_firstOut_0 7 rfl rfl)
theorem dX4_firstOut_10 : decode cX4_firstOut 10 = .ok (.aload_n 0, 1) := dk_42 (dk_at dksX4_firstOut_0 10 rfl rfl)
theorem dX4_firstOut_11 : decode cX4_firstOut 11 = .ok (.iconst 1, 1) := dk_4 (dk_at dksX4_firstOut_0 11 rfl rfl)
theorem dX4_firstOut_12 : decode cX4_firstOut 12 = .ok (.invokevirtual 167, 3) := dk_182 0 167 (dk_at dksX4_firstOut_0 12 rfl rfl)
theorem dX4_firstOut_15 : decode cX4_firstOut 15 = .ok (.ireturn, 1) := dk_172 (dk_at dksX4_firstOut_0 15 rfl rfl)
theorem dX4_firstOut_16 : decode cX4_firstOut 16 = .ok (.aload_n 0, 1) := dk_42 (dk_at dksX4_firstOut_0 16 rfl rfl)
theorem dX4_firstOut_17 : decode cX4_firstOut 17 = .ok (.iload_n 1, 1) := dk_27 (dk_at dksX4_firstOut_0 17 rfl rfl)
theorem dX4_firstOut_18 : decode cX4_firstOut 18 = .ok (.invokevirtual 161, 3) := dk_182 0 161 (dk_at dksX4_firstOut_0 18 rfl rfl)
theorem dX4_firstOut_21 : decode cX4_firstOut 21 = .ok (.ireturn, 1) := dk_172 (dk_at dksX4_firstOut_0 21 rfl rfl)
abbrev cX4_write : ByteArray := prog_12_method_57_code
def yX4_write : MethodName := ⟨RX4, "write", "(I)I"⟩
def dkwX4_write_5 : List UInt8 := [42, 16, 108, 182, 0, 195, 42, 16, 100, 182, 0, 195, 42, 42, 180, 0, 192, 182, 0, 161, 172]
abbrev dktX4_write_5 : List UInt8 := dkwX4_write_5 ++ []
def dkwX4_write_4 : List UInt8 := [182, 0, 137, 153, 0, 33, 42, 16, 32, 182, 0, 195, 42, 16, 104, 182, 0, 195, 42, 16, 101, 182, 0, 195]
abbrev dktX4_write_4 : List UInt8 := dkwX4_write_4 ++ dktX4_write_5
def dkwX4_write_3 : List UInt8 := [16, 110, 182, 0, 195, 42, 16, 100, 182, 0, 195, 42, 16, 32, 182, 0, 195, 42, 28, 182, 0, 198, 42, 27]
abbrev dktX4_write_3 : List UInt8 := dkwX4_write_3 ++ dktX4_write_4
def dkwX4_write_2 : List UInt8 := [42, 27, 182, 0, 189, 61, 28, 2, 159, 0, 38, 42, 16, 32, 182, 0, 195, 42, 16, 101, 182, 0, 195, 42]
abbrev dktX4_write_2 : List UInt8 := dkwX4_write_2 ++ dktX4_write_3
def dkwX4_write_1 : List UInt8 := [182, 0, 195, 42, 27, 182, 0, 198, 42, 16, 32, 182, 0, 195, 42, 42, 180, 0, 49, 27, 46, 182, 0, 201]
abbrev dktX4_write_1 : List UInt8 := dkwX4_write_1 ++ dktX4_write_2
def dkwX4_write_0 : List UInt8 := [42, 27, 182, 0, 173, 154, 0, 9, 42, 4, 182, 0, 167, 172, 42, 3, 181, 0, 192, 42, 16, 105]
abbrev dktX4_write_0 : List UInt8 := dkwX4_write_0 ++ dktX4_write_1
theorem dksX4_write_0 : cX4_write.data.toList.drop 0 = dktX4_write_0 := by decide +kernel
theorem dksX4_write_1 : cX4_write.data.toList.drop 22 = dktX4_write_1 := dk_seg dksX4_write_0 22 rfl rfl
theorem dksX4_write_2 : cX4_write.data.toList.drop 46 = dktX4_write_2 := dk_seg dksX4_write_1 24 rfl rfl
theorem dksX4_write_3 : cX4_write.data.toList.drop 70 = dktX4_write_3 := dk_seg dksX4_write_2 24 rfl rfl
theorem dksX4_write_4 : cX4_write.data.toList.drop 94 = dktX4_write_4 := dk_seg dksX4_write_3 24 rfl rfl
theorem dksX4_write_5 : cX4_write.data.toList.drop 118 = dktX4_write_5 := dk_seg dksX4_write_4 24 rfl rfl
theorem dX4_write_0 : decode cX4_write 0 = .ok (.aload_n 0, 1) := dk_42 (dk_at dksX4_write_0 0 rfl rfl)
theorem dX4_write_1 : decode cX4_write 1 = .ok (.iload_n 1, 1) := dk_27 (dk_at dksX4_write_0 1 rfl rfl)
theorem dX4_write_2 : decode cX4_write 2 = .ok (.invokevirtual 173, 3) := dk_182 0 173 (dk_at dksX4_write_0 2 rfl rfl)
theorem dX4_write_5 : decode cX4_write 5 = .ok (.ifCond .ne 9, 3) := dk_154 0 9 (dk_at dksX4_write_0 5 rfl rfl)
theorem dX4_write_8 : decode cX4_write 8 = .ok (.aload_n 0, 1) := dk_42 (dk_at dksX4_write_0 8 rfl rfl)
theorem dX4_write_9 : decode cX4_write 9 = .ok (.iconst 1, 1) := dk_4 (dk_at dksX4_write_0 9 rfl rfl)
theorem dX4_write_10 : decode cX4_write 10 = .ok (.invokevirtual 167, 3) := dk_182 0 167 (dk_at dksX4_write_0 10 rfl rfl)
theorem dX4_write_13 : decode cX4_write 13 = .ok (.ireturn, 1) := dk_172 (dk_at dksX4_write_0 13 rfl rfl)
theorem dX4_write_14 : decode cX4_write 14 = .ok (.aload_n 0, 1) := dk_42 (dk_at dksX4_write_0 14 rfl rfl)
theorem dX4_write_15 : decode cX4_write 15 = .ok (.iconst 0, 1) := dk_3 (dk_at dksX4_write_0 15 rfl rfl)
theorem dX4_write_16 : decode cX4_write 16 = .ok (.putfield 192, 3) := dk_181 0 192 (dk_at dksX4_write_0 16 rfl rfl)
theorem dX4_write_19 : decode cX4_write 19 = .ok (.aload_n 0, 1) := dk_42 (dk_at dksX4_write_0 19 rfl rfl)
theorem dX4_write_20 : decode cX4_write 20 = .ok (.bipush 105, 2) := dk_16 105 (dk_at dksX4_write_0 20 rfl rfl)
theorem dX4_write_22 : decode cX4_write 22 = .ok (.invokevirtual 195, 3) := dk_182 0 195 (dk_at dksX4_write_1 0 rfl rfl)
theorem dX4_write_25 : decode cX4_write 25 = .ok (.aload_n 0, 1) := dk_42 (dk_at dksX4_write_1 3 rfl rfl)
theorem dX4_write_26 : decode cX4_write 26 = .ok (.iload_n 1, 1) := dk_27 (dk_at dksX4_write_1 4 rfl rfl)
theorem dX4_write_27 : decode cX4_write 27 = .ok (.invokevirtual 198, 3) := dk_182 0 198 (dk_at dksX4_write_1 5 rfl rfl)
theorem dX4_write_30 : decode cX4_write 30 = .ok (.aload_n 0, 1) := dk_42 (dk_at dksX4_write_1 8 rfl rfl)
theorem dX4_write_31 : decode cX4_write 31 = .ok (.bipush 32, 2) := dk_16 32 (dk_at dksX4_write_1 9 rfl rfl)
theorem dX4_write_33 : decode cX4_write 33 = .ok (.invokevirtual 195, 3) := dk_182 0 195 (dk_at dksX4_write_1 11 rfl rfl)
theorem dX4_write_36 : decode cX4_write 36 = .ok (.aload_n 0, 1) := dk_42 (dk_at dksX4_write_1 14 rfl rfl)
theorem dX4_write_37 : decode cX4_write 37 = .ok (.aload_n 0, 1) := dk_42 (dk_at dksX4_write_1 15 rfl rfl)
theorem dX4_write_38 : decode cX4_write 38 = .ok (.getfield 49, 3) := dk_180 0 49 (dk_at dksX4_write_1 16 rfl rfl)
theorem dX4_write_41 : decode cX4_write 41 = .ok (.iload_n 1, 1) := dk_27 (dk_at dksX4_write_1 19 rfl rfl)
theorem dX4_write_42 : decode cX4_write 42 = .ok (.iaload, 1) := dk_46 (dk_at dksX4_write_1 20 rfl rfl)
theorem dX4_write_43 : decode cX4_write 43 = .ok (.invokevirtual 201, 3) := dk_182 0 201 (dk_at dksX4_write_1 21 rfl rfl)
theorem dX4_write_46 : decode cX4_write 46 = .ok (.aload_n 0, 1) := dk_42 (dk_at dksX4_write_2 0 rfl rfl)
theorem dX4_write_47 : decode cX4_write 47 = .ok (.iload_n 1, 1) := dk_27 (dk_at dksX4_write_2 1 rfl rfl)
theorem dX4_write_48 : decode cX4_write 48 = .ok (.invokevirtual 189, 3) := dk_182 0 189 (dk_at dksX4_write_2 2 rfl rfl)
theorem dX4_write_51 : decode cX4_write 51 = .ok (.istore_n 2, 1) := dk_61 (dk_at dksX4_write_2 5 rfl rfl)
theorem dX4_write_52 : decode cX4_write 52 = .ok (.iload_n 2, 1) := dk_28 (dk_at dksX4_write_2 6 rfl rfl)
theorem dX4_write_53 : decode cX4_write 53 = .ok (.iconst (-1), 1) := dk_2 (dk_at dksX4_write_2 7 rfl rfl)
theorem dX4_write_54 : decode cX4_write 54 = .ok (.if_icmp .eq 38, 3) := dk_159 0 38 (dk_at dksX4_write_2 8 rfl rfl)
theorem dX4_write_57 : decode cX4_write 57 = .ok (.aload_n 0, 1) := dk_42 (dk_at dksX4_write_2 11 rfl rfl)
theorem dX4_write_58 : decode cX4_write 58 = .ok (.bipush 32, 2) := dk_16 32 (dk_at dksX4_write_2 12 rfl rfl)
theorem dX4_write_60 : decode cX4_write 60 = .ok (.invokevirtual 195, 3) := dk_182 0 195 (dk_at dksX4_write_2 14 rfl rfl)
theorem dX4_write_63 : decode cX4_write 63 = .ok (.aload_n 0, 1) := dk_42 (dk_at dksX4_write_2 17 rfl rfl)
theorem dX4_write_64 : decode cX4_write 64 = .ok (.bipush 101, 2) := dk_16 101 (dk_at dksX4_write_2 18 rfl rfl)
theorem dX4_write_66 : decode cX4_write 66 = .ok (.invokevirtual 195, 3) := dk_182 0 195 (dk_at dksX4_write_2 20 rfl rfl)
theorem dX4_write_69 : decode cX4_write 69 = .ok (.aload_n 0, 1) := dk_42 (dk_at dksX4_write_2 23 rfl rfl)
theorem dX4_write_70 : decode cX4_write 70 = .ok (.bipush 110, 2) := dk_16 110 (dk_at dksX4_write_3 0 rfl rfl)
theorem dX4_write_72 : decode cX4_write 72 = .ok (.invokevirtual 195, 3) := dk_182 0 195 (dk_at dksX4_write_3 2 rfl rfl)
theorem dX4_write_75 : decode cX4_write 75 = .ok (.aload_n 0, 1) := dk_42 (dk_at dksX4_write_3 5 rfl rfl)
theorem dX4_write_76 : decode cX4_write 76 = .ok (.bipush 100, 2) := dk_16 100 (dk_at dksX4_write_3 6 rfl rfl)
theorem dX4_write_78 : decode cX4_write 78 = .ok (.invokevirtual 195, 3) := dk_182 0 195 (dk_at dksX4_write_3 8 rfl rfl)
theorem dX4_write_81 : decode cX4_write 81 = .ok (.aload_n 0, 1) := dk_42 (dk_at dksX4_write_3 11 rfl rfl)
theorem dX4_write_82 : decode cX4_write 82 = .ok (.bipush 32, 2) := dk_16 32 (dk_at dksX4_write_3 12 rfl rfl)
theorem dX4_write_84 : decode cX4_write 84 = .ok (.invokevirtual 195, 3) := dk_182 0 195 (dk_at dksX4_write_3 14 rfl rfl)
theorem dX4_write_87 : decode cX4_write 87 = .ok (.aload_n 0, 1) := dk_42 (dk_at dksX4_write_3 17 rfl rfl)
theorem dX4_write_88 : decode cX4_write 88 = .ok (.iload_n 2, 1) := dk_28 (dk_at dksX4_write_3 18 rfl rfl)
theorem dX4_write_89 : decode cX4_write 89 = .ok (.invokevirtual 198, 3) := dk_182 0 198 (dk_at dksX4_write_3 19 rfl rfl)
theorem dX4_write_92 : decode cX4_write 92 = .ok (.aload_n 0, 1) := dk_42 (dk_at dksX4_write_3 22 rfl rfl)
theorem dX4_write_93 : decode cX4_write 93 = .ok (.iload_n 1, 1) := dk_27 (dk_at dksX4_write_3 23 rfl rfl)
theorem dX4_write_94 : decode cX4_write 94 = .ok (.invokevirtual 137, 3) := dk_182 0 137 (dk_at dksX4_write_4 0 rfl rfl)
theorem dX4_write_97 : decode cX4_write 97 = .ok (.ifCond .eq 33, 3) := dk_153 0 33 (dk_at dksX4_write_4 3 rfl rfl)
theorem dX4_write_100 : decode cX4_write 100 = .ok (.aload_n 0, 1) := dk_42 (dk_at dksX4_write_4 6 rfl rfl)
theorem dX4_write_101 : decode cX4_write 101 = .ok (.bipush 32, 2) := dk_16 32 (dk_at dksX4_write_4 7 rfl rfl)
theorem dX4_write_103 : decode cX4_write 103 = .ok (.invokevirtual 195, 3) := dk_182 0 195 (dk_at dksX4_write_4 9 rfl rfl)
theorem dX4_write_106 : decode cX4_write 106 = .ok (.aload_n 0, 1) := dk_42 (dk_at dksX4_write_4 12 rfl rfl)
theorem dX4_write_107 : decode cX4_write 107 = .ok (.bipush 104, 2) := dk_16 104 (dk_at dksX4_write_4 13 rfl rfl)
theorem dX4_write_109 : decode cX4_write 109 = .ok (.invokevirtual 195, 3) := dk_182 0 195 (dk_at dksX4_write_4 15 rfl rfl)
theorem dX4_write_112 : decode cX4_write 112 = .ok (.aload_n 0, 1) := dk_42 (dk_at dksX4_write_4 18 rfl rfl)
theorem dX4_write_113 : decode cX4_write 113 = .ok (.bipush 101, 2) := dk_16 101 (dk_at dksX4_write_4 19 rfl rfl)
theorem dX4_write_115 : decode cX4_write 115 = .ok (.invokevirtual 195, 3) := dk_182 0 195 (dk_at dksX4_write_4 21 rfl rfl)
theorem dX4_write_118 : decode cX4_write 118 = .ok (.aload_n 0, 1) := dk_42 (dk_at dksX4_write_5 0 rfl rfl)
theorem dX4_write_119 : decode cX4_write 119 = .ok (.bipush 108, 2) := dk_16 108 (dk_at dksX4_write_5 1 rfl rfl)
theorem dX4_write_121 : decode cX4_write 121 = .ok (.invokevirtual 195, 3) := dk_182 0 195 (dk_at dksX4_write_5 3 rfl rfl)
theorem dX4_write_124 : decode cX4_write 124 = .ok (.aload_n 0, 1) := dk_42 (dk_at dksX4_write_5 6 rfl rfl)
theorem dX4_write_125 : decode cX4_write 125 = .ok (.bipush 100, 2) := dk_16 100 (dk_at dksX4_write_5 7 rfl rfl)
theorem dX4_write_127 : decode cX4_write 127 = .ok (.invokevirtual 195, 3) := dk_182 0 195 (dk_at dksX4_write_5 9 rfl rfl)
theorem dX4_write_130 : decode cX4_write 130 = .ok (.aload_n 0, 1) := dk_42 (dk_at dksX4_write_5 12 rfl rfl)
theorem dX4_write_131 : decode cX4_write 131 = .ok (.aload_n 0, 1) := dk_42 (dk_at dksX4_write_5 13 rfl rfl)
theorem dX4_write_132 : decode cX4_write 132 = .ok (.getfield 192, 3) := dk_180 0 192 (dk_at dksX4_write_5 14 rfl rfl)
theorem dX4_write_135 : decode cX4_write 135 = .ok (.invokevirtual 161, 3) := dk_182 0 161 (dk_at dksX4_write_5 17 rfl rfl)
theorem dX4_write_138 : decode cX4_write 138 = .ok (.ireturn, 1) := dk_172 (dk_at dksX4_write_5 20 rfl rfl)
abbrev cX4_writes : ByteArray := prog_12_method_54_code
def yX4_writes : MethodName := ⟨RX4, "writes", "(I)V"⟩
def dkwX4_writes_0 : List UInt8 := [42, 180, 0, 77, 42, 180, 0, 192, 27, 145, 84, 42, 89, 180, 0, 192, 4, 96, 181, 0, 192, 177]
abbrev dktX4_writes_0 : List UInt8 := dkwX4_writes_0 ++ []
theorem dksX4_writes_0 : cX4_writes.data.toList.drop 0 = dktX4_writes_0 := by decide +kernel
theorem dX4_writes_0 : decode cX4_writes 0 = .ok (.aload_n 0, 1) := dk_42 (dk_at dksX4_writes_0 0 rfl rfl)
theorem dX4_writes_1 : decode cX4_writes 1 = .ok (.getfield 77, 3) := dk_180 0 77 (dk_at dksX4_writes_0 1 rfl rfl)
theorem dX4_writes_4 : decode cX4_writes 4 = .ok (.aload_n 0, 1) := dk_42 (dk_at dksX4_writes_0 4 rfl rfl)
theorem dX4_writes_5 : decode cX4_writes 5 = .ok (.getfield 192, 3) := dk_180 0 192 (dk_at dksX4_writes_0 5 rfl rfl)
theorem dX4_writes_8 : decode cX4_writes 8 = .ok (.iload_n 1, 1) := dk_27 (dk_at dksX4_writes_0 8 rfl rfl)
theorem dX4_writes_9 : decode cX4_writes 9 = .ok (.i2b, 1) := dk_145 (dk_at dksX4_writes_0 9 rfl rfl)
theorem dX4_writes_10 : decode cX4_writes 10 = .ok (.bastore, 1) := dk_84 (dk_at dksX4_writes_0 10 rfl rfl)
theorem dX4_writes_11 : decode cX4_writes 11 = .ok (.aload_n 0, 1) := dk_42 (dk_at dksX4_writes_0 11 rfl rfl)
theorem dX4_writes_12 : decode cX4_writes 12 = .ok (.dup, 1) := dk_89 (dk_at dksX4_writes_0 12 rfl rfl)
theorem dX4_writes_13 : decode cX4_writes 13 = .ok (.getfield 192, 3) := dk_180 0 192 (dk_at dksX4_writes_0 13 rfl rfl)
theorem dX4_writes_16 : decode cX4_writes 16 = .ok (.iconst 1, 1) := dk_4 (dk_at dksX4_writes_0 16 rfl rfl)
theorem dX4_writes_17 : decode cX4_writes 17 = .ok (.iadd, 1) := dk_96 (dk_at dksX4_writes_0 17 rfl rfl)
theorem dX4_writes_18 : decode cX4_writes 18 = .ok (.putfield 192, 3) := dk_181 0 192 (dk_at dksX4_writes_0 18 rfl rfl)
theorem dX4_writes_21 : decode cX4_writes 21 = .ok (.return_, 1) := dk_177 (dk_at dksX4_writes_0 21 rfl rfl)
abbrev cX4_writesNumber : ByteArray := prog_12_method_55_code
def yX4_writesNumber : MethodName := ⟨RX4, "writesNumber", "(I)V"⟩
def dkwX4_writesNumber_1 : List UInt8 := [16, 48, 27, 28, 108, 16, 10, 112, 96, 182, 0, 195, 28, 16, 10, 108, 61, 167, 255, 234, 177]
abbrev dktX4_writesNumber_1 : List UInt8 := dkwX4_writesNumber_1 ++ []
def dkwX4_writesNumber_0 : List UInt8 := [4, 61, 27, 28, 108, 16, 10, 161, 0, 11, 28, 16, 10, 104, 61, 167, 255, 243, 28, 158, 0, 24, 42]
abbrev dktX4_writesNumber_0 : List UInt8 := dkwX4_writesNumber_0 ++ dktX4_writesNumber_1
theorem dksX4_writesNumber_0 : cX4_writesNumber.data.toList.drop 0 = dktX4_writesNumber_0 := by decide +kernel
theorem dksX4_writesNumber_1 : cX4_writesNumber.data.toList.drop 23 = dktX4_writesNumber_1 := dk_seg dksX4_writesNumber_0 23 rfl rfl
theorem dX4_writesNumber_0 : decode cX4_writesNumber 0 = .ok (.iconst 1, 1) := dk_4 (dk_at dksX4_writesNumber_0 0 rfl rfl)
theorem dX4_writesNumber_1 : decode cX4_writesNumber 1 = .ok (.istore_n 2, 1) := dk_61 (dk_at dksX4_writesNumber_0 1 rfl rfl)
theorem dX4_writesNumber_2 : decode cX4_writesNumber 2 = .ok (.iload_n 1, 1) := dk_27 (dk_at dksX4_writesNumber_0 2 rfl rfl)
theorem dX4_writesNumber_3 : decode cX4_writesNumber 3 = .ok (.iload_n 2, 1) := dk_28 (dk_at dksX4_writesNumber_0 3 rfl rfl)
theorem dX4_writesNumber_4 : decode cX4_writesNumber 4 = .ok (.idiv, 1) := dk_108 (dk_at dksX4_writesNumber_0 4 rfl rfl)
theorem dX4_writesNumber_5 : decode cX4_writesNumber 5 = .ok (.bipush 10, 2) := dk_16 10 (dk_at dksX4_writesNumber_0 5 rfl rfl)
theorem dX4_writesNumber_7 : decode cX4_writesNumber 7 = .ok (.if_icmp .lt 11, 3) := dk_161 0 11 (dk_at dksX4_writesNumber_0 7 rfl rfl)
theorem dX4_writesNumber_10 : decode cX4_writesNumber 10 = .ok (.iload_n 2, 1) := dk_28 (dk_at dksX4_writesNumber_0 10 rfl rfl)
theorem dX4_writesNumber_11 : decode cX4_writesNumber 11 = .ok (.bipush 10, 2) := dk_16 10 (dk_at dksX4_writesNumber_0 11 rfl rfl)
theorem dX4_writesNumber_13 : decode cX4_writesNumber 13 = .ok (.imul, 1) := dk_104 (dk_at dksX4_writesNumber_0 13 rfl rfl)
theorem dX4_writesNumber_14 : decode cX4_writesNumber 14 = .ok (.istore_n 2, 1) := dk_61 (dk_at dksX4_writesNumber_0 14 rfl rfl)
theorem dX4_writesNumber_15 : decode cX4_writesNumber 15 = .ok (.goto (-13), 3) := dk_167 255 243 (dk_at dksX4_writesNumber_0 15 rfl rfl)
theorem dX4_writesNumber_18 : decode cX4_writesNumber 18 = .ok (.iload_n 2, 1) := dk_28 (dk_at dksX4_writesNumber_0 18 rfl rfl)
theorem dX4_writesNumber_19 : decode cX4_writesNumber 19 = .ok (.ifCond .le 24, 3) := dk_158 0 24 (dk_at dksX4_writesNumber_0 19 rfl rfl)
theorem dX4_writesNumber_22 : decode cX4_writesNumber 22 = .ok (.aload_n 0, 1) := dk_42 (dk_at dksX4_writesNumber_0 22 rfl rfl)
theorem dX4_writesNumber_23 : decode cX4_writesNumber 23 = .ok (.bipush 48, 2) := dk_16 48 (dk_at dksX4_writesNumber_1 0 rfl rfl)
theorem dX4_writesNumber_25 : decode cX4_writesNumber 25 = .ok (.iload_n 1, 1) := dk_27 (dk_at dksX4_writesNumber_1 2 rfl rfl)
theorem dX4_writesNumber_26 : decode cX4_writesNumber 26 = .ok (.iload_n 2, 1) := dk_28 (dk_at dksX4_writesNumber_1 3 rfl rfl)
theorem dX4_writesNumber_27 : decode cX4_writesNumber 27 = .ok (.idiv, 1) := dk_108 (dk_at dksX4_writesNumber_1 4 rfl rfl)
theorem dX4_writesNumber_28 : decode cX4_writesNumber 28 = .ok (.bipush 10, 2) := dk_16 10 (dk_at dksX4_writesNumber_1 5 rfl rfl)
theorem dX4_writesNumber_30 : decode cX4_writesNumber 30 = .ok (.irem, 1) := dk_112 (dk_at dksX4_writesNumber_1 7 rfl rfl)
theorem dX4_writesNumber_31 : decode cX4_writesNumber 31 = .ok (.iadd, 1) := dk_96 (dk_at dksX4_writesNumber_1 8 rfl rfl)
theorem dX4_writesNumber_32 : decode cX4_writesNumber 32 = .ok (.invokevirtual 195, 3) := dk_182 0 195 (dk_at dksX4_writesNumber_1 9 rfl rfl)
theorem dX4_writesNumber_35 : decode cX4_writesNumber 35 = .ok (.iload_n 2, 1) := dk_28 (dk_at dksX4_writesNumber_1 12 rfl rfl)
theorem dX4_writesNumber_36 : decode cX4_writesNumber 36 = .ok (.bipush 10, 2) := dk_16 10 (dk_at dksX4_writesNumber_1 13 rfl rfl)
theorem dX4_writesNumber_38 : decode cX4_writesNumber 38 = .ok (.idiv, 1) := dk_108 (dk_at dksX4_writesNumber_1 15 rfl rfl)
theorem dX4_writesNumber_39 : decode cX4_writesNumber 39 = .ok (.istore_n 2, 1) := dk_61 (dk_at dksX4_writesNumber_1 16 rfl rfl)
theorem dX4_writesNumber_40 : decode cX4_writesNumber 40 = .ok (.goto (-22), 3) := dk_167 255 234 (dk_at dksX4_writesNumber_1 17 rfl rfl)
theorem dX4_writesNumber_43 : decode cX4_writesNumber 43 = .ok (.return_, 1) := dk_177 (dk_at dksX4_writesNumber_1 20 rfl rfl)
abbrev cX4_writesState : ByteArray := prog_12_method_56_code
def yX4_writesState : MethodName := ⟨RX4, "writesState", "(I)V"⟩
def dkwX4_writesState_6 : List UInt8 := [42, 16, 101, 182, 0, 195, 177]
abbrev dktX4_writesState_6 : List UInt8 := dkwX4_writesState_6 ++ []
def dkwX4_writesState_5 : List UInt8 := [182, 0, 195, 167, 0, 27, 42, 16, 103, 182, 0, 195, 42, 16, 111, 182, 0, 195, 42, 16, 110, 182, 0, 195]
abbrev dktX4_writesState_5 : List UInt8 := dkwX4_writesState_5 ++ dktX4_writesState_6
def dkwX4_writesState_4 : List UInt8 := [182, 0, 195, 42, 16, 101, 182, 0, 195, 42, 16, 116, 182, 0, 195, 42, 16, 101, 182, 0, 195, 42, 16, 100]
abbrev dktX4_writesState_4 : List UInt8 := dkwX4_writesState_4 ++ dktX4_writesState_5
def dkwX4_writesState_3 : List UInt8 := [167, 0, 77, 27, 5, 160, 0, 48, 42, 16, 100, 182, 0, 195, 42, 16, 101, 182, 0, 195, 42, 16, 108]
abbrev dktX4_writesState_3 : List UInt8 := dkwX4_writesState_3 ++ dktX4_writesState_4
def dkwX4_writesState_2 : List UInt8 := [42, 16, 105, 182, 0, 195, 42, 16, 118, 182, 0, 195, 42, 16, 101, 182, 0, 195, 42, 16, 100, 182, 0, 195]
abbrev dktX4_writesState_2 : List UInt8 := dkwX4_writesState_2 ++ dktX4_writesState_3
def dkwX4_writesState_1 : List UInt8 := [42, 16, 97, 182, 0, 195, 42, 16, 114, 182, 0, 195, 42, 16, 99, 182, 0, 195, 42, 16, 104, 182, 0, 195]
abbrev dktX4_writesState_1 : List UInt8 := dkwX4_writesState_1 ++ dktX4_writesState_2
def dkwX4_writesState_0 : List UInt8 := [27, 154, 0, 18, 42, 16, 105, 182, 0, 195, 42, 16, 110, 182, 0, 195, 167, 0, 133, 27, 4, 160, 0, 54]
abbrev dktX4_writesState_0 : List UInt8 := dkwX4_writesState_0 ++ dktX4_writesState_1
theorem dksX4_writesState_0 : cX4_writesState.data.toList.drop 0 = dktX4_writesState_0 := by decide +kernel
theorem dksX4_writesState_1 : cX4_writesState.data.toList.drop 24 = dktX4_writesState_1 := dk_seg dksX4_writesState_0 24 rfl rfl
theorem dksX4_writesState_2 : cX4_writesState.data.toList.drop 48 = dktX4_writesState_2 := dk_seg dksX4_writesState_1 24 rfl rfl
theorem dksX4_writesState_3 : cX4_writesState.data.toList.drop 72 = dktX4_writesState_3 := dk_seg dksX4_writesState_2 24 rfl rfl
theorem dksX4_writesState_4 : cX4_writesState.data.toList.drop 95 = dktX4_writesState_4 := dk_seg dksX4_writesState_3 23 rfl rfl
theorem dksX4_writesState_5 : cX4_writesState.data.toList.drop 119 = dktX4_writesState_5 := dk_seg dksX4_writesState_4 24 rfl rfl
theorem dksX4_writesState_6 : cX4_writesState.data.toList.drop 143 = dktX4_writesState_6 := dk_seg dksX4_writesState_5 24 rfl rfl
theorem dX4_writesState_0 : decode cX4_writesState 0 = .ok (.iload_n 1, 1) := dk_27 (dk_at dksX4_writesState_0 0 rfl rfl)
theorem dX4_writesState_1 : decode cX4_writesState 1 = .ok (.ifCond .ne 18, 3) := dk_154 0 18 (dk_at dksX4_writesState_0 1 rfl rfl)
theorem dX4_writesState_4 : decode cX4_writesState 4 = .ok (.aload_n 0, 1) := dk_42 (dk_at dksX4_writesState_0 4 rfl rfl)
theorem dX4_writesState_5 : decode cX4_writesState 5 = .ok (.bipush 105, 2) := dk_16 105 (dk_at dksX4_writesState_0 5 rfl rfl)
theorem dX4_writesState_7 : decode cX4_writesState 7 = .ok (.invokevirtual 195, 3) := dk_182 0 195 (dk_at dksX4_writesState_0 7 rfl rfl)
theorem dX4_writesState_10 : decode cX4_writesState 10 = .ok (.aload_n 0, 1) := dk_42 (dk_at dksX4_writesState_0 10 rfl rfl)
theorem dX4_writesState_11 : decode cX4_writesState 11 = .ok (.bipush 110, 2) := dk_16 110 (dk_at dksX4_writesState_0 11 rfl rfl)
theorem dX4_writesState_13 : decode cX4_writesState 13 = .ok (.invokevirtual 195, 3) := dk_182 0 195 (dk_at dksX4_writesState_0 13 rfl rfl)
theorem dX4_writesState_16 : decode cX4_writesState 16 = .ok (.goto 133, 3) := dk_167 0 133 (dk_at dksX4_writesState_0 16 rfl rfl)
theorem dX4_writesState_19 : decode cX4_writesState 19 = .ok (.iload_n 1, 1) := dk_27 (dk_at dksX4_writesState_0 19 rfl rfl)
theorem dX4_writesState_20 : decode cX4_writesState 20 = .ok (.iconst 1, 1) := dk_4 (dk_at dksX4_writesState_0 20 rfl rfl)
theorem dX4_writesState_21 : decode cX4_writesState 21 = .ok (.if_icmp .ne 54, 3) := dk_160 0 54 (dk_at dksX4_writesState_0 21 rfl rfl)
theorem dX4_writesState_24 : decode cX4_writesState 24 = .ok (.aload_n 0, 1) := dk_42 (dk_at dksX4_writesState_1 0 rfl rfl)
theorem dX4_writesState_25 : decode cX4_writesState 25 = .ok (.bipush 97, 2) := dk_16 97 (dk_at dksX4_writesState_1 1 rfl rfl)
theorem dX4_writesState_27 : decode cX4_writesState 27 = .ok (.invokevirtual 195, 3) := dk_182 0 195 (dk_at dksX4_writesState_1 3 rfl rfl)
theorem dX4_writesState_30 : decode cX4_writesState 30 = .ok (.aload_n 0, 1) := dk_42 (dk_at dksX4_writesState_1 6 rfl rfl)
theorem dX4_writesState_31 : decode cX4_writesState 31 = .ok (.bipush 114, 2) := dk_16 114 (dk_at dksX4_writesState_1 7 rfl rfl)
theorem dX4_writesState_33 : decode cX4_writesState 33 = .ok (.invokevirtual 195, 3) := dk_182 0 195 (dk_at dksX4_writesState_1 9 rfl rfl)
theorem dX4_writesState_36 : decode cX4_writesState 36 = .ok (.aload_n 0, 1) := dk_42 (dk_at dksX4_writesState_1 12 rfl rfl)
theorem dX4_writesState_37 : decode cX4_writesState 37 = .ok (.bipush 99, 2) := dk_16 99 (dk_at dksX4_writesState_1 13 rfl rfl)
theorem dX4_writesState_39 : decode cX4_writesState 39 = .ok (.invokevirtual 195, 3) := dk_182 0 195 (dk_at dksX4_writesState_1 15 rfl rfl)
theorem dX4_writesState_42 : decode cX4_writesState 42 = .ok (.aload_n 0, 1) := dk_42 (dk_at dksX4_writesState_1 18 rfl rfl)
theorem dX4_writesState_43 : decode cX4_writesState 43 = .ok (.bipush 104, 2) := dk_16 104 (dk_at dksX4_writesState_1 19 rfl rfl)
theorem dX4_writesState_45 : decode cX4_writesState 45 = .ok (.invokevirtual 195, 3) := dk_182 0 195 (dk_at dksX4_writesState_1 21 rfl rfl)
theorem dX4_writesState_48 : decode cX4_writesState 48 = .ok (.aload_n 0, 1) := dk_42 (dk_at dksX4_writesState_2 0 rfl rfl)
theorem dX4_writesState_49 : decode cX4_writesState 49 = .ok (.bipush 105, 2) := dk_16 105 (dk_at dksX4_writesState_2 1 rfl rfl)
theorem dX4_writesState_51 : decode cX4_writesState 51 = .ok (.invokevirtual 195, 3) := dk_182 0 195 (dk_at dksX4_writesState_2 3 rfl rfl)
theorem dX4_writesState_54 : decode cX4_writesState 54 = .ok (.aload_n 0, 1) := dk_42 (dk_at dksX4_writesState_2 6 rfl rfl)
theorem dX4_writesState_55 : decode cX4_writesState 55 = .ok (.bipush 118, 2) := dk_16 118 (dk_at dksX4_writesState_2 7 rfl rfl)
theorem dX4_writesState_57 : decode cX4_writesState 57 = .ok (.invokevirtual 195, 3) := dk_182 0 195 (dk_at dksX4_writesState_2 9 rfl rfl)
theorem dX4_writesState_60 : decode cX4_writesState 60 = .ok (.aload_n 0, 1) := dk_42 (dk_at dksX4_writesState_2 12 rfl rfl)
theorem dX4_writesState_61 : decode cX4_writesState 61 = .ok (.bipush 101, 2) := dk_16 101 (dk_at dksX4_writesState_2 13 rfl rfl)
theorem dX4_writesState_63 : decode cX4_writesState 63 = .ok (.invokevirtual 195, 3) := dk_182 0 195 (dk_at dksX4_writesState_2 15 rfl rfl)
theorem dX4_writesState_66 : decode cX4_writesState 66 = .ok (.aload_n 0, 1) := dk_42 (dk_at dksX4_writesState_2 18 rfl rfl)
theorem dX4_writesState_67 : decode cX4_writesState 67 = .ok (.bipush 100, 2) := dk_16 100 (dk_at dksX4_writesState_2 19 rfl rfl)
theorem dX4_writesState_69 : decode cX4_writesState 69 = .ok (.invokevirtual 195, 3) := dk_182 0 195 (dk_at dksX4_writesState_2 21 rfl rfl)
theorem dX4_writesState_72 : decode cX4_writesState 72 = .ok (.goto 77, 3) := dk_167 0 77 (dk_at dksX4_writesState_3 0 rfl rfl)
theorem dX4_writesState_75 : decode cX4_writesState 75 = .ok (.iload_n 1, 1) := dk_27 (dk_at dksX4_writesState_3 3 rfl rfl)
theorem dX4_writesState_76 : decode cX4_writesState 76 = .ok (.iconst 2, 1) := dk_5 (dk_at dksX4_writesState_3 4 rfl rfl)
theorem dX4_writesState_77 : decode cX4_writesState 77 = .ok (.if_icmp .ne 48, 3) := dk_160 0 48 (dk_at dksX4_writesState_3 5 rfl rfl)
theorem dX4_writesState_80 : decode cX4_writesState 80 = .ok (.aload_n 0, 1) := dk_42 (dk_at dksX4_writesState_3 8 rfl rfl)
theorem dX4_writesState_81 : decode cX4_writesState 81 = .ok (.bipush 100, 2) := dk_16 100 (dk_at dksX4_writesState_3 9 rfl rfl)
theorem dX4_writesState_83 : decode cX4_writesState 83 = .ok (.invokevirtual 195, 3) := dk_182 0 195 (dk_at dksX4_writesState_3 11 rfl rfl)
theorem dX4_writesState_86 : decode cX4_writesState 86 = .ok (.aload_n 0, 1) := dk_42 (dk_at dksX4_writesState_3 14 rfl rfl)
theorem dX4_writesState_87 : decode cX4_writesState 87 = .ok (.bipush 101, 2) := dk_16 101 (dk_at dksX4_writesState_3 15 rfl rfl)
theorem dX4_writesState_89 : decode cX4_writesState 89 = .ok (.invokevirtual 195, 3) := dk_182 0 195 (dk_at dksX4_writesState_3 17 rfl rfl)
theorem dX4_writesState_92 : decode cX4_writesState 92 = .ok (.aload_n 0, 1) := dk_42 (dk_at dksX4_writesState_3 20 rfl rfl)
theorem dX4_writesState_93 : decode cX4_writesState 93 = .ok (.bipush 108, 2) := dk_16 108 (dk_at dksX4_writesState_3 21 rfl rfl)
theorem dX4_writesState_95 : decode cX4_writesState 95 = .ok (.invokevirtual 195, 3) := dk_182 0 195 (dk_at dksX4_writesState_4 0 rfl rfl)
theorem dX4_writesState_98 : decode cX4_writesState 98 = .ok (.aload_n 0, 1) := dk_42 (dk_at dksX4_writesState_4 3 rfl rfl)
theorem dX4_writesState_99 : decode cX4_writesState 99 = .ok (.bipush 101, 2) := dk_16 101 (dk_at dksX4_writesState_4 4 rfl rfl)
theorem dX4_writesState_101 : decode cX4_writesState 101 = .ok (.invokevirtual 195, 3) := dk_182 0 195 (dk_at dksX4_writesState_4 6 rfl rfl)
theorem dX4_writesState_104 : decode cX4_writesState 104 = .ok (.aload_n 0, 1) := dk_42 (dk_at dksX4_writesState_4 9 rfl rfl)
theorem dX4_writesState_105 : decode cX4_writesState 105 = .ok (.bipush 116, 2) := dk_16 116 (dk_at dksX4_writesState_4 10 rfl rfl)
theorem dX4_writesState_107 : decode cX4_writesState 107 = .ok (.invokevirtual 195, 3) := dk_182 0 195 (dk_at dksX4_writesState_4 12 rfl rfl)
theorem dX4_writesState_110 : decode cX4_writesState 110 = .ok (.aload_n 0, 1) := dk_42 (dk_at dksX4_writesState_4 15 rfl rfl)
theorem dX4_writesState_111 : decode cX4_writesState 111 = .ok (.bipush 101, 2) := dk_16 101 (dk_at dksX4_writesState_4 16 rfl rfl)
theorem dX4_writesState_113 : decode cX4_writesState 113 = .ok (.invokevirtual 195, 3) := dk_182 0 195 (dk_at dksX4_writesState_4 18 rfl rfl)
theorem dX4_writesState_116 : decode cX4_writesState 116 = .ok (.aload_n 0, 1) := dk_42 (dk_at dksX4_writesState_4 21 rfl rfl)
theorem dX4_writesState_117 : decode cX4_writesState 117 = .ok (.bipush 100, 2) := dk_16 100 (dk_at dksX4_writesState_4 22 rfl rfl)
theorem dX4_writesState_119 : decode cX4_writesState 119 = .ok (.invokevirtual 195, 3) := dk_182 0 195 (dk_at dksX4_writesState_5 0 rfl rfl)
theorem dX4_writesState_122 : decode cX4_writesState 122 = .ok (.goto 27, 3) := dk_167 0 27 (dk_at dksX4_writesState_5 3 rfl rfl)
theorem dX4_writesState_125 : decode cX4_writesState 125 = .ok (.aload_n 0, 1) := dk_42 (dk_at dksX4_writesState_5 6 rfl rfl)
theorem dX4_writesState_126 : decode cX4_writesState 126 = .ok (.bipush 103, 2) := dk_16 103 (dk_at dksX4_writesState_5 7 rfl rfl)
theorem dX4_writesState_128 : decode cX4_writesState 128 = .ok (.invokevirtual 195, 3) := dk_182 0 195 (dk_at dksX4_writesState_5 9 rfl rfl)
theorem dX4_writesState_131 : decode cX4_writesState 131 = .ok (.aload_n 0, 1) := dk_42 (dk_at dksX4_writesState_5 12 rfl rfl)
theorem dX4_writesState_132 : decode cX4_writesState 132 = .ok (.bipush 111, 2) := dk_16 111 (dk_at dksX4_writesState_5 13 rfl rfl)
theorem dX4_writesState_134 : decode cX4_writesState 134 = .ok (.invokevirtual 195, 3) := dk_182 0 195 (dk_at dksX4_writesState_5 15 rfl rfl)
theorem dX4_writesState_137 : decode cX4_writesState 137 = .ok (.aload_n 0, 1) := dk_42 (dk_at dksX4_writesState_5 18 rfl rfl)
theorem dX4_writesState_138 : decode cX4_writesState 138 = .ok (.bipush 110, 2) := dk_16 110 (dk_at dksX4_writesState_5 19 rfl rfl)
theorem dX4_writesState_140 : decode cX4_writesState 140 = .ok (.invokevirtual 195, 3) := dk_182 0 195 (dk_at dksX4_writesState_5 21 rfl rfl)
theorem dX4_writesState_143 : decode cX4_writesState 143 = .ok (.aload_n 0, 1) := dk_42 (dk_at dksX4_writesState_6 0 rfl rfl)
theorem dX4_writesState_144 : decode cX4_writesState 144 = .ok (.bipush 101, 2) := dk_16 101 (dk_at dksX4_writesState_6 1 rfl rfl)
theorem dX4_writesState_146 : decode cX4_writesState 146 = .ok (.invokevirtual 195, 3) := dk_182 0 195 (dk_at dksX4_writesState_6 3 rfl rfl)
theorem dX4_writesState_149 : decode cX4_writesState 149 = .ok (.return_, 1) := dk_177 (dk_at dksX4_writesState_6 6 rfl rfl)
abbrev cX4_outputAt : ByteArray := prog_12_method_58_code
def yX4_outputAt : MethodName := ⟨RX4, "outputAt", "(I)I"⟩
def dkwX4_outputAt_1 : List UInt8 := [180, 0, 77, 27, 51, 182, 0, 161, 172]
abbrev dktX4_outputAt_1 : List UInt8 := dkwX4_outputAt_1 ++ []
def dkwX4_outputAt_0 : List UInt8 := [27, 3, 42, 180, 0, 192, 4, 100, 184, 0, 91, 154, 0, 9, 42, 2, 182, 0, 161, 172, 42, 42]
abbrev dktX4_outputAt_0 : List UInt8 := dkwX4_outputAt_0 ++ dktX4_outputAt_1
theorem dksX4_outputAt_0 : cX4_outputAt.data.toList.drop 0 = dktX4_outputAt_0 := by decide +kernel
theorem dksX4_outputAt_1 : cX4_outputAt.data.toList.drop 22 = dktX4_outputAt_1 := dk_seg dksX4_outputAt_0 22 rfl rfl
theorem dX4_outputAt_0 : decode cX4_outputAt 0 = .ok (.iload_n 1, 1) := dk_27 (dk_at dksX4_outputAt_0 0 rfl rfl)
theorem dX4_outputAt_1 : decode cX4_outputAt 1 = .ok (.iconst 0, 1) := dk_3 (dk_at dksX4_outputAt_0 1 rfl rfl)
theorem dX4_outputAt_2 : decode cX4_outputAt 2 = .ok (.aload_n 0, 1) := dk_42 (dk_at dksX4_outputAt_0 2 rfl rfl)
theorem dX4_outputAt_3 : decode cX4_outputAt 3 = .ok (.getfield 192, 3) := dk_180 0 192 (dk_at dksX4_outputAt_0 3 rfl rfl)
theorem dX4_outputAt_6 : decode cX4_outputAt 6 = .ok (.iconst 1, 1) := dk_4 (dk_at dksX4_outputAt_0 6 rfl rfl)
theorem dX4_outputAt_7 : decode cX4_outputAt 7 = .ok (.isub, 1) := dk_100 (dk_at dksX4_outputAt_0 7 rfl rfl)
theorem dX4_outputAt_8 : decode cX4_outputAt 8 = .ok (.invokestatic 91, 3) := dk_184 0 91 (dk_at dksX4_outputAt_0 8 rfl rfl)
theorem dX4_outputAt_11 : decode cX4_outputAt 11 = .ok (.ifCond .ne 9, 3) := dk_154 0 9 (dk_at dksX4_outputAt_0 11 rfl rfl)
theorem dX4_outputAt_14 : decode cX4_outputAt 14 = .ok (.aload_n 0, 1) := dk_42 (dk_at dksX4_outputAt_0 14 rfl rfl)
theorem dX4_outputAt_15 : decode cX4_outputAt 15 = .ok (.iconst (-1), 1) := dk_2 (dk_at dksX4_outputAt_0 15 rfl rfl)
theorem dX4_outputAt_16 : decode cX4_outputAt 16 = .ok (.invokevirtual 161, 3) := dk_182 0 161 (dk_at dksX4_outputAt_0 16 rfl rfl)
theorem dX4_outputAt_19 : decode cX4_outputAt 19 = .ok (.ireturn, 1) := dk_172 (dk_at dksX4_outputAt_0 19 rfl rfl)
theorem dX4_outputAt_20 : decode cX4_outputAt 20 = .ok (.aload_n 0, 1) := dk_42 (dk_at dksX4_outputAt_0 20 rfl rfl)
theorem dX4_outputAt_21 : decode cX4_outputAt 21 = .ok (.aload_n 0, 1) := dk_42 (dk_at dksX4_outputAt_0 21 rfl rfl)
theorem dX4_outputAt_22 : decode cX4_outputAt 22 = .ok (.getfield 77, 3) := dk_180 0 77 (dk_at dksX4_outputAt_1 0 rfl rfl)
theorem dX4_outputAt_25 : decode cX4_outputAt 25 = .ok (.iload_n 1, 1) := dk_27 (dk_at dksX4_outputAt_1 3 rfl rfl)
theorem dX4_outputAt_26 : decode cX4_outputAt 26 = .ok (.baload, 1) := dk_51 (dk_at dksX4_outputAt_1 4 rfl rfl)
theorem dX4_outputAt_27 : decode cX4_outputAt 27 = .ok (.invokevirtual 161, 3) := dk_182 0 161 (dk_at dksX4_outputAt_1 5 rfl rfl)
theorem dX4_outputAt_30 : decode cX4_outputAt 30 = .ok (.ireturn, 1) := dk_172 (dk_at dksX4_outputAt_1 8 rfl rfl)
abbrev cX4_meanAge : ByteArray := prog_12_method_59_code
def yX4_meanAge : MethodName := ⟨RX4, "meanAge", "()D"⟩
def dkwX4_meanAge_2 : List UInt8 := [167, 255, 219, 28, 154, 0, 5, 14, 175, 27, 135, 28, 135, 111, 175]
abbrev dktX4_meanAge_2 : List UInt8 := dkwX4_meanAge_2 ++ []
def dkwX4_meanAge_1 : List UInt8 := [46, 154, 0, 20, 27, 42, 180, 0, 101, 42, 180, 0, 40, 29, 46, 100, 96, 60, 132, 2, 1, 132, 3, 1]
abbrev dktX4_meanAge_1 : List UInt8 := dkwX4_meanAge_1 ++ dktX4_meanAge_2
def dkwX4_meanAge_0 : List UInt8 := [42, 3, 181, 0, 84, 3, 60, 3, 61, 3, 62, 29, 42, 180, 0, 98, 162, 0, 35, 42, 180, 0, 49, 29]
abbrev dktX4_meanAge_0 : List UInt8 := dkwX4_meanAge_0 ++ dktX4_meanAge_1
theorem dksX4_meanAge_0 : cX4_meanAge.data.toList.drop 0 = dktX4_meanAge_0 := by decide +kernel
theorem dksX4_meanAge_1 : cX4_meanAge.data.toList.drop 24 = dktX4_meanAge_1 := dk_seg dksX4_meanAge_0 24 rfl rfl
theorem dksX4_meanAge_2 : cX4_meanAge.data.toList.drop 48 = dktX4_meanAge_2 := dk_seg dksX4_meanAge_1 24 rfl rfl
theorem dX4_meanAge_0 : decode cX4_meanAge 0 = .ok (.aload_n 0, 1) := dk_42 (dk_at dksX4_meanAge_0 0 rfl rfl)
theorem dX4_meanAge_1 : decode cX4_meanAge 1 = .ok (.iconst 0, 1) := dk_3 (dk_at dksX4_meanAge_0 1 rfl rfl)
theorem dX4_meanAge_2 : decode cX4_meanAge 2 = .ok (.putfield 84, 3) := dk_181 0 84 (dk_at dksX4_meanAge_0 2 rfl rfl)
theorem dX4_meanAge_5 : decode cX4_meanAge 5 = .ok (.iconst 0, 1) := dk_3 (dk_at dksX4_meanAge_0 5 rfl rfl)
theorem dX4_meanAge_6 : decode cX4_meanAge 6 = .ok (.istore_n 1, 1) := dk_60 (dk_at dksX4_meanAge_0 6 rfl rfl)
theorem dX4_meanAge_7 : decode cX4_meanAge 7 = .ok (.iconst 0, 1) := dk_3 (dk_at dksX4_meanAge_0 7 rfl rfl)
theorem dX4_meanAge_8 : decode cX4_meanAge 8 = .ok (.istore_n 2, 1) := dk_61 (dk_at dksX4_meanAge_0 8 rfl rfl)
theorem dX4_meanAge_9 : decode cX4_meanAge 9 = .ok (.iconst 0, 1) := dk_3 (dk_at dksX4_meanAge_0 9 rfl rfl)
theorem dX4_meanAge_10 : decode cX4_meanAge 10 = .ok (.istore_n 3, 1) := dk_62 (dk_at dksX4_meanAge_0 10 rfl rfl)
theorem dX4_meanAge_11 : decode cX4_meanAge 11 = .ok (.iload_n 3, 1) := dk_29 (dk_at dksX4_meanAge_0 11 rfl rfl)
theorem dX4_meanAge_12 : decode cX4_meanAge 12 = .ok (.aload_n 0, 1) := dk_42 (dk_at dksX4_meanAge_0 12 rfl rfl)
theorem dX4_meanAge_13 : decode cX4_meanAge 13 = .ok (.getfield 98, 3) := dk_180 0 98 (dk_at dksX4_meanAge_0 13 rfl rfl)
theorem dX4_meanAge_16 : decode cX4_meanAge 16 = .ok (.if_icmp .ge 35, 3) := dk_162 0 35 (dk_at dksX4_meanAge_0 16 rfl rfl)
theorem dX4_meanAge_19 : decode cX4_meanAge 19 = .ok (.aload_n 0, 1) := dk_42 (dk_at dksX4_meanAge_0 19 rfl rfl)
theorem dX4_meanAge_20 : decode cX4_meanAge 20 = .ok (.getfield 49, 3) := dk_180 0 49 (dk_at dksX4_meanAge_0 20 rfl rfl)
theorem dX4_meanAge_23 : decode cX4_meanAge 23 = .ok (.iload_n 3, 1) := dk_29 (dk_at dksX4_meanAge_0 23 rfl rfl)
theorem dX4_meanAge_24 : decode cX4_meanAge 24 = .ok (.iaload, 1) := dk_46 (dk_at dksX4_meanAge_1 0 rfl rfl)
theorem dX4_meanAge_25 : decode cX4_meanAge 25 = .ok (.ifCond .ne 20, 3) := dk_154 0 20 (dk_at dksX4_meanAge_1 1 rfl rfl)
theorem dX4_meanAge_28 : decode cX4_meanAge 28 = .ok (.iload_n 1, 1) := dk_27 (dk_at dksX4_meanAge_1 4 rfl rfl)
theorem dX4_meanAge_29 : decode cX4_meanAge 29 = .ok (.aload_n 0, 1) := dk_42 (dk_at dksX4_meanAge_1 5 rfl rfl)
theorem dX4_meanAge_30 : decode cX4_meanAge 30 = .ok (.getfield 101, 3) := dk_180 0 101 (dk_at dksX4_meanAge_1 6 rfl rfl)
theorem dX4_meanAge_33 : decode cX4_meanAge 33 = .ok (.aload_n 0, 1) := dk_42 (dk_at dksX4_meanAge_1 9 rfl rfl)
theorem dX4_meanAge_34 : decode cX4_meanAge 34 = .ok (.getfield 40, 3) := dk_180 0 40 (dk_at dksX4_meanAge_1 10 rfl rfl)
theorem dX4_meanAge_37 : decode cX4_meanAge 37 = .ok (.iload_n 3, 1) := dk_29 (dk_at dksX4_meanAge_1 13 rfl rfl)
theorem dX4_meanAge_38 : decode cX4_meanAge 38 = .ok (.iaload, 1) := dk_46 (dk_at dksX4_meanAge_1 14 rfl rfl)
theorem dX4_meanAge_39 : decode cX4_meanAge 39 = .ok (.isub, 1) := dk_100 (dk_at dksX4_meanAge_1 15 rfl rfl)
theorem dX4_meanAge_40 : decode cX4_meanAge 40 = .ok (.iadd, 1) := dk_96 (dk_at dksX4_meanAge_1 16 rfl rfl)
theorem dX4_meanAge_41 : decode cX4_meanAge 41 = .ok (.istore_n 1, 1) := dk_60 (dk_at dksX4_meanAge_1 17 rfl rfl)
theorem dX4_meanAge_42 : decode cX4_meanAge 42 = .ok (.iinc 2 1, 3) := dk_132 2 1 (dk_at dksX4_meanAge_1 18 rfl rfl)
theorem dX4_meanAge_45 : decode cX4_meanAge 45 = .ok (.iinc 3 1, 3) := dk_132 3 1 (dk_at dksX4_meanAge_1 21 rfl rfl)
theorem dX4_meanAge_48 : decode cX4_meanAge 48 = .ok (.goto (-37), 3) := dk_167 255 219 (dk_at dksX4_meanAge_2 0 rfl rfl)
theorem dX4_meanAge_51 : decode cX4_meanAge 51 = .ok (.iload_n 2, 1) := dk_28 (dk_at dksX4_meanAge_2 3 rfl rfl)
theorem dX4_meanAge_52 : decode cX4_meanAge 52 = .ok (.ifCond .ne 5, 3) := dk_154 0 5 (dk_at dksX4_meanAge_2 4 rfl rfl)
theorem dX4_meanAge_55 : decode cX4_meanAge 55 = .ok (.dconst 0, 1) := dk_14 (dk_at dksX4_meanAge_2 7 rfl rfl)
theorem dX4_meanAge_56 : decode cX4_meanAge 56 = .ok (.dreturn, 1) := dk_175 (dk_at dksX4_meanAge_2 8 rfl rfl)
theorem dX4_meanAge_57 : decode cX4_meanAge 57 = .ok (.iload_n 1, 1) := dk_27 (dk_at dksX4_meanAge_2 9 rfl rfl)
theorem dX4_meanAge_58 : decode cX4_meanAge 58 = .ok (.i2d, 1) := dk_135 (dk_at dksX4_meanAge_2 10 rfl rfl)
theorem dX4_meanAge_59 : decode cX4_meanAge 59 = .ok (.iload_n 2, 1) := dk_28 (dk_at dksX4_meanAge_2 11 rfl rfl)
theorem dX4_meanAge_60 : decode cX4_meanAge 60 = .ok (.i2d, 1) := dk_135 (dk_at dksX4_meanAge_2 12 rfl rfl)
theorem dX4_meanAge_61 : decode cX4_meanAge 61 = .ok (.ddiv, 1) := dk_111 (dk_at dksX4_meanAge_2 13 rfl rfl)
theorem dX4_meanAge_62 : decode cX4_meanAge 62 = .ok (.dreturn, 1) := dk_175 (dk_at dksX4_meanAge_2 14 rfl rfl)
abbrev cX4_heldShare : ByteArray := prog_12_method_60_code
def yX4_heldShare : MethodName := ⟨RX4, "heldShare", "()F"⟩
def dkwX4_heldShare_2 : List UInt8 := [167, 255, 221, 28, 154, 0, 5, 11, 174, 27, 134, 28, 134, 110, 174]
abbrev dktX4_heldShare_2 : List UInt8 := dkwX4_heldShare_2 ++ []
def dkwX4_heldShare_1 : List UInt8 := [46, 6, 159, 0, 6, 132, 2, 1, 42, 29, 182, 0, 137, 153, 0, 6, 132, 1, 1, 132, 3, 1]
abbrev dktX4_heldShare_1 : List UInt8 := dkwX4_heldShare_1 ++ dktX4_heldShare_2
def dkwX4_heldShare_0 : List UInt8 := [42, 3, 181, 0, 84, 3, 60, 3, 61, 3, 62, 29, 42, 180, 0, 98, 162, 0, 33, 42, 180, 0, 49, 29]
abbrev dktX4_heldShare_0 : List UInt8 := dkwX4_heldShare_0 ++ dktX4_heldShare_1
theorem dksX4_heldShare_0 : cX4_heldShare.data.toList.drop 0 = dktX4_heldShare_0 := by decide +kernel
theorem dksX4_heldShare_1 : cX4_heldShare.data.toList.drop 24 = dktX4_heldShare_1 := dk_seg dksX4_heldShare_0 24 rfl rfl
theorem dksX4_heldShare_2 : cX4_heldShare.data.toList.drop 46 = dktX4_heldShare_2 := dk_seg dksX4_heldShare_1 22 rfl rfl
theorem dX4_heldShare_0 : decode cX4_heldShare 0 = .ok (.aload_n 0, 1) := dk_42 (dk_at dksX4_heldShare_0 0 rfl rfl)
theorem dX4_heldShare_1 : decode cX4_heldShare 1 = .ok (.iconst 0, 1) := dk_3 (dk_at dksX4_heldShare_0 1 rfl rfl)
theorem dX4_heldShare_2 : decode cX4_heldShare 2 = .ok (.putfield 84, 3) := dk_181 0 84 (dk_at dksX4_heldShare_0 2 rfl rfl)
theorem dX4_heldShare_5 : decode cX4_heldShare 5 = .ok (.iconst 0, 1) := dk_3 (dk_at dksX4_heldShare_0 5 rfl rfl)
theorem dX4_heldShare_6 : decode cX4_heldShare 6 = .ok (.istore_n 1, 1) := dk_60 (dk_at dksX4_heldShare_0 6 rfl rfl)
theorem dX4_heldShare_7 : decode cX4_heldShare 7 = .ok (.iconst 0, 1) := dk_3 (dk_at dksX4_heldShare_0 7 rfl rfl)
theorem dX4_heldShare_8 : decode cX4_heldShare 8 = .ok (.istore_n 2, 1) := dk_61 (dk_at dksX4_heldShare_0 8 rfl rfl)
theorem dX4_heldShare_9 : decode cX4_heldShare 9 = .ok (.iconst 0, 1) := dk_3 (dk_at dksX4_heldShare_0 9 rfl rfl)
theorem dX4_heldShare_10 : decode cX4_heldShare 10 = .ok (.istore_n 3, 1) := dk_62 (dk_at dksX4_heldShare_0 10 rfl rfl)
theorem dX4_heldShare_11 : decode cX4_heldShare 11 = .ok (.iload_n 3, 1) := dk_29 (dk_at dksX4_heldShare_0 11 rfl rfl)
theorem dX4_heldShare_12 : decode cX4_heldShare 12 = .ok (.aload_n 0, 1) := dk_42 (dk_at dksX4_heldShare_0 12 rfl rfl)
theorem dX4_heldShare_13 : decode cX4_heldShare 13 = .ok (.getfield 98, 3) := dk_180 0 98 (dk_at dksX4_heldShare_0 13 rfl rfl)
theorem dX4_heldShare_16 : decode cX4_heldShare 16 = .ok (.if_icmp .ge 33, 3) := dk_162 0 33 (dk_at dksX4_heldShare_0 16 rfl rfl)
theorem dX4_heldShare_19 : decode cX4_heldShare 19 = .ok (.aload_n 0, 1) := dk_42 (dk_at dksX4_heldShare_0 19 rfl rfl)
theorem dX4_heldShare_20 : decode cX4_heldShare 20 = .ok (.getfield 49, 3) := dk_180 0 49 (dk_at dksX4_heldShare_0 20 rfl rfl)
theorem dX4_heldShare_23 : decode cX4_heldShare 23 = .ok (.iload_n 3, 1) := dk_29 (dk_at dksX4_heldShare_0 23 rfl rfl)
theorem dX4_heldShare_24 : decode cX4_heldShare 24 = .ok (.iaload, 1) := dk_46 (dk_at dksX4_heldShare_1 0 rfl rfl)
theorem dX4_heldShare_25 : decode cX4_heldShare 25 = .ok (.iconst 3, 1) := dk_6 (dk_at dksX4_heldShare_1 1 rfl rfl)
theorem dX4_heldShare_26 : decode cX4_heldShare 26 = .ok (.if_icmp .eq 6, 3) := dk_159 0 6 (dk_at dksX4_heldShare_1 2 rfl rfl)
theorem dX4_heldShare_29 : decode cX4_heldShare 29 = .ok (.iinc 2 1, 3) := dk_132 2 1 (dk_at dksX4_heldShare_1 5 rfl rfl)
theorem dX4_heldShare_32 : decode cX4_heldShare 32 = .ok (.aload_n 0, 1) := dk_42 (dk_at dksX4_heldShare_1 8 rfl rfl)
theorem dX4_heldShare_33 : decode cX4_heldShare 33 = .ok (.iload_n 3, 1) := dk_29 (dk_at dksX4_heldShare_1 9 rfl rfl)
theorem dX4_heldShare_34 : decode cX4_heldShare 34 = .ok (.invokevirtual 137, 3) := dk_182 0 137 (dk_at dksX4_heldShare_1 10 rfl rfl)
theorem dX4_heldShare_37 : decode cX4_heldShare 37 = .ok (.ifCond .eq 6, 3) := dk_153 0 6 (dk_at dksX4_heldShare_1 13 rfl rfl)
theorem dX4_heldShare_40 : decode cX4_heldShare 40 = .ok (.iinc 1 1, 3) := dk_132 1 1 (dk_at dksX4_heldShare_1 16 rfl rfl)
theorem dX4_heldShare_43 : decode cX4_heldShare 43 = .ok (.iinc 3 1, 3) := dk_132 3 1 (dk_at dksX4_heldShare_1 19 rfl rfl)
theorem dX4_heldShare_46 : decode cX4_heldShare 46 = .ok (.goto (-35), 3) := dk_167 255 221 (dk_at dksX4_heldShare_2 0 rfl rfl)
theorem dX4_heldShare_49 : decode cX4_heldShare 49 = .ok (.iload_n 2, 1) := dk_28 (dk_at dksX4_heldShare_2 3 rfl rfl)
theorem dX4_heldShare_50 : decode cX4_heldShare 50 = .ok (.ifCond .ne 5, 3) := dk_154 0 5 (dk_at dksX4_heldShare_2 4 rfl rfl)
theorem dX4_heldShare_53 : decode cX4_heldShare 53 = .ok (.fconst 0, 1) := dk_11 (dk_at dksX4_heldShare_2 7 rfl rfl)
theorem dX4_heldShare_54 : decode cX4_heldShare 54 = .ok (.freturn, 1) := dk_174 (dk_at dksX4_heldShare_2 8 rfl rfl)
theorem dX4_heldShare_55 : decode cX4_heldShare 55 = .ok (.iload_n 1, 1) := dk_27 (dk_at dksX4_heldShare_2 9 rfl rfl)
theorem dX4_heldShare_56 : decode cX4_heldShare 56 = .ok (.i2f, 1) := dk_134 (dk_at dksX4_heldShare_2 10 rfl rfl)
theorem dX4_heldShare_57 : decode cX4_heldShare 57 = .ok (.iload_n 2, 1) := dk_28 (dk_at dksX4_heldShare_2 11 rfl rfl)
theorem dX4_heldShare_58 : decode cX4_heldShare 58 = .ok (.i2f, 1) := dk_134 (dk_at dksX4_heldShare_2 12 rfl rfl)
theorem dX4_heldShare_59 : decode cX4_heldShare 59 = .ok (.fdiv, 1) := dk_110 (dk_at dksX4_heldShare_2 13 rfl rfl)
theorem dX4_heldShare_60 : decode cX4_heldShare 60 = .ok (.freturn, 1) := dk_174 (dk_at dksX4_heldShare_2 14 rfl rfl)
abbrev cX4_errors : ByteArray := prog_12_method_61_code
def yX4_errors : MethodName := ⟨RX4, "errors", "()I"⟩
def dkwX4_errors_0 : List UInt8 := [42, 3, 182, 0, 161, 172]
abbrev dktX4_errors_0 : List UInt8 := dkwX4_errors_0 ++ []
theorem dksX4_errors_0 : cX4_errors.data.toList.drop 0 = dktX4_errors_0 := by decide +kernel
theorem dX4_errors_0 : decode cX4_errors 0 = .ok (.aload_n 0, 1) := dk_42 (dk_at dksX4_errors_0 0 rfl rfl)
theorem dX4_errors_1 : decode cX4_errors 1 = .ok (.iconst 0, 1) := dk_3 (dk_at dksX4_errors_0 1 rfl rfl)
theorem dX4_errors_2 : decode cX4_errors 2 = .ok (.invokevirtual 161, 3) := dk_182 0 161 (dk_at dksX4_errors_0 2 rfl rfl)
theorem dX4_errors_5 : decode cX4_errors 5 = .ok (.ireturn, 1) := dk_172 (dk_at dksX4_errors_0 5 rfl rfl)
theorem q70 : (Jvm.Cond.initialized "HoldtagModel") ∈ lw_all := lw_g (lw_at lw_m1 17 rfl) rfl
theorem q277 : (Jvm.Cond.selects "HoldtagModel" ({ cls := "java/lang/Object", name := "getClass", desc := "()Ljava/lang/Class;" } : Jvm.MethodName) ({ cls := "java/lang/Object", name := "getClass", desc := "()Ljava/lang/Class;" } : Jvm.MethodName)) ∈ lw_all := lw_g (lw_at lw_m1 224 rfl) rfl
theorem q1902 : (Jvm.Cond.instantiable "HoldtagModel" (34 : Nat)) ∈ lw_all := lw_g (lw_at lw_m8 169 rfl) rfl
theorem q1904 : (Jvm.Cond.instanceMethod ({ cls := "HoldtagModel", name := "<init>", desc := "()V" } : Jvm.MethodName)) ∈ lw_all := lw_g (lw_at lw_m8 171 rfl) rfl
theorem q1905 : (Jvm.Cond.code ({ cls := "HoldtagModel", name := "<init>", desc := "()V" } : Jvm.MethodName) prog_12_method_1_code (1 : Nat) (Option.none : Option Jvm.ClassFile.FieldType)) ∈ lw_all := lw_g (lw_at lw_m8 172 rfl) rfl
theorem q1906 : (Jvm.Cond.methodLink "HoldtagModel" (1 : Nat) ({ cls := "java/lang/Object", name := "<init>", desc := "()V" } : Jvm.MethodName)) ∈ lw_all := lw_g (lw_at lw_m8 173 rfl) rfl
theorem q1907 : (Jvm.Cond.methodLink "HoldtagModel" (81 : Nat) ({ cls := "HoldtagModel", name := "begins", desc := "()V" } : Jvm.MethodName)) ∈ lw_all := lw_g (lw_at lw_m8 174 rfl) rfl
theorem q1908 : (Jvm.Cond.privateMethod ({ cls := "HoldtagModel", name := "begins", desc := "()V" } : Jvm.MethodName)) ∈ lw_tbl := lw_at lw_m8 175 rfl
theorem q1909 : (Jvm.Cond.instanceMethod ({ cls := "HoldtagModel", name := "begins", desc := "()V" } : Jvm.MethodName)) ∈ lw_all := lw_g (lw_at lw_m8 176 rfl) rfl
theorem q1910 : (Jvm.Cond.code ({ cls := "HoldtagModel", name := "begins", desc := "()V" } : Jvm.MethodName) prog_12_method_9_code (2 : Nat) (Option.none : Option Jvm.ClassFile.FieldType)) ∈ lw_all := lw_g (lw_at lw_m8 177 rfl) rfl
theorem q1911 : (Jvm.Cond.fieldLink "HoldtagModel" (84 : Nat) "HoldtagModel" "thrown" "I") ∈ lw_all := lw_g (lw_at lw_m8 178 rfl) rfl
theorem q1912 : (Jvm.Cond.fieldLink "HoldtagModel" (101 : Nat) "HoldtagModel" "day" "I") ∈ lw_all := lw_g (lw_at lw_m8 179 rfl) rfl
theorem q1913 : (Jvm.Cond.fieldLink "HoldtagModel" (104 : Nat) "HoldtagModel" "window" "I") ∈ lw_all := lw_g (lw_at lw_m8 180 rfl) rfl
theorem q1914 : (Jvm.Cond.fieldLink "HoldtagModel" (107 : Nat) "HoldtagModel" "quota" "I") ∈ lw_all := lw_g (lw_at lw_m8 181 rfl) rfl
theorem q1915 : (Jvm.Cond.fieldLink "HoldtagModel" (134 : Nat) "HoldtagModel" "goneMany" "I") ∈ lw_all := lw_g (lw_at lw_m8 182 rfl) rfl
theorem q1916 : (Jvm.Cond.fieldLink "HoldtagModel" (88 : Nat) "HoldtagModel" "folderMany" "I") ∈ lw_all := lw_g (lw_at lw_m8 183 rfl) rfl
theorem q1917 : (Jvm.Cond.fieldLink "HoldtagModel" (7 : Nat) "HoldtagModel" "liesIn" "[I") ∈ lw_all := lw_g (lw_at lw_m8 184 rfl) rfl
theorem q1918 : (Jvm.Cond.fieldLink "HoldtagModel" (13 : Nat) "HoldtagModel" "folderTag" "[I") ∈ lw_all := lw_g (lw_at lw_m8 185 rfl) rfl
theorem q1919 : (Jvm.Cond.fieldLink "HoldtagModel" (110 : Nat) "HoldtagModel" "defaultTag" "I") ∈ lw_all := lw_g (lw_at lw_m8 186 rfl) rfl
theorem q1920 : (Jvm.Cond.fieldLink "HoldtagModel" (95 : Nat) "HoldtagModel" "tagMany" "I") ∈ lw_all := lw_g (lw_at lw_m8 187 rfl) rfl
theorem q1921 : (Jvm.Cond.fieldLink "HoldtagModel" (16 : Nat) "HoldtagModel" "actionOf" "[I") ∈ lw_all := lw_g (lw_at lw_m8 188 rfl) rfl
theorem q1922 : (Jvm.Cond.fieldLink "HoldtagModel" (19 : Nat) "HoldtagModel" "startOf" "[I") ∈ lw_all := lw_g (lw_at lw_m8 189 rfl) rfl
theorem q1923 : (Jvm.Cond.fieldLink "HoldtagModel" (22 : Nat) "HoldtagModel" "ageOf" "[I") ∈ lw_all := lw_g (lw_at lw_m8 190 rfl) rfl
theorem q1924 : (Jvm.Cond.fieldLink "HoldtagModel" (25 : Nat) "HoldtagModel" "eventDay" "[I") ∈ lw_all := lw_g (lw_at lw_m8 191 rfl) rfl
theorem q1925 : (Jvm.Cond.fieldLink "HoldtagModel" (98 : Nat) "HoldtagModel" "itemMany" "I") ∈ lw_all := lw_g (lw_at lw_m8 192 rfl) rfl
theorem q1926 : (Jvm.Cond.fieldLink "HoldtagModel" (28 : Nat) "HoldtagModel" "folderOf" "[I") ∈ lw_all := lw_g (lw_at lw_m8 193 rfl) rfl
theorem q1927 : (Jvm.Cond.fieldLink "HoldtagModel" (31 : Nat) "HoldtagModel" "senderOf" "[I") ∈ lw_all := lw_g (lw_at lw_m8 194 rfl) rfl
theorem q1928 : (Jvm.Cond.fieldLink "HoldtagModel" (34 : Nat) "HoldtagModel" "wordOf" "[I") ∈ lw_all := lw_g (lw_at lw_m8 195 rfl) rfl
theorem q1929 : (Jvm.Cond.fieldLink "HoldtagModel" (37 : Nat) "HoldtagModel" "sizeOf" "[I") ∈ lw_all := lw_g (lw_at lw_m8 196 rfl) rfl
theorem q1930 : (Jvm.Cond.fieldLink "HoldtagModel" (40 : Nat) "HoldtagModel" "arrivalOf" "[I") ∈ lw_all := lw_g (lw_at lw_m8 197 rfl) rfl
theorem q1931 : (Jvm.Cond.fieldLink "HoldtagModel" (43 : Nat) "HoldtagModel" "ownTag" "[I") ∈ lw_all := lw_g (lw_at lw_m8 198 rfl) rfl
theorem q1932 : (Jvm.Cond.fieldLink "HoldtagModel" (46 : Nat) "HoldtagModel" "meetingOf" "[I") ∈ lw_all := lw_g (lw_at lw_m8 199 rfl) rfl
theorem q1933 : (Jvm.Cond.fieldLink "HoldtagModel" (49 : Nat) "HoldtagModel" "stateOf" "[I") ∈ lw_all := lw_g (lw_at lw_m8 200 rfl) rfl
theorem q1934 : (Jvm.Cond.fieldLink "HoldtagModel" (52 : Nat) "HoldtagModel" "deletedOn" "[I") ∈ lw_all := lw_g (lw_at lw_m8 201 rfl) rfl
theorem q1935 : (Jvm.Cond.fieldLink "HoldtagModel" (55 : Nat) "HoldtagModel" "goneOn" "[I") ∈ lw_all := lw_g (lw_at lw_m8 202 rfl) rfl
theorem q1936 : (Jvm.Cond.fieldLink "HoldtagModel" (58 : Nat) "HoldtagModel" "wasHeld" "[Z") ∈ lw_all := lw_g (lw_at lw_m8 203 rfl) rfl
theorem q1937 : (Jvm.Cond.fieldLink "HoldtagModel" (113 : Nat) "HoldtagModel" "holdMany" "I") ∈ lw_all := lw_g (lw_at lw_m8 204 rfl) rfl
theorem q1938 : (Jvm.Cond.fieldLink "HoldtagModel" (62 : Nat) "HoldtagModel" "holdSender" "[I") ∈ lw_all := lw_g (lw_at lw_m8 205 rfl) rfl
theorem q1939 : (Jvm.Cond.fieldLink "HoldtagModel" (65 : Nat) "HoldtagModel" "holdWord" "[I") ∈ lw_all := lw_g (lw_at lw_m8 206 rfl) rfl
theorem q1940 : (Jvm.Cond.fieldLink "HoldtagModel" (68 : Nat) "HoldtagModel" "holdFirst" "[I") ∈ lw_all := lw_g (lw_at lw_m8 207 rfl) rfl
theorem q1941 : (Jvm.Cond.fieldLink "HoldtagModel" (71 : Nat) "HoldtagModel" "holdLast" "[I") ∈ lw_all := lw_g (lw_at lw_m8 208 rfl) rfl
theorem q1942 : (Jvm.Cond.fieldLink "HoldtagModel" (74 : Nat) "HoldtagModel" "isReleased" "[Z") ∈ lw_all := lw_g (lw_at lw_m8 209 rfl) rfl
theorem q1943 : (Jvm.Cond.fieldLink "HoldtagModel" (77 : Nat) "HoldtagModel" "output" "[B") ∈ lw_all := lw_g (lw_at lw_m8 210 rfl) rfl
theorem q1944 : (Jvm.Cond.fieldLink "HoldtagModel" (192 : Nat) "HoldtagModel" "outputMany" "I") ∈ lw_all := lw_g (lw_at lw_m8 211 rfl) rfl
theorem q1945 : (Jvm.Cond.lays "HoldtagModel" "HoldtagModel" "thrown" "I") ∈ lw_all := lw_g (lw_at lw_m8 212 rfl) rfl
theorem q1946 : (Jvm.Cond.soleField "HoldtagModel" "thrown") ∈ lw_all := lw_g (lw_at lw_m8 213 rfl) rfl
theorem q1947 : (Jvm.Cond.lays "HoldtagModel" "HoldtagModel" "day" "I") ∈ lw_all := lw_g (lw_at lw_m8 214 rfl) rfl
theorem q1948 : (Jvm.Cond.soleField "HoldtagModel" "day") ∈ lw_all := lw_g (lw_at lw_m8 215 rfl) rfl
theorem q1949 : (Jvm.Cond.lays "HoldtagModel" "HoldtagModel" "window" "I") ∈ lw_all := lw_g (lw_at lw_m8 216 rfl) rfl
theorem q1950 : (Jvm.Cond.soleField "HoldtagModel" "window") ∈ lw_all := lw_g (lw_at lw_m8 217 rfl) rfl
theorem q1951 : (Jvm.Cond.lays "HoldtagModel" "HoldtagModel" "quota" "I") ∈ lw_all := lw_g (lw_at lw_m8 218 rfl) rfl
theorem q1952 : (Jvm.Cond.soleField "HoldtagModel" "quota") ∈ lw_all := lw_g (lw_at lw_m8 219 rfl) rfl
theorem q1953 : (Jvm.Cond.lays "HoldtagModel" "HoldtagModel" "goneMany" "I") ∈ lw_all := lw_g (lw_at lw_m8 220 rfl) rfl
theorem q1954 : (Jvm.Cond.soleField "HoldtagModel" "goneMany") ∈ lw_all := lw_g (lw_at lw_m8 221 rfl) rfl
theorem q1955 : (Jvm.Cond.lays "HoldtagModel" "HoldtagModel" "folderMany" "I") ∈ lw_all := lw_g (lw_at lw_m8 222 rfl) rfl
theorem q1956 : (Jvm.Cond.soleField "HoldtagModel" "folderMany") ∈ lw_all := lw_g (lw_at lw_m8 223 rfl) rfl
theorem q1957 : (Jvm.Cond.laysFinal "HoldtagModel" "HoldtagModel" "liesIn" "[I") ∈ lw_all := lw_g (lw_at lw_m8 224 rfl) rfl
theorem q1958 : (Jvm.Cond.soleField "HoldtagModel" "liesIn") ∈ lw_all := lw_g (lw_at lw_m8 225 rfl) rfl
theorem q1959 : (Jvm.Cond.laysFinal "HoldtagModel" "HoldtagModel" "folderTag" "[I") ∈ lw_all := lw_g (lw_at lw_m8 226 rfl) rfl
theorem q1960 : (Jvm.Cond.soleField "HoldtagModel" "folderTag") ∈ lw_all := lw_g (lw_at lw_m8 227 rfl) rfl
theorem q1961 : (Jvm.Cond.lays "HoldtagModel" "HoldtagModel" "defaultTag" "I") ∈ lw_all := lw_g (lw_at lw_m8 228 rfl) rfl
theorem q1962 : (Jvm.Cond.soleField "HoldtagModel" "defaultTag") ∈ lw_all := lw_g (lw_at lw_m8 229 rfl) rfl
theorem q1963 : (Jvm.Cond.lays "HoldtagModel" "HoldtagModel" "tagMany" "I") ∈ lw_all := lw_g (lw_at lw_m8 230 rfl) rfl
theorem q1964 : (Jvm.Cond.soleField "HoldtagModel" "tagMany") ∈ lw_all := lw_g (lw_at lw_m8 231 rfl) rfl
theorem q1965 : (Jvm.Cond.laysFinal "HoldtagModel" "HoldtagModel" "actionOf" "[I") ∈ lw_all := lw_g (lw_at lw_m8 232 rfl) rfl
theorem q1966 : (Jvm.Cond.soleField "HoldtagModel" "actionOf") ∈ lw_all := lw_g (lw_at lw_m8 233 rfl) rfl
theorem q1967 : (Jvm.Cond.laysFinal "HoldtagModel" "HoldtagModel" "startOf" "[I") ∈ lw_all := lw_g (lw_at lw_m8 234 rfl) rfl
theorem q1968 : (Jvm.Cond.soleField "HoldtagModel" "startOf") ∈ lw_all := lw_g (lw_at lw_m8 235 rfl) rfl
theorem q1969 : (Jvm.Cond.laysFinal "HoldtagModel" "HoldtagModel" "ageOf" "[I") ∈ lw_all := lw_g (lw_at lw_m8 236 rfl) rfl
theorem q1970 : (Jvm.Cond.soleField "HoldtagModel" "ageOf") ∈ lw_all := lw_g (lw_at lw_m8 237 rfl) rfl
theorem q1971 : (Jvm.Cond.laysFinal "HoldtagModel" "HoldtagModel" "eventDay" "[I") ∈ lw_all := lw_g (lw_at lw_m8 238 rfl) rfl
theorem q1972 : (Jvm.Cond.soleField "HoldtagModel" "eventDay") ∈ lw_all := lw_g (lw_at lw_m8 239 rfl) rfl
theorem q1973 : (Jvm.Cond.lays "HoldtagModel" "HoldtagModel" "itemMany" "I") ∈ lw_all := lw_g (lw_at lw_m9 0 rfl) rfl
theorem q1974 : (Jvm.Cond.soleField "HoldtagModel" "itemMany") ∈ lw_all := lw_g (lw_at lw_m9 1 rfl) rfl
theorem q1975 : (Jvm.Cond.laysFinal "HoldtagModel" "HoldtagModel" "folderOf" "[I") ∈ lw_all := lw_g (lw_at lw_m9 2 rfl) rfl
theorem q1976 : (Jvm.Cond.soleField "HoldtagModel" "folderOf") ∈ lw_all := lw_g (lw_at lw_m9 3 rfl) rfl
theorem q1977 : (Jvm.Cond.laysFinal "HoldtagModel" "HoldtagModel" "senderOf" "[I") ∈ lw_all := lw_g (lw_at lw_m9 4 rfl) rfl
theorem q1978 : (Jvm.Cond.soleField "HoldtagModel" "senderOf") ∈ lw_all := lw_g (lw_at lw_m9 5 rfl) rfl
theorem q1979 : (Jvm.Cond.laysFinal "HoldtagModel" "HoldtagModel" "wordOf" "[I") ∈ lw_all := lw_g (lw_at lw_m9 6 rfl) rfl
theorem q1980 : (Jvm.Cond.soleField "HoldtagModel" "wordOf") ∈ lw_all := lw_g (lw_at lw_m9 7 rfl) rfl
theorem q1981 : (Jvm.Cond.laysFinal "HoldtagModel" "HoldtagModel" "sizeOf" "[I") ∈ lw_all := lw_g (lw_at lw_m9 8 rfl) rfl
theorem q1982 : (Jvm.Cond.soleField "HoldtagModel" "sizeOf") ∈ lw_all := lw_g (lw_at lw_m9 9 rfl) rfl
theorem q1983 : (Jvm.Cond.laysFinal "HoldtagModel" "HoldtagModel" "arrivalOf" "[I") ∈ lw_all := lw_g (lw_at lw_m9 10 rfl) rfl
theorem q1984 : (Jvm.Cond.soleField "HoldtagModel" "arrivalOf") ∈ lw_all := lw_g (lw_at lw_m9 11 rfl) rfl
theorem q1985 : (Jvm.Cond.laysFinal "HoldtagModel" "HoldtagModel" "ownTag" "[I") ∈ lw_all := lw_g (lw_at lw_m9 12 rfl) rfl
theorem q1986 : (Jvm.Cond.soleField "HoldtagModel" "ownTag") ∈ lw_all := lw_g (lw_at lw_m9 13 rfl) rfl
theorem q1987 : (Jvm.Cond.laysFinal "HoldtagModel" "HoldtagModel" "meetingOf" "[I") ∈ lw_all := lw_g (lw_at lw_m9 14 rfl) rfl
theorem q1988 : (Jvm.Cond.soleField "HoldtagModel" "meetingOf") ∈ lw_all := lw_g (lw_at lw_m9 15 rfl) rfl
theorem q1989 : (Jvm.Cond.laysFinal "HoldtagModel" "HoldtagModel" "stateOf" "[I") ∈ lw_all := lw_g (lw_at lw_m9 16 rfl) rfl
theorem q1990 : (Jvm.Cond.soleField "HoldtagModel" "stateOf") ∈ lw_all := lw_g (lw_at lw_m9 17 rfl) rfl
theorem q1991 : (Jvm.Cond.laysFinal "HoldtagModel" "HoldtagModel" "deletedOn" "[I") ∈ lw_all := lw_g (lw_at lw_m9 18 rfl) rfl
theorem q1992 : (Jvm.Cond.soleField "HoldtagModel" "deletedOn") ∈ lw_all := lw_g (lw_at lw_m9 19 rfl) rfl
theorem q1993 : (Jvm.Cond.laysFinal "HoldtagModel" "HoldtagModel" "goneOn" "[I") ∈ lw_all := lw_g (lw_at lw_m9 20 rfl) rfl
theorem q1994 : (Jvm.Cond.soleField "HoldtagModel" "goneOn") ∈ lw_all := lw_g (lw_at lw_m9 21 rfl) rfl
theorem q1995 : (Jvm.Cond.laysFinal "HoldtagModel" "HoldtagModel" "wasHeld" "[Z") ∈ lw_all := lw_g (lw_at lw_m9 22 rfl) rfl
theorem q1996 : (Jvm.Cond.soleField "HoldtagModel" "wasHeld") ∈ lw_all := lw_g (lw_at lw_m9 23 rfl) rfl
theorem q1997 : (Jvm.Cond.lays "HoldtagModel" "HoldtagModel" "holdMany" "I") ∈ lw_all := lw_g (lw_at lw_m9 24 rfl) rfl
theorem q1998 : (Jvm.Cond.soleField "HoldtagModel" "holdMany") ∈ lw_all := lw_g (lw_at lw_m9 25 rfl) rfl
theorem q1999 : (Jvm.Cond.laysFinal "HoldtagModel" "HoldtagModel" "holdSender" "[I") ∈ lw_all := lw_g (lw_at lw_m9 26 rfl) rfl
theorem q2000 : (Jvm.Cond.soleField "HoldtagModel" "holdSender") ∈ lw_all := lw_g (lw_at lw_m9 27 rfl) rfl
theorem q2001 : (Jvm.Cond.laysFinal "HoldtagModel" "HoldtagModel" "holdWord" "[I") ∈ lw_all := lw_g (lw_at lw_m9 28 rfl) rfl
theorem q2002 : (Jvm.Cond.soleField "HoldtagModel" "holdWord") ∈ lw_all := lw_g (lw_at lw_m9 29 rfl) rfl
theorem q2003 : (Jvm.Cond.laysFinal "HoldtagModel" "HoldtagModel" "holdFirst" "[I") ∈ lw_all := lw_g (lw_at lw_m9 30 rfl) rfl
theorem q2004 : (Jvm.Cond.soleField "HoldtagModel" "holdFirst") ∈ lw_all := lw_g (lw_at lw_m9 31 rfl) rfl
theorem q2005 : (Jvm.Cond.laysFinal "HoldtagModel" "HoldtagModel" "holdLast" "[I") ∈ lw_all := lw_g (lw_at lw_m9 32 rfl) rfl
theorem q2006 : (Jvm.Cond.soleField "HoldtagModel" "holdLast") ∈ lw_all := lw_g (lw_at lw_m9 33 rfl) rfl
theorem q2007 : (Jvm.Cond.laysFinal "HoldtagModel" "HoldtagModel" "isReleased" "[Z") ∈ lw_all := lw_g (lw_at lw_m9 34 rfl) rfl
theorem q2008 : (Jvm.Cond.soleField "HoldtagModel" "isReleased") ∈ lw_all := lw_g (lw_at lw_m9 35 rfl) rfl
theorem q2009 : (Jvm.Cond.laysFinal "HoldtagModel" "HoldtagModel" "output" "[B") ∈ lw_all := lw_g (lw_at lw_m9 36 rfl) rfl
theorem q2010 : (Jvm.Cond.soleField "HoldtagModel" "output") ∈ lw_all := lw_g (lw_at lw_m9 37 rfl) rfl
theorem q2011 : (Jvm.Cond.lays "HoldtagModel" "HoldtagModel" "outputMany" "I") ∈ lw_all := lw_g (lw_at lw_m9 38 rfl) rfl
theorem q2012 : (Jvm.Cond.soleField "HoldtagModel" "outputMany") ∈ lw_all := lw_g (lw_at lw_m9 39 rfl) rfl
theorem q2013 : (Jvm.Cond.superclass "HoldtagModel" "java/lang/Object") ∈ lw_all := lw_g (lw_at lw_m9 40 rfl) rfl
theorem q2017 : (Jvm.Cond.instanceMethod ({ cls := "HoldtagModel", name := "thrown", desc := "()I" } : Jvm.MethodName)) ∈ lw_all := lw_g (lw_at lw_m9 44 rfl) rfl
theorem q2018 : (Jvm.Cond.selects "HoldtagModel" ({ cls := "HoldtagModel", name := "thrown", desc := "()I" } : Jvm.MethodName) ({ cls := "HoldtagModel", name := "thrown", desc := "()I" } : Jvm.MethodName)) ∈ lw_all := lw_g (lw_at lw_m9 45 rfl) rfl
theorem q2019 : (Jvm.Cond.code ({ cls := "HoldtagModel", name := "thrown", desc := "()I" } : Jvm.MethodName) prog_12_method_2_code (1 : Nat) (Option.some Jvm.ClassFile.FieldType.int)) ∈ lw_all := lw_g (lw_at lw_m9 46 rfl) rfl
theorem q2021 : (Jvm.Cond.instanceMethod ({ cls := "HoldtagModel", name := "clear", desc := "()I" } : Jvm.MethodName)) ∈ lw_all := lw_g (lw_at lw_m9 48 rfl) rfl
theorem q2022 : (Jvm.Cond.selects "HoldtagModel" ({ cls := "HoldtagModel", name := "clear", desc := "()I" } : Jvm.MethodName) ({ cls := "HoldtagModel", name := "clear", desc := "()I" } : Jvm.MethodName)) ∈ lw_all := lw_g (lw_at lw_m9 49 rfl) rfl
theorem q2023 : (Jvm.Cond.code ({ cls := "HoldtagModel", name := "clear", desc := "()I" } : Jvm.MethodName) prog_12_method_23_code (2 : Nat) (Option.some Jvm.ClassFile.FieldType.int)) ∈ lw_all := lw_g (lw_at lw_m9 50 rfl) rfl
theorem q2024 : (Jvm.Cond.methodLink "HoldtagModel" (161 : Nat) ({ cls := "HoldtagModel", name := "told", desc := "(I)I" } : Jvm.MethodName)) ∈ lw_all := lw_g (lw_at lw_m9 51 rfl) rfl
theorem q2025 : (Jvm.Cond.privateMethod ({ cls := "HoldtagModel", name := "told", desc := "(I)I" } : Jvm.MethodName)) ∈ lw_tbl := lw_at lw_m9 52 rfl
theorem q2026 : (Jvm.Cond.instanceMethod ({ cls := "HoldtagModel", name := "told", desc := "(I)I" } : Jvm.MethodName)) ∈ lw_all := lw_g (lw_at lw_m9 53 rfl) rfl
theorem q2027 : (Jvm.Cond.code ({ cls := "HoldtagModel", name := "told", desc := "(I)I" } : Jvm.MethodName) prog_12_method_4_code (2 : Nat) (Option.some Jvm.ClassFile.FieldType.int)) ∈ lw_all := lw_g (lw_at lw_m9 54 rfl) rfl
theorem q2029 : (Jvm.Cond.instanceMethod ({ cls := "HoldtagModel", name := "folder", desc := "(I)I" } : Jvm.MethodName)) ∈ lw_all := lw_g (lw_at lw_m9 56 rfl) rfl
theorem q2030 : (Jvm.Cond.selects "HoldtagModel" ({ cls := "HoldtagModel", name := "folder", desc := "(I)I" } : Jvm.MethodName) ({ cls := "HoldtagModel", name := "folder", desc := "(I)I" } : Jvm.MethodName)) ∈ lw_all := lw_g (lw_at lw_m9 57 rfl) rfl
theorem q2031 : (Jvm.Cond.code ({ cls := "HoldtagModel", name := "folder", desc := "(I)I" } : Jvm.MethodName) prog_12_method_24_code (2 : Nat) (Option.some Jvm.ClassFile.FieldType.int)) ∈ lw_all := lw_g (lw_at lw_m9 58 rfl) rfl
theorem q2032 : (Jvm.Cond.methodLink "HoldtagModel" (164 : Nat) ({ cls := "HoldtagModel", name := "isFolder", desc := "(I)Z" } : Jvm.MethodName)) ∈ lw_all := lw_g (lw_at lw_m9 59 rfl) rfl
theorem q2033 : (Jvm.Cond.privateMethod ({ cls := "HoldtagModel", name := "isFolder", desc := "(I)Z" } : Jvm.MethodName)) ∈ lw_tbl := lw_at lw_m9 60 rfl
theorem q2034 : (Jvm.Cond.instanceMethod ({ cls := "HoldtagModel", name := "isFolder", desc := "(I)Z" } : Jvm.MethodName)) ∈ lw_all := lw_g (lw_at lw_m9 61 rfl) rfl
theorem q2035 : (Jvm.Cond.code ({ cls := "HoldtagModel", name := "isFolder", desc := "(I)Z" } : Jvm.MethodName) prog_12_method_6_code (2 : Nat) (Option.some Jvm.ClassFile.FieldType.boolean)) ∈ lw_all := lw_g (lw_at lw_m9 62 rfl) rfl
theorem q2036 : (Jvm.Cond.methodLink "HoldtagModel" (91 : Nat) ({ cls := "HoldtagModel", name := "in", desc := "(III)Z" } : Jvm.MethodName)) ∈ lw_all := lw_g (lw_at lw_m9 63 rfl) rfl
theorem q2037 : (Jvm.Cond.static ({ cls := "HoldtagModel", name := "in", desc := "(III)Z" } : Jvm.MethodName)) ∈ lw_all := lw_g (lw_at lw_m9 64 rfl) rfl
theorem q2038 : (Jvm.Cond.code ({ cls := "HoldtagModel", name := "in", desc := "(III)Z" } : Jvm.MethodName) prog_12_method_5_code (3 : Nat) (Option.some Jvm.ClassFile.FieldType.boolean)) ∈ lw_all := lw_g (lw_at lw_m9 65 rfl) rfl
theorem q2039 : (Jvm.Cond.methodLink "HoldtagModel" (167 : Nat) ({ cls := "HoldtagModel", name := "refuse", desc := "(I)I" } : Jvm.MethodName)) ∈ lw_all := lw_g (lw_at lw_m9 66 rfl) rfl
theorem q2040 : (Jvm.Cond.privateMethod ({ cls := "HoldtagModel", name := "refuse", desc := "(I)I" } : Jvm.MethodName)) ∈ lw_tbl := lw_at lw_m9 67 rfl
theorem q2041 : (Jvm.Cond.instanceMethod ({ cls := "HoldtagModel", name := "refuse", desc := "(I)I" } : Jvm.MethodName)) ∈ lw_all := lw_g (lw_at lw_m9 68 rfl) rfl
theorem q2042 : (Jvm.Cond.code ({ cls := "HoldtagModel", name := "refuse", desc := "(I)I" } : Jvm.MethodName) prog_12_method_3_code (2 : Nat) (Option.some Jvm.ClassFile.FieldType.int)) ∈ lw_all := lw_g (lw_at lw_m9 69 rfl) rfl
theorem q2044 : (Jvm.Cond.instanceMethod ({ cls := "HoldtagModel", name := "tag", desc := "(III)I" } : Jvm.MethodName)) ∈ lw_all := lw_g (lw_at lw_m9 71 rfl) rfl
theorem q2045 : (Jvm.Cond.selects "HoldtagModel" ({ cls := "HoldtagModel", name := "tag", desc := "(III)I" } : Jvm.MethodName) ({ cls := "HoldtagModel", name := "tag", desc := "(III)I" } : Jvm.MethodName)) ∈ lw_all := lw_g (lw_at lw_m9 72 rfl) rfl
theorem q2046 : (Jvm.Cond.code ({ cls := "HoldtagModel", name := "tag", desc := "(III)I" } : Jvm.MethodName) prog_12_method_25_code (4 : Nat) (Option.some Jvm.ClassFile.FieldType.int)) ∈ lw_all := lw_g (lw_at lw_m9 73 rfl) rfl
theorem q2048 : (Jvm.Cond.instanceMethod ({ cls := "HoldtagModel", name := "tagFolder", desc := "(II)I" } : Jvm.MethodName)) ∈ lw_all := lw_g (lw_at lw_m9 75 rfl) rfl
theorem q2049 : (Jvm.Cond.selects "HoldtagModel" ({ cls := "HoldtagModel", name := "tagFolder", desc := "(II)I" } : Jvm.MethodName) ({ cls := "HoldtagModel", name := "tagFolder", desc := "(II)I" } : Jvm.MethodName)) ∈ lw_all := lw_g (lw_at lw_m9 76 rfl) rfl
theorem q2050 : (Jvm.Cond.code ({ cls := "HoldtagModel", name := "tagFolder", desc := "(II)I" } : Jvm.MethodName) prog_12_method_26_code (4 : Nat) (Option.some Jvm.ClassFile.FieldType.int)) ∈ lw_all := lw_g (lw_at lw_m9 77 rfl) rfl
theorem q2051 : (Jvm.Cond.methodLink "HoldtagModel" (170 : Nat) ({ cls := "HoldtagModel", name := "isTagOrNone", desc := "(I)Z" } : Jvm.MethodName)) ∈ lw_all := lw_g (lw_at lw_m9 78 rfl) rfl
theorem q2052 : (Jvm.Cond.privateMethod ({ cls := "HoldtagModel", name := "isTagOrNone", desc := "(I)Z" } : Jvm.MethodName)) ∈ lw_tbl := lw_at lw_m9 79 rfl
theorem q2053 : (Jvm.Cond.instanceMethod ({ cls := "HoldtagModel", name := "isTagOrNone", desc := "(I)Z" } : Jvm.MethodName)) ∈ lw_all := lw_g (lw_at lw_m9 80 rfl) rfl
theorem q2054 : (Jvm.Cond.code ({ cls := "HoldtagModel", name := "isTagOrNone", desc := "(I)Z" } : Jvm.MethodName) prog_12_method_7_code (2 : Nat) (Option.some Jvm.ClassFile.FieldType.boolean)) ∈ lw_all := lw_g (lw_at lw_m9 81 rfl) rfl
theorem q2056 : (Jvm.Cond.instanceMethod ({ cls := "HoldtagModel", name := "tagItem", desc := "(II)I" } : Jvm.MethodName)) ∈ lw_all := lw_g (lw_at lw_m9 83 rfl) rfl
theorem q2057 : (Jvm.Cond.selects "HoldtagModel" ({ cls := "HoldtagModel", name := "tagItem", desc := "(II)I" } : Jvm.MethodName) ({ cls := "HoldtagModel", name := "tagItem", desc := "(II)I" } : Jvm.MethodName)) ∈ lw_all := lw_g (lw_at lw_m9 84 rfl) rfl
theorem q2058 : (Jvm.Cond.code ({ cls := "HoldtagModel", name := "tagItem", desc := "(II)I" } : Jvm.MethodName) prog_12_method_27_code (4 : Nat) (Option.some Jvm.ClassFile.FieldType.int)) ∈ lw_all := lw_g (lw_at lw_m9 85 rfl) rfl
theorem q2059 : (Jvm.Cond.methodLink "HoldtagModel" (173 : Nat) ({ cls := "HoldtagModel", name := "isItem", desc := "(I)Z" } : Jvm.MethodName)) ∈ lw_all := lw_g (lw_at lw_m9 86 rfl) rfl
theorem q2060 : (Jvm.Cond.privateMethod ({ cls := "HoldtagModel", name := "isItem", desc := "(I)Z" } : Jvm.MethodName)) ∈ lw_tbl := lw_at lw_m9 87 rfl
theorem q2061 : (Jvm.Cond.instanceMethod ({ cls := "HoldtagModel", name := "isItem", desc := "(I)Z" } : Jvm.MethodName)) ∈ lw_all := lw_g (lw_at lw_m9 88 rfl) rfl
theorem q2062 : (Jvm.Cond.code ({ cls := "HoldtagModel", name := "isItem", desc := "(I)Z" } : Jvm.MethodName) prog_12_method_8_code (2 : Nat) (Option.some Jvm.ClassFile.FieldType.boolean)) ∈ lw_all := lw_g (lw_at lw_m9 89 rfl) rfl
theorem q2064 : (Jvm.Cond.instanceMethod ({ cls := "HoldtagModel", name := "byDefault", desc := "(I)I" } : Jvm.MethodName)) ∈ lw_all := lw_g (lw_at lw_m9 91 rfl) rfl
theorem q2065 : (Jvm.Cond.selects "HoldtagModel" ({ cls := "HoldtagModel", name := "byDefault", desc := "(I)I" } : Jvm.MethodName) ({ cls := "HoldtagModel", name := "byDefault", desc := "(I)I" } : Jvm.MethodName)) ∈ lw_all := lw_g (lw_at lw_m9 92 rfl) rfl
theorem q2066 : (Jvm.Cond.code ({ cls := "HoldtagModel", name := "byDefault", desc := "(I)I" } : Jvm.MethodName) prog_12_method_28_code (3 : Nat) (Option.some Jvm.ClassFile.FieldType.int)) ∈ lw_all := lw_g (lw_at lw_m9 93 rfl) rfl
theorem q2068 : (Jvm.Cond.instanceMethod ({ cls := "HoldtagModel", name := "item", desc := "(IIII)I" } : Jvm.MethodName)) ∈ lw_all := lw_g (lw_at lw_m9 95 rfl) rfl
theorem q2069 : (Jvm.Cond.selects "HoldtagModel" ({ cls := "HoldtagModel", name := "item", desc := "(IIII)I" } : Jvm.MethodName) ({ cls := "HoldtagModel", name := "item", desc := "(IIII)I" } : Jvm.MethodName)) ∈ lw_all := lw_g (lw_at lw_m9 96 rfl) rfl
theorem q2070 : (Jvm.Cond.code ({ cls := "HoldtagModel", name := "item", desc := "(IIII)I" } : Jvm.MethodName) prog_12_method_30_code (5 : Nat) (Option.some Jvm.ClassFile.FieldType.int)) ∈ lw_all := lw_g (lw_at lw_m9 97 rfl) rfl
theorem q2071 : (Jvm.Cond.methodLink "HoldtagModel" (176 : Nat) ({ cls := "HoldtagModel", name := "isDigit", desc := "(I)Z" } : Jvm.MethodName)) ∈ lw_all := lw_g (lw_at lw_m9 98 rfl) rfl
theorem q2072 : (Jvm.Cond.static ({ cls := "HoldtagModel", name := "isDigit", desc := "(I)Z" } : Jvm.MethodName)) ∈ lw_all := lw_g (lw_at lw_m9 99 rfl) rfl
theorem q2073 : (Jvm.Cond.code ({ cls := "HoldtagModel", name := "isDigit", desc := "(I)Z" } : Jvm.MethodName) prog_12_method_29_code (1 : Nat) (Option.some Jvm.ClassFile.FieldType.boolean)) ∈ lw_all := lw_g (lw_at lw_m9 100 rfl) rfl
theorem q2075 : (Jvm.Cond.instanceMethod ({ cls := "HoldtagModel", name := "meeting", desc := "(II)I" } : Jvm.MethodName)) ∈ lw_all := lw_g (lw_at lw_m9 102 rfl) rfl
theorem q2076 : (Jvm.Cond.selects "HoldtagModel" ({ cls := "HoldtagModel", name := "meeting", desc := "(II)I" } : Jvm.MethodName) ({ cls := "HoldtagModel", name := "meeting", desc := "(II)I" } : Jvm.MethodName)) ∈ lw_all := lw_g (lw_at lw_m9 103 rfl) rfl
theorem q2077 : (Jvm.Cond.code ({ cls := "HoldtagModel", name := "meeting", desc := "(II)I" } : Jvm.MethodName) prog_12_method_31_code (4 : Nat) (Option.some Jvm.ClassFile.FieldType.int)) ∈ lw_all := lw_g (lw_at lw_m9 104 rfl) rfl
theorem q2078 : (Jvm.Cond.constant "HoldtagModel" (179 : Nat) (100000 : Int32)) ∈ lw_all := lw_g (lw_at lw_m9 105 rfl) rfl
theorem q2080 : (Jvm.Cond.instanceMethod ({ cls := "HoldtagModel", name := "event", desc := "(II)I" } : Jvm.MethodName)) ∈ lw_all := lw_g (lw_at lw_m9 107 rfl) rfl
theorem q2081 : (Jvm.Cond.selects "HoldtagModel" ({ cls := "HoldtagModel", name := "event", desc := "(II)I" } : Jvm.MethodName) ({ cls := "HoldtagModel", name := "event", desc := "(II)I" } : Jvm.MethodName)) ∈ lw_all := lw_g (lw_at lw_m9 108 rfl) rfl
theorem q2082 : (Jvm.Cond.code ({ cls := "HoldtagModel", name := "event", desc := "(II)I" } : Jvm.MethodName) prog_12_method_32_code (4 : Nat) (Option.some Jvm.ClassFile.FieldType.int)) ∈ lw_all := lw_g (lw_at lw_m9 109 rfl) rfl
theorem q2084 : (Jvm.Cond.instanceMethod ({ cls := "HoldtagModel", name := "move", desc := "(II)I" } : Jvm.MethodName)) ∈ lw_all := lw_g (lw_at lw_m9 111 rfl) rfl
theorem q2085 : (Jvm.Cond.selects "HoldtagModel" ({ cls := "HoldtagModel", name := "move", desc := "(II)I" } : Jvm.MethodName) ({ cls := "HoldtagModel", name := "move", desc := "(II)I" } : Jvm.MethodName)) ∈ lw_all := lw_g (lw_at lw_m9 112 rfl) rfl
theorem q2086 : (Jvm.Cond.code ({ cls := "HoldtagModel", name := "move", desc := "(II)I" } : Jvm.MethodName) prog_12_method_33_code (4 : Nat) (Option.some Jvm.ClassFile.FieldType.int)) ∈ lw_all := lw_g (lw_at lw_m9 113 rfl) rfl
theorem q2088 : (Jvm.Cond.instanceMethod ({ cls := "HoldtagModel", name := "edit", desc := "(II)I" } : Jvm.MethodName)) ∈ lw_all := lw_g (lw_at lw_m9 115 rfl) rfl
theorem q2089 : (Jvm.Cond.selects "HoldtagModel" ({ cls := "HoldtagModel", name := "edit", desc := "(II)I" } : Jvm.MethodName) ({ cls := "HoldtagModel", name := "edit", desc := "(II)I" } : Jvm.MethodName)) ∈ lw_all := lw_g (lw_at lw_m9 116 rfl) rfl
theorem q2090 : (Jvm.Cond.code ({ cls := "HoldtagModel", name := "edit", desc := "(II)I" } : Jvm.MethodName) prog_12_method_35_code (5 : Nat) (Option.some Jvm.ClassFile.FieldType.int)) ∈ lw_all := lw_g (lw_at lw_m9 117 rfl) rfl
theorem q2091 : (Jvm.Cond.methodLink "HoldtagModel" (137 : Nat) ({ cls := "HoldtagModel", name := "isHeld", desc := "(I)Z" } : Jvm.MethodName)) ∈ lw_all := lw_g (lw_at lw_m9 118 rfl) rfl
theorem q2092 : (Jvm.Cond.privateMethod ({ cls := "HoldtagModel", name := "isHeld", desc := "(I)Z" } : Jvm.MethodName)) ∈ lw_tbl := lw_at lw_m9 119 rfl
theorem q2093 : (Jvm.Cond.instanceMethod ({ cls := "HoldtagModel", name := "isHeld", desc := "(I)Z" } : Jvm.MethodName)) ∈ lw_all := lw_g (lw_at lw_m9 120 rfl) rfl
theorem q2094 : (Jvm.Cond.code ({ cls := "HoldtagModel", name := "isHeld", desc := "(I)Z" } : Jvm.MethodName) prog_12_method_16_code (3 : Nat) (Option.some Jvm.ClassFile.FieldType.boolean)) ∈ lw_all := lw_g (lw_at lw_m9 121 rfl) rfl
theorem q2095 : (Jvm.Cond.methodLink "HoldtagModel" (130 : Nat) ({ cls := "HoldtagModel", name := "holdsItem", desc := "(II)Z" } : Jvm.MethodName)) ∈ lw_all := lw_g (lw_at lw_m9 122 rfl) rfl
theorem q2096 : (Jvm.Cond.privateMethod ({ cls := "HoldtagModel", name := "holdsItem", desc := "(II)Z" } : Jvm.MethodName)) ∈ lw_tbl := lw_at lw_m9 123 rfl
theorem q2097 : (Jvm.Cond.instanceMethod ({ cls := "HoldtagModel", name := "holdsItem", desc := "(II)Z" } : Jvm.MethodName)) ∈ lw_all := lw_g (lw_at lw_m9 124 rfl) rfl
theorem q2098 : (Jvm.Cond.code ({ cls := "HoldtagModel", name := "holdsItem", desc := "(II)Z" } : Jvm.MethodName) prog_12_method_15_code (4 : Nat) (Option.some Jvm.ClassFile.FieldType.boolean)) ∈ lw_all := lw_g (lw_at lw_m9 125 rfl) rfl
theorem q2099 : (Jvm.Cond.methodLink "HoldtagModel" (180 : Nat) ({ cls := "HoldtagModel", name := "copies", desc := "(I)I" } : Jvm.MethodName)) ∈ lw_all := lw_g (lw_at lw_m9 126 rfl) rfl
theorem q2100 : (Jvm.Cond.privateMethod ({ cls := "HoldtagModel", name := "copies", desc := "(I)I" } : Jvm.MethodName)) ∈ lw_tbl := lw_at lw_m9 127 rfl
theorem q2101 : (Jvm.Cond.instanceMethod ({ cls := "HoldtagModel", name := "copies", desc := "(I)I" } : Jvm.MethodName)) ∈ lw_all := lw_g (lw_at lw_m9 128 rfl) rfl
theorem q2102 : (Jvm.Cond.code ({ cls := "HoldtagModel", name := "copies", desc := "(I)I" } : Jvm.MethodName) prog_12_method_34_code (3 : Nat) (Option.some Jvm.ClassFile.FieldType.int)) ∈ lw_all := lw_g (lw_at lw_m9 129 rfl) rfl
theorem q2103 : (Jvm.Cond.methodLink "HoldtagModel" (155 : Nat) ({ cls := "HoldtagModel", name := "becomesRecoverable", desc := "(I)V" } : Jvm.MethodName)) ∈ lw_all := lw_g (lw_at lw_m9 130 rfl) rfl
theorem q2104 : (Jvm.Cond.privateMethod ({ cls := "HoldtagModel", name := "becomesRecoverable", desc := "(I)V" } : Jvm.MethodName)) ∈ lw_tbl := lw_at lw_m9 131 rfl
theorem q2105 : (Jvm.Cond.instanceMethod ({ cls := "HoldtagModel", name := "becomesRecoverable", desc := "(I)V" } : Jvm.MethodName)) ∈ lw_all := lw_g (lw_at lw_m9 132 rfl) rfl
theorem q2106 : (Jvm.Cond.code ({ cls := "HoldtagModel", name := "becomesRecoverable", desc := "(I)V" } : Jvm.MethodName) prog_12_method_18_code (2 : Nat) (Option.none : Option Jvm.ClassFile.FieldType)) ∈ lw_all := lw_g (lw_at lw_m9 133 rfl) rfl
theorem q2107 : (Jvm.Cond.methodLink "HoldtagModel" (158 : Nat) ({ cls := "HoldtagModel", name := "countsQuota", desc := "()V" } : Jvm.MethodName)) ∈ lw_all := lw_g (lw_at lw_m9 134 rfl) rfl
theorem q2108 : (Jvm.Cond.privateMethod ({ cls := "HoldtagModel", name := "countsQuota", desc := "()V" } : Jvm.MethodName)) ∈ lw_tbl := lw_at lw_m9 135 rfl
theorem q2109 : (Jvm.Cond.instanceMethod ({ cls := "HoldtagModel", name := "countsQuota", desc := "()V" } : Jvm.MethodName)) ∈ lw_all := lw_g (lw_at lw_m9 136 rfl) rfl
theorem q2110 : (Jvm.Cond.code ({ cls := "HoldtagModel", name := "countsQuota", desc := "()V" } : Jvm.MethodName) prog_12_method_21_code (2 : Nat) (Option.none : Option Jvm.ClassFile.FieldType)) ∈ lw_all := lw_g (lw_at lw_m9 137 rfl) rfl
theorem q2111 : (Jvm.Cond.methodLink "HoldtagModel" (141 : Nat) ({ cls := "HoldtagModel", name := "outFirst", desc := "()I" } : Jvm.MethodName)) ∈ lw_all := lw_g (lw_at lw_m9 138 rfl) rfl
theorem q2112 : (Jvm.Cond.privateMethod ({ cls := "HoldtagModel", name := "outFirst", desc := "()I" } : Jvm.MethodName)) ∈ lw_tbl := lw_at lw_m9 139 rfl
theorem q2113 : (Jvm.Cond.instanceMethod ({ cls := "HoldtagModel", name := "outFirst", desc := "()I" } : Jvm.MethodName)) ∈ lw_all := lw_g (lw_at lw_m9 140 rfl) rfl
theorem q2114 : (Jvm.Cond.code ({ cls := "HoldtagModel", name := "outFirst", desc := "()I" } : Jvm.MethodName) prog_12_method_20_code (3 : Nat) (Option.some Jvm.ClassFile.FieldType.int)) ∈ lw_all := lw_g (lw_at lw_m9 141 rfl) rfl
theorem q2115 : (Jvm.Cond.methodLink "HoldtagModel" (145 : Nat) ({ cls := "HoldtagModel", name := "sumOf", desc := "(I)I" } : Jvm.MethodName)) ∈ lw_all := lw_g (lw_at lw_m9 142 rfl) rfl
theorem q2116 : (Jvm.Cond.privateMethod ({ cls := "HoldtagModel", name := "sumOf", desc := "(I)I" } : Jvm.MethodName)) ∈ lw_tbl := lw_at lw_m9 143 rfl
theorem q2117 : (Jvm.Cond.instanceMethod ({ cls := "HoldtagModel", name := "sumOf", desc := "(I)I" } : Jvm.MethodName)) ∈ lw_all := lw_g (lw_at lw_m9 144 rfl) rfl
theorem q2118 : (Jvm.Cond.code ({ cls := "HoldtagModel", name := "sumOf", desc := "(I)I" } : Jvm.MethodName) prog_12_method_19_code (4 : Nat) (Option.some Jvm.ClassFile.FieldType.int)) ∈ lw_all := lw_g (lw_at lw_m9 145 rfl) rfl
theorem q2119 : (Jvm.Cond.methodLink "HoldtagModel" (148 : Nat) ({ cls := "HoldtagModel", name := "becomesGone", desc := "(I)V" } : Jvm.MethodName)) ∈ lw_all := lw_g (lw_at lw_m9 146 rfl) rfl
theorem q2120 : (Jvm.Cond.privateMethod ({ cls := "HoldtagModel", name := "becomesGone", desc := "(I)V" } : Jvm.MethodName)) ∈ lw_tbl := lw_at lw_m9 147 rfl
theorem q2121 : (Jvm.Cond.instanceMethod ({ cls := "HoldtagModel", name := "becomesGone", desc := "(I)V" } : Jvm.MethodName)) ∈ lw_all := lw_g (lw_at lw_m9 148 rfl) rfl
theorem q2122 : (Jvm.Cond.code ({ cls := "HoldtagModel", name := "becomesGone", desc := "(I)V" } : Jvm.MethodName) prog_12_method_17_code (2 : Nat) (Option.none : Option Jvm.ClassFile.FieldType)) ∈ lw_all := lw_g (lw_at lw_m9 149 rfl) rfl
theorem q2124 : (Jvm.Cond.instanceMethod ({ cls := "HoldtagModel", name := "delete", desc := "(I)I" } : Jvm.MethodName)) ∈ lw_all := lw_g (lw_at lw_m9 151 rfl) rfl
theorem q2125 : (Jvm.Cond.selects "HoldtagModel" ({ cls := "HoldtagModel", name := "delete", desc := "(I)I" } : Jvm.MethodName) ({ cls := "HoldtagModel", name := "delete", desc := "(I)I" } : Jvm.MethodName)) ∈ lw_all := lw_g (lw_at lw_m9 152 rfl) rfl
theorem q2126 : (Jvm.Cond.code ({ cls := "HoldtagModel", name := "delete", desc := "(I)I" } : Jvm.MethodName) prog_12_method_36_code (2 : Nat) (Option.some Jvm.ClassFile.FieldType.int)) ∈ lw_all := lw_g (lw_at lw_m9 153 rfl) rfl
theorem q2128 : (Jvm.Cond.instanceMethod ({ cls := "HoldtagModel", name := "purge", desc := "(I)Z" } : Jvm.MethodName)) ∈ lw_all := lw_g (lw_at lw_m9 155 rfl) rfl
theorem q2129 : (Jvm.Cond.selects "HoldtagModel" ({ cls := "HoldtagModel", name := "purge", desc := "(I)Z" } : Jvm.MethodName) ({ cls := "HoldtagModel", name := "purge", desc := "(I)Z" } : Jvm.MethodName)) ∈ lw_all := lw_g (lw_at lw_m9 156 rfl) rfl
theorem q2130 : (Jvm.Cond.code ({ cls := "HoldtagModel", name := "purge", desc := "(I)Z" } : Jvm.MethodName) prog_12_method_37_code (2 : Nat) (Option.some Jvm.ClassFile.FieldType.boolean)) ∈ lw_all := lw_g (lw_at lw_m9 157 rfl) rfl
theorem q2132 : (Jvm.Cond.instanceMethod ({ cls := "HoldtagModel", name := "recover", desc := "(I)I" } : Jvm.MethodName)) ∈ lw_all := lw_g (lw_at lw_m9 159 rfl) rfl
theorem q2133 : (Jvm.Cond.selects "HoldtagModel" ({ cls := "HoldtagModel", name := "recover", desc := "(I)I" } : Jvm.MethodName) ({ cls := "HoldtagModel", name := "recover", desc := "(I)I" } : Jvm.MethodName)) ∈ lw_all := lw_g (lw_at lw_m9 160 rfl) rfl
theorem q2134 : (Jvm.Cond.code ({ cls := "HoldtagModel", name := "recover", desc := "(I)I" } : Jvm.MethodName) prog_12_method_38_code (2 : Nat) (Option.some Jvm.ClassFile.FieldType.int)) ∈ lw_all := lw_g (lw_at lw_m9 161 rfl) rfl
theorem q2136 : (Jvm.Cond.instanceMethod ({ cls := "HoldtagModel", name := "keep", desc := "(II)I" } : Jvm.MethodName)) ∈ lw_all := lw_g (lw_at lw_m9 163 rfl) rfl
theorem q2137 : (Jvm.Cond.selects "HoldtagModel" ({ cls := "HoldtagModel", name := "keep", desc := "(II)I" } : Jvm.MethodName) ({ cls := "HoldtagModel", name := "keep", desc := "(II)I" } : Jvm.MethodName)) ∈ lw_all := lw_g (lw_at lw_m9 164 rfl) rfl
theorem q2138 : (Jvm.Cond.code ({ cls := "HoldtagModel", name := "keep", desc := "(II)I" } : Jvm.MethodName) prog_12_method_39_code (3 : Nat) (Option.some Jvm.ClassFile.FieldType.int)) ∈ lw_all := lw_g (lw_at lw_m9 165 rfl) rfl
theorem q2140 : (Jvm.Cond.instanceMethod ({ cls := "HoldtagModel", name := "pass", desc := "(I)I" } : Jvm.MethodName)) ∈ lw_all := lw_g (lw_at lw_m9 167 rfl) rfl
theorem q2141 : (Jvm.Cond.selects "HoldtagModel" ({ cls := "HoldtagModel", name := "pass", desc := "(I)I" } : Jvm.MethodName) ({ cls := "HoldtagModel", name := "pass", desc := "(I)I" } : Jvm.MethodName)) ∈ lw_all := lw_g (lw_at lw_m9 168 rfl) rfl
theorem q2142 : (Jvm.Cond.code ({ cls := "HoldtagModel", name := "pass", desc := "(I)I" } : Jvm.MethodName) prog_12_method_40_code (3 : Nat) (Option.some Jvm.ClassFile.FieldType.int)) ∈ lw_all := lw_g (lw_at lw_m9 169 rfl) rfl
theorem q2143 : (Jvm.Cond.methodLink "HoldtagModel" (183 : Nat) ({ cls := "HoldtagModel", name := "dayPasses", desc := "()V" } : Jvm.MethodName)) ∈ lw_all := lw_g (lw_at lw_m9 170 rfl) rfl
theorem q2144 : (Jvm.Cond.privateMethod ({ cls := "HoldtagModel", name := "dayPasses", desc := "()V" } : Jvm.MethodName)) ∈ lw_tbl := lw_at lw_m9 171 rfl
theorem q2145 : (Jvm.Cond.instanceMethod ({ cls := "HoldtagModel", name := "dayPasses", desc := "()V" } : Jvm.MethodName)) ∈ lw_all := lw_g (lw_at lw_m9 172 rfl) rfl
theorem q2146 : (Jvm.Cond.code ({ cls := "HoldtagModel", name := "dayPasses", desc := "()V" } : Jvm.MethodName) prog_12_method_22_code (2 : Nat) (Option.none : Option Jvm.ClassFile.FieldType)) ∈ lw_all := lw_g (lw_at lw_m9 173 rfl) rfl
theorem q2147 : (Jvm.Cond.methodLink "HoldtagModel" (152 : Nat) ({ cls := "HoldtagModel", name := "isDue", desc := "(II)Z" } : Jvm.MethodName)) ∈ lw_all := lw_g (lw_at lw_m9 174 rfl) rfl
theorem q2148 : (Jvm.Cond.privateMethod ({ cls := "HoldtagModel", name := "isDue", desc := "(II)Z" } : Jvm.MethodName)) ∈ lw_tbl := lw_at lw_m9 175 rfl
theorem q2149 : (Jvm.Cond.instanceMethod ({ cls := "HoldtagModel", name := "isDue", desc := "(II)Z" } : Jvm.MethodName)) ∈ lw_all := lw_g (lw_at lw_m9 176 rfl) rfl
theorem q2150 : (Jvm.Cond.code ({ cls := "HoldtagModel", name := "isDue", desc := "(II)Z" } : Jvm.MethodName) prog_12_method_14_code (5 : Nat) (Option.some Jvm.ClassFile.FieldType.boolean)) ∈ lw_all := lw_g (lw_at lw_m9 177 rfl) rfl
theorem q2151 : (Jvm.Cond.methodLink "HoldtagModel" (120 : Nat) ({ cls := "HoldtagModel", name := "countingTag", desc := "(I)I" } : Jvm.MethodName)) ∈ lw_all := lw_g (lw_at lw_m9 178 rfl) rfl
theorem q2152 : (Jvm.Cond.privateMethod ({ cls := "HoldtagModel", name := "countingTag", desc := "(I)I" } : Jvm.MethodName)) ∈ lw_tbl := lw_at lw_m9 179 rfl
theorem q2153 : (Jvm.Cond.instanceMethod ({ cls := "HoldtagModel", name := "countingTag", desc := "(I)I" } : Jvm.MethodName)) ∈ lw_all := lw_g (lw_at lw_m9 180 rfl) rfl
theorem q2154 : (Jvm.Cond.code ({ cls := "HoldtagModel", name := "countingTag", desc := "(I)I" } : Jvm.MethodName) prog_12_method_11_code (3 : Nat) (Option.some Jvm.ClassFile.FieldType.int)) ∈ lw_all := lw_g (lw_at lw_m9 181 rfl) rfl
theorem q2155 : (Jvm.Cond.methodLink "HoldtagModel" (116 : Nat) ({ cls := "HoldtagModel", name := "tellingFolder", desc := "(I)I" } : Jvm.MethodName)) ∈ lw_all := lw_g (lw_at lw_m9 182 rfl) rfl
theorem q2156 : (Jvm.Cond.privateMethod ({ cls := "HoldtagModel", name := "tellingFolder", desc := "(I)I" } : Jvm.MethodName)) ∈ lw_tbl := lw_at lw_m9 183 rfl
theorem q2157 : (Jvm.Cond.instanceMethod ({ cls := "HoldtagModel", name := "tellingFolder", desc := "(I)I" } : Jvm.MethodName)) ∈ lw_all := lw_g (lw_at lw_m9 184 rfl) rfl
theorem q2158 : (Jvm.Cond.code ({ cls := "HoldtagModel", name := "tellingFolder", desc := "(I)I" } : Jvm.MethodName) prog_12_method_10_code (3 : Nat) (Option.some Jvm.ClassFile.FieldType.int)) ∈ lw_all := lw_g (lw_at lw_m9 185 rfl) rfl
theorem q2159 : (Jvm.Cond.methodLink "HoldtagModel" (127 : Nat) ({ cls := "HoldtagModel", name := "dueDay", desc := "(I)I" } : Jvm.MethodName)) ∈ lw_all := lw_g (lw_at lw_m9 186 rfl) rfl
theorem q2160 : (Jvm.Cond.privateMethod ({ cls := "HoldtagModel", name := "dueDay", desc := "(I)I" } : Jvm.MethodName)) ∈ lw_tbl := lw_at lw_m9 187 rfl
theorem q2161 : (Jvm.Cond.instanceMethod ({ cls := "HoldtagModel", name := "dueDay", desc := "(I)I" } : Jvm.MethodName)) ∈ lw_all := lw_g (lw_at lw_m9 188 rfl) rfl
theorem q2162 : (Jvm.Cond.code ({ cls := "HoldtagModel", name := "dueDay", desc := "(I)I" } : Jvm.MethodName) prog_12_method_13_code (4 : Nat) (Option.some Jvm.ClassFile.FieldType.int)) ∈ lw_all := lw_g (lw_at lw_m9 189 rfl) rfl
theorem q2163 : (Jvm.Cond.methodLink "HoldtagModel" (123 : Nat) ({ cls := "HoldtagModel", name := "startDay", desc := "(II)I" } : Jvm.MethodName)) ∈ lw_all := lw_g (lw_at lw_m9 190 rfl) rfl
theorem q2164 : (Jvm.Cond.privateMethod ({ cls := "HoldtagModel", name := "startDay", desc := "(II)I" } : Jvm.MethodName)) ∈ lw_tbl := lw_at lw_m9 191 rfl
theorem q2165 : (Jvm.Cond.instanceMethod ({ cls := "HoldtagModel", name := "startDay", desc := "(II)I" } : Jvm.MethodName)) ∈ lw_all := lw_g (lw_at lw_m9 192 rfl) rfl
theorem q2166 : (Jvm.Cond.code ({ cls := "HoldtagModel", name := "startDay", desc := "(II)I" } : Jvm.MethodName) prog_12_method_12_code (3 : Nat) (Option.some Jvm.ClassFile.FieldType.int)) ∈ lw_all := lw_g (lw_at lw_m9 193 rfl) rfl
theorem q2168 : (Jvm.Cond.instanceMethod ({ cls := "HoldtagModel", name := "hold", desc := "(IIII)I" } : Jvm.MethodName)) ∈ lw_all := lw_g (lw_at lw_m9 195 rfl) rfl
theorem q2169 : (Jvm.Cond.selects "HoldtagModel" ({ cls := "HoldtagModel", name := "hold", desc := "(IIII)I" } : Jvm.MethodName) ({ cls := "HoldtagModel", name := "hold", desc := "(IIII)I" } : Jvm.MethodName)) ∈ lw_all := lw_g (lw_at lw_m9 196 rfl) rfl
theorem q2170 : (Jvm.Cond.code ({ cls := "HoldtagModel", name := "hold", desc := "(IIII)I" } : Jvm.MethodName) prog_12_method_41_code (5 : Nat) (Option.some Jvm.ClassFile.FieldType.int)) ∈ lw_all := lw_g (lw_at lw_m9 197 rfl) rfl
theorem q2172 : (Jvm.Cond.instanceMethod ({ cls := "HoldtagModel", name := "release", desc := "(I)I" } : Jvm.MethodName)) ∈ lw_all := lw_g (lw_at lw_m9 199 rfl) rfl
theorem q2173 : (Jvm.Cond.selects "HoldtagModel" ({ cls := "HoldtagModel", name := "release", desc := "(I)I" } : Jvm.MethodName) ({ cls := "HoldtagModel", name := "release", desc := "(I)I" } : Jvm.MethodName)) ∈ lw_all := lw_g (lw_at lw_m9 200 rfl) rfl
theorem q2174 : (Jvm.Cond.code ({ cls := "HoldtagModel", name := "release", desc := "(I)I" } : Jvm.MethodName) prog_12_method_42_code (4 : Nat) (Option.some Jvm.ClassFile.FieldType.int)) ∈ lw_all := lw_g (lw_at lw_m9 201 rfl) rfl
theorem q2176 : (Jvm.Cond.instanceMethod ({ cls := "HoldtagModel", name := "holds", desc := "(I)I" } : Jvm.MethodName)) ∈ lw_all := lw_g (lw_at lw_m9 203 rfl) rfl
theorem q2177 : (Jvm.Cond.selects "HoldtagModel" ({ cls := "HoldtagModel", name := "holds", desc := "(I)I" } : Jvm.MethodName) ({ cls := "HoldtagModel", name := "holds", desc := "(I)I" } : Jvm.MethodName)) ∈ lw_all := lw_g (lw_at lw_m9 204 rfl) rfl
theorem q2178 : (Jvm.Cond.code ({ cls := "HoldtagModel", name := "holds", desc := "(I)I" } : Jvm.MethodName) prog_12_method_43_code (4 : Nat) (Option.some Jvm.ClassFile.FieldType.int)) ∈ lw_all := lw_g (lw_at lw_m9 205 rfl) rfl
theorem q2180 : (Jvm.Cond.instanceMethod ({ cls := "HoldtagModel", name := "today", desc := "()I" } : Jvm.MethodName)) ∈ lw_all := lw_g (lw_at lw_m9 207 rfl) rfl
theorem q2181 : (Jvm.Cond.selects "HoldtagModel" ({ cls := "HoldtagModel", name := "today", desc := "()I" } : Jvm.MethodName) ({ cls := "HoldtagModel", name := "today", desc := "()I" } : Jvm.MethodName)) ∈ lw_all := lw_g (lw_at lw_m9 208 rfl) rfl
theorem q2182 : (Jvm.Cond.code ({ cls := "HoldtagModel", name := "today", desc := "()I" } : Jvm.MethodName) prog_12_method_44_code (1 : Nat) (Option.some Jvm.ClassFile.FieldType.int)) ∈ lw_all := lw_g (lw_at lw_m9 209 rfl) rfl
theorem q2184 : (Jvm.Cond.instanceMethod ({ cls := "HoldtagModel", name := "state", desc := "(I)I" } : Jvm.MethodName)) ∈ lw_all := lw_g (lw_at lw_m9 211 rfl) rfl
theorem q2185 : (Jvm.Cond.selects "HoldtagModel" ({ cls := "HoldtagModel", name := "state", desc := "(I)I" } : Jvm.MethodName) ({ cls := "HoldtagModel", name := "state", desc := "(I)I" } : Jvm.MethodName)) ∈ lw_all := lw_g (lw_at lw_m9 212 rfl) rfl
theorem q2186 : (Jvm.Cond.code ({ cls := "HoldtagModel", name := "state", desc := "(I)I" } : Jvm.MethodName) prog_12_method_45_code (2 : Nat) (Option.some Jvm.ClassFile.FieldType.int)) ∈ lw_all := lw_g (lw_at lw_m9 213 rfl) rfl
theorem q2188 : (Jvm.Cond.instanceMethod ({ cls := "HoldtagModel", name := "count", desc := "(IZ)I" } : Jvm.MethodName)) ∈ lw_all := lw_g (lw_at lw_m9 215 rfl) rfl
theorem q2189 : (Jvm.Cond.selects "HoldtagModel" ({ cls := "HoldtagModel", name := "count", desc := "(IZ)I" } : Jvm.MethodName) ({ cls := "HoldtagModel", name := "count", desc := "(IZ)I" } : Jvm.MethodName)) ∈ lw_all := lw_g (lw_at lw_m9 216 rfl) rfl
theorem q2190 : (Jvm.Cond.code ({ cls := "HoldtagModel", name := "count", desc := "(IZ)I" } : Jvm.MethodName) prog_12_method_46_code (5 : Nat) (Option.some Jvm.ClassFile.FieldType.int)) ∈ lw_all := lw_g (lw_at lw_m9 217 rfl) rfl
theorem q2192 : (Jvm.Cond.instanceMethod ({ cls := "HoldtagModel", name := "tagOf", desc := "(I)I" } : Jvm.MethodName)) ∈ lw_all := lw_g (lw_at lw_m9 219 rfl) rfl
theorem q2193 : (Jvm.Cond.selects "HoldtagModel" ({ cls := "HoldtagModel", name := "tagOf", desc := "(I)I" } : Jvm.MethodName) ({ cls := "HoldtagModel", name := "tagOf", desc := "(I)I" } : Jvm.MethodName)) ∈ lw_all := lw_g (lw_at lw_m9 220 rfl) rfl
theorem q2194 : (Jvm.Cond.code ({ cls := "HoldtagModel", name := "tagOf", desc := "(I)I" } : Jvm.MethodName) prog_12_method_47_code (2 : Nat) (Option.some Jvm.ClassFile.FieldType.int)) ∈ lw_all := lw_g (lw_at lw_m9 221 rfl) rfl
theorem q2196 : (Jvm.Cond.instanceMethod ({ cls := "HoldtagModel", name := "ruleOf", desc := "(I)I" } : Jvm.MethodName)) ∈ lw_all := lw_g (lw_at lw_m9 223 rfl) rfl
theorem q2197 : (Jvm.Cond.selects "HoldtagModel" ({ cls := "HoldtagModel", name := "ruleOf", desc := "(I)I" } : Jvm.MethodName) ({ cls := "HoldtagModel", name := "ruleOf", desc := "(I)I" } : Jvm.MethodName)) ∈ lw_all := lw_g (lw_at lw_m9 224 rfl) rfl
theorem q2198 : (Jvm.Cond.code ({ cls := "HoldtagModel", name := "ruleOf", desc := "(I)I" } : Jvm.MethodName) prog_12_method_48_code (3 : Nat) (Option.some Jvm.ClassFile.FieldType.int)) ∈ lw_all := lw_g (lw_at lw_m9 225 rfl) rfl
theorem q2200 : (Jvm.Cond.instanceMethod ({ cls := "HoldtagModel", name := "due", desc := "(I)I" } : Jvm.MethodName)) ∈ lw_all := lw_g (lw_at lw_m9 227 rfl) rfl
theorem q2201 : (Jvm.Cond.selects "HoldtagModel" ({ cls := "HoldtagModel", name := "due", desc := "(I)I" } : Jvm.MethodName) ({ cls := "HoldtagModel", name := "due", desc := "(I)I" } : Jvm.MethodName)) ∈ lw_all := lw_g (lw_at lw_m9 228 rfl) rfl
theorem q2202 : (Jvm.Cond.code ({ cls := "HoldtagModel", name := "due", desc := "(I)I" } : Jvm.MethodName) prog_12_method_49_code (2 : Nat) (Option.some Jvm.ClassFile.FieldType.int)) ∈ lw_all := lw_g (lw_at lw_m9 229 rfl) rfl
theorem q2204 : (Jvm.Cond.instanceMethod ({ cls := "HoldtagModel", name := "end", desc := "(I)I" } : Jvm.MethodName)) ∈ lw_all := lw_g (lw_at lw_m9 231 rfl) rfl
theorem q2205 : (Jvm.Cond.selects "HoldtagModel" ({ cls := "HoldtagModel", name := "end", desc := "(I)I" } : Jvm.MethodName) ({ cls := "HoldtagModel", name := "end", desc := "(I)I" } : Jvm.MethodName)) ∈ lw_all := lw_g (lw_at lw_m9 232 rfl) rfl
theorem q2206 : (Jvm.Cond.code ({ cls := "HoldtagModel", name := "end", desc := "(I)I" } : Jvm.MethodName) prog_12_method_52_code (2 : Nat) (Option.some Jvm.ClassFile.FieldType.int)) ∈ lw_all := lw_g (lw_at lw_m9 233 rfl) rfl
theorem q2207 : (Jvm.Cond.methodLink "HoldtagModel" (189 : Nat) ({ cls := "HoldtagModel", name := "endDay", desc := "(I)I" } : Jvm.MethodName)) ∈ lw_all := lw_g (lw_at lw_m9 234 rfl) rfl
theorem q2208 : (Jvm.Cond.privateMethod ({ cls := "HoldtagModel", name := "endDay", desc := "(I)I" } : Jvm.MethodName)) ∈ lw_tbl := lw_at lw_m9 235 rfl
theorem q2209 : (Jvm.Cond.instanceMethod ({ cls := "HoldtagModel", name := "endDay", desc := "(I)I" } : Jvm.MethodName)) ∈ lw_all := lw_g (lw_at lw_m9 236 rfl) rfl
theorem q2210 : (Jvm.Cond.code ({ cls := "HoldtagModel", name := "endDay", desc := "(I)I" } : Jvm.MethodName) prog_12_method_51_code (4 : Nat) (Option.some Jvm.ClassFile.FieldType.int)) ∈ lw_all := lw_g (lw_at lw_m9 237 rfl) rfl
theorem q2211 : (Jvm.Cond.methodLink "HoldtagModel" (186 : Nat) ({ cls := "HoldtagModel", name := "later", desc := "(II)I" } : Jvm.MethodName)) ∈ lw_all := lw_g (lw_at lw_m9 238 rfl) rfl
theorem q2212 : (Jvm.Cond.static ({ cls := "HoldtagModel", name := "later", desc := "(II)I" } : Jvm.MethodName)) ∈ lw_all := lw_g (lw_at lw_m9 239 rfl) rfl
theorem q2213 : (Jvm.Cond.code ({ cls := "HoldtagModel", name := "later", desc := "(II)I" } : Jvm.MethodName) prog_12_method_50_code (2 : Nat) (Option.some Jvm.ClassFile.FieldType.int)) ∈ lw_all := lw_g (lw_at lw_m10 0 rfl) rfl
theorem q2215 : (Jvm.Cond.instanceMethod ({ cls := "HoldtagModel", name := "firstOut", desc := "()I" } : Jvm.MethodName)) ∈ lw_all := lw_g (lw_at lw_m10 2 rfl) rfl
theorem q2216 : (Jvm.Cond.selects "HoldtagModel" ({ cls := "HoldtagModel", name := "firstOut", desc := "()I" } : Jvm.MethodName) ({ cls := "HoldtagModel", name := "firstOut", desc := "()I" } : Jvm.MethodName)) ∈ lw_all := lw_g (lw_at lw_m10 3 rfl) rfl
theorem q2217 : (Jvm.Cond.code ({ cls := "HoldtagModel", name := "firstOut", desc := "()I" } : Jvm.MethodName) prog_12_method_53_code (2 : Nat) (Option.some Jvm.ClassFile.FieldType.int)) ∈ lw_all := lw_g (lw_at lw_m10 4 rfl) rfl
theorem q2219 : (Jvm.Cond.instanceMethod ({ cls := "HoldtagModel", name := "write", desc := "(I)I" } : Jvm.MethodName)) ∈ lw_all := lw_g (lw_at lw_m10 6 rfl) rfl
theorem q2220 : (Jvm.Cond.selects "HoldtagModel" ({ cls := "HoldtagModel", name := "write", desc := "(I)I" } : Jvm.MethodName) ({ cls := "HoldtagModel", name := "write", desc := "(I)I" } : Jvm.MethodName)) ∈ lw_all := lw_g (lw_at lw_m10 7 rfl) rfl
theorem q2221 : (Jvm.Cond.code ({ cls := "HoldtagModel", name := "write", desc := "(I)I" } : Jvm.MethodName) prog_12_method_57_code (3 : Nat) (Option.some Jvm.ClassFile.FieldType.int)) ∈ lw_all := lw_g (lw_at lw_m10 8 rfl) rfl
theorem q2222 : (Jvm.Cond.methodLink "HoldtagModel" (195 : Nat) ({ cls := "HoldtagModel", name := "writes", desc := "(I)V" } : Jvm.MethodName)) ∈ lw_all := lw_g (lw_at lw_m10 9 rfl) rfl
theorem q2223 : (Jvm.Cond.privateMethod ({ cls := "HoldtagModel", name := "writes", desc := "(I)V" } : Jvm.MethodName)) ∈ lw_tbl := lw_at lw_m10 10 rfl
theorem q2224 : (Jvm.Cond.instanceMethod ({ cls := "HoldtagModel", name := "writes", desc := "(I)V" } : Jvm.MethodName)) ∈ lw_all := lw_g (lw_at lw_m10 11 rfl) rfl
theorem q2225 : (Jvm.Cond.code ({ cls := "HoldtagModel", name := "writes", desc := "(I)V" } : Jvm.MethodName) prog_12_method_54_code (2 : Nat) (Option.none : Option Jvm.ClassFile.FieldType)) ∈ lw_all := lw_g (lw_at lw_m10 12 rfl) rfl
theorem q2226 : (Jvm.Cond.methodLink "HoldtagModel" (198 : Nat) ({ cls := "HoldtagModel", name := "writesNumber", desc := "(I)V" } : Jvm.MethodName)) ∈ lw_all := lw_g (lw_at lw_m10 13 rfl) rfl
theorem q2227 : (Jvm.Cond.privateMethod ({ cls := "HoldtagModel", name := "writesNumber", desc := "(I)V" } : Jvm.MethodName)) ∈ lw_tbl := lw_at lw_m10 14 rfl
theorem q2228 : (Jvm.Cond.instanceMethod ({ cls := "HoldtagModel", name := "writesNumber", desc := "(I)V" } : Jvm.MethodName)) ∈ lw_all := lw_g (lw_at lw_m10 15 rfl) rfl
theorem q2229 : (Jvm.Cond.code ({ cls := "HoldtagModel", name := "writesNumber", desc := "(I)V" } : Jvm.MethodName) prog_12_method_55_code (3 : Nat) (Option.none : Option Jvm.ClassFile.FieldType)) ∈ lw_all := lw_g (lw_at lw_m10 16 rfl) rfl
theorem q2230 : (Jvm.Cond.methodLink "HoldtagModel" (201 : Nat) ({ cls := "HoldtagModel", name := "writesState", desc := "(I)V" } : Jvm.MethodName)) ∈ lw_all := lw_g (lw_at lw_m10 17 rfl) rfl
theorem q2231 : (Jvm.Cond.privateMethod ({ cls := "HoldtagModel", name := "writesState", desc := "(I)V" } : Jvm.MethodName)) ∈ lw_tbl := lw_at lw_m10 18 rfl
theorem q2232 : (Jvm.Cond.instanceMethod ({ cls := "HoldtagModel", name := "writesState", desc := "(I)V" } : Jvm.MethodName)) ∈ lw_all := lw_g (lw_at lw_m10 19 rfl) rfl
theorem q2233 : (Jvm.Cond.code ({ cls := "HoldtagModel", name := "writesState", desc := "(I)V" } : Jvm.MethodName) prog_12_method_56_code (2 : Nat) (Option.none : Option Jvm.ClassFile.FieldType)) ∈ lw_all := lw_g (lw_at lw_m10 20 rfl) rfl
theorem q2235 : (Jvm.Cond.instanceMethod ({ cls := "HoldtagModel", name := "outputAt", desc := "(I)I" } : Jvm.MethodName)) ∈ lw_all := lw_g (lw_at lw_m10 22 rfl) rfl
theorem q2236 : (Jvm.Cond.selects "HoldtagModel" ({ cls := "HoldtagModel", name := "outputAt", desc := "(I)I" } : Jvm.MethodName) ({ cls := "HoldtagModel", name := "outputAt", desc := "(I)I" } : Jvm.MethodName)) ∈ lw_all := lw_g (lw_at lw_m10 23 rfl) rfl
theorem q2237 : (Jvm.Cond.code ({ cls := "HoldtagModel", name := "outputAt", desc := "(I)I" } : Jvm.MethodName) prog_12_method_58_code (2 : Nat) (Option.some Jvm.ClassFile.FieldType.int)) ∈ lw_all := lw_g (lw_at lw_m10 24 rfl) rfl
theorem q2239 : (Jvm.Cond.instanceMethod ({ cls := "HoldtagModel", name := "meanAge", desc := "()D" } : Jvm.MethodName)) ∈ lw_all := lw_g (lw_at lw_m10 26 rfl) rfl
theorem q2240 : (Jvm.Cond.selects "HoldtagModel" ({ cls := "HoldtagModel", name := "meanAge", desc := "()D" } : Jvm.MethodName) ({ cls := "HoldtagModel", name := "meanAge", desc := "()D" } : Jvm.MethodName)) ∈ lw_all := lw_g (lw_at lw_m10 27 rfl) rfl
theorem q2241 : (Jvm.Cond.code ({ cls := "HoldtagModel", name := "meanAge", desc := "()D" } : Jvm.MethodName) prog_12_method_59_code (4 : Nat) (Option.some Jvm.ClassFile.FieldType.double)) ∈ lw_all := lw_g (lw_at lw_m10 28 rfl) rfl
theorem q2243 : (Jvm.Cond.instanceMethod ({ cls := "HoldtagModel", name := "heldShare", desc := "()F" } : Jvm.MethodName)) ∈ lw_all := lw_g (lw_at lw_m10 30 rfl) rfl
theorem q2244 : (Jvm.Cond.selects "HoldtagModel" ({ cls := "HoldtagModel", name := "heldShare", desc := "()F" } : Jvm.MethodName) ({ cls := "HoldtagModel", name := "heldShare", desc := "()F" } : Jvm.MethodName)) ∈ lw_all := lw_g (lw_at lw_m10 31 rfl) rfl
theorem q2245 : (Jvm.Cond.code ({ cls := "HoldtagModel", name := "heldShare", desc := "()F" } : Jvm.MethodName) prog_12_method_60_code (4 : Nat) (Option.some Jvm.ClassFile.FieldType.float)) ∈ lw_all := lw_g (lw_at lw_m10 32 rfl) rfl
theorem q2247 : (Jvm.Cond.instanceMethod ({ cls := "HoldtagModel", name := "errors", desc := "()I" } : Jvm.MethodName)) ∈ lw_all := lw_g (lw_at lw_m10 34 rfl) rfl
theorem q2248 : (Jvm.Cond.selects "HoldtagModel" ({ cls := "HoldtagModel", name := "errors", desc := "()I" } : Jvm.MethodName) ({ cls := "HoldtagModel", name := "errors", desc := "()I" } : Jvm.MethodName)) ∈ lw_all := lw_g (lw_at lw_m10 35 rfl) rfl
theorem q2249 : (Jvm.Cond.code ({ cls := "HoldtagModel", name := "errors", desc := "()I" } : Jvm.MethodName) prog_12_method_61_code (1 : Nat) (Option.some Jvm.ClassFile.FieldType.int)) ∈ lw_all := lw_g (lw_at lw_m10 36 rfl) rfl
theorem q2276 : (Jvm.Cond.castable "HoldtagModel" "java/lang/Object") ∈ lw_tbl := lw_at lw_m10 63 rfl
theorem in_X4 : ∀ w ∈ wsX40, w ∈ lw_all := lw_in wsX40 [1945, 1947, 1949, 1951, 1953, 1955, 1957, 1959, 1961, 1963, 1965, 1967, 1969, 1971, 1973, 1975, 1977, 1979, 1981, 1983, 1985, 1987, 1989, 1991, 1993, 1995, 1997, 1999, 2001, 2003, 2005, 2007, 2009, 2011] (by decide +kernel) (by decide +kernel)

