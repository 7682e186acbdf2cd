/-! Holdtag -/
set_option maxRecDepth 100000
def RX1 : String := "Holdtag"
def TX1 : u_T := fun k => match k with
  | 0 => ("Holdtag", "folders", "LHoldtag$Register;", false)
  | 1 => ("Holdtag", "tags", "LHoldtag$Register;", false)
  | 2 => ("Holdtag", "items", "LHoldtag$Register;", false)
  | 3 => ("Holdtag", "holds", "LHoldtag$Register;", false)
  | 4 => ("Holdtag", "byDefault", "LHoldtag$Tag;", false)
  | 5 => ("Holdtag", "events", "Ljava/util/Map;", false)
  | 6 => ("Holdtag", "today", "I", false)
  | 7 => ("Holdtag", "window", "I", false)
  | 8 => ("Holdtag", "quota", "I", false)
  | 9 => ("Holdtag", "gone", "I", false)
  | _ => ("Holdtag", "output", "Ljava/lang/StringBuilder;", true)
def tyX1 : Nat → FieldType := fun k => match k with
  | 0 => .object "Holdtag$Register"
  | 1 => .object "Holdtag$Register"
  | 2 => .object "Holdtag$Register"
  | 3 => .object "Holdtag$Register"
  | 4 => .object "Holdtag$Tag"
  | 5 => .object "java/util/Map"
  | 6 => .int
  | 7 => .int
  | 8 => .int
  | 9 => .int
  | _ => .object "java/lang/StringBuilder"
abbrev wsX10 : List Cond := u_ws RX1 TX1 11
theorem nmX1 : ∀ a, a < 11 → ∀ b, b < 11 → a ≠ b → (TX1 a).2.1 ≠ (TX1 b).2.1 := by decide +kernel
theorem tyX1_ok : ∀ k, k < 11 → parseFieldDescriptor (TX1 k).2.2.1 = some (tyX1 k) := by decide +kernel
abbrev cX1_init : ByteArray := prog_1_method_14_code
def yX1_init : MethodName := ⟨RX1, "<init>", "()V"⟩
def dkwX1_init_4 : List UInt8 := [89, 3, 1, 183, 0, 246, 76, 42, 180, 0, 230, 180, 0, 249, 43, 185, 0, 109, 2, 0, 87, 177]
abbrev dktX1_init_4 : List UInt8 := dkwX1_init_4 ++ []
def dkwX1_init_3 : List UInt8 := [181, 0, 122, 42, 17, 1, 244, 181, 0, 195, 42, 187, 0, 239, 89, 183, 0, 241, 181, 0, 242, 187, 0, 28]
abbrev dktX1_init_3 : List UInt8 := dkwX1_init_3 ++ dktX1_init_4
def dkwX1_init_2 : List UInt8 := [16, 6, 183, 0, 227, 181, 0, 93, 42, 187, 0, 236, 89, 183, 0, 238, 181, 0, 49, 42, 16, 14]
abbrev dktX1_init_2 : List UInt8 := dkwX1_init_2 ++ dktX1_init_3
def dkwX1_init_1 : List UInt8 := [183, 0, 227, 181, 0, 233, 42, 187, 0, 98, 89, 16, 40, 183, 0, 227, 181, 0, 214, 42, 187, 0, 98, 89]
abbrev dktX1_init_1 : List UInt8 := dkwX1_init_1 ++ dktX1_init_2
def dkwX1_init_0 : List UInt8 := [42, 183, 0, 224, 42, 187, 0, 98, 89, 16, 10, 183, 0, 227, 181, 0, 230, 42, 187, 0, 98, 89, 16, 8]
abbrev dktX1_init_0 : List UInt8 := dkwX1_init_0 ++ dktX1_init_1
theorem dksX1_init_0 : cX1_init.data.toList.drop 0 = dktX1_init_0 := by decide +kernel
theorem dksX1_init_1 : cX1_init.data.toList.drop 24 = dktX1_init_1 := dk_seg dksX1_init_0 24 rfl rfl
theorem dksX1_init_2 : cX1_init.data.toList.drop 48 = dktX1_init_2 := dk_seg dksX1_init_1 24 rfl rfl
theorem dksX1_init_3 : cX1_init.data.toList.drop 70 = dktX1_init_3 := dk_seg dksX1_init_2 22 rfl rfl
theorem dksX1_init_4 : cX1_init.data.toList.drop 94 = dktX1_init_4 := dk_seg dksX1_init_3 24 rfl rfl
theorem dX1_init_0 : decode cX1_init 0 = .ok (.aload_n 0, 1) := dk_42 (dk_at dksX1_init_0 0 rfl rfl)
theorem dX1_init_1 : decode cX1_init 1 = .ok (.invokespecial 224, 3) := dk_183 0 224 (dk_at dksX1_init_0 1 rfl rfl)
theorem dX1_init_4 : decode cX1_init 4 = .ok (.aload_n 0, 1) := dk_42 (dk_at dksX1_init_0 4 rfl rfl)
theorem dX1_init_5 : decode cX1_init 5 = .ok (.new 98, 3) := dk_187 0 98 (dk_at dksX1_init_0 5 rfl rfl)
theorem dX1_init_8 : decode cX1_init 8 = .ok (.dup, 1) := dk_89 (dk_at dksX1_init_0 8 rfl rfl)
theorem dX1_init_9 : decode cX1_init 9 = .ok (.bipush 10, 2) := dk_16 10 (dk_at dksX1_init_0 9 rfl rfl)
theorem dX1_init_11 : decode cX1_init 11 = .ok (.invokespecial 227, 3) := dk_183 0 227 (dk_at dksX1_init_0 11 rfl rfl)
theorem dX1_init_14 : decode cX1_init 14 = .ok (.putfield 230, 3) := dk_181 0 230 (dk_at dksX1_init_0 14 rfl rfl)
theorem dX1_init_17 : decode cX1_init 17 = .ok (.aload_n 0, 1) := dk_42 (dk_at dksX1_init_0 17 rfl rfl)
theorem dX1_init_18 : decode cX1_init 18 = .ok (.new 98, 3) := dk_187 0 98 (dk_at dksX1_init_0 18 rfl rfl)
theorem dX1_init_21 : decode cX1_init 21 = .ok (.dup, 1) := dk_89 (dk_at dksX1_init_0 21 rfl rfl)
theorem dX1_init_22 : decode cX1_init 22 = .ok (.bipush 8, 2) := dk_16 8 (dk_at dksX1_init_0 22 rfl rfl)
theorem dX1_init_24 : decode cX1_init 24 = .ok (.invokespecial 227, 3) := dk_183 0 227 (dk_at dksX1_init_1 0 rfl rfl)
theorem dX1_init_27 : decode cX1_init 27 = .ok (.putfield 233, 3) := dk_181 0 233 (dk_at dksX1_init_1 3 rfl rfl)
theorem dX1_init_30 : decode cX1_init 30 = .ok (.aload_n 0, 1) := dk_42 (dk_at dksX1_init_1 6 rfl rfl)
theorem dX1_init_31 : decode cX1_init 31 = .ok (.new 98, 3) := dk_187 0 98 (dk_at dksX1_init_1 7 rfl rfl)
theorem dX1_init_34 : decode cX1_init 34 = .ok (.dup, 1) := dk_89 (dk_at dksX1_init_1 10 rfl rfl)
theorem dX1_init_35 : decode cX1_init 35 = .ok (.bipush 40, 2) := dk_16 40 (dk_at dksX1_init_1 11 rfl rfl)
theorem dX1_init_37 : decode cX1_init 37 = .ok (.invokespecial 227, 3) := dk_183 0 227 (dk_at dksX1_init_1 13 rfl rfl)
theorem dX1_init_40 : decode cX1_init 40 = .ok (.putfield 214, 3) := dk_181 0 214 (dk_at dksX1_init_1 16 rfl rfl)
theorem dX1_init_43 : decode cX1_init 43 = .ok (.aload_n 0, 1) := dk_42 (dk_at dksX1_init_1 19 rfl rfl)
theorem dX1_init_44 : decode cX1_init 44 = .ok (.new 98, 3) := dk_187 0 98 (dk_at dksX1_init_1 20 rfl rfl)
theorem dX1_init_47 : decode cX1_init 47 = .ok (.dup, 1) := dk_89 (dk_at dksX1_init_1 23 rfl rfl)
theorem dX1_init_48 : decode cX1_init 48 = .ok (.bipush 6, 2) := dk_16 6 (dk_at dksX1_init_2 0 rfl rfl)
theorem dX1_init_50 : decode cX1_init 50 = .ok (.invokespecial 227, 3) := dk_183 0 227 (dk_at dksX1_init_2 2 rfl rfl)
theorem dX1_init_53 : decode cX1_init 53 = .ok (.putfield 93, 3) := dk_181 0 93 (dk_at dksX1_init_2 5 rfl rfl)
theorem dX1_init_56 : decode cX1_init 56 = .ok (.aload_n 0, 1) := dk_42 (dk_at dksX1_init_2 8 rfl rfl)
theorem dX1_init_57 : decode cX1_init 57 = .ok (.new 236, 3) := dk_187 0 236 (dk_at dksX1_init_2 9 rfl rfl)
theorem dX1_init_60 : decode cX1_init 60 = .ok (.dup, 1) := dk_89 (dk_at dksX1_init_2 12 rfl rfl)
theorem dX1_init_61 : decode cX1_init 61 = .ok (.invokespecial 238, 3) := dk_183 0 238 (dk_at dksX1_init_2 13 rfl rfl)
theorem dX1_init_64 : decode cX1_init 64 = .ok (.putfield 49, 3) := dk_181 0 49 (dk_at dksX1_init_2 16 rfl rfl)
theorem dX1_init_67 : decode cX1_init 67 = .ok (.aload_n 0, 1) := dk_42 (dk_at dksX1_init_2 19 rfl rfl)
theorem dX1_init_68 : decode cX1_init 68 = .ok (.bipush 14, 2) := dk_16 14 (dk_at dksX1_init_2 20 rfl rfl)
theorem dX1_init_70 : decode cX1_init 70 = .ok (.putfield 122, 3) := dk_181 0 122 (dk_at dksX1_init_3 0 rfl rfl)
theorem dX1_init_73 : decode cX1_init 73 = .ok (.aload_n 0, 1) := dk_42 (dk_at dksX1_init_3 3 rfl rfl)
theorem dX1_init_74 : decode cX1_init 74 = .ok (.sipush 500, 3) := dk_17 1 244 (dk_at dksX1_init_3 4 rfl rfl)
theorem dX1_init_77 : decode cX1_init 77 = .ok (.putfield 195, 3) := dk_181 0 195 (dk_at dksX1_init_3 7 rfl rfl)
theorem dX1_init_80 : decode cX1_init 80 = .ok (.aload_n 0, 1) := dk_42 (dk_at dksX1_init_3 10 rfl rfl)
theorem dX1_init_81 : decode cX1_init 81 = .ok (.new 239, 3) := dk_187 0 239 (dk_at dksX1_init_3 11 rfl rfl)
theorem dX1_init_84 : decode cX1_init 84 = .ok (.dup, 1) := dk_89 (dk_at dksX1_init_3 14 rfl rfl)
theorem dX1_init_85 : decode cX1_init 85 = .ok (.invokespecial 241, 3) := dk_183 0 241 (dk_at dksX1_init_3 15 rfl rfl)
theorem dX1_init_88 : decode cX1_init 88 = .ok (.putfield 242, 3) := dk_181 0 242 (dk_at dksX1_init_3 18 rfl rfl)
theorem dX1_init_91 : decode cX1_init 91 = .ok (.new 28, 3) := dk_187 0 28 (dk_at dksX1_init_3 21 rfl rfl)
theorem dX1_init_94 : decode cX1_init 94 = .ok (.dup, 1) := dk_89 (dk_at dksX1_init_4 0 rfl rfl)
theorem dX1_init_95 : decode cX1_init 95 = .ok (.iconst 0, 1) := dk_3 (dk_at dksX1_init_4 1 rfl rfl)
theorem dX1_init_96 : decode cX1_init 96 = .ok (.aconst_null, 1) := dk_1 (dk_at dksX1_init_4 2 rfl rfl)
theorem dX1_init_97 : decode cX1_init 97 = .ok (.invokespecial 246, 3) := dk_183 0 246 (dk_at dksX1_init_4 3 rfl rfl)
theorem dX1_init_100 : decode cX1_init 100 = .ok (.astore_n 1, 1) := dk_76 (dk_at dksX1_init_4 6 rfl rfl)
theorem dX1_init_101 : decode cX1_init 101 = .ok (.aload_n 0, 1) := dk_42 (dk_at dksX1_init_4 7 rfl rfl)
theorem dX1_init_102 : decode cX1_init 102 = .ok (.getfield 230, 3) := dk_180 0 230 (dk_at dksX1_init_4 8 rfl rfl)
theorem dX1_init_105 : decode cX1_init 105 = .ok (.getfield 249, 3) := dk_180 0 249 (dk_at dksX1_init_4 11 rfl rfl)
theorem dX1_init_108 : decode cX1_init 108 = .ok (.aload_n 1, 1) := dk_43 (dk_at dksX1_init_4 14 rfl rfl)
theorem dX1_init_109 : decode cX1_init 109 = .ok (.invokeinterface 109 2, 5) := by decide +kernel
theorem dX1_init_114 : decode cX1_init 114 = .ok (.pop, 1) := dk_87 (dk_at dksX1_init_4 20 rfl rfl)
theorem dX1_init_115 : decode cX1_init 115 = .ok (.return_, 1) := dk_177 (dk_at dksX1_init_4 21 rfl rfl)
abbrev cX1_clear : ByteArray := prog_1_method_18_code
def yX1_clear : MethodName := ⟨RX1, "clear", "()I"⟩
def dkwX1_clear_5 : List UInt8 := [17, 1, 244, 181, 0, 195, 27, 172]
abbrev dktX1_clear_5 : List UInt8 := dkwX1_clear_5 ++ []
def dkwX1_clear_4 : List UInt8 := [187, 0, 236, 89, 183, 0, 238, 181, 0, 49, 42, 3, 181, 0, 125, 42, 16, 14, 181, 0, 122, 42]
abbrev dktX1_clear_4 : List UInt8 := dkwX1_clear_4 ++ dktX1_clear_5
def dkwX1_clear_3 : List UInt8 := [181, 0, 214, 42, 187, 0, 98, 89, 16, 6, 183, 0, 227, 181, 0, 93, 42, 1, 181, 0, 40, 42]
abbrev dktX1_clear_3 : List UInt8 := dkwX1_clear_3 ++ dktX1_clear_4
def dkwX1_clear_2 : List UInt8 := [187, 0, 98, 89, 16, 8, 183, 0, 227, 181, 0, 233, 42, 187, 0, 98, 89, 16, 40, 183, 0, 227]
abbrev dktX1_clear_2 : List UInt8 := dkwX1_clear_2 ++ dktX1_clear_3
def dkwX1_clear_1 : List UInt8 := [180, 0, 230, 180, 0, 249, 187, 0, 28, 89, 3, 1, 183, 0, 246, 185, 0, 109, 2, 0, 87, 42]
abbrev dktX1_clear_1 : List UInt8 := dkwX1_clear_1 ++ dktX1_clear_2
def dkwX1_clear_0 : List UInt8 := [42, 180, 0, 214, 182, 0, 97, 60, 42, 187, 0, 98, 89, 16, 10, 183, 0, 227, 181, 0, 230, 42]
abbrev dktX1_clear_0 : List UInt8 := dkwX1_clear_0 ++ dktX1_clear_1
theorem dksX1_clear_0 : cX1_clear.data.toList.drop 0 = dktX1_clear_0 := by decide +kernel
theorem dksX1_clear_1 : cX1_clear.data.toList.drop 22 = dktX1_clear_1 := dk_seg dksX1_clear_0 22 rfl rfl
theorem dksX1_clear_2 : cX1_clear.data.toList.drop 44 = dktX1_clear_2 := dk_seg dksX1_clear_1 22 rfl rfl
theorem dksX1_clear_3 : cX1_clear.data.toList.drop 66 = dktX1_clear_3 := dk_seg dksX1_clear_2 22 rfl rfl
theorem dksX1_clear_4 : cX1_clear.data.toList.drop 88 = dktX1_clear_4 := dk_seg dksX1_clear_3 22 rfl rfl
theorem dksX1_clear_5 : cX1_clear.data.toList.drop 110 = dktX1_clear_5 := dk_seg dksX1_clear_4 22 rfl rfl
theorem dX1_clear_0 : decode cX1_clear 0 = .ok (.aload_n 0, 1) := dk_42 (dk_at dksX1_clear_0 0 rfl rfl)
theorem dX1_clear_1 : decode cX1_clear 1 = .ok (.getfield 214, 3) := dk_180 0 214 (dk_at dksX1_clear_0 1 rfl rfl)
theorem dX1_clear_4 : decode cX1_clear 4 = .ok (.invokevirtual 97, 3) := dk_182 0 97 (dk_at dksX1_clear_0 4 rfl rfl)
theorem dX1_clear_7 : decode cX1_clear 7 = .ok (.istore_n 1, 1) := dk_60 (dk_at dksX1_clear_0 7 rfl rfl)
theorem dX1_clear_8 : decode cX1_clear 8 = .ok (.aload_n 0, 1) := dk_42 (dk_at dksX1_clear_0 8 rfl rfl)
theorem dX1_clear_9 : decode cX1_clear 9 = .ok (.new 98, 3) := dk_187 0 98 (dk_at dksX1_clear_0 9 rfl rfl)
theorem dX1_clear_12 : decode cX1_clear 12 = .ok (.dup, 1) := dk_89 (dk_at dksX1_clear_0 12 rfl rfl)
theorem dX1_clear_13 : decode cX1_clear 13 = .ok (.bipush 10, 2) := dk_16 10 (dk_at dksX1_clear_0 13 rfl rfl)
theorem dX1_clear_15 : decode cX1_clear 15 = .ok (.invokespecial 227, 3) := dk_183 0 227 (dk_at dksX1_clear_0 15 rfl rfl)
theorem dX1_clear_18 : decode cX1_clear 18 = .ok (.putfield 230, 3) := dk_181 0 230 (dk_at dksX1_clear_0 18 rfl rfl)
theorem dX1_clear_21 : decode cX1_clear 21 = .ok (.aload_n 0, 1) := dk_42 (dk_at dksX1_clear_0 21 rfl rfl)
theorem dX1_clear_22 : decode cX1_clear 22 = .ok (.getfield 230, 3) := dk_180 0 230 (dk_at dksX1_clear_1 0 rfl rfl)
theorem dX1_clear_25 : decode cX1_clear 25 = .ok (.getfield 249, 3) := dk_180 0 249 (dk_at dksX1_clear_1 3 rfl rfl)
theorem dX1_clear_28 : decode cX1_clear 28 = .ok (.new 28, 3) := dk_187 0 28 (dk_at dksX1_clear_1 6 rfl rfl)
theorem dX1_clear_31 : decode cX1_clear 31 = .ok (.dup, 1) := dk_89 (dk_at dksX1_clear_1 9 rfl rfl)
theorem dX1_clear_32 : decode cX1_clear 32 = .ok (.iconst 0, 1) := dk_3 (dk_at dksX1_clear_1 10 rfl rfl)
theorem dX1_clear_33 : decode cX1_clear 33 = .ok (.aconst_null, 1) := dk_1 (dk_at dksX1_clear_1 11 rfl rfl)
theorem dX1_clear_34 : decode cX1_clear 34 = .ok (.invokespecial 246, 3) := dk_183 0 246 (dk_at dksX1_clear_1 12 rfl rfl)
theorem dX1_clear_37 : decode cX1_clear 37 = .ok (.invokeinterface 109 2, 5) := by decide +kernel
theorem dX1_clear_42 : decode cX1_clear 42 = .ok (.pop, 1) := dk_87 (dk_at dksX1_clear_1 20 rfl rfl)
theorem dX1_clear_43 : decode cX1_clear 43 = .ok (.aload_n 0, 1) := dk_42 (dk_at dksX1_clear_1 21 rfl rfl)
theorem dX1_clear_44 : decode cX1_clear 44 = .ok (.new 98, 3) := dk_187 0 98 (dk_at dksX1_clear_2 0 rfl rfl)
theorem dX1_clear_47 : decode cX1_clear 47 = .ok (.dup, 1) := dk_89 (dk_at dksX1_clear_2 3 rfl rfl)
theorem dX1_clear_48 : decode cX1_clear 48 = .ok (.bipush 8, 2) := dk_16 8 (dk_at dksX1_clear_2 4 rfl rfl)
theorem dX1_clear_50 : decode cX1_clear 50 = .ok (.invokespecial 227, 3) := dk_183 0 227 (dk_at dksX1_clear_2 6 rfl rfl)
theorem dX1_clear_53 : decode cX1_clear 53 = .ok (.putfield 233, 3) := dk_181 0 233 (dk_at dksX1_clear_2 9 rfl rfl)
theorem dX1_clear_56 : decode cX1_clear 56 = .ok (.aload_n 0, 1) := dk_42 (dk_at dksX1_clear_2 12 rfl rfl)
theorem dX1_clear_57 : decode cX1_clear 57 = .ok (.new 98, 3) := dk_187 0 98 (dk_at dksX1_clear_2 13 rfl rfl)
theorem dX1_clear_60 : decode cX1_clear 60 = .ok (.dup, 1) := dk_89 (dk_at dksX1_clear_2 16 rfl rfl)
theorem dX1_clear_61 : decode cX1_clear 61 = .ok (.bipush 40, 2) := dk_16 40 (dk_at dksX1_clear_2 17 rfl rfl)
theorem dX1_clear_63 : decode cX1_clear 63 = .ok (.invokespecial 227, 3) := dk_183 0 227 (dk_at dksX1_clear_2 19 rfl rfl)
theorem dX1_clear_66 : decode cX1_clear 66 = .ok (.putfield 214, 3) := dk_181 0 214 (dk_at dksX1_clear_3 0 rfl rfl)
theorem dX1_clear_69 : decode cX1_clear 69 = .ok (.aload_n 0, 1) := dk_42 (dk_at dksX1_clear_3 3 rfl rfl)
theorem dX1_clear_70 : decode cX1_clear 70 = .ok (.new 98, 3) := dk_187 0 98 (dk_at dksX1_clear_3 4 rfl rfl)
theorem dX1_clear_73 : decode cX1_clear 73 = .ok (.dup, 1) := dk_89 (dk_at dksX1_clear_3 7 rfl rfl)
theorem dX1_clear_74 : decode cX1_clear 74 = .ok (.bipush 6, 2) := dk_16 6 (dk_at dksX1_clear_3 8 rfl rfl)
theorem dX1_clear_76 : decode cX1_clear 76 = .ok (.invokespecial 227, 3) := dk_183 0 227 (dk_at dksX1_clear_3 10 rfl rfl)
theorem dX1_clear_79 : decode cX1_clear 79 = .ok (.putfield 93, 3) := dk_181 0 93 (dk_at dksX1_clear_3 13 rfl rfl)
theorem dX1_clear_82 : decode cX1_clear 82 = .ok (.aload_n 0, 1) := dk_42 (dk_at dksX1_clear_3 16 rfl rfl)
theorem dX1_clear_83 : decode cX1_clear 83 = .ok (.aconst_null, 1) := dk_1 (dk_at dksX1_clear_3 17 rfl rfl)
theorem dX1_clear_84 : decode cX1_clear 84 = .ok (.putfield 40, 3) := dk_181 0 40 (dk_at dksX1_clear_3 18 rfl rfl)
theorem dX1_clear_87 : decode cX1_clear 87 = .ok (.aload_n 0, 1) := dk_42 (dk_at dksX1_clear_3 21 rfl rfl)
theorem dX1_clear_88 : decode cX1_clear 88 = .ok (.new 236, 3) := dk_187 0 236 (dk_at dksX1_clear_4 0 rfl rfl)
theorem dX1_clear_91 : decode cX1_clear 91 = .ok (.dup, 1) := dk_89 (dk_at dksX1_clear_4 3 rfl rfl)
theorem dX1_clear_92 : decode cX1_clear 92 = .ok (.invokespecial 238, 3) := dk_183 0 238 (dk_at dksX1_clear_4 4 rfl rfl)
theorem dX1_clear_95 : decode cX1_clear 95 = .ok (.putfield 49, 3) := dk_181 0 49 (dk_at dksX1_clear_4 7 rfl rfl)
theorem dX1_clear_98 : decode cX1_clear 98 = .ok (.aload_n 0, 1) := dk_42 (dk_at dksX1_clear_4 10 rfl rfl)
theorem dX1_clear_99 : decode cX1_clear 99 = .ok (.iconst 0, 1) := dk_3 (dk_at dksX1_clear_4 11 rfl rfl)
theorem dX1_clear_100 : decode cX1_clear 100 = .ok (.putfield 125, 3) := dk_181 0 125 (dk_at dksX1_clear_4 12 rfl rfl)
theorem dX1_clear_103 : decode cX1_clear 103 = .ok (.aload_n 0, 1) := dk_42 (dk_at dksX1_clear_4 15 rfl rfl)
theorem dX1_clear_104 : decode cX1_clear 104 = .ok (.bipush 14, 2) := dk_16 14 (dk_at dksX1_clear_4 16 rfl rfl)
theorem dX1_clear_106 : decode cX1_clear 106 = .ok (.putfield 122, 3) := dk_181 0 122 (dk_at dksX1_clear_4 18 rfl rfl)
theorem dX1_clear_109 : decode cX1_clear 109 = .ok (.aload_n 0, 1) := dk_42 (dk_at dksX1_clear_4 21 rfl rfl)
theorem dX1_clear_110 : decode cX1_clear 110 = .ok (.sipush 500, 3) := dk_17 1 244 (dk_at dksX1_clear_5 0 rfl rfl)
theorem dX1_clear_113 : decode cX1_clear 113 = .ok (.putfield 195, 3) := dk_181 0 195 (dk_at dksX1_clear_5 3 rfl rfl)
theorem dX1_clear_116 : decode cX1_clear 116 = .ok (.iload_n 1, 1) := dk_27 (dk_at dksX1_clear_5 6 rfl rfl)
theorem dX1_clear_117 : decode cX1_clear 117 = .ok (.ireturn, 1) := dk_172 (dk_at dksX1_clear_5 7 rfl rfl)
abbrev cX1_today : ByteArray := prog_1_method_39_code
def yX1_today : MethodName := ⟨RX1, "today", "()I"⟩
theorem dX1_today_0 : decode cX1_today 0 = .ok (.aload_n 0, 1) := by decide +kernel
theorem dX1_today_1 : decode cX1_today 1 = .ok (.getfield 125, 3) := by decide +kernel
theorem dX1_today_4 : decode cX1_today 4 = .ok (.ireturn, 1) := by decide +kernel
abbrev cX1_outputAt : ByteArray := prog_1_method_48_code
def yX1_outputAt : MethodName := ⟨RX1, "outputAt", "(I)I"⟩
def dkwX1_outputAt_1 : List UInt8 := [182, 1, 111, 172]
abbrev dktX1_outputAt_1 : List UInt8 := dkwX1_outputAt_1 ++ []
def dkwX1_outputAt_0 : List UInt8 := [27, 155, 0, 14, 27, 42, 180, 0, 242, 182, 1, 108, 161, 0, 7, 2, 167, 0, 11, 42, 180, 0, 242, 27]
abbrev dktX1_outputAt_0 : List UInt8 := dkwX1_outputAt_0 ++ dktX1_outputAt_1
theorem dksX1_outputAt_0 : cX1_outputAt.data.toList.drop 0 = dktX1_outputAt_0 := by decide +kernel
theorem dksX1_outputAt_1 : cX1_outputAt.data.toList.drop 24 = dktX1_outputAt_1 := dk_seg dksX1_outputAt_0 24 rfl rfl
theorem dX1_outputAt_0 : decode cX1_outputAt 0 = .ok (.iload_n 1, 1) := dk_27 (dk_at dksX1_outputAt_0 0 rfl rfl)
theorem dX1_outputAt_1 : decode cX1_outputAt 1 = .ok (.ifCond .lt 14, 3) := dk_155 0 14 (dk_at dksX1_outputAt_0 1 rfl rfl)
theorem dX1_outputAt_4 : decode cX1_outputAt 4 = .ok (.iload_n 1, 1) := dk_27 (dk_at dksX1_outputAt_0 4 rfl rfl)
theorem dX1_outputAt_5 : decode cX1_outputAt 5 = .ok (.aload_n 0, 1) := dk_42 (dk_at dksX1_outputAt_0 5 rfl rfl)
theorem dX1_outputAt_6 : decode cX1_outputAt 6 = .ok (.getfield 242, 3) := dk_180 0 242 (dk_at dksX1_outputAt_0 6 rfl rfl)
theorem dX1_outputAt_9 : decode cX1_outputAt 9 = .ok (.invokevirtual 364, 3) := dk_182 1 108 (dk_at dksX1_outputAt_0 9 rfl rfl)
theorem dX1_outputAt_12 : decode cX1_outputAt 12 = .ok (.if_icmp .lt 7, 3) := dk_161 0 7 (dk_at dksX1_outputAt_0 12 rfl rfl)
theorem dX1_outputAt_15 : decode cX1_outputAt 15 = .ok (.iconst (-1), 1) := dk_2 (dk_at dksX1_outputAt_0 15 rfl rfl)
theorem dX1_outputAt_16 : decode cX1_outputAt 16 = .ok (.goto 11, 3) := dk_167 0 11 (dk_at dksX1_outputAt_0 16 rfl rfl)
theorem dX1_outputAt_19 : decode cX1_outputAt 19 = .ok (.aload_n 0, 1) := dk_42 (dk_at dksX1_outputAt_0 19 rfl rfl)
theorem dX1_outputAt_20 : decode cX1_outputAt 20 = .ok (.getfield 242, 3) := dk_180 0 242 (dk_at dksX1_outputAt_0 20 rfl rfl)
theorem dX1_outputAt_23 : decode cX1_outputAt 23 = .ok (.iload_n 1, 1) := dk_27 (dk_at dksX1_outputAt_0 23 rfl rfl)
theorem dX1_outputAt_24 : decode cX1_outputAt 24 = .ok (.invokevirtual 367, 3) := dk_182 1 111 (dk_at dksX1_outputAt_1 0 rfl rfl)
theorem dX1_outputAt_27 : decode cX1_outputAt 27 = .ok (.ireturn, 1) := dk_172 (dk_at dksX1_outputAt_1 3 rfl rfl)
abbrev cX1_meanAge : ByteArray := prog_1_method_49_code
def yX1_meanAge : MethodName := ⟨RX1, "meanAge", "()D"⟩
def dkwX1_meanAge_3 : List UInt8 := [111, 175]
abbrev dktX1_meanAge_3 : List UInt8 := dkwX1_meanAge_3 ++ []
def dkwX1_meanAge_2 : List UInt8 := [100, 96, 61, 167, 255, 223, 43, 180, 1, 73, 154, 0, 7, 14, 167, 0, 11, 28, 135, 43, 180, 1, 73, 135]
abbrev dktX1_meanAge_2 : List UInt8 := dkwX1_meanAge_2 ++ dktX1_meanAge_3
def dkwX1_meanAge_1 : List UInt8 := [153, 0, 30, 45, 185, 0, 184, 1, 0, 192, 0, 22, 58, 4, 28, 42, 180, 0, 125, 25, 4, 180, 0, 70]
abbrev dktX1_meanAge_1 : List UInt8 := dkwX1_meanAge_1 ++ dktX1_meanAge_2
def dkwX1_meanAge_0 : List UInt8 := [187, 0, 170, 89, 42, 3, 183, 0, 172, 76, 3, 61, 43, 182, 0, 175, 78, 45, 185, 0, 179, 1, 0]
abbrev dktX1_meanAge_0 : List UInt8 := dkwX1_meanAge_0 ++ dktX1_meanAge_1
theorem dksX1_meanAge_0 : cX1_meanAge.data.toList.drop 0 = dktX1_meanAge_0 := by decide +kernel
theorem dksX1_meanAge_1 : cX1_meanAge.data.toList.drop 23 = dktX1_meanAge_1 := dk_seg dksX1_meanAge_0 23 rfl rfl
theorem dksX1_meanAge_2 : cX1_meanAge.data.toList.drop 47 = dktX1_meanAge_2 := dk_seg dksX1_meanAge_1 24 rfl rfl
theorem dksX1_meanAge_3 : cX1_meanAge.data.toList.drop 71 = dktX1_meanAge_3 := dk_seg dksX1_meanAge_2 24 rfl rfl
theorem dX1_meanAge_0 : decode cX1_meanAge 0 = .ok (.new 170, 3) := dk_187 0 170 (dk_at dksX1_meanAge_0 0 rfl rfl)
theorem dX1_meanAge_3 : decode cX1_meanAge 3 = .ok (.dup, 1) := dk_89 (dk_at dksX1_meanAge_0 3 rfl rfl)
theorem dX1_meanAge_4 : decode cX1_meanAge 4 = .ok (.aload_n 0, 1) := dk_42 (dk_at dksX1_meanAge_0 4 rfl rfl)
theorem dX1_meanAge_5 : decode cX1_meanAge 5 = .ok (.iconst 0, 1) := dk_3 (dk_at dksX1_meanAge_0 5 rfl rfl)
theorem dX1_meanAge_6 : decode cX1_meanAge 6 = .ok (.invokespecial 172, 3) := dk_183 0 172 (dk_at dksX1_meanAge_0 6 rfl rfl)
theorem dX1_meanAge_9 : decode cX1_meanAge 9 = .ok (.astore_n 1, 1) := dk_76 (dk_at dksX1_meanAge_0 9 rfl rfl)
theorem dX1_meanAge_10 : decode cX1_meanAge 10 = .ok (.iconst 0, 1) := dk_3 (dk_at dksX1_meanAge_0 10 rfl rfl)
theorem dX1_meanAge_11 : decode cX1_meanAge 11 = .ok (.istore_n 2, 1) := dk_61 (dk_at dksX1_meanAge_0 11 rfl rfl)
theorem dX1_meanAge_12 : decode cX1_meanAge 12 = .ok (.aload_n 1, 1) := dk_43 (dk_at dksX1_meanAge_0 12 rfl rfl)
theorem dX1_meanAge_13 : decode cX1_meanAge 13 = .ok (.invokevirtual 175, 3) := dk_182 0 175 (dk_at dksX1_meanAge_0 13 rfl rfl)
theorem dX1_meanAge_16 : decode cX1_meanAge 16 = .ok (.astore_n 3, 1) := dk_78 (dk_at dksX1_meanAge_0 16 rfl rfl)
theorem dX1_meanAge_17 : decode cX1_meanAge 17 = .ok (.aload_n 3, 1) := dk_45 (dk_at dksX1_meanAge_0 17 rfl rfl)
theorem dX1_meanAge_18 : decode cX1_meanAge 18 = .ok (.invokeinterface 179 1, 5) := by decide +kernel
theorem dX1_meanAge_23 : decode cX1_meanAge 23 = .ok (.ifCond .eq 30, 3) := dk_153 0 30 (dk_at dksX1_meanAge_1 0 rfl rfl)
theorem dX1_meanAge_26 : decode cX1_meanAge 26 = .ok (.aload_n 3, 1) := dk_45 (dk_at dksX1_meanAge_1 3 rfl rfl)
theorem dX1_meanAge_27 : decode cX1_meanAge 27 = .ok (.invokeinterface 184 1, 5) := by decide +kernel
theorem dX1_meanAge_32 : decode cX1_meanAge 32 = .ok (.checkcast 22, 3) := dk_192 0 22 (dk_at dksX1_meanAge_1 9 rfl rfl)
theorem dX1_meanAge_35 : decode cX1_meanAge 35 = .ok (.astore 4, 2) := dk_58 4 (dk_at dksX1_meanAge_1 12 rfl rfl)
theorem dX1_meanAge_37 : decode cX1_meanAge 37 = .ok (.iload_n 2, 1) := dk_28 (dk_at dksX1_meanAge_1 14 rfl rfl)
theorem dX1_meanAge_38 : decode cX1_meanAge 38 = .ok (.aload_n 0, 1) := dk_42 (dk_at dksX1_meanAge_1 15 rfl rfl)
theorem dX1_meanAge_39 : decode cX1_meanAge 39 = .ok (.getfield 125, 3) := dk_180 0 125 (dk_at dksX1_meanAge_1 16 rfl rfl)
theorem dX1_meanAge_42 : decode cX1_meanAge 42 = .ok (.aload 4, 2) := dk_25 4 (dk_at dksX1_meanAge_1 19 rfl rfl)
theorem dX1_meanAge_44 : decode cX1_meanAge 44 = .ok (.getfield 70, 3) := dk_180 0 70 (dk_at dksX1_meanAge_1 21 rfl rfl)
theorem dX1_meanAge_47 : decode cX1_meanAge 47 = .ok (.isub, 1) := dk_100 (dk_at dksX1_meanAge_2 0 rfl rfl)
theorem dX1_meanAge_48 : decode cX1_meanAge 48 = .ok (.iadd, 1) := dk_96 (dk_at dksX1_meanAge_2 1 rfl rfl)
theorem dX1_meanAge_49 : decode cX1_meanAge 49 = .ok (.istore_n 2, 1) := dk_61 (dk_at dksX1_meanAge_2 2 rfl rfl)
theorem dX1_meanAge_50 : decode cX1_meanAge 50 = .ok (.goto (-33), 3) := dk_167 255 223 (dk_at dksX1_meanAge_2 3 rfl rfl)
theorem dX1_meanAge_53 : decode cX1_meanAge 53 = .ok (.aload_n 1, 1) := dk_43 (dk_at dksX1_meanAge_2 6 rfl rfl)
theorem dX1_meanAge_54 : decode cX1_meanAge 54 = .ok (.getfield 329, 3) := dk_180 1 73 (dk_at dksX1_meanAge_2 7 rfl rfl)
theorem dX1_meanAge_57 : decode cX1_meanAge 57 = .ok (.ifCond .ne 7, 3) := dk_154 0 7 (dk_at dksX1_meanAge_2 10 rfl rfl)
theorem dX1_meanAge_60 : decode cX1_meanAge 60 = .ok (.dconst 0, 1) := dk_14 (dk_at dksX1_meanAge_2 13 rfl rfl)
theorem dX1_meanAge_61 : decode cX1_meanAge 61 = .ok (.goto 11, 3) := dk_167 0 11 (dk_at dksX1_meanAge_2 14 rfl rfl)
theorem dX1_meanAge_64 : decode cX1_meanAge 64 = .ok (.iload_n 2, 1) := dk_28 (dk_at dksX1_meanAge_2 17 rfl rfl)
theorem dX1_meanAge_65 : decode cX1_meanAge 65 = .ok (.i2d, 1) := dk_135 (dk_at dksX1_meanAge_2 18 rfl rfl)
theorem dX1_meanAge_66 : decode cX1_meanAge 66 = .ok (.aload_n 1, 1) := dk_43 (dk_at dksX1_meanAge_2 19 rfl rfl)
theorem dX1_meanAge_67 : decode cX1_meanAge 67 = .ok (.getfield 329, 3) := dk_180 1 73 (dk_at dksX1_meanAge_2 20 rfl rfl)
theorem dX1_meanAge_70 : decode cX1_meanAge 70 = .ok (.i2d, 1) := dk_135 (dk_at dksX1_meanAge_2 23 rfl rfl)
theorem dX1_meanAge_71 : decode cX1_meanAge 71 = .ok (.ddiv, 1) := dk_111 (dk_at dksX1_meanAge_3 0 rfl rfl)
theorem dX1_meanAge_72 : decode cX1_meanAge 72 = .ok (.dreturn, 1) := dk_175 (dk_at dksX1_meanAge_3 1 rfl rfl)
abbrev cX1_heldShare : ByteArray := prog_1_method_50_code
def yX1_heldShare : MethodName := ⟨RX1, "heldShare", "()F"⟩
def dkwX1_heldShare_2 : List UInt8 := [154, 0, 7, 11, 167, 0, 11, 42, 182, 1, 62, 134, 27, 134, 110, 174]
abbrev dktX1_heldShare_2 : List UInt8 := dkwX1_heldShare_2 ++ []
def dkwX1_heldShare_1 : List UInt8 := [192, 0, 22, 180, 0, 113, 6, 160, 0, 7, 3, 167, 0, 4, 4, 96, 60, 132, 2, 1, 167, 255, 216, 27]
abbrev dktX1_heldShare_1 : List UInt8 := dkwX1_heldShare_1 ++ dktX1_heldShare_2
def dkwX1_heldShare_0 : List UInt8 := [3, 60, 3, 61, 28, 42, 180, 0, 214, 182, 0, 97, 162, 0, 35, 27, 42, 180, 0, 214, 28, 182, 0, 100]
abbrev dktX1_heldShare_0 : List UInt8 := dkwX1_heldShare_0 ++ dktX1_heldShare_1
theorem dksX1_heldShare_0 : cX1_heldShare.data.toList.drop 0 = dktX1_heldShare_0 := by decide +kernel
theorem dksX1_heldShare_1 : cX1_heldShare.data.toList.drop 24 = dktX1_heldShare_1 := dk_seg dksX1_heldShare_0 24 rfl rfl
theorem dksX1_heldShare_2 : cX1_heldShare.data.toList.drop 48 = dktX1_heldShare_2 := dk_seg dksX1_heldShare_1 24 rfl rfl
theorem dX1_heldShare_0 : decode cX1_heldShare 0 = .ok (.iconst 0, 1) := dk_3 (dk_at dksX1_heldShare_0 0 rfl rfl)
theorem dX1_heldShare_1 : decode cX1_heldShare 1 = .ok (.istore_n 1, 1) := dk_60 (dk_at dksX1_heldShare_0 1 rfl rfl)
theorem dX1_heldShare_2 : decode cX1_heldShare 2 = .ok (.iconst 0, 1) := dk_3 (dk_at dksX1_heldShare_0 2 rfl rfl)
theorem dX1_heldShare_3 : decode cX1_heldShare 3 = .ok (.istore_n 2, 1) := dk_61 (dk_at dksX1_heldShare_0 3 rfl rfl)
theorem dX1_heldShare_4 : decode cX1_heldShare 4 = .ok (.iload_n 2, 1) := dk_28 (dk_at dksX1_heldShare_0 4 rfl rfl)
theorem dX1_heldShare_5 : decode cX1_heldShare 5 = .ok (.aload_n 0, 1) := dk_42 (dk_at dksX1_heldShare_0 5 rfl rfl)
theorem dX1_heldShare_6 : decode cX1_heldShare 6 = .ok (.getfield 214, 3) := dk_180 0 214 (dk_at dksX1_heldShare_0 6 rfl rfl)
theorem dX1_heldShare_9 : decode cX1_heldShare 9 = .ok (.invokevirtual 97, 3) := dk_182 0 97 (dk_at dksX1_heldShare_0 9 rfl rfl)
theorem dX1_heldShare_12 : decode cX1_heldShare 12 = .ok (.if_icmp .ge 35, 3) := dk_162 0 35 (dk_at dksX1_heldShare_0 12 rfl rfl)
theorem dX1_heldShare_15 : decode cX1_heldShare 15 = .ok (.iload_n 1, 1) := dk_27 (dk_at dksX1_heldShare_0 15 rfl rfl)
theorem dX1_heldShare_16 : decode cX1_heldShare 16 = .ok (.aload_n 0, 1) := dk_42 (dk_at dksX1_heldShare_0 16 rfl rfl)
theorem dX1_heldShare_17 : decode cX1_heldShare 17 = .ok (.getfield 214, 3) := dk_180 0 214 (dk_at dksX1_heldShare_0 17 rfl rfl)
theorem dX1_heldShare_20 : decode cX1_heldShare 20 = .ok (.iload_n 2, 1) := dk_28 (dk_at dksX1_heldShare_0 20 rfl rfl)
theorem dX1_heldShare_21 : decode cX1_heldShare 21 = .ok (.invokevirtual 100, 3) := dk_182 0 100 (dk_at dksX1_heldShare_0 21 rfl rfl)
theorem dX1_heldShare_24 : decode cX1_heldShare 24 = .ok (.checkcast 22, 3) := dk_192 0 22 (dk_at dksX1_heldShare_1 0 rfl rfl)
theorem dX1_heldShare_27 : decode cX1_heldShare 27 = .ok (.getfield 113, 3) := dk_180 0 113 (dk_at dksX1_heldShare_1 3 rfl rfl)
theorem dX1_heldShare_30 : decode cX1_heldShare 30 = .ok (.iconst 3, 1) := dk_6 (dk_at dksX1_heldShare_1 6 rfl rfl)
theorem dX1_heldShare_31 : decode cX1_heldShare 31 = .ok (.if_icmp .ne 7, 3) := dk_160 0 7 (dk_at dksX1_heldShare_1 7 rfl rfl)
theorem dX1_heldShare_34 : decode cX1_heldShare 34 = .ok (.iconst 0, 1) := dk_3 (dk_at dksX1_heldShare_1 10 rfl rfl)
theorem dX1_heldShare_35 : decode cX1_heldShare 35 = .ok (.goto 4, 3) := dk_167 0 4 (dk_at dksX1_heldShare_1 11 rfl rfl)
theorem dX1_heldShare_38 : decode cX1_heldShare 38 = .ok (.iconst 1, 1) := dk_4 (dk_at dksX1_heldShare_1 14 rfl rfl)
theorem dX1_heldShare_39 : decode cX1_heldShare 39 = .ok (.iadd, 1) := dk_96 (dk_at dksX1_heldShare_1 15 rfl rfl)
theorem dX1_heldShare_40 : decode cX1_heldShare 40 = .ok (.istore_n 1, 1) := dk_60 (dk_at dksX1_heldShare_1 16 rfl rfl)
theorem dX1_heldShare_41 : decode cX1_heldShare 41 = .ok (.iinc 2 1, 3) := dk_132 2 1 (dk_at dksX1_heldShare_1 17 rfl rfl)
theorem dX1_heldShare_44 : decode cX1_heldShare 44 = .ok (.goto (-40), 3) := dk_167 255 216 (dk_at dksX1_heldShare_1 20 rfl rfl)
theorem dX1_heldShare_47 : decode cX1_heldShare 47 = .ok (.iload_n 1, 1) := dk_27 (dk_at dksX1_heldShare_1 23 rfl rfl)
theorem dX1_heldShare_48 : decode cX1_heldShare 48 = .ok (.ifCond .ne 7, 3) := dk_154 0 7 (dk_at dksX1_heldShare_2 0 rfl rfl)
theorem dX1_heldShare_51 : decode cX1_heldShare 51 = .ok (.fconst 0, 1) := dk_11 (dk_at dksX1_heldShare_2 3 rfl rfl)
theorem dX1_heldShare_52 : decode cX1_heldShare 52 = .ok (.goto 11, 3) := dk_167 0 11 (dk_at dksX1_heldShare_2 4 rfl rfl)
theorem dX1_heldShare_55 : decode cX1_heldShare 55 = .ok (.aload_n 0, 1) := dk_42 (dk_at dksX1_heldShare_2 7 rfl rfl)
theorem dX1_heldShare_56 : decode cX1_heldShare 56 = .ok (.invokevirtual 318, 3) := dk_182 1 62 (dk_at dksX1_heldShare_2 8 rfl rfl)
theorem dX1_heldShare_59 : decode cX1_heldShare 59 = .ok (.i2f, 1) := dk_134 (dk_at dksX1_heldShare_2 11 rfl rfl)
theorem dX1_heldShare_60 : decode cX1_heldShare 60 = .ok (.iload_n 1, 1) := dk_27 (dk_at dksX1_heldShare_2 12 rfl rfl)
theorem dX1_heldShare_61 : decode cX1_heldShare 61 = .ok (.i2f, 1) := dk_134 (dk_at dksX1_heldShare_2 13 rfl rfl)
theorem dX1_heldShare_62 : decode cX1_heldShare 62 = .ok (.fdiv, 1) := dk_110 (dk_at dksX1_heldShare_2 14 rfl rfl)
theorem dX1_heldShare_63 : decode cX1_heldShare 63 = .ok (.freturn, 1) := dk_174 (dk_at dksX1_heldShare_2 15 rfl rfl)
abbrev cX1_countHeld : ByteArray := prog_1_method_36_code
def yX1_countHeld : MethodName := ⟨RX1, "countHeld", "()I"⟩
def dkwX1_countHeld_2 : List UInt8 := [167, 255, 216, 27, 172]
abbrev dktX1_countHeld_2 : List UInt8 := dkwX1_countHeld_2 ++ []
def dkwX1_countHeld_1 : List UInt8 := [182, 0, 100, 192, 0, 22, 182, 0, 116, 153, 0, 7, 4, 167, 0, 4, 3, 96, 60, 132, 2, 1]
abbrev dktX1_countHeld_1 : List UInt8 := dkwX1_countHeld_1 ++ dktX1_countHeld_2
def dkwX1_countHeld_0 : List UInt8 := [3, 60, 3, 61, 28, 42, 180, 0, 214, 182, 0, 97, 162, 0, 35, 27, 42, 42, 180, 0, 214, 28]
abbrev dktX1_countHeld_0 : List UInt8 := dkwX1_countHeld_0 ++ dktX1_countHeld_1
theorem dksX1_countHeld_0 : cX1_countHeld.data.toList.drop 0 = dktX1_countHeld_0 := by decide +kernel
theorem dksX1_countHeld_1 : cX1_countHeld.data.toList.drop 22 = dktX1_countHeld_1 := dk_seg dksX1_countHeld_0 22 rfl rfl
theorem dksX1_countHeld_2 : cX1_countHeld.data.toList.drop 44 = dktX1_countHeld_2 := dk_seg dksX1_countHeld_1 22 rfl rfl
theorem dX1_countHeld_0 : decode cX1_countHeld 0 = .ok (.iconst 0, 1) := dk_3 (dk_at dksX1_countHeld_0 0 rfl rfl)
theorem dX1_countHeld_1 : decode cX1_countHeld 1 = .ok (.istore_n 1, 1) := dk_60 (dk_at dksX1_countHeld_0 1 rfl rfl)
theorem dX1_countHeld_2 : decode cX1_countHeld 2 = .ok (.iconst 0, 1) := dk_3 (dk_at dksX1_countHeld_0 2 rfl rfl)
theorem dX1_countHeld_3 : decode cX1_countHeld 3 = .ok (.istore_n 2, 1) := dk_61 (dk_at dksX1_countHeld_0 3 rfl rfl)
theorem dX1_countHeld_4 : decode cX1_countHeld 4 = .ok (.iload_n 2, 1) := dk_28 (dk_at dksX1_countHeld_0 4 rfl rfl)
theorem dX1_countHeld_5 : decode cX1_countHeld 5 = .ok (.aload_n 0, 1) := dk_42 (dk_at dksX1_countHeld_0 5 rfl rfl)
theorem dX1_countHeld_6 : decode cX1_countHeld 6 = .ok (.getfield 214, 3) := dk_180 0 214 (dk_at dksX1_countHeld_0 6 rfl rfl)
theorem dX1_countHeld_9 : decode cX1_countHeld 9 = .ok (.invokevirtual 97, 3) := dk_182 0 97 (dk_at dksX1_countHeld_0 9 rfl rfl)
theorem dX1_countHeld_12 : decode cX1_countHeld 12 = .ok (.if_icmp .ge 35, 3) := dk_162 0 35 (dk_at dksX1_countHeld_0 12 rfl rfl)
theorem dX1_countHeld_15 : decode cX1_countHeld 15 = .ok (.iload_n 1, 1) := dk_27 (dk_at dksX1_countHeld_0 15 rfl rfl)
theorem dX1_countHeld_16 : decode cX1_countHeld 16 = .ok (.aload_n 0, 1) := dk_42 (dk_at dksX1_countHeld_0 16 rfl rfl)
theorem dX1_countHeld_17 : decode cX1_countHeld 17 = .ok (.aload_n 0, 1) := dk_42 (dk_at dksX1_countHeld_0 17 rfl rfl)
theorem dX1_countHeld_18 : decode cX1_countHeld 18 = .ok (.getfield 214, 3) := dk_180 0 214 (dk_at dksX1_countHeld_0 18 rfl rfl)
theorem dX1_countHeld_21 : decode cX1_countHeld 21 = .ok (.iload_n 2, 1) := dk_28 (dk_at dksX1_countHeld_0 21 rfl rfl)
theorem dX1_countHeld_22 : decode cX1_countHeld 22 = .ok (.invokevirtual 100, 3) := dk_182 0 100 (dk_at dksX1_countHeld_1 0 rfl rfl)
theorem dX1_countHeld_25 : decode cX1_countHeld 25 = .ok (.checkcast 22, 3) := dk_192 0 22 (dk_at dksX1_countHeld_1 3 rfl rfl)
theorem dX1_countHeld_28 : decode cX1_countHeld 28 = .ok (.invokevirtual 116, 3) := dk_182 0 116 (dk_at dksX1_countHeld_1 6 rfl rfl)
theorem dX1_countHeld_31 : decode cX1_countHeld 31 = .ok (.ifCond .eq 7, 3) := dk_153 0 7 (dk_at dksX1_countHeld_1 9 rfl rfl)
theorem dX1_countHeld_34 : decode cX1_countHeld 34 = .ok (.iconst 1, 1) := dk_4 (dk_at dksX1_countHeld_1 12 rfl rfl)
theorem dX1_countHeld_35 : decode cX1_countHeld 35 = .ok (.goto 4, 3) := dk_167 0 4 (dk_at dksX1_countHeld_1 13 rfl rfl)
theorem dX1_countHeld_38 : decode cX1_countHeld 38 = .ok (.iconst 0, 1) := dk_3 (dk_at dksX1_countHeld_1 16 rfl rfl)
theorem dX1_countHeld_39 : decode cX1_countHeld 39 = .ok (.iadd, 1) := dk_96 (dk_at dksX1_countHeld_1 17 rfl rfl)
theorem dX1_countHeld_40 : decode cX1_countHeld 40 = .ok (.istore_n 1, 1) := dk_60 (dk_at dksX1_countHeld_1 18 rfl rfl)
theorem dX1_countHeld_41 : decode cX1_countHeld 41 = .ok (.iinc 2 1, 3) := dk_132 2 1 (dk_at dksX1_countHeld_1 19 rfl rfl)
theorem dX1_countHeld_44 : decode cX1_countHeld 44 = .ok (.goto (-40), 3) := dk_167 255 216 (dk_at dksX1_countHeld_2 0 rfl rfl)
theorem dX1_countHeld_47 : decode cX1_countHeld 47 = .ok (.iload_n 1, 1) := dk_27 (dk_at dksX1_countHeld_2 3 rfl rfl)
theorem dX1_countHeld_48 : decode cX1_countHeld 48 = .ok (.ireturn, 1) := dk_172 (dk_at dksX1_countHeld_2 4 rfl rfl)
abbrev cX1_isHeld : ByteArray := prog_1_method_7_code
def yX1_isHeld : MethodName := ⟨RX1, "isHeld", "(LHoldtag$Item;)Z"⟩
def dkwX1_isHeld_1 : List UInt8 := [43, 182, 0, 106, 153, 0, 5, 4, 172, 132, 2, 1, 167, 255, 222, 3, 172]
abbrev dktX1_isHeld_1 : List UInt8 := dkwX1_isHeld_1 ++ []
def dkwX1_isHeld_0 : List UInt8 := [3, 61, 28, 42, 180, 0, 93, 182, 0, 97, 162, 0, 29, 42, 180, 0, 93, 28, 182, 0, 100, 192, 0, 104]
abbrev dktX1_isHeld_0 : List UInt8 := dkwX1_isHeld_0 ++ dktX1_isHeld_1
theorem dksX1_isHeld_0 : cX1_isHeld.data.toList.drop 0 = dktX1_isHeld_0 := by decide +kernel
theorem dksX1_isHeld_1 : cX1_isHeld.data.toList.drop 24 = dktX1_isHeld_1 := dk_seg dksX1_isHeld_0 24 rfl rfl
theorem dX1_isHeld_0 : decode cX1_isHeld 0 = .ok (.iconst 0, 1) := dk_3 (dk_at dksX1_isHeld_0 0 rfl rfl)
theorem dX1_isHeld_1 : decode cX1_isHeld 1 = .ok (.istore_n 2, 1) := dk_61 (dk_at dksX1_isHeld_0 1 rfl rfl)
theorem dX1_isHeld_2 : decode cX1_isHeld 2 = .ok (.iload_n 2, 1) := dk_28 (dk_at dksX1_isHeld_0 2 rfl rfl)
theorem dX1_isHeld_3 : decode cX1_isHeld 3 = .ok (.aload_n 0, 1) := dk_42 (dk_at dksX1_isHeld_0 3 rfl rfl)
theorem dX1_isHeld_4 : decode cX1_isHeld 4 = .ok (.getfield 93, 3) := dk_180 0 93 (dk_at dksX1_isHeld_0 4 rfl rfl)
theorem dX1_isHeld_7 : decode cX1_isHeld 7 = .ok (.invokevirtual 97, 3) := dk_182 0 97 (dk_at dksX1_isHeld_0 7 rfl rfl)
theorem dX1_isHeld_10 : decode cX1_isHeld 10 = .ok (.if_icmp .ge 29, 3) := dk_162 0 29 (dk_at dksX1_isHeld_0 10 rfl rfl)
theorem dX1_isHeld_13 : decode cX1_isHeld 13 = .ok (.aload_n 0, 1) := dk_42 (dk_at dksX1_isHeld_0 13 rfl rfl)
theorem dX1_isHeld_14 : decode cX1_isHeld 14 = .ok (.getfield 93, 3) := dk_180 0 93 (dk_at dksX1_isHeld_0 14 rfl rfl)
theorem dX1_isHeld_17 : decode cX1_isHeld 17 = .ok (.iload_n 2, 1) := dk_28 (dk_at dksX1_isHeld_0 17 rfl rfl)
theorem dX1_isHeld_18 : decode cX1_isHeld 18 = .ok (.invokevirtual 100, 3) := dk_182 0 100 (dk_at dksX1_isHeld_0 18 rfl rfl)
theorem dX1_isHeld_21 : decode cX1_isHeld 21 = .ok (.checkcast 104, 3) := dk_192 0 104 (dk_at dksX1_isHeld_0 21 rfl rfl)
theorem dX1_isHeld_24 : decode cX1_isHeld 24 = .ok (.aload_n 1, 1) := dk_43 (dk_at dksX1_isHeld_1 0 rfl rfl)
theorem dX1_isHeld_25 : decode cX1_isHeld 25 = .ok (.invokevirtual 106, 3) := dk_182 0 106 (dk_at dksX1_isHeld_1 1 rfl rfl)
theorem dX1_isHeld_28 : decode cX1_isHeld 28 = .ok (.ifCond .eq 5, 3) := dk_153 0 5 (dk_at dksX1_isHeld_1 4 rfl rfl)
theorem dX1_isHeld_31 : decode cX1_isHeld 31 = .ok (.iconst 1, 1) := dk_4 (dk_at dksX1_isHeld_1 7 rfl rfl)
theorem dX1_isHeld_32 : decode cX1_isHeld 32 = .ok (.ireturn, 1) := dk_172 (dk_at dksX1_isHeld_1 8 rfl rfl)
theorem dX1_isHeld_33 : decode cX1_isHeld 33 = .ok (.iinc 2 1, 3) := dk_132 2 1 (dk_at dksX1_isHeld_1 9 rfl rfl)
theorem dX1_isHeld_36 : decode cX1_isHeld 36 = .ok (.goto (-34), 3) := dk_167 255 222 (dk_at dksX1_isHeld_1 12 rfl rfl)
theorem dX1_isHeld_39 : decode cX1_isHeld 39 = .ok (.iconst 0, 1) := dk_3 (dk_at dksX1_isHeld_1 15 rfl rfl)
theorem dX1_isHeld_40 : decode cX1_isHeld 40 = .ok (.ireturn, 1) := dk_172 (dk_at dksX1_isHeld_1 16 rfl rfl)
abbrev cX1_errors : ByteArray := prog_1_method_52_code
def yX1_errors : MethodName := ⟨RX1, "errors", "()I"⟩
def dkwX1_errors_3 : List UInt8 := [167, 0, 4, 4, 96, 60, 132, 2, 1, 167, 255, 184, 27, 172]
abbrev dktX1_errors_3 : List UInt8 := dkwX1_errors_3 ++ []
def dkwX1_errors_2 : List UInt8 := [180, 0, 125, 17, 5, 220, 96, 163, 0, 21, 27, 42, 45, 182, 1, 115, 21, 4, 160, 0, 7, 3]
abbrev dktX1_errors_2 : List UInt8 := dkwX1_errors_2 ++ dktX1_errors_3
def dkwX1_errors_1 : List UInt8 := [192, 0, 22, 78, 42, 45, 182, 1, 76, 54, 4, 45, 180, 0, 113, 6, 159, 0, 34, 21, 4, 42]
abbrev dktX1_errors_1 : List UInt8 := dkwX1_errors_1 ++ dktX1_errors_2
def dkwX1_errors_0 : List UInt8 := [3, 60, 3, 61, 28, 42, 180, 0, 214, 182, 0, 97, 162, 0, 67, 42, 180, 0, 214, 28, 182, 0, 100]
abbrev dktX1_errors_0 : List UInt8 := dkwX1_errors_0 ++ dktX1_errors_1
theorem dksX1_errors_0 : cX1_errors.data.toList.drop 0 = dktX1_errors_0 := by decide +kernel
theorem dksX1_errors_1 : cX1_errors.data.toList.drop 23 = dktX1_errors_1 := dk_seg dksX1_errors_0 23 rfl rfl
theorem dksX1_errors_2 : cX1_errors.data.toList.drop 45 = dktX1_errors_2 := dk_seg dksX1_errors_1 22 rfl rfl
theorem dksX1_errors_3 : cX1_errors.data.toList.drop 67 = dktX1_errors_3 := dk_seg dksX1_errors_2 22 rfl rfl
theorem dX1_errors_0 : decode cX1_errors 0 = .ok (.iconst 0, 1) := dk_3 (dk_at dksX1_errors_0 0 rfl rfl)
theorem dX1_errors_1 : decode cX1_errors 1 = .ok (.istore_n 1, 1) := dk_60 (dk_at dksX1_errors_0 1 rfl rfl)
theorem dX1_errors_2 : decode cX1_errors 2 = .ok (.iconst 0, 1) := dk_3 (dk_at dksX1_errors_0 2 rfl rfl)
theorem dX1_errors_3 : decode cX1_errors 3 = .ok (.istore_n 2, 1) := dk_61 (dk_at dksX1_errors_0 3 rfl rfl)
theorem dX1_errors_4 : decode cX1_errors 4 = .ok (.iload_n 2, 1) := dk_28 (dk_at dksX1_errors_0 4 rfl rfl)
theorem dX1_errors_5 : decode cX1_errors 5 = .ok (.aload_n 0, 1) := dk_42 (dk_at dksX1_errors_0 5 rfl rfl)
theorem dX1_errors_6 : decode cX1_errors 6 = .ok (.getfield 214, 3) := dk_180 0 214 (dk_at dksX1_errors_0 6 rfl rfl)
theorem dX1_errors_9 : decode cX1_errors 9 = .ok (.invokevirtual 97, 3) := dk_182 0 97 (dk_at dksX1_errors_0 9 rfl rfl)
theorem dX1_errors_12 : decode cX1_errors 12 = .ok (.if_icmp .ge 67, 3) := dk_162 0 67 (dk_at dksX1_errors_0 12 rfl rfl)
theorem dX1_errors_15 : decode cX1_errors 15 = .ok (.aload_n 0, 1) := dk_42 (dk_at dksX1_errors_0 15 rfl rfl)
theorem dX1_errors_16 : decode cX1_errors 16 = .ok (.getfield 214, 3) := dk_180 0 214 (dk_at dksX1_errors_0 16 rfl rfl)
theorem dX1_errors_19 : decode cX1_errors 19 = .ok (.iload_n 2, 1) := dk_28 (dk_at dksX1_errors_0 19 rfl rfl)
theorem dX1_errors_20 : decode cX1_errors 20 = .ok (.invokevirtual 100, 3) := dk_182 0 100 (dk_at dksX1_errors_0 20 rfl rfl)
theorem dX1_errors_23 : decode cX1_errors 23 = .ok (.checkcast 22, 3) := dk_192 0 22 (dk_at dksX1_errors_1 0 rfl rfl)
theorem dX1_errors_26 : decode cX1_errors 26 = .ok (.astore_n 3, 1) := dk_78 (dk_at dksX1_errors_1 3 rfl rfl)
theorem dX1_errors_27 : decode cX1_errors 27 = .ok (.aload_n 0, 1) := dk_42 (dk_at dksX1_errors_1 4 rfl rfl)
theorem dX1_errors_28 : decode cX1_errors 28 = .ok (.aload_n 3, 1) := dk_45 (dk_at dksX1_errors_1 5 rfl rfl)
theorem dX1_errors_29 : decode cX1_errors 29 = .ok (.invokevirtual 332, 3) := dk_182 1 76 (dk_at dksX1_errors_1 6 rfl rfl)
theorem dX1_errors_32 : decode cX1_errors 32 = .ok (.istore 4, 2) := dk_54 4 (dk_at dksX1_errors_1 9 rfl rfl)
theorem dX1_errors_34 : decode cX1_errors 34 = .ok (.aload_n 3, 1) := dk_45 (dk_at dksX1_errors_1 11 rfl rfl)
theorem dX1_errors_35 : decode cX1_errors 35 = .ok (.getfield 113, 3) := dk_180 0 113 (dk_at dksX1_errors_1 12 rfl rfl)
theorem dX1_errors_38 : decode cX1_errors 38 = .ok (.iconst 3, 1) := dk_6 (dk_at dksX1_errors_1 15 rfl rfl)
theorem dX1_errors_39 : decode cX1_errors 39 = .ok (.if_icmp .eq 34, 3) := dk_159 0 34 (dk_at dksX1_errors_1 16 rfl rfl)
theorem dX1_errors_42 : decode cX1_errors 42 = .ok (.iload 4, 2) := dk_21 4 (dk_at dksX1_errors_1 19 rfl rfl)
theorem dX1_errors_44 : decode cX1_errors 44 = .ok (.aload_n 0, 1) := dk_42 (dk_at dksX1_errors_1 21 rfl rfl)
theorem dX1_errors_45 : decode cX1_errors 45 = .ok (.getfield 125, 3) := dk_180 0 125 (dk_at dksX1_errors_2 0 rfl rfl)
theorem dX1_errors_48 : decode cX1_errors 48 = .ok (.sipush 1500, 3) := dk_17 5 220 (dk_at dksX1_errors_2 3 rfl rfl)
theorem dX1_errors_51 : decode cX1_errors 51 = .ok (.iadd, 1) := dk_96 (dk_at dksX1_errors_2 6 rfl rfl)
theorem dX1_errors_52 : decode cX1_errors 52 = .ok (.if_icmp .gt 21, 3) := dk_163 0 21 (dk_at dksX1_errors_2 7 rfl rfl)
theorem dX1_errors_55 : decode cX1_errors 55 = .ok (.iload_n 1, 1) := dk_27 (dk_at dksX1_errors_2 10 rfl rfl)
theorem dX1_errors_56 : decode cX1_errors 56 = .ok (.aload_n 0, 1) := dk_42 (dk_at dksX1_errors_2 11 rfl rfl)
theorem dX1_errors_57 : decode cX1_errors 57 = .ok (.aload_n 3, 1) := dk_45 (dk_at dksX1_errors_2 12 rfl rfl)
theorem dX1_errors_58 : decode cX1_errors 58 = .ok (.invokevirtual 371, 3) := dk_182 1 115 (dk_at dksX1_errors_2 13 rfl rfl)
theorem dX1_errors_61 : decode cX1_errors 61 = .ok (.iload 4, 2) := dk_21 4 (dk_at dksX1_errors_2 16 rfl rfl)
theorem dX1_errors_63 : decode cX1_errors 63 = .ok (.if_icmp .ne 7, 3) := dk_160 0 7 (dk_at dksX1_errors_2 18 rfl rfl)
theorem dX1_errors_66 : decode cX1_errors 66 = .ok (.iconst 0, 1) := dk_3 (dk_at dksX1_errors_2 21 rfl rfl)
theorem dX1_errors_67 : decode cX1_errors 67 = .ok (.goto 4, 3) := dk_167 0 4 (dk_at dksX1_errors_3 0 rfl rfl)
theorem dX1_errors_70 : decode cX1_errors 70 = .ok (.iconst 1, 1) := dk_4 (dk_at dksX1_errors_3 3 rfl rfl)
theorem dX1_errors_71 : decode cX1_errors 71 = .ok (.iadd, 1) := dk_96 (dk_at dksX1_errors_3 4 rfl rfl)
theorem dX1_errors_72 : decode cX1_errors 72 = .ok (.istore_n 1, 1) := dk_60 (dk_at dksX1_errors_3 5 rfl rfl)
theorem dX1_errors_73 : decode cX1_errors 73 = .ok (.iinc 2 1, 3) := dk_132 2 1 (dk_at dksX1_errors_3 6 rfl rfl)
theorem dX1_errors_76 : decode cX1_errors 76 = .ok (.goto (-72), 3) := dk_167 255 184 (dk_at dksX1_errors_3 9 rfl rfl)
theorem dX1_errors_79 : decode cX1_errors 79 = .ok (.iload_n 1, 1) := dk_27 (dk_at dksX1_errors_3 12 rfl rfl)
theorem dX1_errors_80 : decode cX1_errors 80 = .ok (.ireturn, 1) := dk_172 (dk_at dksX1_errors_3 13 rfl rfl)
abbrev cX1_endOf : ByteArray := prog_1_method_8_code
def yX1_endOf : MethodName := ⟨RX1, "endOf", "(LHoldtag$Item;)I"⟩
def dkwX1_endOf_4 : List UInt8 := [28, 42, 180, 0, 125, 4, 96, 184, 0, 128, 42, 180, 0, 122, 96, 167, 0, 4, 2, 172]
abbrev dktX1_endOf_4 : List UInt8 := dkwX1_endOf_4 ++ []
def dkwX1_endOf_3 : List UInt8 := [159, 0, 18, 42, 43, 182, 0, 73, 180, 0, 77, 154, 0, 7, 4, 167, 0, 4, 3, 62, 29, 153, 0, 21]
abbrev dktX1_endOf_3 : List UInt8 := dkwX1_endOf_3 ++ dktX1_endOf_4
def dkwX1_endOf_2 : List UInt8 := [180, 0, 122, 96, 42, 180, 0, 125, 4, 96, 184, 0, 128, 172, 42, 43, 182, 0, 134, 61, 28, 2]
abbrev dktX1_endOf_2 : List UInt8 := dkwX1_endOf_2 ++ dktX1_endOf_3
def dkwX1_endOf_1 : List UInt8 := [43, 180, 0, 119, 167, 0, 4, 2, 172, 43, 180, 0, 113, 5, 160, 0, 22, 43, 180, 0, 119, 42]
abbrev dktX1_endOf_1 : List UInt8 := dkwX1_endOf_1 ++ dktX1_endOf_2
def dkwX1_endOf_0 : List UInt8 := [43, 180, 0, 113, 6, 159, 0, 11, 42, 43, 182, 0, 116, 153, 0, 20, 43, 180, 0, 113, 6, 160, 0, 10]
abbrev dktX1_endOf_0 : List UInt8 := dkwX1_endOf_0 ++ dktX1_endOf_1
theorem dksX1_endOf_0 : cX1_endOf.data.toList.drop 0 = dktX1_endOf_0 := by decide +kernel
theorem dksX1_endOf_1 : cX1_endOf.data.toList.drop 24 = dktX1_endOf_1 := dk_seg dksX1_endOf_0 24 rfl rfl
theorem dksX1_endOf_2 : cX1_endOf.data.toList.drop 46 = dktX1_endOf_2 := dk_seg dksX1_endOf_1 22 rfl rfl
theorem dksX1_endOf_3 : cX1_endOf.data.toList.drop 68 = dktX1_endOf_3 := dk_seg dksX1_endOf_2 22 rfl rfl
theorem dksX1_endOf_4 : cX1_endOf.data.toList.drop 92 = dktX1_endOf_4 := dk_seg dksX1_endOf_3 24 rfl rfl
theorem dX1_endOf_0 : decode cX1_endOf 0 = .ok (.aload_n 1, 1) := dk_43 (dk_at dksX1_endOf_0 0 rfl rfl)
theorem dX1_endOf_1 : decode cX1_endOf 1 = .ok (.getfield 113, 3) := dk_180 0 113 (dk_at dksX1_endOf_0 1 rfl rfl)
theorem dX1_endOf_4 : decode cX1_endOf 4 = .ok (.iconst 3, 1) := dk_6 (dk_at dksX1_endOf_0 4 rfl rfl)
theorem dX1_endOf_5 : decode cX1_endOf 5 = .ok (.if_icmp .eq 11, 3) := dk_159 0 11 (dk_at dksX1_endOf_0 5 rfl rfl)
theorem dX1_endOf_8 : decode cX1_endOf 8 = .ok (.aload_n 0, 1) := dk_42 (dk_at dksX1_endOf_0 8 rfl rfl)
theorem dX1_endOf_9 : decode cX1_endOf 9 = .ok (.aload_n 1, 1) := dk_43 (dk_at dksX1_endOf_0 9 rfl rfl)
theorem dX1_endOf_10 : decode cX1_endOf 10 = .ok (.invokevirtual 116, 3) := dk_182 0 116 (dk_at dksX1_endOf_0 10 rfl rfl)
theorem dX1_endOf_13 : decode cX1_endOf 13 = .ok (.ifCond .eq 20, 3) := dk_153 0 20 (dk_at dksX1_endOf_0 13 rfl rfl)
theorem dX1_endOf_16 : decode cX1_endOf 16 = .ok (.aload_n 1, 1) := dk_43 (dk_at dksX1_endOf_0 16 rfl rfl)
theorem dX1_endOf_17 : decode cX1_endOf 17 = .ok (.getfield 113, 3) := dk_180 0 113 (dk_at dksX1_endOf_0 17 rfl rfl)
theorem dX1_endOf_20 : decode cX1_endOf 20 = .ok (.iconst 3, 1) := dk_6 (dk_at dksX1_endOf_0 20 rfl rfl)
theorem dX1_endOf_21 : decode cX1_endOf 21 = .ok (.if_icmp .ne 10, 3) := dk_160 0 10 (dk_at dksX1_endOf_0 21 rfl rfl)
theorem dX1_endOf_24 : decode cX1_endOf 24 = .ok (.aload_n 1, 1) := dk_43 (dk_at dksX1_endOf_1 0 rfl rfl)
theorem dX1_endOf_25 : decode cX1_endOf 25 = .ok (.getfield 119, 3) := dk_180 0 119 (dk_at dksX1_endOf_1 1 rfl rfl)
theorem dX1_endOf_28 : decode cX1_endOf 28 = .ok (.goto 4, 3) := dk_167 0 4 (dk_at dksX1_endOf_1 4 rfl rfl)
theorem dX1_endOf_31 : decode cX1_endOf 31 = .ok (.iconst (-1), 1) := dk_2 (dk_at dksX1_endOf_1 7 rfl rfl)
theorem dX1_endOf_32 : decode cX1_endOf 32 = .ok (.ireturn, 1) := dk_172 (dk_at dksX1_endOf_1 8 rfl rfl)
theorem dX1_endOf_33 : decode cX1_endOf 33 = .ok (.aload_n 1, 1) := dk_43 (dk_at dksX1_endOf_1 9 rfl rfl)
theorem dX1_endOf_34 : decode cX1_endOf 34 = .ok (.getfield 113, 3) := dk_180 0 113 (dk_at dksX1_endOf_1 10 rfl rfl)
theorem dX1_endOf_37 : decode cX1_endOf 37 = .ok (.iconst 2, 1) := dk_5 (dk_at dksX1_endOf_1 13 rfl rfl)
theorem dX1_endOf_38 : decode cX1_endOf 38 = .ok (.if_icmp .ne 22, 3) := dk_160 0 22 (dk_at dksX1_endOf_1 14 rfl rfl)
theorem dX1_endOf_41 : decode cX1_endOf 41 = .ok (.aload_n 1, 1) := dk_43 (dk_at dksX1_endOf_1 17 rfl rfl)
theorem dX1_endOf_42 : decode cX1_endOf 42 = .ok (.getfield 119, 3) := dk_180 0 119 (dk_at dksX1_endOf_1 18 rfl rfl)
theorem dX1_endOf_45 : decode cX1_endOf 45 = .ok (.aload_n 0, 1) := dk_42 (dk_at dksX1_endOf_1 21 rfl rfl)
theorem dX1_endOf_46 : decode cX1_endOf 46 = .ok (.getfield 122, 3) := dk_180 0 122 (dk_at dksX1_endOf_2 0 rfl rfl)
theorem dX1_endOf_49 : decode cX1_endOf 49 = .ok (.iadd, 1) := dk_96 (dk_at dksX1_endOf_2 3 rfl rfl)
theorem dX1_endOf_50 : decode cX1_endOf 50 = .ok (.aload_n 0, 1) := dk_42 (dk_at dksX1_endOf_2 4 rfl rfl)
theorem dX1_endOf_51 : decode cX1_endOf 51 = .ok (.getfield 125, 3) := dk_180 0 125 (dk_at dksX1_endOf_2 5 rfl rfl)
theorem dX1_endOf_54 : decode cX1_endOf 54 = .ok (.iconst 1, 1) := dk_4 (dk_at dksX1_endOf_2 8 rfl rfl)
theorem dX1_endOf_55 : decode cX1_endOf 55 = .ok (.iadd, 1) := dk_96 (dk_at dksX1_endOf_2 9 rfl rfl)
theorem dX1_endOf_56 : decode cX1_endOf 56 = .ok (.invokestatic 128, 3) := dk_184 0 128 (dk_at dksX1_endOf_2 10 rfl rfl)
theorem dX1_endOf_59 : decode cX1_endOf 59 = .ok (.ireturn, 1) := dk_172 (dk_at dksX1_endOf_2 13 rfl rfl)
theorem dX1_endOf_60 : decode cX1_endOf 60 = .ok (.aload_n 0, 1) := dk_42 (dk_at dksX1_endOf_2 14 rfl rfl)
theorem dX1_endOf_61 : decode cX1_endOf 61 = .ok (.aload_n 1, 1) := dk_43 (dk_at dksX1_endOf_2 15 rfl rfl)
theorem dX1_endOf_62 : decode cX1_endOf 62 = .ok (.invokevirtual 134, 3) := dk_182 0 134 (dk_at dksX1_endOf_2 16 rfl rfl)
theorem dX1_endOf_65 : decode cX1_endOf 65 = .ok (.istore_n 2, 1) := dk_61 (dk_at dksX1_endOf_2 19 rfl rfl)
theorem dX1_endOf_66 : decode cX1_endOf 66 = .ok (.iload_n 2, 1) := dk_28 (dk_at dksX1_endOf_2 20 rfl rfl)
theorem dX1_endOf_67 : decode cX1_endOf 67 = .ok (.iconst (-1), 1) := dk_2 (dk_at dksX1_endOf_2 21 rfl rfl)
theorem dX1_endOf_68 : decode cX1_endOf 68 = .ok (.if_icmp .eq 18, 3) := dk_159 0 18 (dk_at dksX1_endOf_3 0 rfl rfl)
theorem dX1_endOf_71 : decode cX1_endOf 71 = .ok (.aload_n 0, 1) := dk_42 (dk_at dksX1_endOf_3 3 rfl rfl)
theorem dX1_endOf_72 : decode cX1_endOf 72 = .ok (.aload_n 1, 1) := dk_43 (dk_at dksX1_endOf_3 4 rfl rfl)
theorem dX1_endOf_73 : decode cX1_endOf 73 = .ok (.invokevirtual 73, 3) := dk_182 0 73 (dk_at dksX1_endOf_3 5 rfl rfl)
theorem dX1_endOf_76 : decode cX1_endOf 76 = .ok (.getfield 77, 3) := dk_180 0 77 (dk_at dksX1_endOf_3 8 rfl rfl)
theorem dX1_endOf_79 : decode cX1_endOf 79 = .ok (.ifCond .ne 7, 3) := dk_154 0 7 (dk_at dksX1_endOf_3 11 rfl rfl)
theorem dX1_endOf_82 : decode cX1_endOf 82 = .ok (.iconst 1, 1) := dk_4 (dk_at dksX1_endOf_3 14 rfl rfl)
theorem dX1_endOf_83 : decode cX1_endOf 83 = .ok (.goto 4, 3) := dk_167 0 4 (dk_at dksX1_endOf_3 15 rfl rfl)
theorem dX1_endOf_86 : decode cX1_endOf 86 = .ok (.iconst 0, 1) := dk_3 (dk_at dksX1_endOf_3 18 rfl rfl)
theorem dX1_endOf_87 : decode cX1_endOf 87 = .ok (.istore_n 3, 1) := dk_62 (dk_at dksX1_endOf_3 19 rfl rfl)
theorem dX1_endOf_88 : decode cX1_endOf 88 = .ok (.iload_n 3, 1) := dk_29 (dk_at dksX1_endOf_3 20 rfl rfl)
theorem dX1_endOf_89 : decode cX1_endOf 89 = .ok (.ifCond .eq 21, 3) := dk_153 0 21 (dk_at dksX1_endOf_3 21 rfl rfl)
theorem dX1_endOf_92 : decode cX1_endOf 92 = .ok (.iload_n 2, 1) := dk_28 (dk_at dksX1_endOf_4 0 rfl rfl)
theorem dX1_endOf_93 : decode cX1_endOf 93 = .ok (.aload_n 0, 1) := dk_42 (dk_at dksX1_endOf_4 1 rfl rfl)
theorem dX1_endOf_94 : decode cX1_endOf 94 = .ok (.getfield 125, 3) := dk_180 0 125 (dk_at dksX1_endOf_4 2 rfl rfl)
theorem dX1_endOf_97 : decode cX1_endOf 97 = .ok (.iconst 1, 1) := dk_4 (dk_at dksX1_endOf_4 5 rfl rfl)
theorem dX1_endOf_98 : decode cX1_endOf 98 = .ok (.iadd, 1) := dk_96 (dk_at dksX1_endOf_4 6 rfl rfl)
theorem dX1_endOf_99 : decode cX1_endOf 99 = .ok (.invokestatic 128, 3) := dk_184 0 128 (dk_at dksX1_endOf_4 7 rfl rfl)
theorem dX1_endOf_102 : decode cX1_endOf 102 = .ok (.aload_n 0, 1) := dk_42 (dk_at dksX1_endOf_4 10 rfl rfl)
theorem dX1_endOf_103 : decode cX1_endOf 103 = .ok (.getfield 122, 3) := dk_180 0 122 (dk_at dksX1_endOf_4 11 rfl rfl)
theorem dX1_endOf_106 : decode cX1_endOf 106 = .ok (.iadd, 1) := dk_96 (dk_at dksX1_endOf_4 14 rfl rfl)
theorem dX1_endOf_107 : decode cX1_endOf 107 = .ok (.goto 4, 3) := dk_167 0 4 (dk_at dksX1_endOf_4 15 rfl rfl)
theorem dX1_endOf_110 : decode cX1_endOf 110 = .ok (.iconst (-1), 1) := dk_2 (dk_at dksX1_endOf_4 18 rfl rfl)
theorem dX1_endOf_111 : decode cX1_endOf 111 = .ok (.ireturn, 1) := dk_172 (dk_at dksX1_endOf_4 19 rfl rfl)
abbrev cX1_dueOf : ByteArray := prog_1_method_5_code
def yX1_dueOf : MethodName := ⟨RX1, "dueOf", "(LHoldtag$Item;)I"⟩
def dkwX1_dueOf_1 : List UInt8 := [182, 0, 80, 62, 29, 2, 160, 0, 7, 2, 167, 0, 9, 29, 44, 180, 0, 84, 96, 172]
abbrev dktX1_dueOf_1 : List UInt8 := dkwX1_dueOf_1 ++ []
def dkwX1_dueOf_0 : List UInt8 := [42, 43, 182, 0, 73, 77, 44, 198, 0, 11, 44, 180, 0, 77, 5, 160, 0, 5, 2, 172, 42, 43, 44]
abbrev dktX1_dueOf_0 : List UInt8 := dkwX1_dueOf_0 ++ dktX1_dueOf_1
theorem dksX1_dueOf_0 : cX1_dueOf.data.toList.drop 0 = dktX1_dueOf_0 := by decide +kernel
theorem dksX1_dueOf_1 : cX1_dueOf.data.toList.drop 23 = dktX1_dueOf_1 := dk_seg dksX1_dueOf_0 23 rfl rfl
theorem dX1_dueOf_0 : decode cX1_dueOf 0 = .ok (.aload_n 0, 1) := dk_42 (dk_at dksX1_dueOf_0 0 rfl rfl)
theorem dX1_dueOf_1 : decode cX1_dueOf 1 = .ok (.aload_n 1, 1) := dk_43 (dk_at dksX1_dueOf_0 1 rfl rfl)
theorem dX1_dueOf_2 : decode cX1_dueOf 2 = .ok (.invokevirtual 73, 3) := dk_182 0 73 (dk_at dksX1_dueOf_0 2 rfl rfl)
theorem dX1_dueOf_5 : decode cX1_dueOf 5 = .ok (.astore_n 2, 1) := dk_77 (dk_at dksX1_dueOf_0 5 rfl rfl)
theorem dX1_dueOf_6 : decode cX1_dueOf 6 = .ok (.aload_n 2, 1) := dk_44 (dk_at dksX1_dueOf_0 6 rfl rfl)
theorem dX1_dueOf_7 : decode cX1_dueOf 7 = .ok (.ifnull 11, 3) := dk_198 0 11 (dk_at dksX1_dueOf_0 7 rfl rfl)
theorem dX1_dueOf_10 : decode cX1_dueOf 10 = .ok (.aload_n 2, 1) := dk_44 (dk_at dksX1_dueOf_0 10 rfl rfl)
theorem dX1_dueOf_11 : decode cX1_dueOf 11 = .ok (.getfield 77, 3) := dk_180 0 77 (dk_at dksX1_dueOf_0 11 rfl rfl)
theorem dX1_dueOf_14 : decode cX1_dueOf 14 = .ok (.iconst 2, 1) := dk_5 (dk_at dksX1_dueOf_0 14 rfl rfl)
theorem dX1_dueOf_15 : decode cX1_dueOf 15 = .ok (.if_icmp .ne 5, 3) := dk_160 0 5 (dk_at dksX1_dueOf_0 15 rfl rfl)
theorem dX1_dueOf_18 : decode cX1_dueOf 18 = .ok (.iconst (-1), 1) := dk_2 (dk_at dksX1_dueOf_0 18 rfl rfl)
theorem dX1_dueOf_19 : decode cX1_dueOf 19 = .ok (.ireturn, 1) := dk_172 (dk_at dksX1_dueOf_0 19 rfl rfl)
theorem dX1_dueOf_20 : decode cX1_dueOf 20 = .ok (.aload_n 0, 1) := dk_42 (dk_at dksX1_dueOf_0 20 rfl rfl)
theorem dX1_dueOf_21 : decode cX1_dueOf 21 = .ok (.aload_n 1, 1) := dk_43 (dk_at dksX1_dueOf_0 21 rfl rfl)
theorem dX1_dueOf_22 : decode cX1_dueOf 22 = .ok (.aload_n 2, 1) := dk_44 (dk_at dksX1_dueOf_0 22 rfl rfl)
theorem dX1_dueOf_23 : decode cX1_dueOf 23 = .ok (.invokevirtual 80, 3) := dk_182 0 80 (dk_at dksX1_dueOf_1 0 rfl rfl)
theorem dX1_dueOf_26 : decode cX1_dueOf 26 = .ok (.istore_n 3, 1) := dk_62 (dk_at dksX1_dueOf_1 3 rfl rfl)
theorem dX1_dueOf_27 : decode cX1_dueOf 27 = .ok (.iload_n 3, 1) := dk_29 (dk_at dksX1_dueOf_1 4 rfl rfl)
theorem dX1_dueOf_28 : decode cX1_dueOf 28 = .ok (.iconst (-1), 1) := dk_2 (dk_at dksX1_dueOf_1 5 rfl rfl)
theorem dX1_dueOf_29 : decode cX1_dueOf 29 = .ok (.if_icmp .ne 7, 3) := dk_160 0 7 (dk_at dksX1_dueOf_1 6 rfl rfl)
theorem dX1_dueOf_32 : decode cX1_dueOf 32 = .ok (.iconst (-1), 1) := dk_2 (dk_at dksX1_dueOf_1 9 rfl rfl)
theorem dX1_dueOf_33 : decode cX1_dueOf 33 = .ok (.goto 9, 3) := dk_167 0 9 (dk_at dksX1_dueOf_1 10 rfl rfl)
theorem dX1_dueOf_36 : decode cX1_dueOf 36 = .ok (.iload_n 3, 1) := dk_29 (dk_at dksX1_dueOf_1 13 rfl rfl)
theorem dX1_dueOf_37 : decode cX1_dueOf 37 = .ok (.aload_n 2, 1) := dk_44 (dk_at dksX1_dueOf_1 14 rfl rfl)
theorem dX1_dueOf_38 : decode cX1_dueOf 38 = .ok (.getfield 84, 3) := dk_180 0 84 (dk_at dksX1_dueOf_1 15 rfl rfl)
theorem dX1_dueOf_41 : decode cX1_dueOf 41 = .ok (.iadd, 1) := dk_96 (dk_at dksX1_dueOf_1 18 rfl rfl)
theorem dX1_dueOf_42 : decode cX1_dueOf 42 = .ok (.ireturn, 1) := dk_172 (dk_at dksX1_dueOf_1 19 rfl rfl)
abbrev cX1_tagFor : ByteArray := prog_1_method_3_code
def yX1_tagFor : MethodName := ⟨RX1, "tagFor", "(LHoldtag$Item;)LHoldtag$Tag;"⟩
def dkwX1_tagFor_1 : List UInt8 := [198, 0, 10, 44, 180, 0, 37, 167, 0, 7, 42, 180, 0, 40, 176]
abbrev dktX1_tagFor_1 : List UInt8 := dkwX1_tagFor_1 ++ []
def dkwX1_tagFor_0 : List UInt8 := [43, 180, 0, 21, 182, 0, 27, 77, 43, 180, 0, 33, 198, 0, 10, 43, 180, 0, 33, 167, 0, 18, 44]
abbrev dktX1_tagFor_0 : List UInt8 := dkwX1_tagFor_0 ++ dktX1_tagFor_1
theorem dksX1_tagFor_0 : cX1_tagFor.data.toList.drop 0 = dktX1_tagFor_0 := by decide +kernel
theorem dksX1_tagFor_1 : cX1_tagFor.data.toList.drop 23 = dktX1_tagFor_1 := dk_seg dksX1_tagFor_0 23 rfl rfl
theorem dX1_tagFor_0 : decode cX1_tagFor 0 = .ok (.aload_n 1, 1) := dk_43 (dk_at dksX1_tagFor_0 0 rfl rfl)
theorem dX1_tagFor_1 : decode cX1_tagFor 1 = .ok (.getfield 21, 3) := dk_180 0 21 (dk_at dksX1_tagFor_0 1 rfl rfl)
theorem dX1_tagFor_4 : decode cX1_tagFor 4 = .ok (.invokevirtual 27, 3) := dk_182 0 27 (dk_at dksX1_tagFor_0 4 rfl rfl)
theorem dX1_tagFor_7 : decode cX1_tagFor 7 = .ok (.astore_n 2, 1) := dk_77 (dk_at dksX1_tagFor_0 7 rfl rfl)
theorem dX1_tagFor_8 : decode cX1_tagFor 8 = .ok (.aload_n 1, 1) := dk_43 (dk_at dksX1_tagFor_0 8 rfl rfl)
theorem dX1_tagFor_9 : decode cX1_tagFor 9 = .ok (.getfield 33, 3) := dk_180 0 33 (dk_at dksX1_tagFor_0 9 rfl rfl)
theorem dX1_tagFor_12 : decode cX1_tagFor 12 = .ok (.ifnull 10, 3) := dk_198 0 10 (dk_at dksX1_tagFor_0 12 rfl rfl)
theorem dX1_tagFor_15 : decode cX1_tagFor 15 = .ok (.aload_n 1, 1) := dk_43 (dk_at dksX1_tagFor_0 15 rfl rfl)
theorem dX1_tagFor_16 : decode cX1_tagFor 16 = .ok (.getfield 33, 3) := dk_180 0 33 (dk_at dksX1_tagFor_0 16 rfl rfl)
theorem dX1_tagFor_19 : decode cX1_tagFor 19 = .ok (.goto 18, 3) := dk_167 0 18 (dk_at dksX1_tagFor_0 19 rfl rfl)
theorem dX1_tagFor_22 : decode cX1_tagFor 22 = .ok (.aload_n 2, 1) := dk_44 (dk_at dksX1_tagFor_0 22 rfl rfl)
theorem dX1_tagFor_23 : decode cX1_tagFor 23 = .ok (.ifnull 10, 3) := dk_198 0 10 (dk_at dksX1_tagFor_1 0 rfl rfl)
theorem dX1_tagFor_26 : decode cX1_tagFor 26 = .ok (.aload_n 2, 1) := dk_44 (dk_at dksX1_tagFor_1 3 rfl rfl)
theorem dX1_tagFor_27 : decode cX1_tagFor 27 = .ok (.getfield 37, 3) := dk_180 0 37 (dk_at dksX1_tagFor_1 4 rfl rfl)
theorem dX1_tagFor_30 : decode cX1_tagFor 30 = .ok (.goto 7, 3) := dk_167 0 7 (dk_at dksX1_tagFor_1 7 rfl rfl)
theorem dX1_tagFor_33 : decode cX1_tagFor 33 = .ok (.aload_n 0, 1) := dk_42 (dk_at dksX1_tagFor_1 10 rfl rfl)
theorem dX1_tagFor_34 : decode cX1_tagFor 34 = .ok (.getfield 40, 3) := dk_180 0 40 (dk_at dksX1_tagFor_1 11 rfl rfl)
theorem dX1_tagFor_37 : decode cX1_tagFor 37 = .ok (.areturn, 1) := dk_176 (dk_at dksX1_tagFor_1 14 rfl rfl)
abbrev cX1_startOf : ByteArray := prog_1_method_4_code
def yX1_startOf : MethodName := ⟨RX1, "startOf", "(LHoldtag$Item;LHoldtag$Tag;)I"⟩
def dkwX1_startOf_3 : List UInt8 := [180, 0, 70, 172]
abbrev dktX1_startOf_3 : List UInt8 := dkwX1_startOf_3 ++ []
def dkwX1_startOf_2 : List UInt8 := [180, 0, 43, 4, 160, 0, 18, 43, 180, 0, 67, 2, 159, 0, 10, 43, 180, 0, 67, 167, 0, 7, 43]
abbrev dktX1_startOf_2 : List UInt8 := dkwX1_startOf_2 ++ dktX1_startOf_3
def dkwX1_startOf_1 : List UInt8 := [185, 0, 59, 2, 0, 192, 0, 54, 78, 45, 199, 0, 7, 2, 167, 0, 7, 45, 182, 0, 64, 172, 44]
abbrev dktX1_startOf_1 : List UInt8 := dkwX1_startOf_1 ++ dktX1_startOf_2
def dkwX1_startOf_0 : List UInt8 := [44, 180, 0, 43, 5, 161, 0, 38, 42, 180, 0, 49, 44, 180, 0, 43, 5, 100, 184, 0, 53]
abbrev dktX1_startOf_0 : List UInt8 := dkwX1_startOf_0 ++ dktX1_startOf_1
theorem dksX1_startOf_0 : cX1_startOf.data.toList.drop 0 = dktX1_startOf_0 := by decide +kernel
theorem dksX1_startOf_1 : cX1_startOf.data.toList.drop 21 = dktX1_startOf_1 := dk_seg dksX1_startOf_0 21 rfl rfl
theorem dksX1_startOf_2 : cX1_startOf.data.toList.drop 44 = dktX1_startOf_2 := dk_seg dksX1_startOf_1 23 rfl rfl
theorem dksX1_startOf_3 : cX1_startOf.data.toList.drop 67 = dktX1_startOf_3 := dk_seg dksX1_startOf_2 23 rfl rfl
theorem dX1_startOf_0 : decode cX1_startOf 0 = .ok (.aload_n 2, 1) := dk_44 (dk_at dksX1_startOf_0 0 rfl rfl)
theorem dX1_startOf_1 : decode cX1_startOf 1 = .ok (.getfield 43, 3) := dk_180 0 43 (dk_at dksX1_startOf_0 1 rfl rfl)
theorem dX1_startOf_4 : decode cX1_startOf 4 = .ok (.iconst 2, 1) := dk_5 (dk_at dksX1_startOf_0 4 rfl rfl)
theorem dX1_startOf_5 : decode cX1_startOf 5 = .ok (.if_icmp .lt 38, 3) := dk_161 0 38 (dk_at dksX1_startOf_0 5 rfl rfl)
theorem dX1_startOf_8 : decode cX1_startOf 8 = .ok (.aload_n 0, 1) := dk_42 (dk_at dksX1_startOf_0 8 rfl rfl)
theorem dX1_startOf_9 : decode cX1_startOf 9 = .ok (.getfield 49, 3) := dk_180 0 49 (dk_at dksX1_startOf_0 9 rfl rfl)
theorem dX1_startOf_12 : decode cX1_startOf 12 = .ok (.aload_n 2, 1) := dk_44 (dk_at dksX1_startOf_0 12 rfl rfl)
theorem dX1_startOf_13 : decode cX1_startOf 13 = .ok (.getfield 43, 3) := dk_180 0 43 (dk_at dksX1_startOf_0 13 rfl rfl)
theorem dX1_startOf_16 : decode cX1_startOf 16 = .ok (.iconst 2, 1) := dk_5 (dk_at dksX1_startOf_0 16 rfl rfl)
theorem dX1_startOf_17 : decode cX1_startOf 17 = .ok (.isub, 1) := dk_100 (dk_at dksX1_startOf_0 17 rfl rfl)
theorem dX1_startOf_18 : decode cX1_startOf 18 = .ok (.invokestatic 53, 3) := dk_184 0 53 (dk_at dksX1_startOf_0 18 rfl rfl)
theorem dX1_startOf_21 : decode cX1_startOf 21 = .ok (.invokeinterface 59 2, 5) := by decide +kernel
theorem dX1_startOf_26 : decode cX1_startOf 26 = .ok (.checkcast 54, 3) := dk_192 0 54 (dk_at dksX1_startOf_1 5 rfl rfl)
theorem dX1_startOf_29 : decode cX1_startOf 29 = .ok (.astore_n 3, 1) := dk_78 (dk_at dksX1_startOf_1 8 rfl rfl)
theorem dX1_startOf_30 : decode cX1_startOf 30 = .ok (.aload_n 3, 1) := dk_45 (dk_at dksX1_startOf_1 9 rfl rfl)
theorem dX1_startOf_31 : decode cX1_startOf 31 = .ok (.ifnonnull 7, 3) := dk_199 0 7 (dk_at dksX1_startOf_1 10 rfl rfl)
theorem dX1_startOf_34 : decode cX1_startOf 34 = .ok (.iconst (-1), 1) := dk_2 (dk_at dksX1_startOf_1 13 rfl rfl)
theorem dX1_startOf_35 : decode cX1_startOf 35 = .ok (.goto 7, 3) := dk_167 0 7 (dk_at dksX1_startOf_1 14 rfl rfl)
theorem dX1_startOf_38 : decode cX1_startOf 38 = .ok (.aload_n 3, 1) := dk_45 (dk_at dksX1_startOf_1 17 rfl rfl)
theorem dX1_startOf_39 : decode cX1_startOf 39 = .ok (.invokevirtual 64, 3) := dk_182 0 64 (dk_at dksX1_startOf_1 18 rfl rfl)
theorem dX1_startOf_42 : decode cX1_startOf 42 = .ok (.ireturn, 1) := dk_172 (dk_at dksX1_startOf_1 21 rfl rfl)
theorem dX1_startOf_43 : decode cX1_startOf 43 = .ok (.aload_n 2, 1) := dk_44 (dk_at dksX1_startOf_1 22 rfl rfl)
theorem dX1_startOf_44 : decode cX1_startOf 44 = .ok (.getfield 43, 3) := dk_180 0 43 (dk_at dksX1_startOf_2 0 rfl rfl)
theorem dX1_startOf_47 : decode cX1_startOf 47 = .ok (.iconst 1, 1) := dk_4 (dk_at dksX1_startOf_2 3 rfl rfl)
theorem dX1_startOf_48 : decode cX1_startOf 48 = .ok (.if_icmp .ne 18, 3) := dk_160 0 18 (dk_at dksX1_startOf_2 4 rfl rfl)
theorem dX1_startOf_51 : decode cX1_startOf 51 = .ok (.aload_n 1, 1) := dk_43 (dk_at dksX1_startOf_2 7 rfl rfl)
theorem dX1_startOf_52 : decode cX1_startOf 52 = .ok (.getfield 67, 3) := dk_180 0 67 (dk_at dksX1_startOf_2 8 rfl rfl)
theorem dX1_startOf_55 : decode cX1_startOf 55 = .ok (.iconst (-1), 1) := dk_2 (dk_at dksX1_startOf_2 11 rfl rfl)
theorem dX1_startOf_56 : decode cX1_startOf 56 = .ok (.if_icmp .eq 10, 3) := dk_159 0 10 (dk_at dksX1_startOf_2 12 rfl rfl)
theorem dX1_startOf_59 : decode cX1_startOf 59 = .ok (.aload_n 1, 1) := dk_43 (dk_at dksX1_startOf_2 15 rfl rfl)
theorem dX1_startOf_60 : decode cX1_startOf 60 = .ok (.getfield 67, 3) := dk_180 0 67 (dk_at dksX1_startOf_2 16 rfl rfl)
theorem dX1_startOf_63 : decode cX1_startOf 63 = .ok (.goto 7, 3) := dk_167 0 7 (dk_at dksX1_startOf_2 19 rfl rfl)
theorem dX1_startOf_66 : decode cX1_startOf 66 = .ok (.aload_n 1, 1) := dk_43 (dk_at dksX1_startOf_2 22 rfl rfl)
theorem dX1_startOf_67 : decode cX1_startOf 67 = .ok (.getfield 70, 3) := dk_180 0 70 (dk_at dksX1_startOf_3 0 rfl rfl)
theorem dX1_startOf_70 : decode cX1_startOf 70 = .ok (.ireturn, 1) := dk_172 (dk_at dksX1_startOf_3 3 rfl rfl)
abbrev cX1_walk : ByteArray := prog_1_method_51_code
def yX1_walk : MethodName := ⟨RX1, "walk", "(LHoldtag$Item;)I"⟩
def dkwX1_walk_2 : List UInt8 := [132, 3, 1, 167, 255, 227, 44, 180, 0, 113, 6, 160, 0, 10, 44, 180, 0, 119, 167, 0, 4, 2, 172]
abbrev dktX1_walk_2 : List UInt8 := dkwX1_walk_2 ++ []
def dkwX1_walk_1 : List UInt8 := [180, 0, 125, 17, 5, 220, 96, 163, 0, 23, 44, 180, 0, 113, 6, 159, 0, 15, 42, 44, 29, 182, 0, 217]
abbrev dktX1_walk_1 : List UInt8 := dkwX1_walk_1 ++ dktX1_walk_2
def dkwX1_walk_0 : List UInt8 := [187, 0, 22, 89, 43, 180, 1, 85, 43, 183, 1, 44, 77, 42, 180, 0, 125, 4, 96, 62, 29, 42]
abbrev dktX1_walk_0 : List UInt8 := dkwX1_walk_0 ++ dktX1_walk_1
theorem dksX1_walk_0 : cX1_walk.data.toList.drop 0 = dktX1_walk_0 := by decide +kernel
theorem dksX1_walk_1 : cX1_walk.data.toList.drop 22 = dktX1_walk_1 := dk_seg dksX1_walk_0 22 rfl rfl
theorem dksX1_walk_2 : cX1_walk.data.toList.drop 46 = dktX1_walk_2 := dk_seg dksX1_walk_1 24 rfl rfl
theorem dX1_walk_0 : decode cX1_walk 0 = .ok (.new 22, 3) := dk_187 0 22 (dk_at dksX1_walk_0 0 rfl rfl)
theorem dX1_walk_3 : decode cX1_walk 3 = .ok (.dup, 1) := dk_89 (dk_at dksX1_walk_0 3 rfl rfl)
theorem dX1_walk_4 : decode cX1_walk 4 = .ok (.aload_n 1, 1) := dk_43 (dk_at dksX1_walk_0 4 rfl rfl)
theorem dX1_walk_5 : decode cX1_walk 5 = .ok (.getfield 341, 3) := dk_180 1 85 (dk_at dksX1_walk_0 5 rfl rfl)
theorem dX1_walk_8 : decode cX1_walk 8 = .ok (.aload_n 1, 1) := dk_43 (dk_at dksX1_walk_0 8 rfl rfl)
theorem dX1_walk_9 : decode cX1_walk 9 = .ok (.invokespecial 300, 3) := dk_183 1 44 (dk_at dksX1_walk_0 9 rfl rfl)
theorem dX1_walk_12 : decode cX1_walk 12 = .ok (.astore_n 2, 1) := dk_77 (dk_at dksX1_walk_0 12 rfl rfl)
theorem dX1_walk_13 : decode cX1_walk 13 = .ok (.aload_n 0, 1) := dk_42 (dk_at dksX1_walk_0 13 rfl rfl)
theorem dX1_walk_14 : decode cX1_walk 14 = .ok (.getfield 125, 3) := dk_180 0 125 (dk_at dksX1_walk_0 14 rfl rfl)
theorem dX1_walk_17 : decode cX1_walk 17 = .ok (.iconst 1, 1) := dk_4 (dk_at dksX1_walk_0 17 rfl rfl)
theorem dX1_walk_18 : decode cX1_walk 18 = .ok (.iadd, 1) := dk_96 (dk_at dksX1_walk_0 18 rfl rfl)
theorem dX1_walk_19 : decode cX1_walk 19 = .ok (.istore_n 3, 1) := dk_62 (dk_at dksX1_walk_0 19 rfl rfl)
theorem dX1_walk_20 : decode cX1_walk 20 = .ok (.iload_n 3, 1) := dk_29 (dk_at dksX1_walk_0 20 rfl rfl)
theorem dX1_walk_21 : decode cX1_walk 21 = .ok (.aload_n 0, 1) := dk_42 (dk_at dksX1_walk_0 21 rfl rfl)
theorem dX1_walk_22 : decode cX1_walk 22 = .ok (.getfield 125, 3) := dk_180 0 125 (dk_at dksX1_walk_1 0 rfl rfl)
theorem dX1_walk_25 : decode cX1_walk 25 = .ok (.sipush 1500, 3) := dk_17 5 220 (dk_at dksX1_walk_1 3 rfl rfl)
theorem dX1_walk_28 : decode cX1_walk 28 = .ok (.iadd, 1) := dk_96 (dk_at dksX1_walk_1 6 rfl rfl)
theorem dX1_walk_29 : decode cX1_walk 29 = .ok (.if_icmp .gt 23, 3) := dk_163 0 23 (dk_at dksX1_walk_1 7 rfl rfl)
theorem dX1_walk_32 : decode cX1_walk 32 = .ok (.aload_n 2, 1) := dk_44 (dk_at dksX1_walk_1 10 rfl rfl)
theorem dX1_walk_33 : decode cX1_walk 33 = .ok (.getfield 113, 3) := dk_180 0 113 (dk_at dksX1_walk_1 11 rfl rfl)
theorem dX1_walk_36 : decode cX1_walk 36 = .ok (.iconst 3, 1) := dk_6 (dk_at dksX1_walk_1 14 rfl rfl)
theorem dX1_walk_37 : decode cX1_walk 37 = .ok (.if_icmp .eq 15, 3) := dk_159 0 15 (dk_at dksX1_walk_1 15 rfl rfl)
theorem dX1_walk_40 : decode cX1_walk 40 = .ok (.aload_n 0, 1) := dk_42 (dk_at dksX1_walk_1 18 rfl rfl)
theorem dX1_walk_41 : decode cX1_walk 41 = .ok (.aload_n 2, 1) := dk_44 (dk_at dksX1_walk_1 19 rfl rfl)
theorem dX1_walk_42 : decode cX1_walk 42 = .ok (.iload_n 3, 1) := dk_29 (dk_at dksX1_walk_1 20 rfl rfl)
theorem dX1_walk_43 : decode cX1_walk 43 = .ok (.invokevirtual 217, 3) := dk_182 0 217 (dk_at dksX1_walk_1 21 rfl rfl)
theorem dX1_walk_46 : decode cX1_walk 46 = .ok (.iinc 3 1, 3) := dk_132 3 1 (dk_at dksX1_walk_2 0 rfl rfl)
theorem dX1_walk_49 : decode cX1_walk 49 = .ok (.goto (-29), 3) := dk_167 255 227 (dk_at dksX1_walk_2 3 rfl rfl)
theorem dX1_walk_52 : decode cX1_walk 52 = .ok (.aload_n 2, 1) := dk_44 (dk_at dksX1_walk_2 6 rfl rfl)
theorem dX1_walk_53 : decode cX1_walk 53 = .ok (.getfield 113, 3) := dk_180 0 113 (dk_at dksX1_walk_2 7 rfl rfl)
theorem dX1_walk_56 : decode cX1_walk 56 = .ok (.iconst 3, 1) := dk_6 (dk_at dksX1_walk_2 10 rfl rfl)
theorem dX1_walk_57 : decode cX1_walk 57 = .ok (.if_icmp .ne 10, 3) := dk_160 0 10 (dk_at dksX1_walk_2 11 rfl rfl)
theorem dX1_walk_60 : decode cX1_walk 60 = .ok (.aload_n 2, 1) := dk_44 (dk_at dksX1_walk_2 14 rfl rfl)
theorem dX1_walk_61 : decode cX1_walk 61 = .ok (.getfield 119, 3) := dk_180 0 119 (dk_at dksX1_walk_2 15 rfl rfl)
theorem dX1_walk_64 : decode cX1_walk 64 = .ok (.goto 4, 3) := dk_167 0 4 (dk_at dksX1_walk_2 18 rfl rfl)
theorem dX1_walk_67 : decode cX1_walk 67 = .ok (.iconst (-1), 1) := dk_2 (dk_at dksX1_walk_2 21 rfl rfl)
theorem dX1_walk_68 : decode cX1_walk 68 = .ok (.ireturn, 1) := dk_172 (dk_at dksX1_walk_2 22 rfl rfl)
abbrev cX1_live : ByteArray := prog_1_method_9_code
def yX1_live : MethodName := ⟨RX1, "live", "(LHoldtag$Item;I)V"⟩
def dkwX1_live_8 : List UInt8 := [42, 43, 182, 0, 116, 154, 0, 9, 43, 6, 28, 182, 0, 158, 177]
abbrev dktX1_live_8 : List UInt8 := dkwX1_live_8 ++ []
def dkwX1_live_7 : List UInt8 := [182, 0, 158, 43, 180, 0, 113, 5, 160, 0, 30, 43, 180, 0, 119, 42, 180, 0, 122, 96, 28, 163, 0, 17]
abbrev dktX1_live_7 : List UInt8 := dkwX1_live_7 ++ dktX1_live_8
def dkwX1_live_6 : List UInt8 := [43, 5, 28, 182, 0, 158, 167, 0, 21, 43, 4, 28, 182, 0, 158, 167, 0, 12, 43, 43, 180, 0, 113, 28]
abbrev dktX1_live_6 : List UInt8 := dkwX1_live_6 ++ dktX1_live_7
def dkwX1_live_5 : List UInt8 := [171, 0, 0, 0, 43, 0, 0, 0, 2, 0, 0, 0, 0, 0, 0, 0, 25, 0, 0, 0, 1, 0, 0, 0, 34]
abbrev dktX1_live_5 : List UInt8 := dkwX1_live_5 ++ dktX1_live_6
def dkwX1_live_4 : List UInt8 := [153, 0, 6, 4, 54, 5, 21, 5]
abbrev dktX1_live_4 : List UInt8 := dkwX1_live_4 ++ dktX1_live_5
def dkwX1_live_3 : List UInt8 := [25, 4, 18, 151, 182, 0, 153, 153, 0, 22, 3, 54, 5, 167, 0, 16, 25, 4, 18, 156, 182, 0, 153]
abbrev dktX1_live_3 : List UInt8 := dkwX1_live_3 ++ dktX1_live_4
def dkwX1_live_2 : List UInt8 := [171, 0, 0, 0, 0, 0, 56, 0, 0, 0, 2, 176, 102, 133, 171, 0, 0, 0, 27, 211, 104, 224, 194, 0, 0, 0, 43]
abbrev dktX1_live_2 : List UInt8 := dkwX1_live_2 ++ dktX1_live_3
def dkwX1_live_1 : List UInt8 := [163, 0, 131, 42, 43, 182, 0, 73, 182, 0, 142, 58, 4, 2, 54, 5, 25, 4, 182, 0, 146]
abbrev dktX1_live_1 : List UInt8 := dkwX1_live_1 ++ dktX1_live_2
def dkwX1_live_0 : List UInt8 := [43, 182, 0, 138, 153, 0, 11, 42, 43, 182, 0, 134, 167, 0, 4, 2, 62, 29, 2, 159, 0, 136, 29, 28]
abbrev dktX1_live_0 : List UInt8 := dkwX1_live_0 ++ dktX1_live_1
theorem dksX1_live_0 : cX1_live.data.toList.drop 0 = dktX1_live_0 := by decide +kernel
theorem dksX1_live_1 : cX1_live.data.toList.drop 24 = dktX1_live_1 := dk_seg dksX1_live_0 24 rfl rfl
theorem dksX1_live_2 : cX1_live.data.toList.drop 45 = dktX1_live_2 := dk_seg dksX1_live_1 21 rfl rfl
theorem dksX1_live_3 : cX1_live.data.toList.drop 72 = dktX1_live_3 := dk_seg dksX1_live_2 27 rfl rfl
theorem dksX1_live_4 : cX1_live.data.toList.drop 95 = dktX1_live_4 := dk_seg dksX1_live_3 23 rfl rfl
theorem dksX1_live_5 : cX1_live.data.toList.drop 103 = dktX1_live_5 := dk_seg dksX1_live_4 8 rfl rfl
theorem dksX1_live_6 : cX1_live.data.toList.drop 128 = dktX1_live_6 := dk_seg dksX1_live_5 25 rfl rfl
theorem dksX1_live_7 : cX1_live.data.toList.drop 152 = dktX1_live_7 := dk_seg dksX1_live_6 24 rfl rfl
theorem dksX1_live_8 : cX1_live.data.toList.drop 176 = dktX1_live_8 := dk_seg dksX1_live_7 24 rfl rfl
theorem dX1_live_0 : decode cX1_live 0 = .ok (.aload_n 1, 1) := dk_43 (dk_at dksX1_live_0 0 rfl rfl)
theorem dX1_live_1 : decode cX1_live 1 = .ok (.invokevirtual 138, 3) := dk_182 0 138 (dk_at dksX1_live_0 1 rfl rfl)
theorem dX1_live_4 : decode cX1_live 4 = .ok (.ifCond .eq 11, 3) := dk_153 0 11 (dk_at dksX1_live_0 4 rfl rfl)
theorem dX1_live_7 : decode cX1_live 7 = .ok (.aload_n 0, 1) := dk_42 (dk_at dksX1_live_0 7 rfl rfl)
theorem dX1_live_8 : decode cX1_live 8 = .ok (.aload_n 1, 1) := dk_43 (dk_at dksX1_live_0 8 rfl rfl)
theorem dX1_live_9 : decode cX1_live 9 = .ok (.invokevirtual 134, 3) := dk_182 0 134 (dk_at dksX1_live_0 9 rfl rfl)
theorem dX1_live_12 : decode cX1_live 12 = .ok (.goto 4, 3) := dk_167 0 4 (dk_at dksX1_live_0 12 rfl rfl)
theorem dX1_live_15 : decode cX1_live 15 = .ok (.iconst (-1), 1) := dk_2 (dk_at dksX1_live_0 15 rfl rfl)
theorem dX1_live_16 : decode cX1_live 16 = .ok (.istore_n 3, 1) := dk_62 (dk_at dksX1_live_0 16 rfl rfl)
theorem dX1_live_17 : decode cX1_live 17 = .ok (.iload_n 3, 1) := dk_29 (dk_at dksX1_live_0 17 rfl rfl)
theorem dX1_live_18 : decode cX1_live 18 = .ok (.iconst (-1), 1) := dk_2 (dk_at dksX1_live_0 18 rfl rfl)
theorem dX1_live_19 : decode cX1_live 19 = .ok (.if_icmp .eq 136, 3) := dk_159 0 136 (dk_at dksX1_live_0 19 rfl rfl)
theorem dX1_live_22 : decode cX1_live 22 = .ok (.iload_n 3, 1) := dk_29 (dk_at dksX1_live_0 22 rfl rfl)
theorem dX1_live_23 : decode cX1_live 23 = .ok (.iload_n 2, 1) := dk_28 (dk_at dksX1_live_0 23 rfl rfl)
theorem dX1_live_24 : decode cX1_live 24 = .ok (.if_icmp .gt 131, 3) := dk_163 0 131 (dk_at dksX1_live_1 0 rfl rfl)
theorem dX1_live_27 : decode cX1_live 27 = .ok (.aload_n 0, 1) := dk_42 (dk_at dksX1_live_1 3 rfl rfl)
theorem dX1_live_28 : decode cX1_live 28 = .ok (.aload_n 1, 1) := dk_43 (dk_at dksX1_live_1 4 rfl rfl)
theorem dX1_live_29 : decode cX1_live 29 = .ok (.invokevirtual 73, 3) := dk_182 0 73 (dk_at dksX1_live_1 5 rfl rfl)
theorem dX1_live_32 : decode cX1_live 32 = .ok (.invokevirtual 142, 3) := dk_182 0 142 (dk_at dksX1_live_1 8 rfl rfl)
theorem dX1_live_35 : decode cX1_live 35 = .ok (.astore 4, 2) := dk_58 4 (dk_at dksX1_live_1 11 rfl rfl)
theorem dX1_live_37 : decode cX1_live 37 = .ok (.iconst (-1), 1) := dk_2 (dk_at dksX1_live_1 13 rfl rfl)
theorem dX1_live_38 : decode cX1_live 38 = .ok (.istore 5, 2) := dk_54 5 (dk_at dksX1_live_1 14 rfl rfl)
theorem dX1_live_40 : decode cX1_live 40 = .ok (.aload 4, 2) := dk_25 4 (dk_at dksX1_live_1 16 rfl rfl)
theorem dX1_live_42 : decode cX1_live 42 = .ok (.invokevirtual 146, 3) := dk_182 0 146 (dk_at dksX1_live_1 18 rfl rfl)
theorem dX1_live_45 : decode cX1_live 45 = .ok (.lookupswitch 56 #[(-1335458389, 27), (-748101438, 43)], 27) := by decide +kernel
theorem dX1_live_72 : decode cX1_live 72 = .ok (.aload 4, 2) := dk_25 4 (dk_at dksX1_live_3 0 rfl rfl)
theorem dX1_live_74 : decode cX1_live 74 = .ok (.ldc 151, 2) := dk_18 151 (dk_at dksX1_live_3 2 rfl rfl)
theorem dX1_live_76 : decode cX1_live 76 = .ok (.invokevirtual 153, 3) := dk_182 0 153 (dk_at dksX1_live_3 4 rfl rfl)
theorem dX1_live_79 : decode cX1_live 79 = .ok (.ifCond .eq 22, 3) := dk_153 0 22 (dk_at dksX1_live_3 7 rfl rfl)
theorem dX1_live_82 : decode cX1_live 82 = .ok (.iconst 0, 1) := dk_3 (dk_at dksX1_live_3 10 rfl rfl)
theorem dX1_live_83 : decode cX1_live 83 = .ok (.istore 5, 2) := dk_54 5 (dk_at dksX1_live_3 11 rfl rfl)
theorem dX1_live_85 : decode cX1_live 85 = .ok (.goto 16, 3) := dk_167 0 16 (dk_at dksX1_live_3 13 rfl rfl)
theorem dX1_live_88 : decode cX1_live 88 = .ok (.aload 4, 2) := dk_25 4 (dk_at dksX1_live_3 16 rfl rfl)
theorem dX1_live_90 : decode cX1_live 90 = .ok (.ldc 156, 2) := dk_18 156 (dk_at dksX1_live_3 18 rfl rfl)
theorem dX1_live_92 : decode cX1_live 92 = .ok (.invokevirtual 153, 3) := dk_182 0 153 (dk_at dksX1_live_3 20 rfl rfl)
theorem dX1_live_95 : decode cX1_live 95 = .ok (.ifCond .eq 6, 3) := dk_153 0 6 (dk_at dksX1_live_4 0 rfl rfl)
theorem dX1_live_98 : decode cX1_live 98 = .ok (.iconst 1, 1) := dk_4 (dk_at dksX1_live_4 3 rfl rfl)
theorem dX1_live_99 : decode cX1_live 99 = .ok (.istore 5, 2) := dk_54 5 (dk_at dksX1_live_4 4 rfl rfl)
theorem dX1_live_101 : decode cX1_live 101 = .ok (.iload 5, 2) := dk_21 5 (dk_at dksX1_live_4 6 rfl rfl)
theorem dX1_live_103 : decode cX1_live 103 = .ok (.lookupswitch 43 #[(0, 25), (1, 34)], 25) := by decide +kernel
theorem dX1_live_128 : decode cX1_live 128 = .ok (.aload_n 1, 1) := dk_43 (dk_at dksX1_live_6 0 rfl rfl)
theorem dX1_live_129 : decode cX1_live 129 = .ok (.iconst 2, 1) := dk_5 (dk_at dksX1_live_6 1 rfl rfl)
theorem dX1_live_130 : decode cX1_live 130 = .ok (.iload_n 2, 1) := dk_28 (dk_at dksX1_live_6 2 rfl rfl)
theorem dX1_live_131 : decode cX1_live 131 = .ok (.invokevirtual 158, 3) := dk_182 0 158 (dk_at dksX1_live_6 3 rfl rfl)
theorem dX1_live_134 : decode cX1_live 134 = .ok (.goto 21, 3) := dk_167 0 21 (dk_at dksX1_live_6 6 rfl rfl)
theorem dX1_live_137 : decode cX1_live 137 = .ok (.aload_n 1, 1) := dk_43 (dk_at dksX1_live_6 9 rfl rfl)
theorem dX1_live_138 : decode cX1_live 138 = .ok (.iconst 1, 1) := dk_4 (dk_at dksX1_live_6 10 rfl rfl)
theorem dX1_live_139 : decode cX1_live 139 = .ok (.iload_n 2, 1) := dk_28 (dk_at dksX1_live_6 11 rfl rfl)
theorem dX1_live_140 : decode cX1_live 140 = .ok (.invokevirtual 158, 3) := dk_182 0 158 (dk_at dksX1_live_6 12 rfl rfl)
theorem dX1_live_143 : decode cX1_live 143 = .ok (.goto 12, 3) := dk_167 0 12 (dk_at dksX1_live_6 15 rfl rfl)
theorem dX1_live_146 : decode cX1_live 146 = .ok (.aload_n 1, 1) := dk_43 (dk_at dksX1_live_6 18 rfl rfl)
theorem dX1_live_147 : decode cX1_live 147 = .ok (.aload_n 1, 1) := dk_43 (dk_at dksX1_live_6 19 rfl rfl)
theorem dX1_live_148 : decode cX1_live 148 = .ok (.getfield 113, 3) := dk_180 0 113 (dk_at dksX1_live_6 20 rfl rfl)
theorem dX1_live_151 : decode cX1_live 151 = .ok (.iload_n 2, 1) := dk_28 (dk_at dksX1_live_6 23 rfl rfl)
theorem dX1_live_152 : decode cX1_live 152 = .ok (.invokevirtual 158, 3) := dk_182 0 158 (dk_at dksX1_live_7 0 rfl rfl)
theorem dX1_live_155 : decode cX1_live 155 = .ok (.aload_n 1, 1) := dk_43 (dk_at dksX1_live_7 3 rfl rfl)
theorem dX1_live_156 : decode cX1_live 156 = .ok (.getfield 113, 3) := dk_180 0 113 (dk_at dksX1_live_7 4 rfl rfl)
theorem dX1_live_159 : decode cX1_live 159 = .ok (.iconst 2, 1) := dk_5 (dk_at dksX1_live_7 7 rfl rfl)
theorem dX1_live_160 : decode cX1_live 160 = .ok (.if_icmp .ne 30, 3) := dk_160 0 30 (dk_at dksX1_live_7 8 rfl rfl)
theorem dX1_live_163 : decode cX1_live 163 = .ok (.aload_n 1, 1) := dk_43 (dk_at dksX1_live_7 11 rfl rfl)
theorem dX1_live_164 : decode cX1_live 164 = .ok (.getfield 119, 3) := dk_180 0 119 (dk_at dksX1_live_7 12 rfl rfl)
theorem dX1_live_167 : decode cX1_live 167 = .ok (.aload_n 0, 1) := dk_42 (dk_at dksX1_live_7 15 rfl rfl)
theorem dX1_live_168 : decode cX1_live 168 = .ok (.getfield 122, 3) := dk_180 0 122 (dk_at dksX1_live_7 16 rfl rfl)
theorem dX1_live_171 : decode cX1_live 171 = .ok (.iadd, 1) := dk_96 (dk_at dksX1_live_7 19 rfl rfl)
theorem dX1_live_172 : decode cX1_live 172 = .ok (.iload_n 2, 1) := dk_28 (dk_at dksX1_live_7 20 rfl rfl)
theorem dX1_live_173 : decode cX1_live 173 = .ok (.if_icmp .gt 17, 3) := dk_163 0 17 (dk_at dksX1_live_7 21 rfl rfl)
theorem dX1_live_176 : decode cX1_live 176 = .ok (.aload_n 0, 1) := dk_42 (dk_at dksX1_live_8 0 rfl rfl)
theorem dX1_live_177 : decode cX1_live 177 = .ok (.aload_n 1, 1) := dk_43 (dk_at dksX1_live_8 1 rfl rfl)
theorem dX1_live_178 : decode cX1_live 178 = .ok (.invokevirtual 116, 3) := dk_182 0 116 (dk_at dksX1_live_8 2 rfl rfl)
theorem dX1_live_181 : decode cX1_live 181 = .ok (.ifCond .ne 9, 3) := dk_154 0 9 (dk_at dksX1_live_8 5 rfl rfl)
theorem dX1_live_184 : decode cX1_live 184 = .ok (.aload_n 1, 1) := dk_43 (dk_at dksX1_live_8 8 rfl rfl)
theorem dX1_live_185 : decode cX1_live 185 = .ok (.iconst 3, 1) := dk_6 (dk_at dksX1_live_8 9 rfl rfl)
theorem dX1_live_186 : decode cX1_live 186 = .ok (.iload_n 2, 1) := dk_28 (dk_at dksX1_live_8 10 rfl rfl)
theorem dX1_live_187 : decode cX1_live 187 = .ok (.invokevirtual 158, 3) := dk_182 0 158 (dk_at dksX1_live_8 11 rfl rfl)
theorem dX1_live_190 : decode cX1_live 190 = .ok (.return_, 1) := dk_177 (dk_at dksX1_live_8 14 rfl rfl)
abbrev cX1_folder : ByteArray := prog_1_method_19_code
def yX1_folder : MethodName := ⟨RX1, "folder", "(I)I"⟩
def dkwX1_folder_1 : List UInt8 := [187, 0, 28, 89, 42, 180, 0, 230, 182, 0, 97, 44, 183, 0, 246, 182, 1, 9, 172]
abbrev dktX1_folder_1 : List UInt8 := dkwX1_folder_1 ++ []
def dkwX1_folder_0 : List UInt8 := [42, 180, 0, 230, 27, 182, 0, 100, 192, 0, 28, 77, 42, 180, 0, 230, 182, 1, 6, 42, 180, 0, 230]
abbrev dktX1_folder_0 : List UInt8 := dkwX1_folder_0 ++ dktX1_folder_1
theorem dksX1_folder_0 : cX1_folder.data.toList.drop 0 = dktX1_folder_0 := by decide +kernel
theorem dksX1_folder_1 : cX1_folder.data.toList.drop 23 = dktX1_folder_1 := dk_seg dksX1_folder_0 23 rfl rfl
theorem dX1_folder_0 : decode cX1_folder 0 = .ok (.aload_n 0, 1) := dk_42 (dk_at dksX1_folder_0 0 rfl rfl)
theorem dX1_folder_1 : decode cX1_folder 1 = .ok (.getfield 230, 3) := dk_180 0 230 (dk_at dksX1_folder_0 1 rfl rfl)
theorem dX1_folder_4 : decode cX1_folder 4 = .ok (.iload_n 1, 1) := dk_27 (dk_at dksX1_folder_0 4 rfl rfl)
theorem dX1_folder_5 : decode cX1_folder 5 = .ok (.invokevirtual 100, 3) := dk_182 0 100 (dk_at dksX1_folder_0 5 rfl rfl)
theorem dX1_folder_8 : decode cX1_folder 8 = .ok (.checkcast 28, 3) := dk_192 0 28 (dk_at dksX1_folder_0 8 rfl rfl)
theorem dX1_folder_11 : decode cX1_folder 11 = .ok (.astore_n 2, 1) := dk_77 (dk_at dksX1_folder_0 11 rfl rfl)
theorem dX1_folder_12 : decode cX1_folder 12 = .ok (.aload_n 0, 1) := dk_42 (dk_at dksX1_folder_0 12 rfl rfl)
theorem dX1_folder_13 : decode cX1_folder 13 = .ok (.getfield 230, 3) := dk_180 0 230 (dk_at dksX1_folder_0 13 rfl rfl)
theorem dX1_folder_16 : decode cX1_folder 16 = .ok (.invokevirtual 262, 3) := dk_182 1 6 (dk_at dksX1_folder_0 16 rfl rfl)
theorem dX1_folder_19 : decode cX1_folder 19 = .ok (.aload_n 0, 1) := dk_42 (dk_at dksX1_folder_0 19 rfl rfl)
theorem dX1_folder_20 : decode cX1_folder 20 = .ok (.getfield 230, 3) := dk_180 0 230 (dk_at dksX1_folder_0 20 rfl rfl)
theorem dX1_folder_23 : decode cX1_folder 23 = .ok (.new 28, 3) := dk_187 0 28 (dk_at dksX1_folder_1 0 rfl rfl)
theorem dX1_folder_26 : decode cX1_folder 26 = .ok (.dup, 1) := dk_89 (dk_at dksX1_folder_1 3 rfl rfl)
theorem dX1_folder_27 : decode cX1_folder 27 = .ok (.aload_n 0, 1) := dk_42 (dk_at dksX1_folder_1 4 rfl rfl)
theorem dX1_folder_28 : decode cX1_folder 28 = .ok (.getfield 230, 3) := dk_180 0 230 (dk_at dksX1_folder_1 5 rfl rfl)
theorem dX1_folder_31 : decode cX1_folder 31 = .ok (.invokevirtual 97, 3) := dk_182 0 97 (dk_at dksX1_folder_1 8 rfl rfl)
theorem dX1_folder_34 : decode cX1_folder 34 = .ok (.aload_n 2, 1) := dk_44 (dk_at dksX1_folder_1 11 rfl rfl)
theorem dX1_folder_35 : decode cX1_folder 35 = .ok (.invokespecial 246, 3) := dk_183 0 246 (dk_at dksX1_folder_1 12 rfl rfl)
theorem dX1_folder_38 : decode cX1_folder 38 = .ok (.invokevirtual 265, 3) := dk_182 1 9 (dk_at dksX1_folder_1 15 rfl rfl)
theorem dX1_folder_41 : decode cX1_folder 41 = .ok (.ireturn, 1) := dk_172 (dk_at dksX1_folder_1 18 rfl rfl)
abbrev cX1_tag : ByteArray := prog_1_method_20_code
def yX1_tag : MethodName := ⟨RX1, "tag", "(III)I"⟩
def dkwX1_tag_2 : List UInt8 := [182, 1, 9, 172]
abbrev dktX1_tag_2 : List UInt8 := dkwX1_tag_2 ++ []
def dkwX1_tag_1 : List UInt8 := [182, 1, 6, 42, 180, 0, 233, 187, 0, 44, 89, 42, 180, 0, 233, 182, 0, 97, 27, 28, 29, 183, 1, 16]
abbrev dktX1_tag_1 : List UInt8 := dkwX1_tag_1 ++ dktX1_tag_2
def dkwX1_tag_0 : List UInt8 := [27, 3, 5, 184, 1, 12, 28, 3, 8, 184, 1, 12, 29, 3, 17, 3, 232, 184, 1, 12, 42, 180, 0, 233]
abbrev dktX1_tag_0 : List UInt8 := dkwX1_tag_0 ++ dktX1_tag_1
theorem dksX1_tag_0 : cX1_tag.data.toList.drop 0 = dktX1_tag_0 := by decide +kernel
theorem dksX1_tag_1 : cX1_tag.data.toList.drop 24 = dktX1_tag_1 := dk_seg dksX1_tag_0 24 rfl rfl
theorem dksX1_tag_2 : cX1_tag.data.toList.drop 48 = dktX1_tag_2 := dk_seg dksX1_tag_1 24 rfl rfl
theorem dX1_tag_0 : decode cX1_tag 0 = .ok (.iload_n 1, 1) := dk_27 (dk_at dksX1_tag_0 0 rfl rfl)
theorem dX1_tag_1 : decode cX1_tag 1 = .ok (.iconst 0, 1) := dk_3 (dk_at dksX1_tag_0 1 rfl rfl)
theorem dX1_tag_2 : decode cX1_tag 2 = .ok (.iconst 2, 1) := dk_5 (dk_at dksX1_tag_0 2 rfl rfl)
theorem dX1_tag_3 : decode cX1_tag 3 = .ok (.invokestatic 268, 3) := dk_184 1 12 (dk_at dksX1_tag_0 3 rfl rfl)
theorem dX1_tag_6 : decode cX1_tag 6 = .ok (.iload_n 2, 1) := dk_28 (dk_at dksX1_tag_0 6 rfl rfl)
theorem dX1_tag_7 : decode cX1_tag 7 = .ok (.iconst 0, 1) := dk_3 (dk_at dksX1_tag_0 7 rfl rfl)
theorem dX1_tag_8 : decode cX1_tag 8 = .ok (.iconst 5, 1) := dk_8 (dk_at dksX1_tag_0 8 rfl rfl)
theorem dX1_tag_9 : decode cX1_tag 9 = .ok (.invokestatic 268, 3) := dk_184 1 12 (dk_at dksX1_tag_0 9 rfl rfl)
theorem dX1_tag_12 : decode cX1_tag 12 = .ok (.iload_n 3, 1) := dk_29 (dk_at dksX1_tag_0 12 rfl rfl)
theorem dX1_tag_13 : decode cX1_tag 13 = .ok (.iconst 0, 1) := dk_3 (dk_at dksX1_tag_0 13 rfl rfl)
theorem dX1_tag_14 : decode cX1_tag 14 = .ok (.sipush 1000, 3) := dk_17 3 232 (dk_at dksX1_tag_0 14 rfl rfl)
theorem dX1_tag_17 : decode cX1_tag 17 = .ok (.invokestatic 268, 3) := dk_184 1 12 (dk_at dksX1_tag_0 17 rfl rfl)
theorem dX1_tag_20 : decode cX1_tag 20 = .ok (.aload_n 0, 1) := dk_42 (dk_at dksX1_tag_0 20 rfl rfl)
theorem dX1_tag_21 : decode cX1_tag 21 = .ok (.getfield 233, 3) := dk_180 0 233 (dk_at dksX1_tag_0 21 rfl rfl)
theorem dX1_tag_24 : decode cX1_tag 24 = .ok (.invokevirtual 262, 3) := dk_182 1 6 (dk_at dksX1_tag_1 0 rfl rfl)
theorem dX1_tag_27 : decode cX1_tag 27 = .ok (.aload_n 0, 1) := dk_42 (dk_at dksX1_tag_1 3 rfl rfl)
theorem dX1_tag_28 : decode cX1_tag 28 = .ok (.getfield 233, 3) := dk_180 0 233 (dk_at dksX1_tag_1 4 rfl rfl)
theorem dX1_tag_31 : decode cX1_tag 31 = .ok (.new 44, 3) := dk_187 0 44 (dk_at dksX1_tag_1 7 rfl rfl)
theorem dX1_tag_34 : decode cX1_tag 34 = .ok (.dup, 1) := dk_89 (dk_at dksX1_tag_1 10 rfl rfl)
theorem dX1_tag_35 : decode cX1_tag 35 = .ok (.aload_n 0, 1) := dk_42 (dk_at dksX1_tag_1 11 rfl rfl)
theorem dX1_tag_36 : decode cX1_tag 36 = .ok (.getfield 233, 3) := dk_180 0 233 (dk_at dksX1_tag_1 12 rfl rfl)
theorem dX1_tag_39 : decode cX1_tag 39 = .ok (.invokevirtual 97, 3) := dk_182 0 97 (dk_at dksX1_tag_1 15 rfl rfl)
theorem dX1_tag_42 : decode cX1_tag 42 = .ok (.iload_n 1, 1) := dk_27 (dk_at dksX1_tag_1 18 rfl rfl)
theorem dX1_tag_43 : decode cX1_tag 43 = .ok (.iload_n 2, 1) := dk_28 (dk_at dksX1_tag_1 19 rfl rfl)
theorem dX1_tag_44 : decode cX1_tag 44 = .ok (.iload_n 3, 1) := dk_29 (dk_at dksX1_tag_1 20 rfl rfl)
theorem dX1_tag_45 : decode cX1_tag 45 = .ok (.invokespecial 272, 3) := dk_183 1 16 (dk_at dksX1_tag_1 21 rfl rfl)
theorem dX1_tag_48 : decode cX1_tag 48 = .ok (.invokevirtual 265, 3) := dk_182 1 9 (dk_at dksX1_tag_2 0 rfl rfl)
theorem dX1_tag_51 : decode cX1_tag 51 = .ok (.ireturn, 1) := dk_172 (dk_at dksX1_tag_2 3 rfl rfl)
abbrev cX1_checkRange : ByteArray := prog_1_method_15_code
def yX1_checkRange : MethodName := ⟨RX1, "checkRange", "(III)V"⟩
def dkwX1_checkRange_0 : List UInt8 := [26, 27, 161, 0, 8, 26, 28, 164, 0, 11, 187, 0, 253, 89, 183, 0, 255, 191, 177]
abbrev dktX1_checkRange_0 : List UInt8 := dkwX1_checkRange_0 ++ []
theorem dksX1_checkRange_0 : cX1_checkRange.data.toList.drop 0 = dktX1_checkRange_0 := by decide +kernel
theorem dX1_checkRange_0 : decode cX1_checkRange 0 = .ok (.iload_n 0, 1) := dk_26 (dk_at dksX1_checkRange_0 0 rfl rfl)
theorem dX1_checkRange_1 : decode cX1_checkRange 1 = .ok (.iload_n 1, 1) := dk_27 (dk_at dksX1_checkRange_0 1 rfl rfl)
theorem dX1_checkRange_2 : decode cX1_checkRange 2 = .ok (.if_icmp .lt 8, 3) := dk_161 0 8 (dk_at dksX1_checkRange_0 2 rfl rfl)
theorem dX1_checkRange_5 : decode cX1_checkRange 5 = .ok (.iload_n 0, 1) := dk_26 (dk_at dksX1_checkRange_0 5 rfl rfl)
theorem dX1_checkRange_6 : decode cX1_checkRange 6 = .ok (.iload_n 2, 1) := dk_28 (dk_at dksX1_checkRange_0 6 rfl rfl)
theorem dX1_checkRange_7 : decode cX1_checkRange 7 = .ok (.if_icmp .le 11, 3) := dk_164 0 11 (dk_at dksX1_checkRange_0 7 rfl rfl)
theorem dX1_checkRange_10 : decode cX1_checkRange 10 = .ok (.new 253, 3) := dk_187 0 253 (dk_at dksX1_checkRange_0 10 rfl rfl)
theorem dX1_checkRange_13 : decode cX1_checkRange 13 = .ok (.dup, 1) := dk_89 (dk_at dksX1_checkRange_0 13 rfl rfl)
theorem dX1_checkRange_14 : decode cX1_checkRange 14 = .ok (.invokespecial 255, 3) := dk_183 0 255 (dk_at dksX1_checkRange_0 14 rfl rfl)
theorem dX1_checkRange_17 : decode cX1_checkRange 17 = .ok (.athrow, 1) := dk_191 (dk_at dksX1_checkRange_0 17 rfl rfl)
theorem dX1_checkRange_18 : decode cX1_checkRange 18 = .ok (.return_, 1) := dk_177 (dk_at dksX1_checkRange_0 18 rfl rfl)
abbrev cX1_tagFolder : ByteArray := prog_1_method_21_code
def yX1_tagFolder : MethodName := ⟨RX1, "tagFolder", "(II)I"⟩
def dkwX1_tagFolder_1 : List UInt8 := [58, 4, 45, 180, 0, 37, 184, 1, 22, 54, 5, 45, 25, 4, 181, 0, 37, 21, 5, 172]
abbrev dktX1_tagFolder_1 : List UInt8 := dkwX1_tagFolder_1 ++ []
def dkwX1_tagFolder_0 : List UInt8 := [42, 180, 0, 230, 27, 182, 0, 100, 192, 0, 28, 78, 42, 180, 0, 233, 28, 182, 1, 19, 192, 0, 44]
abbrev dktX1_tagFolder_0 : List UInt8 := dkwX1_tagFolder_0 ++ dktX1_tagFolder_1
theorem dksX1_tagFolder_0 : cX1_tagFolder.data.toList.drop 0 = dktX1_tagFolder_0 := by decide +kernel
theorem dksX1_tagFolder_1 : cX1_tagFolder.data.toList.drop 23 = dktX1_tagFolder_1 := dk_seg dksX1_tagFolder_0 23 rfl rfl
theorem dX1_tagFolder_0 : decode cX1_tagFolder 0 = .ok (.aload_n 0, 1) := dk_42 (dk_at dksX1_tagFolder_0 0 rfl rfl)
theorem dX1_tagFolder_1 : decode cX1_tagFolder 1 = .ok (.getfield 230, 3) := dk_180 0 230 (dk_at dksX1_tagFolder_0 1 rfl rfl)
theorem dX1_tagFolder_4 : decode cX1_tagFolder 4 = .ok (.iload_n 1, 1) := dk_27 (dk_at dksX1_tagFolder_0 4 rfl rfl)
theorem dX1_tagFolder_5 : decode cX1_tagFolder 5 = .ok (.invokevirtual 100, 3) := dk_182 0 100 (dk_at dksX1_tagFolder_0 5 rfl rfl)
theorem dX1_tagFolder_8 : decode cX1_tagFolder 8 = .ok (.checkcast 28, 3) := dk_192 0 28 (dk_at dksX1_tagFolder_0 8 rfl rfl)
theorem dX1_tagFolder_11 : decode cX1_tagFolder 11 = .ok (.astore_n 3, 1) := dk_78 (dk_at dksX1_tagFolder_0 11 rfl rfl)
theorem dX1_tagFolder_12 : decode cX1_tagFolder 12 = .ok (.aload_n 0, 1) := dk_42 (dk_at dksX1_tagFolder_0 12 rfl rfl)
theorem dX1_tagFolder_13 : decode cX1_tagFolder 13 = .ok (.getfield 233, 3) := dk_180 0 233 (dk_at dksX1_tagFolder_0 13 rfl rfl)
theorem dX1_tagFolder_16 : decode cX1_tagFolder 16 = .ok (.iload_n 2, 1) := dk_28 (dk_at dksX1_tagFolder_0 16 rfl rfl)
theorem dX1_tagFolder_17 : decode cX1_tagFolder 17 = .ok (.invokevirtual 275, 3) := dk_182 1 19 (dk_at dksX1_tagFolder_0 17 rfl rfl)
theorem dX1_tagFolder_20 : decode cX1_tagFolder 20 = .ok (.checkcast 44, 3) := dk_192 0 44 (dk_at dksX1_tagFolder_0 20 rfl rfl)
theorem dX1_tagFolder_23 : decode cX1_tagFolder 23 = .ok (.astore 4, 2) := dk_58 4 (dk_at dksX1_tagFolder_1 0 rfl rfl)
theorem dX1_tagFolder_25 : decode cX1_tagFolder 25 = .ok (.aload_n 3, 1) := dk_45 (dk_at dksX1_tagFolder_1 2 rfl rfl)
theorem dX1_tagFolder_26 : decode cX1_tagFolder 26 = .ok (.getfield 37, 3) := dk_180 0 37 (dk_at dksX1_tagFolder_1 3 rfl rfl)
theorem dX1_tagFolder_29 : decode cX1_tagFolder 29 = .ok (.invokestatic 278, 3) := dk_184 1 22 (dk_at dksX1_tagFolder_1 6 rfl rfl)
theorem dX1_tagFolder_32 : decode cX1_tagFolder 32 = .ok (.istore 5, 2) := dk_54 5 (dk_at dksX1_tagFolder_1 9 rfl rfl)
theorem dX1_tagFolder_34 : decode cX1_tagFolder 34 = .ok (.aload_n 3, 1) := dk_45 (dk_at dksX1_tagFolder_1 11 rfl rfl)
theorem dX1_tagFolder_35 : decode cX1_tagFolder 35 = .ok (.aload 4, 2) := dk_25 4 (dk_at dksX1_tagFolder_1 12 rfl rfl)
theorem dX1_tagFolder_37 : decode cX1_tagFolder 37 = .ok (.putfield 37, 3) := dk_181 0 37 (dk_at dksX1_tagFolder_1 14 rfl rfl)
theorem dX1_tagFolder_40 : decode cX1_tagFolder 40 = .ok (.iload 5, 2) := dk_21 5 (dk_at dksX1_tagFolder_1 17 rfl rfl)
theorem dX1_tagFolder_42 : decode cX1_tagFolder 42 = .ok (.ireturn, 1) := dk_172 (dk_at dksX1_tagFolder_1 19 rfl rfl)
abbrev cX1_numberOf : ByteArray := prog_1_method_1_code
def yX1_numberOf : MethodName := ⟨RX1, "numberOf", "(LHoldtag$Numbered;)I"⟩
def dkwX1_numberOf_0 : List UInt8 := [42, 199, 0, 7, 2, 167, 0, 9, 42, 185, 0, 3, 1, 0, 172]
abbrev dktX1_numberOf_0 : List UInt8 := dkwX1_numberOf_0 ++ []
theorem dksX1_numberOf_0 : cX1_numberOf.data.toList.drop 0 = dktX1_numberOf_0 := by decide +kernel
theorem dX1_numberOf_0 : decode cX1_numberOf 0 = .ok (.aload_n 0, 1) := dk_42 (dk_at dksX1_numberOf_0 0 rfl rfl)
theorem dX1_numberOf_1 : decode cX1_numberOf 1 = .ok (.ifnonnull 7, 3) := dk_199 0 7 (dk_at dksX1_numberOf_0 1 rfl rfl)
theorem dX1_numberOf_4 : decode cX1_numberOf 4 = .ok (.iconst (-1), 1) := dk_2 (dk_at dksX1_numberOf_0 4 rfl rfl)
theorem dX1_numberOf_5 : decode cX1_numberOf 5 = .ok (.goto 9, 3) := dk_167 0 9 (dk_at dksX1_numberOf_0 5 rfl rfl)
theorem dX1_numberOf_8 : decode cX1_numberOf 8 = .ok (.aload_n 0, 1) := dk_42 (dk_at dksX1_numberOf_0 8 rfl rfl)
theorem dX1_numberOf_9 : decode cX1_numberOf 9 = .ok (.invokeinterface 3 1, 5) := by decide +kernel
theorem dX1_numberOf_14 : decode cX1_numberOf 14 = .ok (.ireturn, 1) := dk_172 (dk_at dksX1_numberOf_0 14 rfl rfl)
abbrev cX1_tagItem : ByteArray := prog_1_method_22_code
def yX1_tagItem : MethodName := ⟨RX1, "tagItem", "(II)I"⟩
def dkwX1_tagItem_2 : List UInt8 := [184, 1, 22, 54, 5, 45, 25, 4, 181, 0, 33, 21, 5, 172]
abbrev dktX1_tagItem_2 : List UInt8 := dkwX1_tagItem_2 ++ []
def dkwX1_tagItem_1 : List UInt8 := [58, 4, 45, 180, 0, 113, 6, 159, 0, 7, 4, 167, 0, 4, 3, 184, 1, 25, 45, 180, 0, 33]
abbrev dktX1_tagItem_1 : List UInt8 := dkwX1_tagItem_1 ++ dktX1_tagItem_2
def dkwX1_tagItem_0 : List UInt8 := [42, 180, 0, 214, 27, 182, 0, 100, 192, 0, 22, 78, 42, 180, 0, 233, 28, 182, 1, 19, 192, 0, 44]
abbrev dktX1_tagItem_0 : List UInt8 := dkwX1_tagItem_0 ++ dktX1_tagItem_1
theorem dksX1_tagItem_0 : cX1_tagItem.data.toList.drop 0 = dktX1_tagItem_0 := by decide +kernel
theorem dksX1_tagItem_1 : cX1_tagItem.data.toList.drop 23 = dktX1_tagItem_1 := dk_seg dksX1_tagItem_0 23 rfl rfl
theorem dksX1_tagItem_2 : cX1_tagItem.data.toList.drop 45 = dktX1_tagItem_2 := dk_seg dksX1_tagItem_1 22 rfl rfl
theorem dX1_tagItem_0 : decode cX1_tagItem 0 = .ok (.aload_n 0, 1) := dk_42 (dk_at dksX1_tagItem_0 0 rfl rfl)
theorem dX1_tagItem_1 : decode cX1_tagItem 1 = .ok (.getfield 214, 3) := dk_180 0 214 (dk_at dksX1_tagItem_0 1 rfl rfl)
theorem dX1_tagItem_4 : decode cX1_tagItem 4 = .ok (.iload_n 1, 1) := dk_27 (dk_at dksX1_tagItem_0 4 rfl rfl)
theorem dX1_tagItem_5 : decode cX1_tagItem 5 = .ok (.invokevirtual 100, 3) := dk_182 0 100 (dk_at dksX1_tagItem_0 5 rfl rfl)
theorem dX1_tagItem_8 : decode cX1_tagItem 8 = .ok (.checkcast 22, 3) := dk_192 0 22 (dk_at dksX1_tagItem_0 8 rfl rfl)
theorem dX1_tagItem_11 : decode cX1_tagItem 11 = .ok (.astore_n 3, 1) := dk_78 (dk_at dksX1_tagItem_0 11 rfl rfl)
theorem dX1_tagItem_12 : decode cX1_tagItem 12 = .ok (.aload_n 0, 1) := dk_42 (dk_at dksX1_tagItem_0 12 rfl rfl)
theorem dX1_tagItem_13 : decode cX1_tagItem 13 = .ok (.getfield 233, 3) := dk_180 0 233 (dk_at dksX1_tagItem_0 13 rfl rfl)
theorem dX1_tagItem_16 : decode cX1_tagItem 16 = .ok (.iload_n 2, 1) := dk_28 (dk_at dksX1_tagItem_0 16 rfl rfl)
theorem dX1_tagItem_17 : decode cX1_tagItem 17 = .ok (.invokevirtual 275, 3) := dk_182 1 19 (dk_at dksX1_tagItem_0 17 rfl rfl)
theorem dX1_tagItem_20 : decode cX1_tagItem 20 = .ok (.checkcast 44, 3) := dk_192 0 44 (dk_at dksX1_tagItem_0 20 rfl rfl)
theorem dX1_tagItem_23 : decode cX1_tagItem 23 = .ok (.astore 4, 2) := dk_58 4 (dk_at dksX1_tagItem_1 0 rfl rfl)
theorem dX1_tagItem_25 : decode cX1_tagItem 25 = .ok (.aload_n 3, 1) := dk_45 (dk_at dksX1_tagItem_1 2 rfl rfl)
theorem dX1_tagItem_26 : decode cX1_tagItem 26 = .ok (.getfield 113, 3) := dk_180 0 113 (dk_at dksX1_tagItem_1 3 rfl rfl)
theorem dX1_tagItem_29 : decode cX1_tagItem 29 = .ok (.iconst 3, 1) := dk_6 (dk_at dksX1_tagItem_1 6 rfl rfl)
theorem dX1_tagItem_30 : decode cX1_tagItem 30 = .ok (.if_icmp .eq 7, 3) := dk_159 0 7 (dk_at dksX1_tagItem_1 7 rfl rfl)
theorem dX1_tagItem_33 : decode cX1_tagItem 33 = .ok (.iconst 1, 1) := dk_4 (dk_at dksX1_tagItem_1 10 rfl rfl)
theorem dX1_tagItem_34 : decode cX1_tagItem 34 = .ok (.goto 4, 3) := dk_167 0 4 (dk_at dksX1_tagItem_1 11 rfl rfl)
theorem dX1_tagItem_37 : decode cX1_tagItem 37 = .ok (.iconst 0, 1) := dk_3 (dk_at dksX1_tagItem_1 14 rfl rfl)
theorem dX1_tagItem_38 : decode cX1_tagItem 38 = .ok (.invokestatic 281, 3) := dk_184 1 25 (dk_at dksX1_tagItem_1 15 rfl rfl)
theorem dX1_tagItem_41 : decode cX1_tagItem 41 = .ok (.aload_n 3, 1) := dk_45 (dk_at dksX1_tagItem_1 18 rfl rfl)
theorem dX1_tagItem_42 : decode cX1_tagItem 42 = .ok (.getfield 33, 3) := dk_180 0 33 (dk_at dksX1_tagItem_1 19 rfl rfl)
theorem dX1_tagItem_45 : decode cX1_tagItem 45 = .ok (.invokestatic 278, 3) := dk_184 1 22 (dk_at dksX1_tagItem_2 0 rfl rfl)
theorem dX1_tagItem_48 : decode cX1_tagItem 48 = .ok (.istore 5, 2) := dk_54 5 (dk_at dksX1_tagItem_2 3 rfl rfl)
theorem dX1_tagItem_50 : decode cX1_tagItem 50 = .ok (.aload_n 3, 1) := dk_45 (dk_at dksX1_tagItem_2 5 rfl rfl)
theorem dX1_tagItem_51 : decode cX1_tagItem 51 = .ok (.aload 4, 2) := dk_25 4 (dk_at dksX1_tagItem_2 6 rfl rfl)
theorem dX1_tagItem_53 : decode cX1_tagItem 53 = .ok (.putfield 33, 3) := dk_181 0 33 (dk_at dksX1_tagItem_2 8 rfl rfl)
theorem dX1_tagItem_56 : decode cX1_tagItem 56 = .ok (.iload 5, 2) := dk_21 5 (dk_at dksX1_tagItem_2 11 rfl rfl)
theorem dX1_tagItem_58 : decode cX1_tagItem 58 = .ok (.ireturn, 1) := dk_172 (dk_at dksX1_tagItem_2 13 rfl rfl)
abbrev cX1_checkState : ByteArray := prog_1_method_16_code
def yX1_checkState : MethodName := ⟨RX1, "checkState", "(Z)V"⟩
def dkwX1_checkState_0 : List UInt8 := [26, 154, 0, 11, 187, 1, 0, 89, 183, 1, 2, 191, 177]
abbrev dktX1_checkState_0 : List UInt8 := dkwX1_checkState_0 ++ []
theorem dksX1_checkState_0 : cX1_checkState.data.toList.drop 0 = dktX1_checkState_0 := by decide +kernel
theorem dX1_checkState_0 : decode cX1_checkState 0 = .ok (.iload_n 0, 1) := dk_26 (dk_at dksX1_checkState_0 0 rfl rfl)
theorem dX1_checkState_1 : decode cX1_checkState 1 = .ok (.ifCond .ne 11, 3) := dk_154 0 11 (dk_at dksX1_checkState_0 1 rfl rfl)
theorem dX1_checkState_4 : decode cX1_checkState 4 = .ok (.new 256, 3) := dk_187 1 0 (dk_at dksX1_checkState_0 4 rfl rfl)
theorem dX1_checkState_7 : decode cX1_checkState 7 = .ok (.dup, 1) := dk_89 (dk_at dksX1_checkState_0 7 rfl rfl)
theorem dX1_checkState_8 : decode cX1_checkState 8 = .ok (.invokespecial 258, 3) := dk_183 1 2 (dk_at dksX1_checkState_0 8 rfl rfl)
theorem dX1_checkState_11 : decode cX1_checkState 11 = .ok (.athrow, 1) := dk_191 (dk_at dksX1_checkState_0 11 rfl rfl)
theorem dX1_checkState_12 : decode cX1_checkState 12 = .ok (.return_, 1) := dk_177 (dk_at dksX1_checkState_0 12 rfl rfl)
abbrev cX1_byDefault : ByteArray := prog_1_method_23_code
def yX1_byDefault : MethodName := ⟨RX1, "byDefault", "(I)I"⟩
def dkwX1_byDefault_1 : List UInt8 := [181, 0, 40, 29, 172]
abbrev dktX1_byDefault_1 : List UInt8 := dkwX1_byDefault_1 ++ []
def dkwX1_byDefault_0 : List UInt8 := [42, 180, 0, 233, 27, 182, 1, 19, 192, 0, 44, 77, 42, 180, 0, 40, 184, 1, 22, 62, 42, 44]
abbrev dktX1_byDefault_0 : List UInt8 := dkwX1_byDefault_0 ++ dktX1_byDefault_1
theorem dksX1_byDefault_0 : cX1_byDefault.data.toList.drop 0 = dktX1_byDefault_0 := by decide +kernel
theorem dksX1_byDefault_1 : cX1_byDefault.data.toList.drop 22 = dktX1_byDefault_1 := dk_seg dksX1_byDefault_0 22 rfl rfl
theorem dX1_byDefault_0 : decode cX1_byDefault 0 = .ok (.aload_n 0, 1) := dk_42 (dk_at dksX1_byDefault_0 0 rfl rfl)
theorem dX1_byDefault_1 : decode cX1_byDefault 1 = .ok (.getfield 233, 3) := dk_180 0 233 (dk_at dksX1_byDefault_0 1 rfl rfl)
theorem dX1_byDefault_4 : decode cX1_byDefault 4 = .ok (.iload_n 1, 1) := dk_27 (dk_at dksX1_byDefault_0 4 rfl rfl)
theorem dX1_byDefault_5 : decode cX1_byDefault 5 = .ok (.invokevirtual 275, 3) := dk_182 1 19 (dk_at dksX1_byDefault_0 5 rfl rfl)
theorem dX1_byDefault_8 : decode cX1_byDefault 8 = .ok (.checkcast 44, 3) := dk_192 0 44 (dk_at dksX1_byDefault_0 8 rfl rfl)
theorem dX1_byDefault_11 : decode cX1_byDefault 11 = .ok (.astore_n 2, 1) := dk_77 (dk_at dksX1_byDefault_0 11 rfl rfl)
theorem dX1_byDefault_12 : decode cX1_byDefault 12 = .ok (.aload_n 0, 1) := dk_42 (dk_at dksX1_byDefault_0 12 rfl rfl)
theorem dX1_byDefault_13 : decode cX1_byDefault 13 = .ok (.getfield 40, 3) := dk_180 0 40 (dk_at dksX1_byDefault_0 13 rfl rfl)
theorem dX1_byDefault_16 : decode cX1_byDefault 16 = .ok (.invokestatic 278, 3) := dk_184 1 22 (dk_at dksX1_byDefault_0 16 rfl rfl)
theorem dX1_byDefault_19 : decode cX1_byDefault 19 = .ok (.istore_n 3, 1) := dk_62 (dk_at dksX1_byDefault_0 19 rfl rfl)
theorem dX1_byDefault_20 : decode cX1_byDefault 20 = .ok (.aload_n 0, 1) := dk_42 (dk_at dksX1_byDefault_0 20 rfl rfl)
theorem dX1_byDefault_21 : decode cX1_byDefault 21 = .ok (.aload_n 2, 1) := dk_44 (dk_at dksX1_byDefault_0 21 rfl rfl)
theorem dX1_byDefault_22 : decode cX1_byDefault 22 = .ok (.putfield 40, 3) := dk_181 0 40 (dk_at dksX1_byDefault_1 0 rfl rfl)
theorem dX1_byDefault_25 : decode cX1_byDefault 25 = .ok (.iload_n 3, 1) := dk_29 (dk_at dksX1_byDefault_1 3 rfl rfl)
theorem dX1_byDefault_26 : decode cX1_byDefault 26 = .ok (.ireturn, 1) := dk_172 (dk_at dksX1_byDefault_1 4 rfl rfl)
abbrev cX1_item : ByteArray := prog_1_method_24_code
def yX1_item : MethodName := ⟨RX1, "item", "(IIII)I"⟩
def dkwX1_item_3 : List UInt8 := [182, 1, 9, 172]
abbrev dktX1_item_3 : List UInt8 := dkwX1_item_3 ++ []
def dkwX1_item_2 : List UInt8 := [187, 0, 22, 89, 42, 180, 0, 214, 182, 0, 97, 25, 5, 28, 29, 21, 4, 42, 180, 0, 125, 183, 1, 29]
abbrev dktX1_item_2 : List UInt8 := dkwX1_item_2 ++ dktX1_item_3
def dkwX1_item_1 : List UInt8 := [184, 1, 12, 21, 4, 4, 16, 50, 184, 1, 12, 42, 180, 0, 214, 182, 1, 6, 42, 180, 0, 214]
abbrev dktX1_item_1 : List UInt8 := dkwX1_item_1 ++ dktX1_item_2
def dkwX1_item_0 : List UInt8 := [42, 180, 0, 230, 27, 182, 0, 100, 192, 0, 28, 58, 5, 28, 3, 16, 9, 184, 1, 12, 29, 3, 16, 9]
abbrev dktX1_item_0 : List UInt8 := dkwX1_item_0 ++ dktX1_item_1
theorem dksX1_item_0 : cX1_item.data.toList.drop 0 = dktX1_item_0 := by decide +kernel
theorem dksX1_item_1 : cX1_item.data.toList.drop 24 = dktX1_item_1 := dk_seg dksX1_item_0 24 rfl rfl
theorem dksX1_item_2 : cX1_item.data.toList.drop 46 = dktX1_item_2 := dk_seg dksX1_item_1 22 rfl rfl
theorem dksX1_item_3 : cX1_item.data.toList.drop 70 = dktX1_item_3 := dk_seg dksX1_item_2 24 rfl rfl
theorem dX1_item_0 : decode cX1_item 0 = .ok (.aload_n 0, 1) := dk_42 (dk_at dksX1_item_0 0 rfl rfl)
theorem dX1_item_1 : decode cX1_item 1 = .ok (.getfield 230, 3) := dk_180 0 230 (dk_at dksX1_item_0 1 rfl rfl)
theorem dX1_item_4 : decode cX1_item 4 = .ok (.iload_n 1, 1) := dk_27 (dk_at dksX1_item_0 4 rfl rfl)
theorem dX1_item_5 : decode cX1_item 5 = .ok (.invokevirtual 100, 3) := dk_182 0 100 (dk_at dksX1_item_0 5 rfl rfl)
theorem dX1_item_8 : decode cX1_item 8 = .ok (.checkcast 28, 3) := dk_192 0 28 (dk_at dksX1_item_0 8 rfl rfl)
theorem dX1_item_11 : decode cX1_item 11 = .ok (.astore 5, 2) := dk_58 5 (dk_at dksX1_item_0 11 rfl rfl)
theorem dX1_item_13 : decode cX1_item 13 = .ok (.iload_n 2, 1) := dk_28 (dk_at dksX1_item_0 13 rfl rfl)
theorem dX1_item_14 : decode cX1_item 14 = .ok (.iconst 0, 1) := dk_3 (dk_at dksX1_item_0 14 rfl rfl)
theorem dX1_item_15 : decode cX1_item 15 = .ok (.bipush 9, 2) := dk_16 9 (dk_at dksX1_item_0 15 rfl rfl)
theorem dX1_item_17 : decode cX1_item 17 = .ok (.invokestatic 268, 3) := dk_184 1 12 (dk_at dksX1_item_0 17 rfl rfl)
theorem dX1_item_20 : decode cX1_item 20 = .ok (.iload_n 3, 1) := dk_29 (dk_at dksX1_item_0 20 rfl rfl)
theorem dX1_item_21 : decode cX1_item 21 = .ok (.iconst 0, 1) := dk_3 (dk_at dksX1_item_0 21 rfl rfl)
theorem dX1_item_22 : decode cX1_item 22 = .ok (.bipush 9, 2) := dk_16 9 (dk_at dksX1_item_0 22 rfl rfl)
theorem dX1_item_24 : decode cX1_item 24 = .ok (.invokestatic 268, 3) := dk_184 1 12 (dk_at dksX1_item_1 0 rfl rfl)
theorem dX1_item_27 : decode cX1_item 27 = .ok (.iload 4, 2) := dk_21 4 (dk_at dksX1_item_1 3 rfl rfl)
theorem dX1_item_29 : decode cX1_item 29 = .ok (.iconst 1, 1) := dk_4 (dk_at dksX1_item_1 5 rfl rfl)
theorem dX1_item_30 : decode cX1_item 30 = .ok (.bipush 50, 2) := dk_16 50 (dk_at dksX1_item_1 6 rfl rfl)
theorem dX1_item_32 : decode cX1_item 32 = .ok (.invokestatic 268, 3) := dk_184 1 12 (dk_at dksX1_item_1 8 rfl rfl)
theorem dX1_item_35 : decode cX1_item 35 = .ok (.aload_n 0, 1) := dk_42 (dk_at dksX1_item_1 11 rfl rfl)
theorem dX1_item_36 : decode cX1_item 36 = .ok (.getfield 214, 3) := dk_180 0 214 (dk_at dksX1_item_1 12 rfl rfl)
theorem dX1_item_39 : decode cX1_item 39 = .ok (.invokevirtual 262, 3) := dk_182 1 6 (dk_at dksX1_item_1 15 rfl rfl)
theorem dX1_item_42 : decode cX1_item 42 = .ok (.aload_n 0, 1) := dk_42 (dk_at dksX1_item_1 18 rfl rfl)
theorem dX1_item_43 : decode cX1_item 43 = .ok (.getfield 214, 3) := dk_180 0 214 (dk_at dksX1_item_1 19 rfl rfl)
theorem dX1_item_46 : decode cX1_item 46 = .ok (.new 22, 3) := dk_187 0 22 (dk_at dksX1_item_2 0 rfl rfl)
theorem dX1_item_49 : decode cX1_item 49 = .ok (.dup, 1) := dk_89 (dk_at dksX1_item_2 3 rfl rfl)
theorem dX1_item_50 : decode cX1_item 50 = .ok (.aload_n 0, 1) := dk_42 (dk_at dksX1_item_2 4 rfl rfl)
theorem dX1_item_51 : decode cX1_item 51 = .ok (.getfield 214, 3) := dk_180 0 214 (dk_at dksX1_item_2 5 rfl rfl)
theorem dX1_item_54 : decode cX1_item 54 = .ok (.invokevirtual 97, 3) := dk_182 0 97 (dk_at dksX1_item_2 8 rfl rfl)
theorem dX1_item_57 : decode cX1_item 57 = .ok (.aload 5, 2) := dk_25 5 (dk_at dksX1_item_2 11 rfl rfl)
theorem dX1_item_59 : decode cX1_item 59 = .ok (.iload_n 2, 1) := dk_28 (dk_at dksX1_item_2 13 rfl rfl)
theorem dX1_item_60 : decode cX1_item 60 = .ok (.iload_n 3, 1) := dk_29 (dk_at dksX1_item_2 14 rfl rfl)
theorem dX1_item_61 : decode cX1_item 61 = .ok (.iload 4, 2) := dk_21 4 (dk_at dksX1_item_2 15 rfl rfl)
theorem dX1_item_63 : decode cX1_item 63 = .ok (.aload_n 0, 1) := dk_42 (dk_at dksX1_item_2 17 rfl rfl)
theorem dX1_item_64 : decode cX1_item 64 = .ok (.getfield 125, 3) := dk_180 0 125 (dk_at dksX1_item_2 18 rfl rfl)
theorem dX1_item_67 : decode cX1_item 67 = .ok (.invokespecial 285, 3) := dk_183 1 29 (dk_at dksX1_item_2 21 rfl rfl)
theorem dX1_item_70 : decode cX1_item 70 = .ok (.invokevirtual 265, 3) := dk_182 1 9 (dk_at dksX1_item_3 0 rfl rfl)
theorem dX1_item_73 : decode cX1_item 73 = .ok (.ireturn, 1) := dk_172 (dk_at dksX1_item_3 3 rfl rfl)
abbrev cX1_meeting : ByteArray := prog_1_method_25_code
def yX1_meeting : MethodName := ⟨RX1, "meeting", "(II)I"⟩
def dkwX1_meeting_2 : List UInt8 := [21, 4, 172]
abbrev dktX1_meeting_2 : List UInt8 := dkwX1_meeting_2 ++ []
def dkwX1_meeting_1 : List UInt8 := [6, 159, 0, 7, 4, 167, 0, 4, 3, 184, 1, 25, 45, 180, 0, 67, 54, 4, 45, 28, 181, 0, 67]
abbrev dktX1_meeting_1 : List UInt8 := dkwX1_meeting_1 ++ dktX1_meeting_2
def dkwX1_meeting_0 : List UInt8 := [42, 180, 0, 214, 27, 182, 0, 100, 192, 0, 22, 78, 28, 2, 19, 1, 32, 184, 1, 12, 45, 180, 0, 113]
abbrev dktX1_meeting_0 : List UInt8 := dkwX1_meeting_0 ++ dktX1_meeting_1
theorem dksX1_meeting_0 : cX1_meeting.data.toList.drop 0 = dktX1_meeting_0 := by decide +kernel
theorem dksX1_meeting_1 : cX1_meeting.data.toList.drop 24 = dktX1_meeting_1 := dk_seg dksX1_meeting_0 24 rfl rfl
theorem dksX1_meeting_2 : cX1_meeting.data.toList.drop 47 = dktX1_meeting_2 := dk_seg dksX1_meeting_1 23 rfl rfl
theorem dX1_meeting_0 : decode cX1_meeting 0 = .ok (.aload_n 0, 1) := dk_42 (dk_at dksX1_meeting_0 0 rfl rfl)
theorem dX1_meeting_1 : decode cX1_meeting 1 = .ok (.getfield 214, 3) := dk_180 0 214 (dk_at dksX1_meeting_0 1 rfl rfl)
theorem dX1_meeting_4 : decode cX1_meeting 4 = .ok (.iload_n 1, 1) := dk_27 (dk_at dksX1_meeting_0 4 rfl rfl)
theorem dX1_meeting_5 : decode cX1_meeting 5 = .ok (.invokevirtual 100, 3) := dk_182 0 100 (dk_at dksX1_meeting_0 5 rfl rfl)
theorem dX1_meeting_8 : decode cX1_meeting 8 = .ok (.checkcast 22, 3) := dk_192 0 22 (dk_at dksX1_meeting_0 8 rfl rfl)
theorem dX1_meeting_11 : decode cX1_meeting 11 = .ok (.astore_n 3, 1) := dk_78 (dk_at dksX1_meeting_0 11 rfl rfl)
theorem dX1_meeting_12 : decode cX1_meeting 12 = .ok (.iload_n 2, 1) := dk_28 (dk_at dksX1_meeting_0 12 rfl rfl)
theorem dX1_meeting_13 : decode cX1_meeting 13 = .ok (.iconst (-1), 1) := dk_2 (dk_at dksX1_meeting_0 13 rfl rfl)
theorem dX1_meeting_14 : decode cX1_meeting 14 = .ok (.ldc_w 288, 3) := dk_19 1 32 (dk_at dksX1_meeting_0 14 rfl rfl)
theorem dX1_meeting_17 : decode cX1_meeting 17 = .ok (.invokestatic 268, 3) := dk_184 1 12 (dk_at dksX1_meeting_0 17 rfl rfl)
theorem dX1_meeting_20 : decode cX1_meeting 20 = .ok (.aload_n 3, 1) := dk_45 (dk_at dksX1_meeting_0 20 rfl rfl)
theorem dX1_meeting_21 : decode cX1_meeting 21 = .ok (.getfield 113, 3) := dk_180 0 113 (dk_at dksX1_meeting_0 21 rfl rfl)
theorem dX1_meeting_24 : decode cX1_meeting 24 = .ok (.iconst 3, 1) := dk_6 (dk_at dksX1_meeting_1 0 rfl rfl)
theorem dX1_meeting_25 : decode cX1_meeting 25 = .ok (.if_icmp .eq 7, 3) := dk_159 0 7 (dk_at dksX1_meeting_1 1 rfl rfl)
theorem dX1_meeting_28 : decode cX1_meeting 28 = .ok (.iconst 1, 1) := dk_4 (dk_at dksX1_meeting_1 4 rfl rfl)
theorem dX1_meeting_29 : decode cX1_meeting 29 = .ok (.goto 4, 3) := dk_167 0 4 (dk_at dksX1_meeting_1 5 rfl rfl)
theorem dX1_meeting_32 : decode cX1_meeting 32 = .ok (.iconst 0, 1) := dk_3 (dk_at dksX1_meeting_1 8 rfl rfl)
theorem dX1_meeting_33 : decode cX1_meeting 33 = .ok (.invokestatic 281, 3) := dk_184 1 25 (dk_at dksX1_meeting_1 9 rfl rfl)
theorem dX1_meeting_36 : decode cX1_meeting 36 = .ok (.aload_n 3, 1) := dk_45 (dk_at dksX1_meeting_1 12 rfl rfl)
theorem dX1_meeting_37 : decode cX1_meeting 37 = .ok (.getfield 67, 3) := dk_180 0 67 (dk_at dksX1_meeting_1 13 rfl rfl)
theorem dX1_meeting_40 : decode cX1_meeting 40 = .ok (.istore 4, 2) := dk_54 4 (dk_at dksX1_meeting_1 16 rfl rfl)
theorem dX1_meeting_42 : decode cX1_meeting 42 = .ok (.aload_n 3, 1) := dk_45 (dk_at dksX1_meeting_1 18 rfl rfl)
theorem dX1_meeting_43 : decode cX1_meeting 43 = .ok (.iload_n 2, 1) := dk_28 (dk_at dksX1_meeting_1 19 rfl rfl)
theorem dX1_meeting_44 : decode cX1_meeting 44 = .ok (.putfield 67, 3) := dk_181 0 67 (dk_at dksX1_meeting_1 20 rfl rfl)
theorem dX1_meeting_47 : decode cX1_meeting 47 = .ok (.iload 4, 2) := dk_21 4 (dk_at dksX1_meeting_2 0 rfl rfl)
theorem dX1_meeting_49 : decode cX1_meeting 49 = .ok (.ireturn, 1) := dk_172 (dk_at dksX1_meeting_2 2 rfl rfl)
abbrev cX1_event : ByteArray := prog_1_method_26_code
def yX1_event : MethodName := ⟨RX1, "event", "(II)I"⟩
def dkwX1_event_3 : List UInt8 := [172]
abbrev dktX1_event_3 : List UInt8 := dkwX1_event_3 ++ []
def dkwX1_event_2 : List UInt8 := [184, 0, 53, 185, 1, 35, 3, 0, 192, 0, 54, 78, 45, 199, 0, 7, 2, 167, 0, 7, 45, 182, 0, 64]
abbrev dktX1_event_2 : List UInt8 := dkwX1_event_2 ++ dktX1_event_3
def dkwX1_event_1 : List UInt8 := [184, 0, 53, 185, 1, 33, 2, 0, 192, 0, 54, 167, 0, 23, 42, 180, 0, 49, 27, 184, 0, 53, 28]
abbrev dktX1_event_1 : List UInt8 := dkwX1_event_1 ++ dktX1_event_2
def dkwX1_event_0 : List UInt8 := [27, 3, 6, 184, 1, 12, 28, 2, 19, 1, 32, 184, 1, 12, 28, 2, 160, 0, 22, 42, 180, 0, 49, 27]
abbrev dktX1_event_0 : List UInt8 := dkwX1_event_0 ++ dktX1_event_1
theorem dksX1_event_0 : cX1_event.data.toList.drop 0 = dktX1_event_0 := by decide +kernel
theorem dksX1_event_1 : cX1_event.data.toList.drop 24 = dktX1_event_1 := dk_seg dksX1_event_0 24 rfl rfl
theorem dksX1_event_2 : cX1_event.data.toList.drop 47 = dktX1_event_2 := dk_seg dksX1_event_1 23 rfl rfl
theorem dksX1_event_3 : cX1_event.data.toList.drop 71 = dktX1_event_3 := dk_seg dksX1_event_2 24 rfl rfl
theorem dX1_event_0 : decode cX1_event 0 = .ok (.iload_n 1, 1) := dk_27 (dk_at dksX1_event_0 0 rfl rfl)
theorem dX1_event_1 : decode cX1_event 1 = .ok (.iconst 0, 1) := dk_3 (dk_at dksX1_event_0 1 rfl rfl)
theorem dX1_event_2 : decode cX1_event 2 = .ok (.iconst 3, 1) := dk_6 (dk_at dksX1_event_0 2 rfl rfl)
theorem dX1_event_3 : decode cX1_event 3 = .ok (.invokestatic 268, 3) := dk_184 1 12 (dk_at dksX1_event_0 3 rfl rfl)
theorem dX1_event_6 : decode cX1_event 6 = .ok (.iload_n 2, 1) := dk_28 (dk_at dksX1_event_0 6 rfl rfl)
theorem dX1_event_7 : decode cX1_event 7 = .ok (.iconst (-1), 1) := dk_2 (dk_at dksX1_event_0 7 rfl rfl)
theorem dX1_event_8 : decode cX1_event 8 = .ok (.ldc_w 288, 3) := dk_19 1 32 (dk_at dksX1_event_0 8 rfl rfl)
theorem dX1_event_11 : decode cX1_event 11 = .ok (.invokestatic 268, 3) := dk_184 1 12 (dk_at dksX1_event_0 11 rfl rfl)
theorem dX1_event_14 : decode cX1_event 14 = .ok (.iload_n 2, 1) := dk_28 (dk_at dksX1_event_0 14 rfl rfl)
theorem dX1_event_15 : decode cX1_event 15 = .ok (.iconst (-1), 1) := dk_2 (dk_at dksX1_event_0 15 rfl rfl)
theorem dX1_event_16 : decode cX1_event 16 = .ok (.if_icmp .ne 22, 3) := dk_160 0 22 (dk_at dksX1_event_0 16 rfl rfl)
theorem dX1_event_19 : decode cX1_event 19 = .ok (.aload_n 0, 1) := dk_42 (dk_at dksX1_event_0 19 rfl rfl)
theorem dX1_event_20 : decode cX1_event 20 = .ok (.getfield 49, 3) := dk_180 0 49 (dk_at dksX1_event_0 20 rfl rfl)
theorem dX1_event_23 : decode cX1_event 23 = .ok (.iload_n 1, 1) := dk_27 (dk_at dksX1_event_0 23 rfl rfl)
theorem dX1_event_24 : decode cX1_event 24 = .ok (.invokestatic 53, 3) := dk_184 0 53 (dk_at dksX1_event_1 0 rfl rfl)
theorem dX1_event_27 : decode cX1_event 27 = .ok (.invokeinterface 289 2, 5) := by decide +kernel
theorem dX1_event_32 : decode cX1_event 32 = .ok (.checkcast 54, 3) := dk_192 0 54 (dk_at dksX1_event_1 8 rfl rfl)
theorem dX1_event_35 : decode cX1_event 35 = .ok (.goto 23, 3) := dk_167 0 23 (dk_at dksX1_event_1 11 rfl rfl)
theorem dX1_event_38 : decode cX1_event 38 = .ok (.aload_n 0, 1) := dk_42 (dk_at dksX1_event_1 14 rfl rfl)
theorem dX1_event_39 : decode cX1_event 39 = .ok (.getfield 49, 3) := dk_180 0 49 (dk_at dksX1_event_1 15 rfl rfl)
theorem dX1_event_42 : decode cX1_event 42 = .ok (.iload_n 1, 1) := dk_27 (dk_at dksX1_event_1 18 rfl rfl)
theorem dX1_event_43 : decode cX1_event 43 = .ok (.invokestatic 53, 3) := dk_184 0 53 (dk_at dksX1_event_1 19 rfl rfl)
theorem dX1_event_46 : decode cX1_event 46 = .ok (.iload_n 2, 1) := dk_28 (dk_at dksX1_event_1 22 rfl rfl)
theorem dX1_event_47 : decode cX1_event 47 = .ok (.invokestatic 53, 3) := dk_184 0 53 (dk_at dksX1_event_2 0 rfl rfl)
theorem dX1_event_50 : decode cX1_event 50 = .ok (.invokeinterface 291 3, 5) := by decide +kernel
theorem dX1_event_55 : decode cX1_event 55 = .ok (.checkcast 54, 3) := dk_192 0 54 (dk_at dksX1_event_2 8 rfl rfl)
theorem dX1_event_58 : decode cX1_event 58 = .ok (.astore_n 3, 1) := dk_78 (dk_at dksX1_event_2 11 rfl rfl)
theorem dX1_event_59 : decode cX1_event 59 = .ok (.aload_n 3, 1) := dk_45 (dk_at dksX1_event_2 12 rfl rfl)
theorem dX1_event_60 : decode cX1_event 60 = .ok (.ifnonnull 7, 3) := dk_199 0 7 (dk_at dksX1_event_2 13 rfl rfl)
theorem dX1_event_63 : decode cX1_event 63 = .ok (.iconst (-1), 1) := dk_2 (dk_at dksX1_event_2 16 rfl rfl)
theorem dX1_event_64 : decode cX1_event 64 = .ok (.goto 7, 3) := dk_167 0 7 (dk_at dksX1_event_2 17 rfl rfl)
theorem dX1_event_67 : decode cX1_event 67 = .ok (.aload_n 3, 1) := dk_45 (dk_at dksX1_event_2 20 rfl rfl)
theorem dX1_event_68 : decode cX1_event 68 = .ok (.invokevirtual 64, 3) := dk_182 0 64 (dk_at dksX1_event_2 21 rfl rfl)
theorem dX1_event_71 : decode cX1_event 71 = .ok (.ireturn, 1) := dk_172 (dk_at dksX1_event_3 0 rfl rfl)
abbrev cX1_move : ByteArray := prog_1_method_27_code
def yX1_move : MethodName := ⟨RX1, "move", "(II)I"⟩
def dkwX1_move_2 : List UInt8 := [21, 5, 172]
abbrev dktX1_move_2 : List UInt8 := dkwX1_move_2 ++ []
def dkwX1_move_1 : List UInt8 := [58, 4, 45, 182, 0, 138, 184, 1, 25, 45, 180, 0, 21, 180, 1, 39, 54, 5, 45, 25, 4, 181, 0, 21]
abbrev dktX1_move_1 : List UInt8 := dkwX1_move_1 ++ dktX1_move_2
def dkwX1_move_0 : List UInt8 := [42, 180, 0, 214, 27, 182, 0, 100, 192, 0, 22, 78, 42, 180, 0, 230, 28, 182, 0, 100, 192, 0, 28]
abbrev dktX1_move_0 : List UInt8 := dkwX1_move_0 ++ dktX1_move_1
theorem dksX1_move_0 : cX1_move.data.toList.drop 0 = dktX1_move_0 := by decide +kernel
theorem dksX1_move_1 : cX1_move.data.toList.drop 23 = dktX1_move_1 := dk_seg dksX1_move_0 23 rfl rfl
theorem dksX1_move_2 : cX1_move.data.toList.drop 47 = dktX1_move_2 := dk_seg dksX1_move_1 24 rfl rfl
theorem dX1_move_0 : decode cX1_move 0 = .ok (.aload_n 0, 1) := dk_42 (dk_at dksX1_move_0 0 rfl rfl)
theorem dX1_move_1 : decode cX1_move 1 = .ok (.getfield 214, 3) := dk_180 0 214 (dk_at dksX1_move_0 1 rfl rfl)
theorem dX1_move_4 : decode cX1_move 4 = .ok (.iload_n 1, 1) := dk_27 (dk_at dksX1_move_0 4 rfl rfl)
theorem dX1_move_5 : decode cX1_move 5 = .ok (.invokevirtual 100, 3) := dk_182 0 100 (dk_at dksX1_move_0 5 rfl rfl)
theorem dX1_move_8 : decode cX1_move 8 = .ok (.checkcast 22, 3) := dk_192 0 22 (dk_at dksX1_move_0 8 rfl rfl)
theorem dX1_move_11 : decode cX1_move 11 = .ok (.astore_n 3, 1) := dk_78 (dk_at dksX1_move_0 11 rfl rfl)
theorem dX1_move_12 : decode cX1_move 12 = .ok (.aload_n 0, 1) := dk_42 (dk_at dksX1_move_0 12 rfl rfl)
theorem dX1_move_13 : decode cX1_move 13 = .ok (.getfield 230, 3) := dk_180 0 230 (dk_at dksX1_move_0 13 rfl rfl)
theorem dX1_move_16 : decode cX1_move 16 = .ok (.iload_n 2, 1) := dk_28 (dk_at dksX1_move_0 16 rfl rfl)
theorem dX1_move_17 : decode cX1_move 17 = .ok (.invokevirtual 100, 3) := dk_182 0 100 (dk_at dksX1_move_0 17 rfl rfl)
theorem dX1_move_20 : decode cX1_move 20 = .ok (.checkcast 28, 3) := dk_192 0 28 (dk_at dksX1_move_0 20 rfl rfl)
theorem dX1_move_23 : decode cX1_move 23 = .ok (.astore 4, 2) := dk_58 4 (dk_at dksX1_move_1 0 rfl rfl)
theorem dX1_move_25 : decode cX1_move 25 = .ok (.aload_n 3, 1) := dk_45 (dk_at dksX1_move_1 2 rfl rfl)
theorem dX1_move_26 : decode cX1_move 26 = .ok (.invokevirtual 138, 3) := dk_182 0 138 (dk_at dksX1_move_1 3 rfl rfl)
theorem dX1_move_29 : decode cX1_move 29 = .ok (.invokestatic 281, 3) := dk_184 1 25 (dk_at dksX1_move_1 6 rfl rfl)
theorem dX1_move_32 : decode cX1_move 32 = .ok (.aload_n 3, 1) := dk_45 (dk_at dksX1_move_1 9 rfl rfl)
theorem dX1_move_33 : decode cX1_move 33 = .ok (.getfield 21, 3) := dk_180 0 21 (dk_at dksX1_move_1 10 rfl rfl)
theorem dX1_move_36 : decode cX1_move 36 = .ok (.getfield 295, 3) := dk_180 1 39 (dk_at dksX1_move_1 13 rfl rfl)
theorem dX1_move_39 : decode cX1_move 39 = .ok (.istore 5, 2) := dk_54 5 (dk_at dksX1_move_1 16 rfl rfl)
theorem dX1_move_41 : decode cX1_move 41 = .ok (.aload_n 3, 1) := dk_45 (dk_at dksX1_move_1 18 rfl rfl)
theorem dX1_move_42 : decode cX1_move 42 = .ok (.aload 4, 2) := dk_25 4 (dk_at dksX1_move_1 19 rfl rfl)
theorem dX1_move_44 : decode cX1_move 44 = .ok (.putfield 21, 3) := dk_181 0 21 (dk_at dksX1_move_1 21 rfl rfl)
theorem dX1_move_47 : decode cX1_move 47 = .ok (.iload 5, 2) := dk_21 5 (dk_at dksX1_move_2 0 rfl rfl)
theorem dX1_move_49 : decode cX1_move 49 = .ok (.ireturn, 1) := dk_172 (dk_at dksX1_move_2 2 rfl rfl)
abbrev cX1_edit : ByteArray := prog_1_method_28_code
def yX1_edit : MethodName := ⟨RX1, "edit", "(II)I"⟩
def dkwX1_edit_4 : List UInt8 := [182, 1, 9, 54, 5, 42, 182, 0, 221, 21, 5, 172]
abbrev dktX1_edit_4 : List UInt8 := dkwX1_edit_4 ++ []
def dkwX1_edit_3 : List UInt8 := [58, 4, 25, 4, 5, 42, 180, 0, 125, 182, 0, 158, 45, 28, 181, 1, 41, 42, 180, 0, 214, 25, 4]
abbrev dktX1_edit_3 : List UInt8 := dkwX1_edit_3 ++ dktX1_edit_4
def dkwX1_edit_2 : List UInt8 := [2, 172, 42, 180, 0, 214, 182, 1, 6, 187, 0, 22, 89, 42, 180, 0, 214, 182, 0, 97, 45, 183, 1, 44]
abbrev dktX1_edit_2 : List UInt8 := dkwX1_edit_2 ++ dktX1_edit_3
def dkwX1_edit_1 : List UInt8 := [184, 1, 25, 45, 180, 1, 41, 28, 159, 0, 11, 42, 45, 182, 0, 116, 154, 0, 10, 45, 28, 181, 1, 41]
abbrev dktX1_edit_1 : List UInt8 := dkwX1_edit_1 ++ dktX1_edit_2
def dkwX1_edit_0 : List UInt8 := [42, 180, 0, 214, 27, 182, 0, 100, 192, 0, 22, 78, 28, 3, 16, 9, 184, 1, 12, 45, 182, 0, 138]
abbrev dktX1_edit_0 : List UInt8 := dkwX1_edit_0 ++ dktX1_edit_1
theorem dksX1_edit_0 : cX1_edit.data.toList.drop 0 = dktX1_edit_0 := by decide +kernel
theorem dksX1_edit_1 : cX1_edit.data.toList.drop 23 = dktX1_edit_1 := dk_seg dksX1_edit_0 23 rfl rfl
theorem dksX1_edit_2 : cX1_edit.data.toList.drop 47 = dktX1_edit_2 := dk_seg dksX1_edit_1 24 rfl rfl
theorem dksX1_edit_3 : cX1_edit.data.toList.drop 71 = dktX1_edit_3 := dk_seg dksX1_edit_2 24 rfl rfl
theorem dksX1_edit_4 : cX1_edit.data.toList.drop 94 = dktX1_edit_4 := dk_seg dksX1_edit_3 23 rfl rfl
theorem dX1_edit_0 : decode cX1_edit 0 = .ok (.aload_n 0, 1) := dk_42 (dk_at dksX1_edit_0 0 rfl rfl)
theorem dX1_edit_1 : decode cX1_edit 1 = .ok (.getfield 214, 3) := dk_180 0 214 (dk_at dksX1_edit_0 1 rfl rfl)
theorem dX1_edit_4 : decode cX1_edit 4 = .ok (.iload_n 1, 1) := dk_27 (dk_at dksX1_edit_0 4 rfl rfl)
theorem dX1_edit_5 : decode cX1_edit 5 = .ok (.invokevirtual 100, 3) := dk_182 0 100 (dk_at dksX1_edit_0 5 rfl rfl)
theorem dX1_edit_8 : decode cX1_edit 8 = .ok (.checkcast 22, 3) := dk_192 0 22 (dk_at dksX1_edit_0 8 rfl rfl)
theorem dX1_edit_11 : decode cX1_edit 11 = .ok (.astore_n 3, 1) := dk_78 (dk_at dksX1_edit_0 11 rfl rfl)
theorem dX1_edit_12 : decode cX1_edit 12 = .ok (.iload_n 2, 1) := dk_28 (dk_at dksX1_edit_0 12 rfl rfl)
theorem dX1_edit_13 : decode cX1_edit 13 = .ok (.iconst 0, 1) := dk_3 (dk_at dksX1_edit_0 13 rfl rfl)
theorem dX1_edit_14 : decode cX1_edit 14 = .ok (.bipush 9, 2) := dk_16 9 (dk_at dksX1_edit_0 14 rfl rfl)
theorem dX1_edit_16 : decode cX1_edit 16 = .ok (.invokestatic 268, 3) := dk_184 1 12 (dk_at dksX1_edit_0 16 rfl rfl)
theorem dX1_edit_19 : decode cX1_edit 19 = .ok (.aload_n 3, 1) := dk_45 (dk_at dksX1_edit_0 19 rfl rfl)
theorem dX1_edit_20 : decode cX1_edit 20 = .ok (.invokevirtual 138, 3) := dk_182 0 138 (dk_at dksX1_edit_0 20 rfl rfl)
theorem dX1_edit_23 : decode cX1_edit 23 = .ok (.invokestatic 281, 3) := dk_184 1 25 (dk_at dksX1_edit_1 0 rfl rfl)
theorem dX1_edit_26 : decode cX1_edit 26 = .ok (.aload_n 3, 1) := dk_45 (dk_at dksX1_edit_1 3 rfl rfl)
theorem dX1_edit_27 : decode cX1_edit 27 = .ok (.getfield 297, 3) := dk_180 1 41 (dk_at dksX1_edit_1 4 rfl rfl)
theorem dX1_edit_30 : decode cX1_edit 30 = .ok (.iload_n 2, 1) := dk_28 (dk_at dksX1_edit_1 7 rfl rfl)
theorem dX1_edit_31 : decode cX1_edit 31 = .ok (.if_icmp .eq 11, 3) := dk_159 0 11 (dk_at dksX1_edit_1 8 rfl rfl)
theorem dX1_edit_34 : decode cX1_edit 34 = .ok (.aload_n 0, 1) := dk_42 (dk_at dksX1_edit_1 11 rfl rfl)
theorem dX1_edit_35 : decode cX1_edit 35 = .ok (.aload_n 3, 1) := dk_45 (dk_at dksX1_edit_1 12 rfl rfl)
theorem dX1_edit_36 : decode cX1_edit 36 = .ok (.invokevirtual 116, 3) := dk_182 0 116 (dk_at dksX1_edit_1 13 rfl rfl)
theorem dX1_edit_39 : decode cX1_edit 39 = .ok (.ifCond .ne 10, 3) := dk_154 0 10 (dk_at dksX1_edit_1 16 rfl rfl)
theorem dX1_edit_42 : decode cX1_edit 42 = .ok (.aload_n 3, 1) := dk_45 (dk_at dksX1_edit_1 19 rfl rfl)
theorem dX1_edit_43 : decode cX1_edit 43 = .ok (.iload_n 2, 1) := dk_28 (dk_at dksX1_edit_1 20 rfl rfl)
theorem dX1_edit_44 : decode cX1_edit 44 = .ok (.putfield 297, 3) := dk_181 1 41 (dk_at dksX1_edit_1 21 rfl rfl)
theorem dX1_edit_47 : decode cX1_edit 47 = .ok (.iconst (-1), 1) := dk_2 (dk_at dksX1_edit_2 0 rfl rfl)
theorem dX1_edit_48 : decode cX1_edit 48 = .ok (.ireturn, 1) := dk_172 (dk_at dksX1_edit_2 1 rfl rfl)
theorem dX1_edit_49 : decode cX1_edit 49 = .ok (.aload_n 0, 1) := dk_42 (dk_at dksX1_edit_2 2 rfl rfl)
theorem dX1_edit_50 : decode cX1_edit 50 = .ok (.getfield 214, 3) := dk_180 0 214 (dk_at dksX1_edit_2 3 rfl rfl)
theorem dX1_edit_53 : decode cX1_edit 53 = .ok (.invokevirtual 262, 3) := dk_182 1 6 (dk_at dksX1_edit_2 6 rfl rfl)
theorem dX1_edit_56 : decode cX1_edit 56 = .ok (.new 22, 3) := dk_187 0 22 (dk_at dksX1_edit_2 9 rfl rfl)
theorem dX1_edit_59 : decode cX1_edit 59 = .ok (.dup, 1) := dk_89 (dk_at dksX1_edit_2 12 rfl rfl)
theorem dX1_edit_60 : decode cX1_edit 60 = .ok (.aload_n 0, 1) := dk_42 (dk_at dksX1_edit_2 13 rfl rfl)
theorem dX1_edit_61 : decode cX1_edit 61 = .ok (.getfield 214, 3) := dk_180 0 214 (dk_at dksX1_edit_2 14 rfl rfl)
theorem dX1_edit_64 : decode cX1_edit 64 = .ok (.invokevirtual 97, 3) := dk_182 0 97 (dk_at dksX1_edit_2 17 rfl rfl)
theorem dX1_edit_67 : decode cX1_edit 67 = .ok (.aload_n 3, 1) := dk_45 (dk_at dksX1_edit_2 20 rfl rfl)
theorem dX1_edit_68 : decode cX1_edit 68 = .ok (.invokespecial 300, 3) := dk_183 1 44 (dk_at dksX1_edit_2 21 rfl rfl)
theorem dX1_edit_71 : decode cX1_edit 71 = .ok (.astore 4, 2) := dk_58 4 (dk_at dksX1_edit_3 0 rfl rfl)
theorem dX1_edit_73 : decode cX1_edit 73 = .ok (.aload 4, 2) := dk_25 4 (dk_at dksX1_edit_3 2 rfl rfl)
theorem dX1_edit_75 : decode cX1_edit 75 = .ok (.iconst 2, 1) := dk_5 (dk_at dksX1_edit_3 4 rfl rfl)
theorem dX1_edit_76 : decode cX1_edit 76 = .ok (.aload_n 0, 1) := dk_42 (dk_at dksX1_edit_3 5 rfl rfl)
theorem dX1_edit_77 : decode cX1_edit 77 = .ok (.getfield 125, 3) := dk_180 0 125 (dk_at dksX1_edit_3 6 rfl rfl)
theorem dX1_edit_80 : decode cX1_edit 80 = .ok (.invokevirtual 158, 3) := dk_182 0 158 (dk_at dksX1_edit_3 9 rfl rfl)
theorem dX1_edit_83 : decode cX1_edit 83 = .ok (.aload_n 3, 1) := dk_45 (dk_at dksX1_edit_3 12 rfl rfl)
theorem dX1_edit_84 : decode cX1_edit 84 = .ok (.iload_n 2, 1) := dk_28 (dk_at dksX1_edit_3 13 rfl rfl)
theorem dX1_edit_85 : decode cX1_edit 85 = .ok (.putfield 297, 3) := dk_181 1 41 (dk_at dksX1_edit_3 14 rfl rfl)
theorem dX1_edit_88 : decode cX1_edit 88 = .ok (.aload_n 0, 1) := dk_42 (dk_at dksX1_edit_3 17 rfl rfl)
theorem dX1_edit_89 : decode cX1_edit 89 = .ok (.getfield 214, 3) := dk_180 0 214 (dk_at dksX1_edit_3 18 rfl rfl)
theorem dX1_edit_92 : decode cX1_edit 92 = .ok (.aload 4, 2) := dk_25 4 (dk_at dksX1_edit_3 21 rfl rfl)
theorem dX1_edit_94 : decode cX1_edit 94 = .ok (.invokevirtual 265, 3) := dk_182 1 9 (dk_at dksX1_edit_4 0 rfl rfl)
theorem dX1_edit_97 : decode cX1_edit 97 = .ok (.istore 5, 2) := dk_54 5 (dk_at dksX1_edit_4 3 rfl rfl)
theorem dX1_edit_99 : decode cX1_edit 99 = .ok (.aload_n 0, 1) := dk_42 (dk_at dksX1_edit_4 5 rfl rfl)
theorem dX1_edit_100 : decode cX1_edit 100 = .ok (.invokevirtual 221, 3) := dk_182 0 221 (dk_at dksX1_edit_4 6 rfl rfl)
theorem dX1_edit_103 : decode cX1_edit 103 = .ok (.iload 5, 2) := dk_21 5 (dk_at dksX1_edit_4 9 rfl rfl)
theorem dX1_edit_105 : decode cX1_edit 105 = .ok (.ireturn, 1) := dk_172 (dk_at dksX1_edit_4 11 rfl rfl)
abbrev cX1_countQuota : ByteArray := prog_1_method_12_code
def yX1_countQuota : MethodName := ⟨RX1, "countQuota", "()V"⟩
def dkwX1_countQuota_3 : List UInt8 := [180, 0, 208, 100, 60, 42, 45, 182, 0, 210, 167, 255, 221, 177]
abbrev dktX1_countQuota_3 : List UInt8 := dkwX1_countQuota_3 ++ []
def dkwX1_countQuota_2 : List UInt8 := [180, 0, 195, 164, 0, 33, 44, 182, 0, 202, 154, 0, 26, 44, 182, 0, 205, 192, 0, 22, 78, 27, 45]
abbrev dktX1_countQuota_2 : List UInt8 := dkwX1_countQuota_2 ++ dktX1_countQuota_3
def dkwX1_countQuota_1 : List UInt8 := [182, 0, 198, 167, 0, 17, 187, 0, 162, 89, 187, 0, 164, 89, 183, 0, 166, 183, 0, 167, 77, 27, 42]
abbrev dktX1_countQuota_1 : List UInt8 := dkwX1_countQuota_1 ++ dktX1_countQuota_2
def dkwX1_countQuota_0 : List UInt8 := [187, 0, 170, 89, 42, 5, 183, 0, 172, 182, 0, 192, 60, 27, 42, 180, 0, 195, 164, 0, 10, 42]
abbrev dktX1_countQuota_0 : List UInt8 := dkwX1_countQuota_0 ++ dktX1_countQuota_1
theorem dksX1_countQuota_0 : cX1_countQuota.data.toList.drop 0 = dktX1_countQuota_0 := by decide +kernel
theorem dksX1_countQuota_1 : cX1_countQuota.data.toList.drop 22 = dktX1_countQuota_1 := dk_seg dksX1_countQuota_0 22 rfl rfl
theorem dksX1_countQuota_2 : cX1_countQuota.data.toList.drop 45 = dktX1_countQuota_2 := dk_seg dksX1_countQuota_1 23 rfl rfl
theorem dksX1_countQuota_3 : cX1_countQuota.data.toList.drop 68 = dktX1_countQuota_3 := dk_seg dksX1_countQuota_2 23 rfl rfl
theorem dX1_countQuota_0 : decode cX1_countQuota 0 = .ok (.new 170, 3) := dk_187 0 170 (dk_at dksX1_countQuota_0 0 rfl rfl)
theorem dX1_countQuota_3 : decode cX1_countQuota 3 = .ok (.dup, 1) := dk_89 (dk_at dksX1_countQuota_0 3 rfl rfl)
theorem dX1_countQuota_4 : decode cX1_countQuota 4 = .ok (.aload_n 0, 1) := dk_42 (dk_at dksX1_countQuota_0 4 rfl rfl)
theorem dX1_countQuota_5 : decode cX1_countQuota 5 = .ok (.iconst 2, 1) := dk_5 (dk_at dksX1_countQuota_0 5 rfl rfl)
theorem dX1_countQuota_6 : decode cX1_countQuota 6 = .ok (.invokespecial 172, 3) := dk_183 0 172 (dk_at dksX1_countQuota_0 6 rfl rfl)
theorem dX1_countQuota_9 : decode cX1_countQuota 9 = .ok (.invokevirtual 192, 3) := dk_182 0 192 (dk_at dksX1_countQuota_0 9 rfl rfl)
theorem dX1_countQuota_12 : decode cX1_countQuota 12 = .ok (.istore_n 1, 1) := dk_60 (dk_at dksX1_countQuota_0 12 rfl rfl)
theorem dX1_countQuota_13 : decode cX1_countQuota 13 = .ok (.iload_n 1, 1) := dk_27 (dk_at dksX1_countQuota_0 13 rfl rfl)
theorem dX1_countQuota_14 : decode cX1_countQuota 14 = .ok (.aload_n 0, 1) := dk_42 (dk_at dksX1_countQuota_0 14 rfl rfl)
theorem dX1_countQuota_15 : decode cX1_countQuota 15 = .ok (.getfield 195, 3) := dk_180 0 195 (dk_at dksX1_countQuota_0 15 rfl rfl)
theorem dX1_countQuota_18 : decode cX1_countQuota 18 = .ok (.if_icmp .le 10, 3) := dk_164 0 10 (dk_at dksX1_countQuota_0 18 rfl rfl)
theorem dX1_countQuota_21 : decode cX1_countQuota 21 = .ok (.aload_n 0, 1) := dk_42 (dk_at dksX1_countQuota_0 21 rfl rfl)
theorem dX1_countQuota_22 : decode cX1_countQuota 22 = .ok (.invokevirtual 198, 3) := dk_182 0 198 (dk_at dksX1_countQuota_1 0 rfl rfl)
theorem dX1_countQuota_25 : decode cX1_countQuota 25 = .ok (.goto 17, 3) := dk_167 0 17 (dk_at dksX1_countQuota_1 3 rfl rfl)
theorem dX1_countQuota_28 : decode cX1_countQuota 28 = .ok (.new 162, 3) := dk_187 0 162 (dk_at dksX1_countQuota_1 6 rfl rfl)
theorem dX1_countQuota_31 : decode cX1_countQuota 31 = .ok (.dup, 1) := dk_89 (dk_at dksX1_countQuota_1 9 rfl rfl)
theorem dX1_countQuota_32 : decode cX1_countQuota 32 = .ok (.new 164, 3) := dk_187 0 164 (dk_at dksX1_countQuota_1 10 rfl rfl)
theorem dX1_countQuota_35 : decode cX1_countQuota 35 = .ok (.dup, 1) := dk_89 (dk_at dksX1_countQuota_1 13 rfl rfl)
theorem dX1_countQuota_36 : decode cX1_countQuota 36 = .ok (.invokespecial 166, 3) := dk_183 0 166 (dk_at dksX1_countQuota_1 14 rfl rfl)
theorem dX1_countQuota_39 : decode cX1_countQuota 39 = .ok (.invokespecial 167, 3) := dk_183 0 167 (dk_at dksX1_countQuota_1 17 rfl rfl)
theorem dX1_countQuota_42 : decode cX1_countQuota 42 = .ok (.astore_n 2, 1) := dk_77 (dk_at dksX1_countQuota_1 20 rfl rfl)
theorem dX1_countQuota_43 : decode cX1_countQuota 43 = .ok (.iload_n 1, 1) := dk_27 (dk_at dksX1_countQuota_1 21 rfl rfl)
theorem dX1_countQuota_44 : decode cX1_countQuota 44 = .ok (.aload_n 0, 1) := dk_42 (dk_at dksX1_countQuota_1 22 rfl rfl)
theorem dX1_countQuota_45 : decode cX1_countQuota 45 = .ok (.getfield 195, 3) := dk_180 0 195 (dk_at dksX1_countQuota_2 0 rfl rfl)
theorem dX1_countQuota_48 : decode cX1_countQuota 48 = .ok (.if_icmp .le 33, 3) := dk_164 0 33 (dk_at dksX1_countQuota_2 3 rfl rfl)
theorem dX1_countQuota_51 : decode cX1_countQuota 51 = .ok (.aload_n 2, 1) := dk_44 (dk_at dksX1_countQuota_2 6 rfl rfl)
theorem dX1_countQuota_52 : decode cX1_countQuota 52 = .ok (.invokevirtual 202, 3) := dk_182 0 202 (dk_at dksX1_countQuota_2 7 rfl rfl)
theorem dX1_countQuota_55 : decode cX1_countQuota 55 = .ok (.ifCond .ne 26, 3) := dk_154 0 26 (dk_at dksX1_countQuota_2 10 rfl rfl)
theorem dX1_countQuota_58 : decode cX1_countQuota 58 = .ok (.aload_n 2, 1) := dk_44 (dk_at dksX1_countQuota_2 13 rfl rfl)
theorem dX1_countQuota_59 : decode cX1_countQuota 59 = .ok (.invokevirtual 205, 3) := dk_182 0 205 (dk_at dksX1_countQuota_2 14 rfl rfl)
theorem dX1_countQuota_62 : decode cX1_countQuota 62 = .ok (.checkcast 22, 3) := dk_192 0 22 (dk_at dksX1_countQuota_2 17 rfl rfl)
theorem dX1_countQuota_65 : decode cX1_countQuota 65 = .ok (.astore_n 3, 1) := dk_78 (dk_at dksX1_countQuota_2 20 rfl rfl)
theorem dX1_countQuota_66 : decode cX1_countQuota 66 = .ok (.iload_n 1, 1) := dk_27 (dk_at dksX1_countQuota_2 21 rfl rfl)
theorem dX1_countQuota_67 : decode cX1_countQuota 67 = .ok (.aload_n 3, 1) := dk_45 (dk_at dksX1_countQuota_2 22 rfl rfl)
theorem dX1_countQuota_68 : decode cX1_countQuota 68 = .ok (.getfield 208, 3) := dk_180 0 208 (dk_at dksX1_countQuota_3 0 rfl rfl)
theorem dX1_countQuota_71 : decode cX1_countQuota 71 = .ok (.isub, 1) := dk_100 (dk_at dksX1_countQuota_3 3 rfl rfl)
theorem dX1_countQuota_72 : decode cX1_countQuota 72 = .ok (.istore_n 1, 1) := dk_60 (dk_at dksX1_countQuota_3 4 rfl rfl)
theorem dX1_countQuota_73 : decode cX1_countQuota 73 = .ok (.aload_n 0, 1) := dk_42 (dk_at dksX1_countQuota_3 5 rfl rfl)
theorem dX1_countQuota_74 : decode cX1_countQuota 74 = .ok (.aload_n 3, 1) := dk_45 (dk_at dksX1_countQuota_3 6 rfl rfl)
theorem dX1_countQuota_75 : decode cX1_countQuota 75 = .ok (.invokevirtual 210, 3) := dk_182 0 210 (dk_at dksX1_countQuota_3 7 rfl rfl)
theorem dX1_countQuota_78 : decode cX1_countQuota 78 = .ok (.goto (-35), 3) := dk_167 255 221 (dk_at dksX1_countQuota_3 10 rfl rfl)
theorem dX1_countQuota_81 : decode cX1_countQuota 81 = .ok (.return_, 1) := dk_177 (dk_at dksX1_countQuota_3 13 rfl rfl)
abbrev cX1_goers : ByteArray := prog_1_method_10_code
def yX1_goers : MethodName := ⟨RX1, "goers", "()Ljava/util/PriorityQueue;"⟩
def dkwX1_goers_2 : List UInt8 := [45, 182, 0, 116, 154, 0, 10, 43, 45, 182, 0, 188, 54, 4, 167, 255, 222, 43, 176]
abbrev dktX1_goers_2 : List UInt8 := dkwX1_goers_2 ++ []
def dkwX1_goers_1 : List UInt8 := [182, 0, 175, 77, 44, 185, 0, 179, 1, 0, 153, 0, 31, 44, 185, 0, 184, 1, 0, 192, 0, 22, 78, 42]
abbrev dktX1_goers_1 : List UInt8 := dkwX1_goers_1 ++ dktX1_goers_2
def dkwX1_goers_0 : List UInt8 := [187, 0, 162, 89, 187, 0, 164, 89, 183, 0, 166, 183, 0, 167, 76, 187, 0, 170, 89, 42, 5, 183, 0, 172]
abbrev dktX1_goers_0 : List UInt8 := dkwX1_goers_0 ++ dktX1_goers_1
theorem dksX1_goers_0 : cX1_goers.data.toList.drop 0 = dktX1_goers_0 := by decide +kernel
theorem dksX1_goers_1 : cX1_goers.data.toList.drop 24 = dktX1_goers_1 := dk_seg dksX1_goers_0 24 rfl rfl
theorem dksX1_goers_2 : cX1_goers.data.toList.drop 48 = dktX1_goers_2 := dk_seg dksX1_goers_1 24 rfl rfl
theorem dX1_goers_0 : decode cX1_goers 0 = .ok (.new 162, 3) := dk_187 0 162 (dk_at dksX1_goers_0 0 rfl rfl)
theorem dX1_goers_3 : decode cX1_goers 3 = .ok (.dup, 1) := dk_89 (dk_at dksX1_goers_0 3 rfl rfl)
theorem dX1_goers_4 : decode cX1_goers 4 = .ok (.new 164, 3) := dk_187 0 164 (dk_at dksX1_goers_0 4 rfl rfl)
theorem dX1_goers_7 : decode cX1_goers 7 = .ok (.dup, 1) := dk_89 (dk_at dksX1_goers_0 7 rfl rfl)
theorem dX1_goers_8 : decode cX1_goers 8 = .ok (.invokespecial 166, 3) := dk_183 0 166 (dk_at dksX1_goers_0 8 rfl rfl)
theorem dX1_goers_11 : decode cX1_goers 11 = .ok (.invokespecial 167, 3) := dk_183 0 167 (dk_at dksX1_goers_0 11 rfl rfl)
theorem dX1_goers_14 : decode cX1_goers 14 = .ok (.astore_n 1, 1) := dk_76 (dk_at dksX1_goers_0 14 rfl rfl)
theorem dX1_goers_15 : decode cX1_goers 15 = .ok (.new 170, 3) := dk_187 0 170 (dk_at dksX1_goers_0 15 rfl rfl)
theorem dX1_goers_18 : decode cX1_goers 18 = .ok (.dup, 1) := dk_89 (dk_at dksX1_goers_0 18 rfl rfl)
theorem dX1_goers_19 : decode cX1_goers 19 = .ok (.aload_n 0, 1) := dk_42 (dk_at dksX1_goers_0 19 rfl rfl)
theorem dX1_goers_20 : decode cX1_goers 20 = .ok (.iconst 2, 1) := dk_5 (dk_at dksX1_goers_0 20 rfl rfl)
theorem dX1_goers_21 : decode cX1_goers 21 = .ok (.invokespecial 172, 3) := dk_183 0 172 (dk_at dksX1_goers_0 21 rfl rfl)
theorem dX1_goers_24 : decode cX1_goers 24 = .ok (.invokevirtual 175, 3) := dk_182 0 175 (dk_at dksX1_goers_1 0 rfl rfl)
theorem dX1_goers_27 : decode cX1_goers 27 = .ok (.astore_n 2, 1) := dk_77 (dk_at dksX1_goers_1 3 rfl rfl)
theorem dX1_goers_28 : decode cX1_goers 28 = .ok (.aload_n 2, 1) := dk_44 (dk_at dksX1_goers_1 4 rfl rfl)
theorem dX1_goers_29 : decode cX1_goers 29 = .ok (.invokeinterface 179 1, 5) := by decide +kernel
theorem dX1_goers_34 : decode cX1_goers 34 = .ok (.ifCond .eq 31, 3) := dk_153 0 31 (dk_at dksX1_goers_1 10 rfl rfl)
theorem dX1_goers_37 : decode cX1_goers 37 = .ok (.aload_n 2, 1) := dk_44 (dk_at dksX1_goers_1 13 rfl rfl)
theorem dX1_goers_38 : decode cX1_goers 38 = .ok (.invokeinterface 184 1, 5) := by decide +kernel
theorem dX1_goers_43 : decode cX1_goers 43 = .ok (.checkcast 22, 3) := dk_192 0 22 (dk_at dksX1_goers_1 19 rfl rfl)
theorem dX1_goers_46 : decode cX1_goers 46 = .ok (.astore_n 3, 1) := dk_78 (dk_at dksX1_goers_1 22 rfl rfl)
theorem dX1_goers_47 : decode cX1_goers 47 = .ok (.aload_n 0, 1) := dk_42 (dk_at dksX1_goers_1 23 rfl rfl)
theorem dX1_goers_48 : decode cX1_goers 48 = .ok (.aload_n 3, 1) := dk_45 (dk_at dksX1_goers_2 0 rfl rfl)
theorem dX1_goers_49 : decode cX1_goers 49 = .ok (.invokevirtual 116, 3) := dk_182 0 116 (dk_at dksX1_goers_2 1 rfl rfl)
theorem dX1_goers_52 : decode cX1_goers 52 = .ok (.ifCond .ne 10, 3) := dk_154 0 10 (dk_at dksX1_goers_2 4 rfl rfl)
theorem dX1_goers_55 : decode cX1_goers 55 = .ok (.aload_n 1, 1) := dk_43 (dk_at dksX1_goers_2 7 rfl rfl)
theorem dX1_goers_56 : decode cX1_goers 56 = .ok (.aload_n 3, 1) := dk_45 (dk_at dksX1_goers_2 8 rfl rfl)
theorem dX1_goers_57 : decode cX1_goers 57 = .ok (.invokevirtual 188, 3) := dk_182 0 188 (dk_at dksX1_goers_2 9 rfl rfl)
theorem dX1_goers_60 : decode cX1_goers 60 = .ok (.istore 4, 2) := dk_54 4 (dk_at dksX1_goers_2 12 rfl rfl)
theorem dX1_goers_62 : decode cX1_goers 62 = .ok (.goto (-34), 3) := dk_167 255 222 (dk_at dksX1_goers_2 14 rfl rfl)
theorem dX1_goers_65 : decode cX1_goers 65 = .ok (.aload_n 1, 1) := dk_43 (dk_at dksX1_goers_2 17 rfl rfl)
theorem dX1_goers_66 : decode cX1_goers 66 = .ok (.areturn, 1) := dk_176 (dk_at dksX1_goers_2 18 rfl rfl)
abbrev cX1_loseItem : ByteArray := prog_1_method_11_code
def yX1_loseItem : MethodName := ⟨RX1, "loseItem", "(LHoldtag$Item;)V"⟩
def dkwX1_loseItem_0 : List UInt8 := [43, 6, 42, 180, 0, 125, 182, 0, 158, 42, 89, 180, 0, 189, 4, 96, 181, 0, 189, 177]
abbrev dktX1_loseItem_0 : List UInt8 := dkwX1_loseItem_0 ++ []
theorem dksX1_loseItem_0 : cX1_loseItem.data.toList.drop 0 = dktX1_loseItem_0 := by decide +kernel
theorem dX1_loseItem_0 : decode cX1_loseItem 0 = .ok (.aload_n 1, 1) := dk_43 (dk_at dksX1_loseItem_0 0 rfl rfl)
theorem dX1_loseItem_1 : decode cX1_loseItem 1 = .ok (.iconst 3, 1) := dk_6 (dk_at dksX1_loseItem_0 1 rfl rfl)
theorem dX1_loseItem_2 : decode cX1_loseItem 2 = .ok (.aload_n 0, 1) := dk_42 (dk_at dksX1_loseItem_0 2 rfl rfl)
theorem dX1_loseItem_3 : decode cX1_loseItem 3 = .ok (.getfield 125, 3) := dk_180 0 125 (dk_at dksX1_loseItem_0 3 rfl rfl)
theorem dX1_loseItem_6 : decode cX1_loseItem 6 = .ok (.invokevirtual 158, 3) := dk_182 0 158 (dk_at dksX1_loseItem_0 6 rfl rfl)
theorem dX1_loseItem_9 : decode cX1_loseItem 9 = .ok (.aload_n 0, 1) := dk_42 (dk_at dksX1_loseItem_0 9 rfl rfl)
theorem dX1_loseItem_10 : decode cX1_loseItem 10 = .ok (.dup, 1) := dk_89 (dk_at dksX1_loseItem_0 10 rfl rfl)
theorem dX1_loseItem_11 : decode cX1_loseItem 11 = .ok (.getfield 189, 3) := dk_180 0 189 (dk_at dksX1_loseItem_0 11 rfl rfl)
theorem dX1_loseItem_14 : decode cX1_loseItem 14 = .ok (.iconst 1, 1) := dk_4 (dk_at dksX1_loseItem_0 14 rfl rfl)
theorem dX1_loseItem_15 : decode cX1_loseItem 15 = .ok (.iadd, 1) := dk_96 (dk_at dksX1_loseItem_0 15 rfl rfl)
theorem dX1_loseItem_16 : decode cX1_loseItem 16 = .ok (.putfield 189, 3) := dk_181 0 189 (dk_at dksX1_loseItem_0 16 rfl rfl)
theorem dX1_loseItem_19 : decode cX1_loseItem 19 = .ok (.return_, 1) := dk_177 (dk_at dksX1_loseItem_0 19 rfl rfl)
abbrev cX1_delete : ByteArray := prog_1_method_29_code
def yX1_delete : MethodName := ⟨RX1, "delete", "(I)I"⟩
def dkwX1_delete_1 : List UInt8 := [180, 0, 125, 182, 0, 158, 42, 182, 0, 221, 44, 180, 0, 113, 172]
abbrev dktX1_delete_1 : List UInt8 := dkwX1_delete_1 ++ []
def dkwX1_delete_0 : List UInt8 := [42, 180, 0, 214, 27, 182, 0, 100, 192, 0, 22, 77, 44, 182, 0, 138, 184, 1, 25, 44, 5, 42]
abbrev dktX1_delete_0 : List UInt8 := dkwX1_delete_0 ++ dktX1_delete_1
theorem dksX1_delete_0 : cX1_delete.data.toList.drop 0 = dktX1_delete_0 := by decide +kernel
theorem dksX1_delete_1 : cX1_delete.data.toList.drop 22 = dktX1_delete_1 := dk_seg dksX1_delete_0 22 rfl rfl
theorem dX1_delete_0 : decode cX1_delete 0 = .ok (.aload_n 0, 1) := dk_42 (dk_at dksX1_delete_0 0 rfl rfl)
theorem dX1_delete_1 : decode cX1_delete 1 = .ok (.getfield 214, 3) := dk_180 0 214 (dk_at dksX1_delete_0 1 rfl rfl)
theorem dX1_delete_4 : decode cX1_delete 4 = .ok (.iload_n 1, 1) := dk_27 (dk_at dksX1_delete_0 4 rfl rfl)
theorem dX1_delete_5 : decode cX1_delete 5 = .ok (.invokevirtual 100, 3) := dk_182 0 100 (dk_at dksX1_delete_0 5 rfl rfl)
theorem dX1_delete_8 : decode cX1_delete 8 = .ok (.checkcast 22, 3) := dk_192 0 22 (dk_at dksX1_delete_0 8 rfl rfl)
theorem dX1_delete_11 : decode cX1_delete 11 = .ok (.astore_n 2, 1) := dk_77 (dk_at dksX1_delete_0 11 rfl rfl)
theorem dX1_delete_12 : decode cX1_delete 12 = .ok (.aload_n 2, 1) := dk_44 (dk_at dksX1_delete_0 12 rfl rfl)
theorem dX1_delete_13 : decode cX1_delete 13 = .ok (.invokevirtual 138, 3) := dk_182 0 138 (dk_at dksX1_delete_0 13 rfl rfl)
theorem dX1_delete_16 : decode cX1_delete 16 = .ok (.invokestatic 281, 3) := dk_184 1 25 (dk_at dksX1_delete_0 16 rfl rfl)
theorem dX1_delete_19 : decode cX1_delete 19 = .ok (.aload_n 2, 1) := dk_44 (dk_at dksX1_delete_0 19 rfl rfl)
theorem dX1_delete_20 : decode cX1_delete 20 = .ok (.iconst 2, 1) := dk_5 (dk_at dksX1_delete_0 20 rfl rfl)
theorem dX1_delete_21 : decode cX1_delete 21 = .ok (.aload_n 0, 1) := dk_42 (dk_at dksX1_delete_0 21 rfl rfl)
theorem dX1_delete_22 : decode cX1_delete 22 = .ok (.getfield 125, 3) := dk_180 0 125 (dk_at dksX1_delete_1 0 rfl rfl)
theorem dX1_delete_25 : decode cX1_delete 25 = .ok (.invokevirtual 158, 3) := dk_182 0 158 (dk_at dksX1_delete_1 3 rfl rfl)
theorem dX1_delete_28 : decode cX1_delete 28 = .ok (.aload_n 0, 1) := dk_42 (dk_at dksX1_delete_1 6 rfl rfl)
theorem dX1_delete_29 : decode cX1_delete 29 = .ok (.invokevirtual 221, 3) := dk_182 0 221 (dk_at dksX1_delete_1 7 rfl rfl)
theorem dX1_delete_32 : decode cX1_delete 32 = .ok (.aload_n 2, 1) := dk_44 (dk_at dksX1_delete_1 10 rfl rfl)
theorem dX1_delete_33 : decode cX1_delete 33 = .ok (.getfield 113, 3) := dk_180 0 113 (dk_at dksX1_delete_1 11 rfl rfl)
theorem dX1_delete_36 : decode cX1_delete 36 = .ok (.ireturn, 1) := dk_172 (dk_at dksX1_delete_1 14 rfl rfl)
abbrev cX1_purge : ByteArray := prog_1_method_31_code
def yX1_purge : MethodName := ⟨RX1, "purge", "(I)Z"⟩
def dkwX1_purge_1 : List UInt8 := [160, 0, 7, 4, 167, 0, 4, 3, 172]
abbrev dktX1_purge_1 : List UInt8 := dkwX1_purge_1 ++ []
def dkwX1_purge_0 : List UInt8 := [42, 27, 182, 1, 47, 77, 42, 44, 182, 0, 116, 154, 0, 8, 42, 44, 182, 0, 210, 44, 180, 0, 113, 6]
abbrev dktX1_purge_0 : List UInt8 := dkwX1_purge_0 ++ dktX1_purge_1
theorem dksX1_purge_0 : cX1_purge.data.toList.drop 0 = dktX1_purge_0 := by decide +kernel
theorem dksX1_purge_1 : cX1_purge.data.toList.drop 24 = dktX1_purge_1 := dk_seg dksX1_purge_0 24 rfl rfl
theorem dX1_purge_0 : decode cX1_purge 0 = .ok (.aload_n 0, 1) := dk_42 (dk_at dksX1_purge_0 0 rfl rfl)
theorem dX1_purge_1 : decode cX1_purge 1 = .ok (.iload_n 1, 1) := dk_27 (dk_at dksX1_purge_0 1 rfl rfl)
theorem dX1_purge_2 : decode cX1_purge 2 = .ok (.invokevirtual 303, 3) := dk_182 1 47 (dk_at dksX1_purge_0 2 rfl rfl)
theorem dX1_purge_5 : decode cX1_purge 5 = .ok (.astore_n 2, 1) := dk_77 (dk_at dksX1_purge_0 5 rfl rfl)
theorem dX1_purge_6 : decode cX1_purge 6 = .ok (.aload_n 0, 1) := dk_42 (dk_at dksX1_purge_0 6 rfl rfl)
theorem dX1_purge_7 : decode cX1_purge 7 = .ok (.aload_n 2, 1) := dk_44 (dk_at dksX1_purge_0 7 rfl rfl)
theorem dX1_purge_8 : decode cX1_purge 8 = .ok (.invokevirtual 116, 3) := dk_182 0 116 (dk_at dksX1_purge_0 8 rfl rfl)
theorem dX1_purge_11 : decode cX1_purge 11 = .ok (.ifCond .ne 8, 3) := dk_154 0 8 (dk_at dksX1_purge_0 11 rfl rfl)
theorem dX1_purge_14 : decode cX1_purge 14 = .ok (.aload_n 0, 1) := dk_42 (dk_at dksX1_purge_0 14 rfl rfl)
theorem dX1_purge_15 : decode cX1_purge 15 = .ok (.aload_n 2, 1) := dk_44 (dk_at dksX1_purge_0 15 rfl rfl)
theorem dX1_purge_16 : decode cX1_purge 16 = .ok (.invokevirtual 210, 3) := dk_182 0 210 (dk_at dksX1_purge_0 16 rfl rfl)
theorem dX1_purge_19 : decode cX1_purge 19 = .ok (.aload_n 2, 1) := dk_44 (dk_at dksX1_purge_0 19 rfl rfl)
theorem dX1_purge_20 : decode cX1_purge 20 = .ok (.getfield 113, 3) := dk_180 0 113 (dk_at dksX1_purge_0 20 rfl rfl)
theorem dX1_purge_23 : decode cX1_purge 23 = .ok (.iconst 3, 1) := dk_6 (dk_at dksX1_purge_0 23 rfl rfl)
theorem dX1_purge_24 : decode cX1_purge 24 = .ok (.if_icmp .ne 7, 3) := dk_160 0 7 (dk_at dksX1_purge_1 0 rfl rfl)
theorem dX1_purge_27 : decode cX1_purge 27 = .ok (.iconst 1, 1) := dk_4 (dk_at dksX1_purge_1 3 rfl rfl)
theorem dX1_purge_28 : decode cX1_purge 28 = .ok (.goto 4, 3) := dk_167 0 4 (dk_at dksX1_purge_1 4 rfl rfl)
theorem dX1_purge_31 : decode cX1_purge 31 = .ok (.iconst 0, 1) := dk_3 (dk_at dksX1_purge_1 7 rfl rfl)
theorem dX1_purge_32 : decode cX1_purge 32 = .ok (.ireturn, 1) := dk_172 (dk_at dksX1_purge_1 8 rfl rfl)
abbrev cX1_recoverable : ByteArray := prog_1_method_30_code
def yX1_recoverable : MethodName := ⟨RX1, "recoverable", "(I)LHoldtag$Item;"⟩
def dkwX1_recoverable_1 : List UInt8 := [3, 184, 1, 25, 44, 176]
abbrev dktX1_recoverable_1 : List UInt8 := dkwX1_recoverable_1 ++ []
def dkwX1_recoverable_0 : List UInt8 := [42, 180, 0, 214, 27, 182, 0, 100, 192, 0, 22, 77, 44, 180, 0, 113, 5, 160, 0, 7, 4, 167, 0, 4]
abbrev dktX1_recoverable_0 : List UInt8 := dkwX1_recoverable_0 ++ dktX1_recoverable_1
theorem dksX1_recoverable_0 : cX1_recoverable.data.toList.drop 0 = dktX1_recoverable_0 := by decide +kernel
theorem dksX1_recoverable_1 : cX1_recoverable.data.toList.drop 24 = dktX1_recoverable_1 := dk_seg dksX1_recoverable_0 24 rfl rfl
theorem dX1_recoverable_0 : decode cX1_recoverable 0 = .ok (.aload_n 0, 1) := dk_42 (dk_at dksX1_recoverable_0 0 rfl rfl)
theorem dX1_recoverable_1 : decode cX1_recoverable 1 = .ok (.getfield 214, 3) := dk_180 0 214 (dk_at dksX1_recoverable_0 1 rfl rfl)
theorem dX1_recoverable_4 : decode cX1_recoverable 4 = .ok (.iload_n 1, 1) := dk_27 (dk_at dksX1_recoverable_0 4 rfl rfl)
theorem dX1_recoverable_5 : decode cX1_recoverable 5 = .ok (.invokevirtual 100, 3) := dk_182 0 100 (dk_at dksX1_recoverable_0 5 rfl rfl)
theorem dX1_recoverable_8 : decode cX1_recoverable 8 = .ok (.checkcast 22, 3) := dk_192 0 22 (dk_at dksX1_recoverable_0 8 rfl rfl)
theorem dX1_recoverable_11 : decode cX1_recoverable 11 = .ok (.astore_n 2, 1) := dk_77 (dk_at dksX1_recoverable_0 11 rfl rfl)
theorem dX1_recoverable_12 : decode cX1_recoverable 12 = .ok (.aload_n 2, 1) := dk_44 (dk_at dksX1_recoverable_0 12 rfl rfl)
theorem dX1_recoverable_13 : decode cX1_recoverable 13 = .ok (.getfield 113, 3) := dk_180 0 113 (dk_at dksX1_recoverable_0 13 rfl rfl)
theorem dX1_recoverable_16 : decode cX1_recoverable 16 = .ok (.iconst 2, 1) := dk_5 (dk_at dksX1_recoverable_0 16 rfl rfl)
theorem dX1_recoverable_17 : decode cX1_recoverable 17 = .ok (.if_icmp .ne 7, 3) := dk_160 0 7 (dk_at dksX1_recoverable_0 17 rfl rfl)
theorem dX1_recoverable_20 : decode cX1_recoverable 20 = .ok (.iconst 1, 1) := dk_4 (dk_at dksX1_recoverable_0 20 rfl rfl)
theorem dX1_recoverable_21 : decode cX1_recoverable 21 = .ok (.goto 4, 3) := dk_167 0 4 (dk_at dksX1_recoverable_0 21 rfl rfl)
theorem dX1_recoverable_24 : decode cX1_recoverable 24 = .ok (.iconst 0, 1) := dk_3 (dk_at dksX1_recoverable_1 0 rfl rfl)
theorem dX1_recoverable_25 : decode cX1_recoverable 25 = .ok (.invokestatic 281, 3) := dk_184 1 25 (dk_at dksX1_recoverable_1 1 rfl rfl)
theorem dX1_recoverable_28 : decode cX1_recoverable 28 = .ok (.aload_n 2, 1) := dk_44 (dk_at dksX1_recoverable_1 4 rfl rfl)
theorem dX1_recoverable_29 : decode cX1_recoverable 29 = .ok (.areturn, 1) := dk_176 (dk_at dksX1_recoverable_1 5 rfl rfl)
abbrev cX1_recover : ByteArray := prog_1_method_32_code
def yX1_recover : MethodName := ⟨RX1, "recover", "(I)I"⟩
def dkwX1_recover_1 : List UInt8 := [182, 0, 158, 29, 172]
abbrev dktX1_recover_1 : List UInt8 := dkwX1_recover_1 ++ []
def dkwX1_recover_0 : List UInt8 := [42, 27, 182, 1, 47, 77, 42, 180, 0, 125, 44, 180, 0, 119, 100, 62, 44, 3, 42, 180, 0, 125]
abbrev dktX1_recover_0 : List UInt8 := dkwX1_recover_0 ++ dktX1_recover_1
theorem dksX1_recover_0 : cX1_recover.data.toList.drop 0 = dktX1_recover_0 := by decide +kernel
theorem dksX1_recover_1 : cX1_recover.data.toList.drop 22 = dktX1_recover_1 := dk_seg dksX1_recover_0 22 rfl rfl
theorem dX1_recover_0 : decode cX1_recover 0 = .ok (.aload_n 0, 1) := dk_42 (dk_at dksX1_recover_0 0 rfl rfl)
theorem dX1_recover_1 : decode cX1_recover 1 = .ok (.iload_n 1, 1) := dk_27 (dk_at dksX1_recover_0 1 rfl rfl)
theorem dX1_recover_2 : decode cX1_recover 2 = .ok (.invokevirtual 303, 3) := dk_182 1 47 (dk_at dksX1_recover_0 2 rfl rfl)
theorem dX1_recover_5 : decode cX1_recover 5 = .ok (.astore_n 2, 1) := dk_77 (dk_at dksX1_recover_0 5 rfl rfl)
theorem dX1_recover_6 : decode cX1_recover 6 = .ok (.aload_n 0, 1) := dk_42 (dk_at dksX1_recover_0 6 rfl rfl)
theorem dX1_recover_7 : decode cX1_recover 7 = .ok (.getfield 125, 3) := dk_180 0 125 (dk_at dksX1_recover_0 7 rfl rfl)
theorem dX1_recover_10 : decode cX1_recover 10 = .ok (.aload_n 2, 1) := dk_44 (dk_at dksX1_recover_0 10 rfl rfl)
theorem dX1_recover_11 : decode cX1_recover 11 = .ok (.getfield 119, 3) := dk_180 0 119 (dk_at dksX1_recover_0 11 rfl rfl)
theorem dX1_recover_14 : decode cX1_recover 14 = .ok (.isub, 1) := dk_100 (dk_at dksX1_recover_0 14 rfl rfl)
theorem dX1_recover_15 : decode cX1_recover 15 = .ok (.istore_n 3, 1) := dk_62 (dk_at dksX1_recover_0 15 rfl rfl)
theorem dX1_recover_16 : decode cX1_recover 16 = .ok (.aload_n 2, 1) := dk_44 (dk_at dksX1_recover_0 16 rfl rfl)
theorem dX1_recover_17 : decode cX1_recover 17 = .ok (.iconst 0, 1) := dk_3 (dk_at dksX1_recover_0 17 rfl rfl)
theorem dX1_recover_18 : decode cX1_recover 18 = .ok (.aload_n 0, 1) := dk_42 (dk_at dksX1_recover_0 18 rfl rfl)
theorem dX1_recover_19 : decode cX1_recover 19 = .ok (.getfield 125, 3) := dk_180 0 125 (dk_at dksX1_recover_0 19 rfl rfl)
theorem dX1_recover_22 : decode cX1_recover 22 = .ok (.invokevirtual 158, 3) := dk_182 0 158 (dk_at dksX1_recover_1 0 rfl rfl)
theorem dX1_recover_25 : decode cX1_recover 25 = .ok (.iload_n 3, 1) := dk_29 (dk_at dksX1_recover_1 3 rfl rfl)
theorem dX1_recover_26 : decode cX1_recover 26 = .ok (.ireturn, 1) := dk_172 (dk_at dksX1_recover_1 4 rfl rfl)
abbrev cX1_keep : ByteArray := prog_1_method_33_code
def yX1_keep : MethodName := ⟨RX1, "keep", "(II)I"⟩
def dkwX1_keep_1 : List UInt8 := [181, 0, 195, 42, 3, 181, 0, 189, 42, 182, 0, 221, 42, 180, 0, 189, 172]
abbrev dktX1_keep_1 : List UInt8 := dkwX1_keep_1 ++ []
def dkwX1_keep_0 : List UInt8 := [27, 4, 16, 60, 184, 1, 12, 28, 3, 17, 7, 208, 184, 1, 12, 42, 27, 181, 0, 122, 42, 28]
abbrev dktX1_keep_0 : List UInt8 := dkwX1_keep_0 ++ dktX1_keep_1
theorem dksX1_keep_0 : cX1_keep.data.toList.drop 0 = dktX1_keep_0 := by decide +kernel
theorem dksX1_keep_1 : cX1_keep.data.toList.drop 22 = dktX1_keep_1 := dk_seg dksX1_keep_0 22 rfl rfl
theorem dX1_keep_0 : decode cX1_keep 0 = .ok (.iload_n 1, 1) := dk_27 (dk_at dksX1_keep_0 0 rfl rfl)
theorem dX1_keep_1 : decode cX1_keep 1 = .ok (.iconst 1, 1) := dk_4 (dk_at dksX1_keep_0 1 rfl rfl)
theorem dX1_keep_2 : decode cX1_keep 2 = .ok (.bipush 60, 2) := dk_16 60 (dk_at dksX1_keep_0 2 rfl rfl)
theorem dX1_keep_4 : decode cX1_keep 4 = .ok (.invokestatic 268, 3) := dk_184 1 12 (dk_at dksX1_keep_0 4 rfl rfl)
theorem dX1_keep_7 : decode cX1_keep 7 = .ok (.iload_n 2, 1) := dk_28 (dk_at dksX1_keep_0 7 rfl rfl)
theorem dX1_keep_8 : decode cX1_keep 8 = .ok (.iconst 0, 1) := dk_3 (dk_at dksX1_keep_0 8 rfl rfl)
theorem dX1_keep_9 : decode cX1_keep 9 = .ok (.sipush 2000, 3) := dk_17 7 208 (dk_at dksX1_keep_0 9 rfl rfl)
theorem dX1_keep_12 : decode cX1_keep 12 = .ok (.invokestatic 268, 3) := dk_184 1 12 (dk_at dksX1_keep_0 12 rfl rfl)
theorem dX1_keep_15 : decode cX1_keep 15 = .ok (.aload_n 0, 1) := dk_42 (dk_at dksX1_keep_0 15 rfl rfl)
theorem dX1_keep_16 : decode cX1_keep 16 = .ok (.iload_n 1, 1) := dk_27 (dk_at dksX1_keep_0 16 rfl rfl)
theorem dX1_keep_17 : decode cX1_keep 17 = .ok (.putfield 122, 3) := dk_181 0 122 (dk_at dksX1_keep_0 17 rfl rfl)
theorem dX1_keep_20 : decode cX1_keep 20 = .ok (.aload_n 0, 1) := dk_42 (dk_at dksX1_keep_0 20 rfl rfl)
theorem dX1_keep_21 : decode cX1_keep 21 = .ok (.iload_n 2, 1) := dk_28 (dk_at dksX1_keep_0 21 rfl rfl)
theorem dX1_keep_22 : decode cX1_keep 22 = .ok (.putfield 195, 3) := dk_181 0 195 (dk_at dksX1_keep_1 0 rfl rfl)
theorem dX1_keep_25 : decode cX1_keep 25 = .ok (.aload_n 0, 1) := dk_42 (dk_at dksX1_keep_1 3 rfl rfl)
theorem dX1_keep_26 : decode cX1_keep 26 = .ok (.iconst 0, 1) := dk_3 (dk_at dksX1_keep_1 4 rfl rfl)
theorem dX1_keep_27 : decode cX1_keep 27 = .ok (.putfield 189, 3) := dk_181 0 189 (dk_at dksX1_keep_1 5 rfl rfl)
theorem dX1_keep_30 : decode cX1_keep 30 = .ok (.aload_n 0, 1) := dk_42 (dk_at dksX1_keep_1 8 rfl rfl)
theorem dX1_keep_31 : decode cX1_keep 31 = .ok (.invokevirtual 221, 3) := dk_182 0 221 (dk_at dksX1_keep_1 9 rfl rfl)
theorem dX1_keep_34 : decode cX1_keep 34 = .ok (.aload_n 0, 1) := dk_42 (dk_at dksX1_keep_1 12 rfl rfl)
theorem dX1_keep_35 : decode cX1_keep 35 = .ok (.getfield 189, 3) := dk_180 0 189 (dk_at dksX1_keep_1 13 rfl rfl)
theorem dX1_keep_38 : decode cX1_keep 38 = .ok (.ireturn, 1) := dk_172 (dk_at dksX1_keep_1 16 rfl rfl)
abbrev cX1_pass : ByteArray := prog_1_method_34_code
def yX1_pass : MethodName := ⟨RX1, "pass", "(I)I"⟩
def dkwX1_pass_1 : List UInt8 := [132, 2, 1, 167, 255, 244, 42, 180, 0, 189, 172]
abbrev dktX1_pass_1 : List UInt8 := dkwX1_pass_1 ++ []
def dkwX1_pass_0 : List UInt8 := [27, 4, 17, 1, 144, 184, 1, 12, 42, 3, 181, 0, 189, 3, 61, 28, 27, 162, 0, 13, 42, 182, 1, 51]
abbrev dktX1_pass_0 : List UInt8 := dkwX1_pass_0 ++ dktX1_pass_1
theorem dksX1_pass_0 : cX1_pass.data.toList.drop 0 = dktX1_pass_0 := by decide +kernel
theorem dksX1_pass_1 : cX1_pass.data.toList.drop 24 = dktX1_pass_1 := dk_seg dksX1_pass_0 24 rfl rfl
theorem dX1_pass_0 : decode cX1_pass 0 = .ok (.iload_n 1, 1) := dk_27 (dk_at dksX1_pass_0 0 rfl rfl)
theorem dX1_pass_1 : decode cX1_pass 1 = .ok (.iconst 1, 1) := dk_4 (dk_at dksX1_pass_0 1 rfl rfl)
theorem dX1_pass_2 : decode cX1_pass 2 = .ok (.sipush 400, 3) := dk_17 1 144 (dk_at dksX1_pass_0 2 rfl rfl)
theorem dX1_pass_5 : decode cX1_pass 5 = .ok (.invokestatic 268, 3) := dk_184 1 12 (dk_at dksX1_pass_0 5 rfl rfl)
theorem dX1_pass_8 : decode cX1_pass 8 = .ok (.aload_n 0, 1) := dk_42 (dk_at dksX1_pass_0 8 rfl rfl)
theorem dX1_pass_9 : decode cX1_pass 9 = .ok (.iconst 0, 1) := dk_3 (dk_at dksX1_pass_0 9 rfl rfl)
theorem dX1_pass_10 : decode cX1_pass 10 = .ok (.putfield 189, 3) := dk_181 0 189 (dk_at dksX1_pass_0 10 rfl rfl)
theorem dX1_pass_13 : decode cX1_pass 13 = .ok (.iconst 0, 1) := dk_3 (dk_at dksX1_pass_0 13 rfl rfl)
theorem dX1_pass_14 : decode cX1_pass 14 = .ok (.istore_n 2, 1) := dk_61 (dk_at dksX1_pass_0 14 rfl rfl)
theorem dX1_pass_15 : decode cX1_pass 15 = .ok (.iload_n 2, 1) := dk_28 (dk_at dksX1_pass_0 15 rfl rfl)
theorem dX1_pass_16 : decode cX1_pass 16 = .ok (.iload_n 1, 1) := dk_27 (dk_at dksX1_pass_0 16 rfl rfl)
theorem dX1_pass_17 : decode cX1_pass 17 = .ok (.if_icmp .ge 13, 3) := dk_162 0 13 (dk_at dksX1_pass_0 17 rfl rfl)
theorem dX1_pass_20 : decode cX1_pass 20 = .ok (.aload_n 0, 1) := dk_42 (dk_at dksX1_pass_0 20 rfl rfl)
theorem dX1_pass_21 : decode cX1_pass 21 = .ok (.invokevirtual 307, 3) := dk_182 1 51 (dk_at dksX1_pass_0 21 rfl rfl)
theorem dX1_pass_24 : decode cX1_pass 24 = .ok (.iinc 2 1, 3) := dk_132 2 1 (dk_at dksX1_pass_1 0 rfl rfl)
theorem dX1_pass_27 : decode cX1_pass 27 = .ok (.goto (-12), 3) := dk_167 255 244 (dk_at dksX1_pass_1 3 rfl rfl)
theorem dX1_pass_30 : decode cX1_pass 30 = .ok (.aload_n 0, 1) := dk_42 (dk_at dksX1_pass_1 6 rfl rfl)
theorem dX1_pass_31 : decode cX1_pass 31 = .ok (.getfield 189, 3) := dk_180 0 189 (dk_at dksX1_pass_1 7 rfl rfl)
theorem dX1_pass_34 : decode cX1_pass 34 = .ok (.ireturn, 1) := dk_172 (dk_at dksX1_pass_1 10 rfl rfl)
abbrev cX1_liveDay : ByteArray := prog_1_method_13_code
def yX1_liveDay : MethodName := ⟨RX1, "liveDay", "()V"⟩
def dkwX1_liveDay_3 : List UInt8 := [154, 0, 7, 4, 167, 0, 4, 3, 96, 181, 0, 189, 132, 1, 1, 167, 255, 181, 42, 182, 0, 221, 177]
abbrev dktX1_liveDay_3 : List UInt8 := dkwX1_liveDay_3 ++ []
def dkwX1_liveDay_2 : List UInt8 := [62, 42, 44, 42, 180, 0, 125, 182, 0, 217, 42, 89, 180, 0, 189, 44, 180, 0, 113, 6, 160, 0, 11, 29]
abbrev dktX1_liveDay_2 : List UInt8 := dkwX1_liveDay_2 ++ dktX1_liveDay_3
def dkwX1_liveDay_1 : List UInt8 := [180, 0, 214, 27, 182, 0, 100, 192, 0, 22, 77, 44, 180, 0, 113, 6, 160, 0, 7, 4, 167, 0, 4, 3]
abbrev dktX1_liveDay_1 : List UInt8 := dkwX1_liveDay_1 ++ dktX1_liveDay_2
def dkwX1_liveDay_0 : List UInt8 := [42, 89, 180, 0, 125, 4, 96, 181, 0, 125, 3, 60, 27, 42, 180, 0, 214, 182, 0, 97, 162, 0, 70, 42]
abbrev dktX1_liveDay_0 : List UInt8 := dkwX1_liveDay_0 ++ dktX1_liveDay_1
theorem dksX1_liveDay_0 : cX1_liveDay.data.toList.drop 0 = dktX1_liveDay_0 := by decide +kernel
theorem dksX1_liveDay_1 : cX1_liveDay.data.toList.drop 24 = dktX1_liveDay_1 := dk_seg dksX1_liveDay_0 24 rfl rfl
theorem dksX1_liveDay_2 : cX1_liveDay.data.toList.drop 48 = dktX1_liveDay_2 := dk_seg dksX1_liveDay_1 24 rfl rfl
theorem dksX1_liveDay_3 : cX1_liveDay.data.toList.drop 72 = dktX1_liveDay_3 := dk_seg dksX1_liveDay_2 24 rfl rfl
theorem dX1_liveDay_0 : decode cX1_liveDay 0 = .ok (.aload_n 0, 1) := dk_42 (dk_at dksX1_liveDay_0 0 rfl rfl)
theorem dX1_liveDay_1 : decode cX1_liveDay 1 = .ok (.dup, 1) := dk_89 (dk_at dksX1_liveDay_0 1 rfl rfl)
theorem dX1_liveDay_2 : decode cX1_liveDay 2 = .ok (.getfield 125, 3) := dk_180 0 125 (dk_at dksX1_liveDay_0 2 rfl rfl)
theorem dX1_liveDay_5 : decode cX1_liveDay 5 = .ok (.iconst 1, 1) := dk_4 (dk_at dksX1_liveDay_0 5 rfl rfl)
theorem dX1_liveDay_6 : decode cX1_liveDay 6 = .ok (.iadd, 1) := dk_96 (dk_at dksX1_liveDay_0 6 rfl rfl)
theorem dX1_liveDay_7 : decode cX1_liveDay 7 = .ok (.putfield 125, 3) := dk_181 0 125 (dk_at dksX1_liveDay_0 7 rfl rfl)
theorem dX1_liveDay_10 : decode cX1_liveDay 10 = .ok (.iconst 0, 1) := dk_3 (dk_at dksX1_liveDay_0 10 rfl rfl)
theorem dX1_liveDay_11 : decode cX1_liveDay 11 = .ok (.istore_n 1, 1) := dk_60 (dk_at dksX1_liveDay_0 11 rfl rfl)
theorem dX1_liveDay_12 : decode cX1_liveDay 12 = .ok (.iload_n 1, 1) := dk_27 (dk_at dksX1_liveDay_0 12 rfl rfl)
theorem dX1_liveDay_13 : decode cX1_liveDay 13 = .ok (.aload_n 0, 1) := dk_42 (dk_at dksX1_liveDay_0 13 rfl rfl)
theorem dX1_liveDay_14 : decode cX1_liveDay 14 = .ok (.getfield 214, 3) := dk_180 0 214 (dk_at dksX1_liveDay_0 14 rfl rfl)
theorem dX1_liveDay_17 : decode cX1_liveDay 17 = .ok (.invokevirtual 97, 3) := dk_182 0 97 (dk_at dksX1_liveDay_0 17 rfl rfl)
theorem dX1_liveDay_20 : decode cX1_liveDay 20 = .ok (.if_icmp .ge 70, 3) := dk_162 0 70 (dk_at dksX1_liveDay_0 20 rfl rfl)
theorem dX1_liveDay_23 : decode cX1_liveDay 23 = .ok (.aload_n 0, 1) := dk_42 (dk_at dksX1_liveDay_0 23 rfl rfl)
theorem dX1_liveDay_24 : decode cX1_liveDay 24 = .ok (.getfield 214, 3) := dk_180 0 214 (dk_at dksX1_liveDay_1 0 rfl rfl)
theorem dX1_liveDay_27 : decode cX1_liveDay 27 = .ok (.iload_n 1, 1) := dk_27 (dk_at dksX1_liveDay_1 3 rfl rfl)
theorem dX1_liveDay_28 : decode cX1_liveDay 28 = .ok (.invokevirtual 100, 3) := dk_182 0 100 (dk_at dksX1_liveDay_1 4 rfl rfl)
theorem dX1_liveDay_31 : decode cX1_liveDay 31 = .ok (.checkcast 22, 3) := dk_192 0 22 (dk_at dksX1_liveDay_1 7 rfl rfl)
theorem dX1_liveDay_34 : decode cX1_liveDay 34 = .ok (.astore_n 2, 1) := dk_77 (dk_at dksX1_liveDay_1 10 rfl rfl)
theorem dX1_liveDay_35 : decode cX1_liveDay 35 = .ok (.aload_n 2, 1) := dk_44 (dk_at dksX1_liveDay_1 11 rfl rfl)
theorem dX1_liveDay_36 : decode cX1_liveDay 36 = .ok (.getfield 113, 3) := dk_180 0 113 (dk_at dksX1_liveDay_1 12 rfl rfl)
theorem dX1_liveDay_39 : decode cX1_liveDay 39 = .ok (.iconst 3, 1) := dk_6 (dk_at dksX1_liveDay_1 15 rfl rfl)
theorem dX1_liveDay_40 : decode cX1_liveDay 40 = .ok (.if_icmp .ne 7, 3) := dk_160 0 7 (dk_at dksX1_liveDay_1 16 rfl rfl)
theorem dX1_liveDay_43 : decode cX1_liveDay 43 = .ok (.iconst 1, 1) := dk_4 (dk_at dksX1_liveDay_1 19 rfl rfl)
theorem dX1_liveDay_44 : decode cX1_liveDay 44 = .ok (.goto 4, 3) := dk_167 0 4 (dk_at dksX1_liveDay_1 20 rfl rfl)
theorem dX1_liveDay_47 : decode cX1_liveDay 47 = .ok (.iconst 0, 1) := dk_3 (dk_at dksX1_liveDay_1 23 rfl rfl)
theorem dX1_liveDay_48 : decode cX1_liveDay 48 = .ok (.istore_n 3, 1) := dk_62 (dk_at dksX1_liveDay_2 0 rfl rfl)
theorem dX1_liveDay_49 : decode cX1_liveDay 49 = .ok (.aload_n 0, 1) := dk_42 (dk_at dksX1_liveDay_2 1 rfl rfl)
theorem dX1_liveDay_50 : decode cX1_liveDay 50 = .ok (.aload_n 2, 1) := dk_44 (dk_at dksX1_liveDay_2 2 rfl rfl)
theorem dX1_liveDay_51 : decode cX1_liveDay 51 = .ok (.aload_n 0, 1) := dk_42 (dk_at dksX1_liveDay_2 3 rfl rfl)
theorem dX1_liveDay_52 : decode cX1_liveDay 52 = .ok (.getfield 125, 3) := dk_180 0 125 (dk_at dksX1_liveDay_2 4 rfl rfl)
theorem dX1_liveDay_55 : decode cX1_liveDay 55 = .ok (.invokevirtual 217, 3) := dk_182 0 217 (dk_at dksX1_liveDay_2 7 rfl rfl)
theorem dX1_liveDay_58 : decode cX1_liveDay 58 = .ok (.aload_n 0, 1) := dk_42 (dk_at dksX1_liveDay_2 10 rfl rfl)
theorem dX1_liveDay_59 : decode cX1_liveDay 59 = .ok (.dup, 1) := dk_89 (dk_at dksX1_liveDay_2 11 rfl rfl)
theorem dX1_liveDay_60 : decode cX1_liveDay 60 = .ok (.getfield 189, 3) := dk_180 0 189 (dk_at dksX1_liveDay_2 12 rfl rfl)
theorem dX1_liveDay_63 : decode cX1_liveDay 63 = .ok (.aload_n 2, 1) := dk_44 (dk_at dksX1_liveDay_2 15 rfl rfl)
theorem dX1_liveDay_64 : decode cX1_liveDay 64 = .ok (.getfield 113, 3) := dk_180 0 113 (dk_at dksX1_liveDay_2 16 rfl rfl)
theorem dX1_liveDay_67 : decode cX1_liveDay 67 = .ok (.iconst 3, 1) := dk_6 (dk_at dksX1_liveDay_2 19 rfl rfl)
theorem dX1_liveDay_68 : decode cX1_liveDay 68 = .ok (.if_icmp .ne 11, 3) := dk_160 0 11 (dk_at dksX1_liveDay_2 20 rfl rfl)
theorem dX1_liveDay_71 : decode cX1_liveDay 71 = .ok (.iload_n 3, 1) := dk_29 (dk_at dksX1_liveDay_2 23 rfl rfl)
theorem dX1_liveDay_72 : decode cX1_liveDay 72 = .ok (.ifCond .ne 7, 3) := dk_154 0 7 (dk_at dksX1_liveDay_3 0 rfl rfl)
theorem dX1_liveDay_75 : decode cX1_liveDay 75 = .ok (.iconst 1, 1) := dk_4 (dk_at dksX1_liveDay_3 3 rfl rfl)
theorem dX1_liveDay_76 : decode cX1_liveDay 76 = .ok (.goto 4, 3) := dk_167 0 4 (dk_at dksX1_liveDay_3 4 rfl rfl)
theorem dX1_liveDay_79 : decode cX1_liveDay 79 = .ok (.iconst 0, 1) := dk_3 (dk_at dksX1_liveDay_3 7 rfl rfl)
theorem dX1_liveDay_80 : decode cX1_liveDay 80 = .ok (.iadd, 1) := dk_96 (dk_at dksX1_liveDay_3 8 rfl rfl)
theorem dX1_liveDay_81 : decode cX1_liveDay 81 = .ok (.putfield 189, 3) := dk_181 0 189 (dk_at dksX1_liveDay_3 9 rfl rfl)
theorem dX1_liveDay_84 : decode cX1_liveDay 84 = .ok (.iinc 1 1, 3) := dk_132 1 1 (dk_at dksX1_liveDay_3 12 rfl rfl)
theorem dX1_liveDay_87 : decode cX1_liveDay 87 = .ok (.goto (-75), 3) := dk_167 255 181 (dk_at dksX1_liveDay_3 15 rfl rfl)
theorem dX1_liveDay_90 : decode cX1_liveDay 90 = .ok (.aload_n 0, 1) := dk_42 (dk_at dksX1_liveDay_3 18 rfl rfl)
theorem dX1_liveDay_91 : decode cX1_liveDay 91 = .ok (.invokevirtual 221, 3) := dk_182 0 221 (dk_at dksX1_liveDay_3 19 rfl rfl)
theorem dX1_liveDay_94 : decode cX1_liveDay 94 = .ok (.return_, 1) := dk_177 (dk_at dksX1_liveDay_3 22 rfl rfl)
abbrev cX1_hold : ByteArray := prog_1_method_35_code
def yX1_hold : MethodName := ⟨RX1, "hold", "(IIII)I"⟩
def dkwX1_hold_2 : List UInt8 := [180, 0, 93, 182, 0, 97, 27, 28, 29, 21, 4, 183, 1, 55, 182, 1, 9, 172]
abbrev dktX1_hold_2 : List UInt8 := dkwX1_hold_2 ++ []
def dkwX1_hold_1 : List UInt8 := [29, 19, 1, 54, 184, 1, 12, 42, 180, 0, 93, 182, 1, 6, 42, 180, 0, 93, 187, 0, 104, 89, 42]
abbrev dktX1_hold_1 : List UInt8 := dkwX1_hold_1 ++ dktX1_hold_2
def dkwX1_hold_0 : List UInt8 := [27, 2, 16, 9, 184, 1, 12, 28, 2, 16, 9, 184, 1, 12, 29, 3, 19, 1, 54, 184, 1, 12, 21, 4]
abbrev dktX1_hold_0 : List UInt8 := dkwX1_hold_0 ++ dktX1_hold_1
theorem dksX1_hold_0 : cX1_hold.data.toList.drop 0 = dktX1_hold_0 := by decide +kernel
theorem dksX1_hold_1 : cX1_hold.data.toList.drop 24 = dktX1_hold_1 := dk_seg dksX1_hold_0 24 rfl rfl
theorem dksX1_hold_2 : cX1_hold.data.toList.drop 47 = dktX1_hold_2 := dk_seg dksX1_hold_1 23 rfl rfl
theorem dX1_hold_0 : decode cX1_hold 0 = .ok (.iload_n 1, 1) := dk_27 (dk_at dksX1_hold_0 0 rfl rfl)
theorem dX1_hold_1 : decode cX1_hold 1 = .ok (.iconst (-1), 1) := dk_2 (dk_at dksX1_hold_0 1 rfl rfl)
theorem dX1_hold_2 : decode cX1_hold 2 = .ok (.bipush 9, 2) := dk_16 9 (dk_at dksX1_hold_0 2 rfl rfl)
theorem dX1_hold_4 : decode cX1_hold 4 = .ok (.invokestatic 268, 3) := dk_184 1 12 (dk_at dksX1_hold_0 4 rfl rfl)
theorem dX1_hold_7 : decode cX1_hold 7 = .ok (.iload_n 2, 1) := dk_28 (dk_at dksX1_hold_0 7 rfl rfl)
theorem dX1_hold_8 : decode cX1_hold 8 = .ok (.iconst (-1), 1) := dk_2 (dk_at dksX1_hold_0 8 rfl rfl)
theorem dX1_hold_9 : decode cX1_hold 9 = .ok (.bipush 9, 2) := dk_16 9 (dk_at dksX1_hold_0 9 rfl rfl)
theorem dX1_hold_11 : decode cX1_hold 11 = .ok (.invokestatic 268, 3) := dk_184 1 12 (dk_at dksX1_hold_0 11 rfl rfl)
theorem dX1_hold_14 : decode cX1_hold 14 = .ok (.iload_n 3, 1) := dk_29 (dk_at dksX1_hold_0 14 rfl rfl)
theorem dX1_hold_15 : decode cX1_hold 15 = .ok (.iconst 0, 1) := dk_3 (dk_at dksX1_hold_0 15 rfl rfl)
theorem dX1_hold_16 : decode cX1_hold 16 = .ok (.ldc_w 310, 3) := dk_19 1 54 (dk_at dksX1_hold_0 16 rfl rfl)
theorem dX1_hold_19 : decode cX1_hold 19 = .ok (.invokestatic 268, 3) := dk_184 1 12 (dk_at dksX1_hold_0 19 rfl rfl)
theorem dX1_hold_22 : decode cX1_hold 22 = .ok (.iload 4, 2) := dk_21 4 (dk_at dksX1_hold_0 22 rfl rfl)
theorem dX1_hold_24 : decode cX1_hold 24 = .ok (.iload_n 3, 1) := dk_29 (dk_at dksX1_hold_1 0 rfl rfl)
theorem dX1_hold_25 : decode cX1_hold 25 = .ok (.ldc_w 310, 3) := dk_19 1 54 (dk_at dksX1_hold_1 1 rfl rfl)
theorem dX1_hold_28 : decode cX1_hold 28 = .ok (.invokestatic 268, 3) := dk_184 1 12 (dk_at dksX1_hold_1 4 rfl rfl)
theorem dX1_hold_31 : decode cX1_hold 31 = .ok (.aload_n 0, 1) := dk_42 (dk_at dksX1_hold_1 7 rfl rfl)
theorem dX1_hold_32 : decode cX1_hold 32 = .ok (.getfield 93, 3) := dk_180 0 93 (dk_at dksX1_hold_1 8 rfl rfl)
theorem dX1_hold_35 : decode cX1_hold 35 = .ok (.invokevirtual 262, 3) := dk_182 1 6 (dk_at dksX1_hold_1 11 rfl rfl)
theorem dX1_hold_38 : decode cX1_hold 38 = .ok (.aload_n 0, 1) := dk_42 (dk_at dksX1_hold_1 14 rfl rfl)
theorem dX1_hold_39 : decode cX1_hold 39 = .ok (.getfield 93, 3) := dk_180 0 93 (dk_at dksX1_hold_1 15 rfl rfl)
theorem dX1_hold_42 : decode cX1_hold 42 = .ok (.new 104, 3) := dk_187 0 104 (dk_at dksX1_hold_1 18 rfl rfl)
theorem dX1_hold_45 : decode cX1_hold 45 = .ok (.dup, 1) := dk_89 (dk_at dksX1_hold_1 21 rfl rfl)
theorem dX1_hold_46 : decode cX1_hold 46 = .ok (.aload_n 0, 1) := dk_42 (dk_at dksX1_hold_1 22 rfl rfl)
theorem dX1_hold_47 : decode cX1_hold 47 = .ok (.getfield 93, 3) := dk_180 0 93 (dk_at dksX1_hold_2 0 rfl rfl)
theorem dX1_hold_50 : decode cX1_hold 50 = .ok (.invokevirtual 97, 3) := dk_182 0 97 (dk_at dksX1_hold_2 3 rfl rfl)
theorem dX1_hold_53 : decode cX1_hold 53 = .ok (.iload_n 1, 1) := dk_27 (dk_at dksX1_hold_2 6 rfl rfl)
theorem dX1_hold_54 : decode cX1_hold 54 = .ok (.iload_n 2, 1) := dk_28 (dk_at dksX1_hold_2 7 rfl rfl)
theorem dX1_hold_55 : decode cX1_hold 55 = .ok (.iload_n 3, 1) := dk_29 (dk_at dksX1_hold_2 8 rfl rfl)
theorem dX1_hold_56 : decode cX1_hold 56 = .ok (.iload 4, 2) := dk_21 4 (dk_at dksX1_hold_2 9 rfl rfl)
theorem dX1_hold_58 : decode cX1_hold 58 = .ok (.invokespecial 311, 3) := dk_183 1 55 (dk_at dksX1_hold_2 11 rfl rfl)
theorem dX1_hold_61 : decode cX1_hold 61 = .ok (.invokevirtual 265, 3) := dk_182 1 9 (dk_at dksX1_hold_2 14 rfl rfl)
theorem dX1_hold_64 : decode cX1_hold 64 = .ok (.ireturn, 1) := dk_172 (dk_at dksX1_hold_2 17 rfl rfl)
abbrev cX1_release : ByteArray := prog_1_method_37_code
def yX1_release : MethodName := ⟨RX1, "release", "(I)I"⟩
def dkwX1_release_1 : List UInt8 := [184, 1, 25, 42, 182, 1, 62, 62, 44, 4, 181, 1, 58, 29, 42, 182, 1, 62, 100, 172]
abbrev dktX1_release_1 : List UInt8 := dkwX1_release_1 ++ []
def dkwX1_release_0 : List UInt8 := [42, 180, 0, 93, 27, 182, 0, 100, 192, 0, 104, 77, 44, 180, 1, 58, 154, 0, 7, 4, 167, 0, 4, 3]
abbrev dktX1_release_0 : List UInt8 := dkwX1_release_0 ++ dktX1_release_1
theorem dksX1_release_0 : cX1_release.data.toList.drop 0 = dktX1_release_0 := by decide +kernel
theorem dksX1_release_1 : cX1_release.data.toList.drop 24 = dktX1_release_1 := dk_seg dksX1_release_0 24 rfl rfl
theorem dX1_release_0 : decode cX1_release 0 = .ok (.aload_n 0, 1) := dk_42 (dk_at dksX1_release_0 0 rfl rfl)
theorem dX1_release_1 : decode cX1_release 1 = .ok (.getfield 93, 3) := dk_180 0 93 (dk_at dksX1_release_0 1 rfl rfl)
theorem dX1_release_4 : decode cX1_release 4 = .ok (.iload_n 1, 1) := dk_27 (dk_at dksX1_release_0 4 rfl rfl)
theorem dX1_release_5 : decode cX1_release 5 = .ok (.invokevirtual 100, 3) := dk_182 0 100 (dk_at dksX1_release_0 5 rfl rfl)
theorem dX1_release_8 : decode cX1_release 8 = .ok (.checkcast 104, 3) := dk_192 0 104 (dk_at dksX1_release_0 8 rfl rfl)
theorem dX1_release_11 : decode cX1_release 11 = .ok (.astore_n 2, 1) := dk_77 (dk_at dksX1_release_0 11 rfl rfl)
theorem dX1_release_12 : decode cX1_release 12 = .ok (.aload_n 2, 1) := dk_44 (dk_at dksX1_release_0 12 rfl rfl)
theorem dX1_release_13 : decode cX1_release 13 = .ok (.getfield 314, 3) := dk_180 1 58 (dk_at dksX1_release_0 13 rfl rfl)
theorem dX1_release_16 : decode cX1_release 16 = .ok (.ifCond .ne 7, 3) := dk_154 0 7 (dk_at dksX1_release_0 16 rfl rfl)
theorem dX1_release_19 : decode cX1_release 19 = .ok (.iconst 1, 1) := dk_4 (dk_at dksX1_release_0 19 rfl rfl)
theorem dX1_release_20 : decode cX1_release 20 = .ok (.goto 4, 3) := dk_167 0 4 (dk_at dksX1_release_0 20 rfl rfl)
theorem dX1_release_23 : decode cX1_release 23 = .ok (.iconst 0, 1) := dk_3 (dk_at dksX1_release_0 23 rfl rfl)
theorem dX1_release_24 : decode cX1_release 24 = .ok (.invokestatic 281, 3) := dk_184 1 25 (dk_at dksX1_release_1 0 rfl rfl)
theorem dX1_release_27 : decode cX1_release 27 = .ok (.aload_n 0, 1) := dk_42 (dk_at dksX1_release_1 3 rfl rfl)
theorem dX1_release_28 : decode cX1_release 28 = .ok (.invokevirtual 318, 3) := dk_182 1 62 (dk_at dksX1_release_1 4 rfl rfl)
theorem dX1_release_31 : decode cX1_release 31 = .ok (.istore_n 3, 1) := dk_62 (dk_at dksX1_release_1 7 rfl rfl)
theorem dX1_release_32 : decode cX1_release 32 = .ok (.aload_n 2, 1) := dk_44 (dk_at dksX1_release_1 8 rfl rfl)
theorem dX1_release_33 : decode cX1_release 33 = .ok (.iconst 1, 1) := dk_4 (dk_at dksX1_release_1 9 rfl rfl)
theorem dX1_release_34 : decode cX1_release 34 = .ok (.putfield 314, 3) := dk_181 1 58 (dk_at dksX1_release_1 10 rfl rfl)
theorem dX1_release_37 : decode cX1_release 37 = .ok (.iload_n 3, 1) := dk_29 (dk_at dksX1_release_1 13 rfl rfl)
theorem dX1_release_38 : decode cX1_release 38 = .ok (.aload_n 0, 1) := dk_42 (dk_at dksX1_release_1 14 rfl rfl)
theorem dX1_release_39 : decode cX1_release 39 = .ok (.invokevirtual 318, 3) := dk_182 1 62 (dk_at dksX1_release_1 15 rfl rfl)
theorem dX1_release_42 : decode cX1_release 42 = .ok (.isub, 1) := dk_100 (dk_at dksX1_release_1 18 rfl rfl)
theorem dX1_release_43 : decode cX1_release 43 = .ok (.ireturn, 1) := dk_172 (dk_at dksX1_release_1 19 rfl rfl)
abbrev cX1_holds : ByteArray := prog_1_method_38_code
def yX1_holds : MethodName := ⟨RX1, "holds", "(I)I"⟩
def dkwX1_holds_0 : List UInt8 := [42, 42, 180, 0, 214, 27, 182, 0, 100, 192, 0, 22, 182, 1, 65, 184, 1, 69, 172]
abbrev dktX1_holds_0 : List UInt8 := dkwX1_holds_0 ++ []
theorem dksX1_holds_0 : cX1_holds.data.toList.drop 0 = dktX1_holds_0 := by decide +kernel
theorem dX1_holds_0 : decode cX1_holds 0 = .ok (.aload_n 0, 1) := dk_42 (dk_at dksX1_holds_0 0 rfl rfl)
theorem dX1_holds_1 : decode cX1_holds 1 = .ok (.aload_n 0, 1) := dk_42 (dk_at dksX1_holds_0 1 rfl rfl)
theorem dX1_holds_2 : decode cX1_holds 2 = .ok (.getfield 214, 3) := dk_180 0 214 (dk_at dksX1_holds_0 2 rfl rfl)
theorem dX1_holds_5 : decode cX1_holds 5 = .ok (.iload_n 1, 1) := dk_27 (dk_at dksX1_holds_0 5 rfl rfl)
theorem dX1_holds_6 : decode cX1_holds 6 = .ok (.invokevirtual 100, 3) := dk_182 0 100 (dk_at dksX1_holds_0 6 rfl rfl)
theorem dX1_holds_9 : decode cX1_holds 9 = .ok (.checkcast 22, 3) := dk_192 0 22 (dk_at dksX1_holds_0 9 rfl rfl)
theorem dX1_holds_12 : decode cX1_holds 12 = .ok (.invokevirtual 321, 3) := dk_182 1 65 (dk_at dksX1_holds_0 12 rfl rfl)
theorem dX1_holds_15 : decode cX1_holds 15 = .ok (.invokestatic 325, 3) := dk_184 1 69 (dk_at dksX1_holds_0 15 rfl rfl)
theorem dX1_holds_18 : decode cX1_holds 18 = .ok (.ireturn, 1) := dk_172 (dk_at dksX1_holds_0 18 rfl rfl)
abbrev cX1_holdsOf : ByteArray := prog_1_method_6_code
def yX1_holdsOf : MethodName := ⟨RX1, "holdsOf", "(LHoldtag$Item;)Ljava/util/List;"⟩
def dkwX1_holdsOf_2 : List UInt8 := [182, 0, 100, 192, 0, 104, 185, 0, 109, 2, 0, 87, 132, 3, 1, 167, 255, 206, 44, 176]
abbrev dktX1_holdsOf_2 : List UInt8 := dkwX1_holdsOf_2 ++ []
def dkwX1_holdsOf_1 : List UInt8 := [180, 0, 93, 29, 182, 0, 100, 192, 0, 104, 43, 182, 0, 106, 153, 0, 21, 44, 42, 180, 0, 93, 29]
abbrev dktX1_holdsOf_1 : List UInt8 := dkwX1_holdsOf_1 ++ dktX1_holdsOf_2
def dkwX1_holdsOf_0 : List UInt8 := [187, 0, 87, 89, 183, 0, 89, 77, 3, 62, 29, 42, 180, 0, 93, 182, 0, 97, 162, 0, 45, 42]
abbrev dktX1_holdsOf_0 : List UInt8 := dkwX1_holdsOf_0 ++ dktX1_holdsOf_1
theorem dksX1_holdsOf_0 : cX1_holdsOf.data.toList.drop 0 = dktX1_holdsOf_0 := by decide +kernel
theorem dksX1_holdsOf_1 : cX1_holdsOf.data.toList.drop 22 = dktX1_holdsOf_1 := dk_seg dksX1_holdsOf_0 22 rfl rfl
theorem dksX1_holdsOf_2 : cX1_holdsOf.data.toList.drop 45 = dktX1_holdsOf_2 := dk_seg dksX1_holdsOf_1 23 rfl rfl
theorem dX1_holdsOf_0 : decode cX1_holdsOf 0 = .ok (.new 87, 3) := dk_187 0 87 (dk_at dksX1_holdsOf_0 0 rfl rfl)
theorem dX1_holdsOf_3 : decode cX1_holdsOf 3 = .ok (.dup, 1) := dk_89 (dk_at dksX1_holdsOf_0 3 rfl rfl)
theorem dX1_holdsOf_4 : decode cX1_holdsOf 4 = .ok (.invokespecial 89, 3) := dk_183 0 89 (dk_at dksX1_holdsOf_0 4 rfl rfl)
theorem dX1_holdsOf_7 : decode cX1_holdsOf 7 = .ok (.astore_n 2, 1) := dk_77 (dk_at dksX1_holdsOf_0 7 rfl rfl)
theorem dX1_holdsOf_8 : decode cX1_holdsOf 8 = .ok (.iconst 0, 1) := dk_3 (dk_at dksX1_holdsOf_0 8 rfl rfl)
theorem dX1_holdsOf_9 : decode cX1_holdsOf 9 = .ok (.istore_n 3, 1) := dk_62 (dk_at dksX1_holdsOf_0 9 rfl rfl)
theorem dX1_holdsOf_10 : decode cX1_holdsOf 10 = .ok (.iload_n 3, 1) := dk_29 (dk_at dksX1_holdsOf_0 10 rfl rfl)
theorem dX1_holdsOf_11 : decode cX1_holdsOf 11 = .ok (.aload_n 0, 1) := dk_42 (dk_at dksX1_holdsOf_0 11 rfl rfl)
theorem dX1_holdsOf_12 : decode cX1_holdsOf 12 = .ok (.getfield 93, 3) := dk_180 0 93 (dk_at dksX1_holdsOf_0 12 rfl rfl)
theorem dX1_holdsOf_15 : decode cX1_holdsOf 15 = .ok (.invokevirtual 97, 3) := dk_182 0 97 (dk_at dksX1_holdsOf_0 15 rfl rfl)
theorem dX1_holdsOf_18 : decode cX1_holdsOf 18 = .ok (.if_icmp .ge 45, 3) := dk_162 0 45 (dk_at dksX1_holdsOf_0 18 rfl rfl)
theorem dX1_holdsOf_21 : decode cX1_holdsOf 21 = .ok (.aload_n 0, 1) := dk_42 (dk_at dksX1_holdsOf_0 21 rfl rfl)
theorem dX1_holdsOf_22 : decode cX1_holdsOf 22 = .ok (.getfield 93, 3) := dk_180 0 93 (dk_at dksX1_holdsOf_1 0 rfl rfl)
theorem dX1_holdsOf_25 : decode cX1_holdsOf 25 = .ok (.iload_n 3, 1) := dk_29 (dk_at dksX1_holdsOf_1 3 rfl rfl)
theorem dX1_holdsOf_26 : decode cX1_holdsOf 26 = .ok (.invokevirtual 100, 3) := dk_182 0 100 (dk_at dksX1_holdsOf_1 4 rfl rfl)
theorem dX1_holdsOf_29 : decode cX1_holdsOf 29 = .ok (.checkcast 104, 3) := dk_192 0 104 (dk_at dksX1_holdsOf_1 7 rfl rfl)
theorem dX1_holdsOf_32 : decode cX1_holdsOf 32 = .ok (.aload_n 1, 1) := dk_43 (dk_at dksX1_holdsOf_1 10 rfl rfl)
theorem dX1_holdsOf_33 : decode cX1_holdsOf 33 = .ok (.invokevirtual 106, 3) := dk_182 0 106 (dk_at dksX1_holdsOf_1 11 rfl rfl)
theorem dX1_holdsOf_36 : decode cX1_holdsOf 36 = .ok (.ifCond .eq 21, 3) := dk_153 0 21 (dk_at dksX1_holdsOf_1 14 rfl rfl)
theorem dX1_holdsOf_39 : decode cX1_holdsOf 39 = .ok (.aload_n 2, 1) := dk_44 (dk_at dksX1_holdsOf_1 17 rfl rfl)
theorem dX1_holdsOf_40 : decode cX1_holdsOf 40 = .ok (.aload_n 0, 1) := dk_42 (dk_at dksX1_holdsOf_1 18 rfl rfl)
theorem dX1_holdsOf_41 : decode cX1_holdsOf 41 = .ok (.getfield 93, 3) := dk_180 0 93 (dk_at dksX1_holdsOf_1 19 rfl rfl)
theorem dX1_holdsOf_44 : decode cX1_holdsOf 44 = .ok (.iload_n 3, 1) := dk_29 (dk_at dksX1_holdsOf_1 22 rfl rfl)
theorem dX1_holdsOf_45 : decode cX1_holdsOf 45 = .ok (.invokevirtual 100, 3) := dk_182 0 100 (dk_at dksX1_holdsOf_2 0 rfl rfl)
theorem dX1_holdsOf_48 : decode cX1_holdsOf 48 = .ok (.checkcast 104, 3) := dk_192 0 104 (dk_at dksX1_holdsOf_2 3 rfl rfl)
theorem dX1_holdsOf_51 : decode cX1_holdsOf 51 = .ok (.invokeinterface 109 2, 5) := by decide +kernel
theorem dX1_holdsOf_56 : decode cX1_holdsOf 56 = .ok (.pop, 1) := dk_87 (dk_at dksX1_holdsOf_2 11 rfl rfl)
theorem dX1_holdsOf_57 : decode cX1_holdsOf 57 = .ok (.iinc 3 1, 3) := dk_132 3 1 (dk_at dksX1_holdsOf_2 12 rfl rfl)
theorem dX1_holdsOf_60 : decode cX1_holdsOf 60 = .ok (.goto (-50), 3) := dk_167 255 206 (dk_at dksX1_holdsOf_2 15 rfl rfl)
theorem dX1_holdsOf_63 : decode cX1_holdsOf 63 = .ok (.aload_n 2, 1) := dk_44 (dk_at dksX1_holdsOf_2 18 rfl rfl)
theorem dX1_holdsOf_64 : decode cX1_holdsOf 64 = .ok (.areturn, 1) := dk_176 (dk_at dksX1_holdsOf_2 19 rfl rfl)
abbrev cX1_setOf : ByteArray := prog_1_method_2_code
def yX1_setOf : MethodName := ⟨RX1, "setOf", "(Ljava/util/List;)I"⟩
def dkwX1_setOf_1 : List UInt8 := [192, 0, 4, 185, 0, 18, 1, 0, 128, 60, 132, 2, 1, 167, 255, 225, 27, 172]
abbrev dktX1_setOf_1 : List UInt8 := dkwX1_setOf_1 ++ []
def dkwX1_setOf_0 : List UInt8 := [3, 60, 3, 61, 28, 42, 185, 0, 9, 1, 0, 162, 0, 27, 27, 42, 28, 185, 0, 14, 2, 0]
abbrev dktX1_setOf_0 : List UInt8 := dkwX1_setOf_0 ++ dktX1_setOf_1
theorem dksX1_setOf_0 : cX1_setOf.data.toList.drop 0 = dktX1_setOf_0 := by decide +kernel
theorem dksX1_setOf_1 : cX1_setOf.data.toList.drop 22 = dktX1_setOf_1 := dk_seg dksX1_setOf_0 22 rfl rfl
theorem dX1_setOf_0 : decode cX1_setOf 0 = .ok (.iconst 0, 1) := dk_3 (dk_at dksX1_setOf_0 0 rfl rfl)
theorem dX1_setOf_1 : decode cX1_setOf 1 = .ok (.istore_n 1, 1) := dk_60 (dk_at dksX1_setOf_0 1 rfl rfl)
theorem dX1_setOf_2 : decode cX1_setOf 2 = .ok (.iconst 0, 1) := dk_3 (dk_at dksX1_setOf_0 2 rfl rfl)
theorem dX1_setOf_3 : decode cX1_setOf 3 = .ok (.istore_n 2, 1) := dk_61 (dk_at dksX1_setOf_0 3 rfl rfl)
theorem dX1_setOf_4 : decode cX1_setOf 4 = .ok (.iload_n 2, 1) := dk_28 (dk_at dksX1_setOf_0 4 rfl rfl)
theorem dX1_setOf_5 : decode cX1_setOf 5 = .ok (.aload_n 0, 1) := dk_42 (dk_at dksX1_setOf_0 5 rfl rfl)
theorem dX1_setOf_6 : decode cX1_setOf 6 = .ok (.invokeinterface 9 1, 5) := by decide +kernel
theorem dX1_setOf_11 : decode cX1_setOf 11 = .ok (.if_icmp .ge 27, 3) := dk_162 0 27 (dk_at dksX1_setOf_0 11 rfl rfl)
theorem dX1_setOf_14 : decode cX1_setOf 14 = .ok (.iload_n 1, 1) := dk_27 (dk_at dksX1_setOf_0 14 rfl rfl)
theorem dX1_setOf_15 : decode cX1_setOf 15 = .ok (.aload_n 0, 1) := dk_42 (dk_at dksX1_setOf_0 15 rfl rfl)
theorem dX1_setOf_16 : decode cX1_setOf 16 = .ok (.iload_n 2, 1) := dk_28 (dk_at dksX1_setOf_0 16 rfl rfl)
theorem dX1_setOf_17 : decode cX1_setOf 17 = .ok (.invokeinterface 14 2, 5) := by decide +kernel
theorem dX1_setOf_22 : decode cX1_setOf 22 = .ok (.checkcast 4, 3) := dk_192 0 4 (dk_at dksX1_setOf_1 0 rfl rfl)
theorem dX1_setOf_25 : decode cX1_setOf 25 = .ok (.invokeinterface 18 1, 5) := by decide +kernel
theorem dX1_setOf_30 : decode cX1_setOf 30 = .ok (.ior, 1) := dk_128 (dk_at dksX1_setOf_1 8 rfl rfl)
theorem dX1_setOf_31 : decode cX1_setOf 31 = .ok (.istore_n 1, 1) := dk_60 (dk_at dksX1_setOf_1 9 rfl rfl)
theorem dX1_setOf_32 : decode cX1_setOf 32 = .ok (.iinc 2 1, 3) := dk_132 2 1 (dk_at dksX1_setOf_1 10 rfl rfl)
theorem dX1_setOf_35 : decode cX1_setOf 35 = .ok (.goto (-31), 3) := dk_167 255 225 (dk_at dksX1_setOf_1 13 rfl rfl)
theorem dX1_setOf_38 : decode cX1_setOf 38 = .ok (.iload_n 1, 1) := dk_27 (dk_at dksX1_setOf_1 16 rfl rfl)
theorem dX1_setOf_39 : decode cX1_setOf 39 = .ok (.ireturn, 1) := dk_172 (dk_at dksX1_setOf_1 17 rfl rfl)
abbrev cX1_state : ByteArray := prog_1_method_40_code
def yX1_state : MethodName := ⟨RX1, "state", "(I)I"⟩
def dkwX1_state_0 : List UInt8 := [42, 180, 0, 214, 27, 182, 0, 100, 192, 0, 22, 180, 0, 113, 172]
abbrev dktX1_state_0 : List UInt8 := dkwX1_state_0 ++ []
theorem dksX1_state_0 : cX1_state.data.toList.drop 0 = dktX1_state_0 := by decide +kernel
theorem dX1_state_0 : decode cX1_state 0 = .ok (.aload_n 0, 1) := dk_42 (dk_at dksX1_state_0 0 rfl rfl)
theorem dX1_state_1 : decode cX1_state 1 = .ok (.getfield 214, 3) := dk_180 0 214 (dk_at dksX1_state_0 1 rfl rfl)
theorem dX1_state_4 : decode cX1_state 4 = .ok (.iload_n 1, 1) := dk_27 (dk_at dksX1_state_0 4 rfl rfl)
theorem dX1_state_5 : decode cX1_state 5 = .ok (.invokevirtual 100, 3) := dk_182 0 100 (dk_at dksX1_state_0 5 rfl rfl)
theorem dX1_state_8 : decode cX1_state 8 = .ok (.checkcast 22, 3) := dk_192 0 22 (dk_at dksX1_state_0 8 rfl rfl)
theorem dX1_state_11 : decode cX1_state 11 = .ok (.getfield 113, 3) := dk_180 0 113 (dk_at dksX1_state_0 11 rfl rfl)
theorem dX1_state_14 : decode cX1_state 14 = .ok (.ireturn, 1) := dk_172 (dk_at dksX1_state_0 14 rfl rfl)
abbrev cX1_count : ByteArray := prog_1_method_41_code
def yX1_count : MethodName := ⟨RX1, "count", "(IZ)I"⟩
def dkwX1_count_1 : List UInt8 := [153, 0, 8, 21, 4, 167, 0, 7, 45, 180, 1, 73, 172]
abbrev dktX1_count_1 : List UInt8 := dkwX1_count_1 ++ []
def dkwX1_count_0 : List UInt8 := [27, 3, 6, 184, 1, 12, 187, 0, 170, 89, 42, 27, 183, 0, 172, 78, 45, 182, 0, 192, 54, 4, 28]
abbrev dktX1_count_0 : List UInt8 := dkwX1_count_0 ++ dktX1_count_1
theorem dksX1_count_0 : cX1_count.data.toList.drop 0 = dktX1_count_0 := by decide +kernel
theorem dksX1_count_1 : cX1_count.data.toList.drop 23 = dktX1_count_1 := dk_seg dksX1_count_0 23 rfl rfl
theorem dX1_count_0 : decode cX1_count 0 = .ok (.iload_n 1, 1) := dk_27 (dk_at dksX1_count_0 0 rfl rfl)
theorem dX1_count_1 : decode cX1_count 1 = .ok (.iconst 0, 1) := dk_3 (dk_at dksX1_count_0 1 rfl rfl)
theorem dX1_count_2 : decode cX1_count 2 = .ok (.iconst 3, 1) := dk_6 (dk_at dksX1_count_0 2 rfl rfl)
theorem dX1_count_3 : decode cX1_count 3 = .ok (.invokestatic 268, 3) := dk_184 1 12 (dk_at dksX1_count_0 3 rfl rfl)
theorem dX1_count_6 : decode cX1_count 6 = .ok (.new 170, 3) := dk_187 0 170 (dk_at dksX1_count_0 6 rfl rfl)
theorem dX1_count_9 : decode cX1_count 9 = .ok (.dup, 1) := dk_89 (dk_at dksX1_count_0 9 rfl rfl)
theorem dX1_count_10 : decode cX1_count 10 = .ok (.aload_n 0, 1) := dk_42 (dk_at dksX1_count_0 10 rfl rfl)
theorem dX1_count_11 : decode cX1_count 11 = .ok (.iload_n 1, 1) := dk_27 (dk_at dksX1_count_0 11 rfl rfl)
theorem dX1_count_12 : decode cX1_count 12 = .ok (.invokespecial 172, 3) := dk_183 0 172 (dk_at dksX1_count_0 12 rfl rfl)
theorem dX1_count_15 : decode cX1_count 15 = .ok (.astore_n 3, 1) := dk_78 (dk_at dksX1_count_0 15 rfl rfl)
theorem dX1_count_16 : decode cX1_count 16 = .ok (.aload_n 3, 1) := dk_45 (dk_at dksX1_count_0 16 rfl rfl)
theorem dX1_count_17 : decode cX1_count 17 = .ok (.invokevirtual 192, 3) := dk_182 0 192 (dk_at dksX1_count_0 17 rfl rfl)
theorem dX1_count_20 : decode cX1_count 20 = .ok (.istore 4, 2) := dk_54 4 (dk_at dksX1_count_0 20 rfl rfl)
theorem dX1_count_22 : decode cX1_count 22 = .ok (.iload_n 2, 1) := dk_28 (dk_at dksX1_count_0 22 rfl rfl)
theorem dX1_count_23 : decode cX1_count 23 = .ok (.ifCond .eq 8, 3) := dk_153 0 8 (dk_at dksX1_count_1 0 rfl rfl)
theorem dX1_count_26 : decode cX1_count 26 = .ok (.iload 4, 2) := dk_21 4 (dk_at dksX1_count_1 3 rfl rfl)
theorem dX1_count_28 : decode cX1_count 28 = .ok (.goto 7, 3) := dk_167 0 7 (dk_at dksX1_count_1 5 rfl rfl)
theorem dX1_count_31 : decode cX1_count 31 = .ok (.aload_n 3, 1) := dk_45 (dk_at dksX1_count_1 8 rfl rfl)
theorem dX1_count_32 : decode cX1_count 32 = .ok (.getfield 329, 3) := dk_180 1 73 (dk_at dksX1_count_1 9 rfl rfl)
theorem dX1_count_35 : decode cX1_count 35 = .ok (.ireturn, 1) := dk_172 (dk_at dksX1_count_1 12 rfl rfl)
abbrev cX1_tagOf : ByteArray := prog_1_method_42_code
def yX1_tagOf : MethodName := ⟨RX1, "tagOf", "(I)I"⟩
def dkwX1_tagOf_0 : List UInt8 := [42, 42, 180, 0, 214, 27, 182, 0, 100, 192, 0, 22, 182, 0, 73, 184, 1, 22, 172]
abbrev dktX1_tagOf_0 : List UInt8 := dkwX1_tagOf_0 ++ []
theorem dksX1_tagOf_0 : cX1_tagOf.data.toList.drop 0 = dktX1_tagOf_0 := by decide +kernel
theorem dX1_tagOf_0 : decode cX1_tagOf 0 = .ok (.aload_n 0, 1) := dk_42 (dk_at dksX1_tagOf_0 0 rfl rfl)
theorem dX1_tagOf_1 : decode cX1_tagOf 1 = .ok (.aload_n 0, 1) := dk_42 (dk_at dksX1_tagOf_0 1 rfl rfl)
theorem dX1_tagOf_2 : decode cX1_tagOf 2 = .ok (.getfield 214, 3) := dk_180 0 214 (dk_at dksX1_tagOf_0 2 rfl rfl)
theorem dX1_tagOf_5 : decode cX1_tagOf 5 = .ok (.iload_n 1, 1) := dk_27 (dk_at dksX1_tagOf_0 5 rfl rfl)
theorem dX1_tagOf_6 : decode cX1_tagOf 6 = .ok (.invokevirtual 100, 3) := dk_182 0 100 (dk_at dksX1_tagOf_0 6 rfl rfl)
theorem dX1_tagOf_9 : decode cX1_tagOf 9 = .ok (.checkcast 22, 3) := dk_192 0 22 (dk_at dksX1_tagOf_0 9 rfl rfl)
theorem dX1_tagOf_12 : decode cX1_tagOf 12 = .ok (.invokevirtual 73, 3) := dk_182 0 73 (dk_at dksX1_tagOf_0 12 rfl rfl)
theorem dX1_tagOf_15 : decode cX1_tagOf 15 = .ok (.invokestatic 278, 3) := dk_184 1 22 (dk_at dksX1_tagOf_0 15 rfl rfl)
theorem dX1_tagOf_18 : decode cX1_tagOf 18 = .ok (.ireturn, 1) := dk_172 (dk_at dksX1_tagOf_0 18 rfl rfl)
abbrev cX1_ruleOf : ByteArray := prog_1_method_43_code
def yX1_ruleOf : MethodName := ⟨RX1, "ruleOf", "(I)I"⟩
def dkwX1_ruleOf_2 : List UInt8 := [199, 0, 7, 2, 167, 0, 4, 5, 172]
abbrev dktX1_ruleOf_2 : List UInt8 := dkwX1_ruleOf_2 ++ []
def dkwX1_ruleOf_1 : List UInt8 := [198, 0, 5, 4, 172, 45, 198, 0, 13, 16, 10, 45, 180, 1, 39, 96, 167, 0, 15, 42, 180, 0, 40]
abbrev dktX1_ruleOf_1 : List UInt8 := dkwX1_ruleOf_1 ++ dktX1_ruleOf_2
def dkwX1_ruleOf_0 : List UInt8 := [42, 180, 0, 214, 27, 182, 0, 100, 192, 0, 22, 77, 44, 180, 0, 21, 182, 0, 27, 78, 44, 180, 0, 33]
abbrev dktX1_ruleOf_0 : List UInt8 := dkwX1_ruleOf_0 ++ dktX1_ruleOf_1
theorem dksX1_ruleOf_0 : cX1_ruleOf.data.toList.drop 0 = dktX1_ruleOf_0 := by decide +kernel
theorem dksX1_ruleOf_1 : cX1_ruleOf.data.toList.drop 24 = dktX1_ruleOf_1 := dk_seg dksX1_ruleOf_0 24 rfl rfl
theorem dksX1_ruleOf_2 : cX1_ruleOf.data.toList.drop 47 = dktX1_ruleOf_2 := dk_seg dksX1_ruleOf_1 23 rfl rfl
theorem dX1_ruleOf_0 : decode cX1_ruleOf 0 = .ok (.aload_n 0, 1) := dk_42 (dk_at dksX1_ruleOf_0 0 rfl rfl)
theorem dX1_ruleOf_1 : decode cX1_ruleOf 1 = .ok (.getfield 214, 3) := dk_180 0 214 (dk_at dksX1_ruleOf_0 1 rfl rfl)
theorem dX1_ruleOf_4 : decode cX1_ruleOf 4 = .ok (.iload_n 1, 1) := dk_27 (dk_at dksX1_ruleOf_0 4 rfl rfl)
theorem dX1_ruleOf_5 : decode cX1_ruleOf 5 = .ok (.invokevirtual 100, 3) := dk_182 0 100 (dk_at dksX1_ruleOf_0 5 rfl rfl)
theorem dX1_ruleOf_8 : decode cX1_ruleOf 8 = .ok (.checkcast 22, 3) := dk_192 0 22 (dk_at dksX1_ruleOf_0 8 rfl rfl)
theorem dX1_ruleOf_11 : decode cX1_ruleOf 11 = .ok (.astore_n 2, 1) := dk_77 (dk_at dksX1_ruleOf_0 11 rfl rfl)
theorem dX1_ruleOf_12 : decode cX1_ruleOf 12 = .ok (.aload_n 2, 1) := dk_44 (dk_at dksX1_ruleOf_0 12 rfl rfl)
theorem dX1_ruleOf_13 : decode cX1_ruleOf 13 = .ok (.getfield 21, 3) := dk_180 0 21 (dk_at dksX1_ruleOf_0 13 rfl rfl)
theorem dX1_ruleOf_16 : decode cX1_ruleOf 16 = .ok (.invokevirtual 27, 3) := dk_182 0 27 (dk_at dksX1_ruleOf_0 16 rfl rfl)
theorem dX1_ruleOf_19 : decode cX1_ruleOf 19 = .ok (.astore_n 3, 1) := dk_78 (dk_at dksX1_ruleOf_0 19 rfl rfl)
theorem dX1_ruleOf_20 : decode cX1_ruleOf 20 = .ok (.aload_n 2, 1) := dk_44 (dk_at dksX1_ruleOf_0 20 rfl rfl)
theorem dX1_ruleOf_21 : decode cX1_ruleOf 21 = .ok (.getfield 33, 3) := dk_180 0 33 (dk_at dksX1_ruleOf_0 21 rfl rfl)
theorem dX1_ruleOf_24 : decode cX1_ruleOf 24 = .ok (.ifnull 5, 3) := dk_198 0 5 (dk_at dksX1_ruleOf_1 0 rfl rfl)
theorem dX1_ruleOf_27 : decode cX1_ruleOf 27 = .ok (.iconst 1, 1) := dk_4 (dk_at dksX1_ruleOf_1 3 rfl rfl)
theorem dX1_ruleOf_28 : decode cX1_ruleOf 28 = .ok (.ireturn, 1) := dk_172 (dk_at dksX1_ruleOf_1 4 rfl rfl)
theorem dX1_ruleOf_29 : decode cX1_ruleOf 29 = .ok (.aload_n 3, 1) := dk_45 (dk_at dksX1_ruleOf_1 5 rfl rfl)
theorem dX1_ruleOf_30 : decode cX1_ruleOf 30 = .ok (.ifnull 13, 3) := dk_198 0 13 (dk_at dksX1_ruleOf_1 6 rfl rfl)
theorem dX1_ruleOf_33 : decode cX1_ruleOf 33 = .ok (.bipush 10, 2) := dk_16 10 (dk_at dksX1_ruleOf_1 9 rfl rfl)
theorem dX1_ruleOf_35 : decode cX1_ruleOf 35 = .ok (.aload_n 3, 1) := dk_45 (dk_at dksX1_ruleOf_1 11 rfl rfl)
theorem dX1_ruleOf_36 : decode cX1_ruleOf 36 = .ok (.getfield 295, 3) := dk_180 1 39 (dk_at dksX1_ruleOf_1 12 rfl rfl)
theorem dX1_ruleOf_39 : decode cX1_ruleOf 39 = .ok (.iadd, 1) := dk_96 (dk_at dksX1_ruleOf_1 15 rfl rfl)
theorem dX1_ruleOf_40 : decode cX1_ruleOf 40 = .ok (.goto 15, 3) := dk_167 0 15 (dk_at dksX1_ruleOf_1 16 rfl rfl)
theorem dX1_ruleOf_43 : decode cX1_ruleOf 43 = .ok (.aload_n 0, 1) := dk_42 (dk_at dksX1_ruleOf_1 19 rfl rfl)
theorem dX1_ruleOf_44 : decode cX1_ruleOf 44 = .ok (.getfield 40, 3) := dk_180 0 40 (dk_at dksX1_ruleOf_1 20 rfl rfl)
theorem dX1_ruleOf_47 : decode cX1_ruleOf 47 = .ok (.ifnonnull 7, 3) := dk_199 0 7 (dk_at dksX1_ruleOf_2 0 rfl rfl)
theorem dX1_ruleOf_50 : decode cX1_ruleOf 50 = .ok (.iconst (-1), 1) := dk_2 (dk_at dksX1_ruleOf_2 3 rfl rfl)
theorem dX1_ruleOf_51 : decode cX1_ruleOf 51 = .ok (.goto 4, 3) := dk_167 0 4 (dk_at dksX1_ruleOf_2 4 rfl rfl)
theorem dX1_ruleOf_54 : decode cX1_ruleOf 54 = .ok (.iconst 2, 1) := dk_5 (dk_at dksX1_ruleOf_2 7 rfl rfl)
theorem dX1_ruleOf_55 : decode cX1_ruleOf 55 = .ok (.ireturn, 1) := dk_172 (dk_at dksX1_ruleOf_2 8 rfl rfl)
abbrev cX1_due : ByteArray := prog_1_method_44_code
def yX1_due : MethodName := ⟨RX1, "due", "(I)I"⟩
def dkwX1_due_0 : List UInt8 := [42, 42, 180, 0, 214, 27, 182, 0, 100, 192, 0, 22, 182, 0, 134, 172]
abbrev dktX1_due_0 : List UInt8 := dkwX1_due_0 ++ []
theorem dksX1_due_0 : cX1_due.data.toList.drop 0 = dktX1_due_0 := by decide +kernel
theorem dX1_due_0 : decode cX1_due 0 = .ok (.aload_n 0, 1) := dk_42 (dk_at dksX1_due_0 0 rfl rfl)
theorem dX1_due_1 : decode cX1_due 1 = .ok (.aload_n 0, 1) := dk_42 (dk_at dksX1_due_0 1 rfl rfl)
theorem dX1_due_2 : decode cX1_due 2 = .ok (.getfield 214, 3) := dk_180 0 214 (dk_at dksX1_due_0 2 rfl rfl)
theorem dX1_due_5 : decode cX1_due 5 = .ok (.iload_n 1, 1) := dk_27 (dk_at dksX1_due_0 5 rfl rfl)
theorem dX1_due_6 : decode cX1_due 6 = .ok (.invokevirtual 100, 3) := dk_182 0 100 (dk_at dksX1_due_0 6 rfl rfl)
theorem dX1_due_9 : decode cX1_due 9 = .ok (.checkcast 22, 3) := dk_192 0 22 (dk_at dksX1_due_0 9 rfl rfl)
theorem dX1_due_12 : decode cX1_due 12 = .ok (.invokevirtual 134, 3) := dk_182 0 134 (dk_at dksX1_due_0 12 rfl rfl)
theorem dX1_due_15 : decode cX1_due 15 = .ok (.ireturn, 1) := dk_172 (dk_at dksX1_due_0 15 rfl rfl)
abbrev cX1_end : ByteArray := prog_1_method_45_code
def yX1_end : MethodName := ⟨RX1, "end", "(I)I"⟩
def dkwX1_end_0 : List UInt8 := [42, 42, 180, 0, 214, 27, 182, 0, 100, 192, 0, 22, 182, 1, 76, 172]
abbrev dktX1_end_0 : List UInt8 := dkwX1_end_0 ++ []
theorem dksX1_end_0 : cX1_end.data.toList.drop 0 = dktX1_end_0 := by decide +kernel
theorem dX1_end_0 : decode cX1_end 0 = .ok (.aload_n 0, 1) := dk_42 (dk_at dksX1_end_0 0 rfl rfl)
theorem dX1_end_1 : decode cX1_end 1 = .ok (.aload_n 0, 1) := dk_42 (dk_at dksX1_end_0 1 rfl rfl)
theorem dX1_end_2 : decode cX1_end 2 = .ok (.getfield 214, 3) := dk_180 0 214 (dk_at dksX1_end_0 2 rfl rfl)
theorem dX1_end_5 : decode cX1_end 5 = .ok (.iload_n 1, 1) := dk_27 (dk_at dksX1_end_0 5 rfl rfl)
theorem dX1_end_6 : decode cX1_end 6 = .ok (.invokevirtual 100, 3) := dk_182 0 100 (dk_at dksX1_end_0 6 rfl rfl)
theorem dX1_end_9 : decode cX1_end 9 = .ok (.checkcast 22, 3) := dk_192 0 22 (dk_at dksX1_end_0 9 rfl rfl)
theorem dX1_end_12 : decode cX1_end 12 = .ok (.invokevirtual 332, 3) := dk_182 1 76 (dk_at dksX1_end_0 12 rfl rfl)
theorem dX1_end_15 : decode cX1_end 15 = .ok (.ireturn, 1) := dk_172 (dk_at dksX1_end_0 15 rfl rfl)
abbrev cX1_firstOut : ByteArray := prog_1_method_46_code
def yX1_firstOut : MethodName := ⟨RX1, "firstOut", "()I"⟩
def dkwX1_firstOut_1 : List UInt8 := [192, 0, 22, 180, 1, 85, 172]
abbrev dktX1_firstOut_1 : List UInt8 := dkwX1_firstOut_1 ++ []
def dkwX1_firstOut_0 : List UInt8 := [42, 182, 0, 198, 76, 43, 182, 0, 202, 154, 0, 7, 4, 167, 0, 4, 3, 184, 1, 79, 43, 182, 1, 82]
abbrev dktX1_firstOut_0 : List UInt8 := dkwX1_firstOut_0 ++ dktX1_firstOut_1
theorem dksX1_firstOut_0 : cX1_firstOut.data.toList.drop 0 = dktX1_firstOut_0 := by decide +kernel
theorem dksX1_firstOut_1 : cX1_firstOut.data.toList.drop 24 = dktX1_firstOut_1 := dk_seg dksX1_firstOut_0 24 rfl rfl
theorem dX1_firstOut_0 : decode cX1_firstOut 0 = .ok (.aload_n 0, 1) := dk_42 (dk_at dksX1_firstOut_0 0 rfl rfl)
theorem dX1_firstOut_1 : decode cX1_firstOut 1 = .ok (.invokevirtual 198, 3) := dk_182 0 198 (dk_at dksX1_firstOut_0 1 rfl rfl)
theorem dX1_firstOut_4 : decode cX1_firstOut 4 = .ok (.astore_n 1, 1) := dk_76 (dk_at dksX1_firstOut_0 4 rfl rfl)
theorem dX1_firstOut_5 : decode cX1_firstOut 5 = .ok (.aload_n 1, 1) := dk_43 (dk_at dksX1_firstOut_0 5 rfl rfl)
theorem dX1_firstOut_6 : decode cX1_firstOut 6 = .ok (.invokevirtual 202, 3) := dk_182 0 202 (dk_at dksX1_firstOut_0 6 rfl rfl)
theorem dX1_firstOut_9 : decode cX1_firstOut 9 = .ok (.ifCond .ne 7, 3) := dk_154 0 7 (dk_at dksX1_firstOut_0 9 rfl rfl)
theorem dX1_firstOut_12 : decode cX1_firstOut 12 = .ok (.iconst 1, 1) := dk_4 (dk_at dksX1_firstOut_0 12 rfl rfl)
theorem dX1_firstOut_13 : decode cX1_firstOut 13 = .ok (.goto 4, 3) := dk_167 0 4 (dk_at dksX1_firstOut_0 13 rfl rfl)
theorem dX1_firstOut_16 : decode cX1_firstOut 16 = .ok (.iconst 0, 1) := dk_3 (dk_at dksX1_firstOut_0 16 rfl rfl)
theorem dX1_firstOut_17 : decode cX1_firstOut 17 = .ok (.invokestatic 335, 3) := dk_184 1 79 (dk_at dksX1_firstOut_0 17 rfl rfl)
theorem dX1_firstOut_20 : decode cX1_firstOut 20 = .ok (.aload_n 1, 1) := dk_43 (dk_at dksX1_firstOut_0 20 rfl rfl)
theorem dX1_firstOut_21 : decode cX1_firstOut 21 = .ok (.invokevirtual 338, 3) := dk_182 1 82 (dk_at dksX1_firstOut_0 21 rfl rfl)
theorem dX1_firstOut_24 : decode cX1_firstOut 24 = .ok (.checkcast 22, 3) := dk_192 0 22 (dk_at dksX1_firstOut_1 0 rfl rfl)
theorem dX1_firstOut_27 : decode cX1_firstOut 27 = .ok (.getfield 341, 3) := dk_180 1 85 (dk_at dksX1_firstOut_1 3 rfl rfl)
theorem dX1_firstOut_30 : decode cX1_firstOut 30 = .ok (.ireturn, 1) := dk_172 (dk_at dksX1_firstOut_1 6 rfl rfl)
abbrev cX1_checkElement : ByteArray := prog_1_method_17_code
def yX1_checkElement : MethodName := ⟨RX1, "checkElement", "(Z)V"⟩
def dkwX1_checkElement_0 : List UInt8 := [26, 154, 0, 11, 187, 1, 3, 89, 183, 1, 5, 191, 177]
abbrev dktX1_checkElement_0 : List UInt8 := dkwX1_checkElement_0 ++ []
theorem dksX1_checkElement_0 : cX1_checkElement.data.toList.drop 0 = dktX1_checkElement_0 := by decide +kernel
theorem dX1_checkElement_0 : decode cX1_checkElement 0 = .ok (.iload_n 0, 1) := dk_26 (dk_at dksX1_checkElement_0 0 rfl rfl)
theorem dX1_checkElement_1 : decode cX1_checkElement 1 = .ok (.ifCond .ne 11, 3) := dk_154 0 11 (dk_at dksX1_checkElement_0 1 rfl rfl)
theorem dX1_checkElement_4 : decode cX1_checkElement 4 = .ok (.new 259, 3) := dk_187 1 3 (dk_at dksX1_checkElement_0 4 rfl rfl)
theorem dX1_checkElement_7 : decode cX1_checkElement 7 = .ok (.dup, 1) := dk_89 (dk_at dksX1_checkElement_0 7 rfl rfl)
theorem dX1_checkElement_8 : decode cX1_checkElement 8 = .ok (.invokespecial 261, 3) := dk_183 1 5 (dk_at dksX1_checkElement_0 8 rfl rfl)
theorem dX1_checkElement_11 : decode cX1_checkElement 11 = .ok (.athrow, 1) := dk_191 (dk_at dksX1_checkElement_0 11 rfl rfl)
theorem dX1_checkElement_12 : decode cX1_checkElement 12 = .ok (.return_, 1) := dk_177 (dk_at dksX1_checkElement_0 12 rfl rfl)
abbrev cX1_write : ByteArray := prog_1_method_47_code
def yX1_write : MethodName := ⟨RX1, "write", "(I)I"⟩
def dkwX1_write_4 : List UInt8 := [167, 0, 6, 19, 1, 106, 182, 1, 99, 87, 42, 180, 0, 242, 182, 1, 108, 172]
abbrev dktX1_write_4 : List UInt8 := dkwX1_write_4 ++ []
def dkwX1_write_3 : List UInt8 := [182, 1, 99, 29, 182, 1, 93, 87, 42, 180, 0, 242, 42, 44, 182, 0, 116, 153, 0, 9, 19, 1, 104]
abbrev dktX1_write_3 : List UInt8 := dkwX1_write_3 ++ dktX1_write_4
def dkwX1_write_2 : List UInt8 := [180, 0, 113, 184, 1, 96, 182, 1, 99, 87, 29, 2, 159, 0, 18, 42, 180, 0, 242, 19, 1, 102]
abbrev dktX1_write_2 : List UInt8 := dkwX1_write_2 ++ dktX1_write_3
def dkwX1_write_1 : List UInt8 := [182, 1, 86, 42, 180, 0, 242, 16, 105, 182, 1, 89, 27, 182, 1, 93, 16, 32, 182, 1, 89, 44]
abbrev dktX1_write_1 : List UInt8 := dkwX1_write_1 ++ dktX1_write_2
def dkwX1_write_0 : List UInt8 := [42, 180, 0, 214, 27, 182, 0, 100, 192, 0, 22, 77, 42, 44, 182, 1, 76, 62, 42, 180, 0, 242, 3]
abbrev dktX1_write_0 : List UInt8 := dkwX1_write_0 ++ dktX1_write_1
theorem dksX1_write_0 : cX1_write.data.toList.drop 0 = dktX1_write_0 := by decide +kernel
theorem dksX1_write_1 : cX1_write.data.toList.drop 23 = dktX1_write_1 := dk_seg dksX1_write_0 23 rfl rfl
theorem dksX1_write_2 : cX1_write.data.toList.drop 45 = dktX1_write_2 := dk_seg dksX1_write_1 22 rfl rfl
theorem dksX1_write_3 : cX1_write.data.toList.drop 67 = dktX1_write_3 := dk_seg dksX1_write_2 22 rfl rfl
theorem dksX1_write_4 : cX1_write.data.toList.drop 90 = dktX1_write_4 := dk_seg dksX1_write_3 23 rfl rfl
theorem dX1_write_0 : decode cX1_write 0 = .ok (.aload_n 0, 1) := dk_42 (dk_at dksX1_write_0 0 rfl rfl)
theorem dX1_write_1 : decode cX1_write 1 = .ok (.getfield 214, 3) := dk_180 0 214 (dk_at dksX1_write_0 1 rfl rfl)
theorem dX1_write_4 : decode cX1_write 4 = .ok (.iload_n 1, 1) := dk_27 (dk_at dksX1_write_0 4 rfl rfl)
theorem dX1_write_5 : decode cX1_write 5 = .ok (.invokevirtual 100, 3) := dk_182 0 100 (dk_at dksX1_write_0 5 rfl rfl)
theorem dX1_write_8 : decode cX1_write 8 = .ok (.checkcast 22, 3) := dk_192 0 22 (dk_at dksX1_write_0 8 rfl rfl)
theorem dX1_write_11 : decode cX1_write 11 = .ok (.astore_n 2, 1) := dk_77 (dk_at dksX1_write_0 11 rfl rfl)
theorem dX1_write_12 : decode cX1_write 12 = .ok (.aload_n 0, 1) := dk_42 (dk_at dksX1_write_0 12 rfl rfl)
theorem dX1_write_13 : decode cX1_write 13 = .ok (.aload_n 2, 1) := dk_44 (dk_at dksX1_write_0 13 rfl rfl)
theorem dX1_write_14 : decode cX1_write 14 = .ok (.invokevirtual 332, 3) := dk_182 1 76 (dk_at dksX1_write_0 14 rfl rfl)
theorem dX1_write_17 : decode cX1_write 17 = .ok (.istore_n 3, 1) := dk_62 (dk_at dksX1_write_0 17 rfl rfl)
theorem dX1_write_18 : decode cX1_write 18 = .ok (.aload_n 0, 1) := dk_42 (dk_at dksX1_write_0 18 rfl rfl)
theorem dX1_write_19 : decode cX1_write 19 = .ok (.getfield 242, 3) := dk_180 0 242 (dk_at dksX1_write_0 19 rfl rfl)
theorem dX1_write_22 : decode cX1_write 22 = .ok (.iconst 0, 1) := dk_3 (dk_at dksX1_write_0 22 rfl rfl)
theorem dX1_write_23 : decode cX1_write 23 = .ok (.invokevirtual 342, 3) := dk_182 1 86 (dk_at dksX1_write_1 0 rfl rfl)
theorem dX1_write_26 : decode cX1_write 26 = .ok (.aload_n 0, 1) := dk_42 (dk_at dksX1_write_1 3 rfl rfl)
theorem dX1_write_27 : decode cX1_write 27 = .ok (.getfield 242, 3) := dk_180 0 242 (dk_at dksX1_write_1 4 rfl rfl)
theorem dX1_write_30 : decode cX1_write 30 = .ok (.bipush 105, 2) := dk_16 105 (dk_at dksX1_write_1 7 rfl rfl)
theorem dX1_write_32 : decode cX1_write 32 = .ok (.invokevirtual 345, 3) := dk_182 1 89 (dk_at dksX1_write_1 9 rfl rfl)
theorem dX1_write_35 : decode cX1_write 35 = .ok (.iload_n 1, 1) := dk_27 (dk_at dksX1_write_1 12 rfl rfl)
theorem dX1_write_36 : decode cX1_write 36 = .ok (.invokevirtual 349, 3) := dk_182 1 93 (dk_at dksX1_write_1 13 rfl rfl)
theorem dX1_write_39 : decode cX1_write 39 = .ok (.bipush 32, 2) := dk_16 32 (dk_at dksX1_write_1 16 rfl rfl)
theorem dX1_write_41 : decode cX1_write 41 = .ok (.invokevirtual 345, 3) := dk_182 1 89 (dk_at dksX1_write_1 18 rfl rfl)
theorem dX1_write_44 : decode cX1_write 44 = .ok (.aload_n 2, 1) := dk_44 (dk_at dksX1_write_1 21 rfl rfl)
theorem dX1_write_45 : decode cX1_write 45 = .ok (.getfield 113, 3) := dk_180 0 113 (dk_at dksX1_write_2 0 rfl rfl)
theorem dX1_write_48 : decode cX1_write 48 = .ok (.invokestatic 352, 3) := dk_184 1 96 (dk_at dksX1_write_2 3 rfl rfl)
theorem dX1_write_51 : decode cX1_write 51 = .ok (.invokevirtual 355, 3) := dk_182 1 99 (dk_at dksX1_write_2 6 rfl rfl)
theorem dX1_write_54 : decode cX1_write 54 = .ok (.pop, 1) := dk_87 (dk_at dksX1_write_2 9 rfl rfl)
theorem dX1_write_55 : decode cX1_write 55 = .ok (.iload_n 3, 1) := dk_29 (dk_at dksX1_write_2 10 rfl rfl)
theorem dX1_write_56 : decode cX1_write 56 = .ok (.iconst (-1), 1) := dk_2 (dk_at dksX1_write_2 11 rfl rfl)
theorem dX1_write_57 : decode cX1_write 57 = .ok (.if_icmp .eq 18, 3) := dk_159 0 18 (dk_at dksX1_write_2 12 rfl rfl)
theorem dX1_write_60 : decode cX1_write 60 = .ok (.aload_n 0, 1) := dk_42 (dk_at dksX1_write_2 15 rfl rfl)
theorem dX1_write_61 : decode cX1_write 61 = .ok (.getfield 242, 3) := dk_180 0 242 (dk_at dksX1_write_2 16 rfl rfl)
theorem dX1_write_64 : decode cX1_write 64 = .ok (.ldc_w 358, 3) := dk_19 1 102 (dk_at dksX1_write_2 19 rfl rfl)
theorem dX1_write_67 : decode cX1_write 67 = .ok (.invokevirtual 355, 3) := dk_182 1 99 (dk_at dksX1_write_3 0 rfl rfl)
theorem dX1_write_70 : decode cX1_write 70 = .ok (.iload_n 3, 1) := dk_29 (dk_at dksX1_write_3 3 rfl rfl)
theorem dX1_write_71 : decode cX1_write 71 = .ok (.invokevirtual 349, 3) := dk_182 1 93 (dk_at dksX1_write_3 4 rfl rfl)
theorem dX1_write_74 : decode cX1_write 74 = .ok (.pop, 1) := dk_87 (dk_at dksX1_write_3 7 rfl rfl)
theorem dX1_write_75 : decode cX1_write 75 = .ok (.aload_n 0, 1) := dk_42 (dk_at dksX1_write_3 8 rfl rfl)
theorem dX1_write_76 : decode cX1_write 76 = .ok (.getfield 242, 3) := dk_180 0 242 (dk_at dksX1_write_3 9 rfl rfl)
theorem dX1_write_79 : decode cX1_write 79 = .ok (.aload_n 0, 1) := dk_42 (dk_at dksX1_write_3 12 rfl rfl)
theorem dX1_write_80 : decode cX1_write 80 = .ok (.aload_n 2, 1) := dk_44 (dk_at dksX1_write_3 13 rfl rfl)
theorem dX1_write_81 : decode cX1_write 81 = .ok (.invokevirtual 116, 3) := dk_182 0 116 (dk_at dksX1_write_3 14 rfl rfl)
theorem dX1_write_84 : decode cX1_write 84 = .ok (.ifCond .eq 9, 3) := dk_153 0 9 (dk_at dksX1_write_3 17 rfl rfl)
theorem dX1_write_87 : decode cX1_write 87 = .ok (.ldc_w 360, 3) := dk_19 1 104 (dk_at dksX1_write_3 20 rfl rfl)
theorem dX1_write_90 : decode cX1_write 90 = .ok (.goto 6, 3) := dk_167 0 6 (dk_at dksX1_write_4 0 rfl rfl)
theorem dX1_write_93 : decode cX1_write 93 = .ok (.ldc_w 362, 3) := dk_19 1 106 (dk_at dksX1_write_4 3 rfl rfl)
theorem dX1_write_96 : decode cX1_write 96 = .ok (.invokevirtual 355, 3) := dk_182 1 99 (dk_at dksX1_write_4 6 rfl rfl)
theorem dX1_write_99 : decode cX1_write 99 = .ok (.pop, 1) := dk_87 (dk_at dksX1_write_4 9 rfl rfl)
theorem dX1_write_100 : decode cX1_write 100 = .ok (.aload_n 0, 1) := dk_42 (dk_at dksX1_write_4 10 rfl rfl)
theorem dX1_write_101 : decode cX1_write 101 = .ok (.getfield 242, 3) := dk_180 0 242 (dk_at dksX1_write_4 11 rfl rfl)
theorem dX1_write_104 : decode cX1_write 104 = .ok (.invokevirtual 364, 3) := dk_182 1 108 (dk_at dksX1_write_4 14 rfl rfl)
theorem dX1_write_107 : decode cX1_write 107 = .ok (.ireturn, 1) := dk_172 (dk_at dksX1_write_4 17 rfl rfl)
theorem q54 : (Jvm.Cond.initialized "Holdtag") ∈ lw_all := lw_g (lw_at lw_m1 1 rfl) rfl
theorem q100 : (Jvm.Cond.instantiable "Holdtag" (11 : Nat)) ∈ lw_all := lw_g (lw_at lw_m1 47 rfl) rfl
theorem q102 : (Jvm.Cond.instanceMethod ({ cls := "Holdtag", name := "<init>", desc := "()V" } : Jvm.MethodName)) ∈ lw_all := lw_g (lw_at lw_m1 49 rfl) rfl
theorem q103 : (Jvm.Cond.code ({ cls := "Holdtag", name := "<init>", desc := "()V" } : Jvm.MethodName) prog_1_method_14_code (2 : Nat) (Option.none : Option Jvm.ClassFile.FieldType)) ∈ lw_all := lw_g (lw_at lw_m1 50 rfl) rfl
theorem q104 : (Jvm.Cond.methodLink "Holdtag" (224 : Nat) ({ cls := "java/lang/Object", name := "<init>", desc := "()V" } : Jvm.MethodName)) ∈ lw_all := lw_g (lw_at lw_m1 51 rfl) rfl
theorem q107 : (Jvm.Cond.classLink "Holdtag" (98 : Nat) "Holdtag$Register") ∈ lw_all := lw_g (lw_at lw_m1 54 rfl) rfl
theorem q109 : (Jvm.Cond.methodLink "Holdtag" (227 : Nat) ({ cls := "Holdtag$Register", name := "<init>", desc := "(I)V" } : Jvm.MethodName)) ∈ lw_all := lw_g (lw_at lw_m1 56 rfl) rfl
theorem q140 : (Jvm.Cond.fieldLinkNest "Holdtag" (249 : Nat) "Holdtag$Register" "all" "Ljava/util/List;" "Holdtag") ∈ lw_tbl := lw_at lw_m1 87 rfl
theorem q147 : (Jvm.Cond.classLink "Holdtag" (236 : Nat) "java/util/TreeMap") ∈ lw_all := lw_g (lw_at lw_m1 94 rfl) rfl
theorem q149 : (Jvm.Cond.methodLink "Holdtag" (238 : Nat) ({ cls := "java/util/TreeMap", name := "<init>", desc := "()V" } : Jvm.MethodName)) ∈ lw_all := lw_g (lw_at lw_m1 96 rfl) rfl
theorem q179 : (Jvm.Cond.classLink "Holdtag" (239 : Nat) "java/lang/StringBuilder") ∈ lw_all := lw_g (lw_at lw_m1 126 rfl) rfl
theorem q181 : (Jvm.Cond.methodLink "Holdtag" (241 : Nat) ({ cls := "java/lang/StringBuilder", name := "<init>", desc := "()V" } : Jvm.MethodName)) ∈ lw_all := lw_g (lw_at lw_m1 128 rfl) rfl
theorem q212 : (Jvm.Cond.classLink "Holdtag" (28 : Nat) "Holdtag$Folder") ∈ lw_all := lw_g (lw_at lw_m1 159 rfl) rfl
theorem q214 : (Jvm.Cond.methodLink "Holdtag" (246 : Nat) ({ cls := "Holdtag$Folder", name := "<init>", desc := "(ILHoldtag$Folder;)V" } : Jvm.MethodName)) ∈ lw_all := lw_g (lw_at lw_m1 161 rfl) rfl
theorem q219 : (Jvm.Cond.fieldLinkNest "Holdtag" (295 : Nat) "Holdtag$Folder" "number" "I" "Holdtag") ∈ lw_tbl := lw_at lw_m1 166 rfl
theorem q222 : (Jvm.Cond.fieldLinkNest "Holdtag" (37 : Nat) "Holdtag$Folder" "tag" "LHoldtag$Tag;" "Holdtag") ∈ lw_tbl := lw_at lw_m1 169 rfl
theorem q230 : (Jvm.Cond.interfaceEntry "Holdtag" (109 : Nat)) ∈ lw_tbl := lw_at lw_m1 177 rfl
theorem q231 : (Jvm.Cond.methodLink "Holdtag" (109 : Nat) ({ cls := "java/util/List", name := "add", desc := "(Ljava/lang/Object;)Z" } : Jvm.MethodName)) ∈ lw_all := lw_g (lw_at lw_m1 178 rfl) rfl
theorem q268 : (Jvm.Cond.selects "Holdtag" ({ cls := "java/lang/Object", name := "getClass", desc := "()Ljava/lang/Class;" } : Jvm.MethodName) ({ cls := "java/lang/Object", name := "getClass", desc := "()Ljava/lang/Class;" } : Jvm.MethodName)) ∈ lw_all := lw_g (lw_at lw_m1 215 rfl) rfl
theorem q308 : (Jvm.Cond.fieldLink "Holdtag" (230 : Nat) "Holdtag" "folders" "LHoldtag$Register;") ∈ lw_all := lw_g (lw_at lw_m2 15 rfl) rfl
theorem q309 : (Jvm.Cond.fieldLink "Holdtag" (233 : Nat) "Holdtag" "tags" "LHoldtag$Register;") ∈ lw_all := lw_g (lw_at lw_m2 16 rfl) rfl
theorem q311 : (Jvm.Cond.fieldLink "Holdtag" (214 : Nat) "Holdtag" "items" "LHoldtag$Register;") ∈ lw_all := lw_g (lw_at lw_m2 18 rfl) rfl
theorem q312 : (Jvm.Cond.fieldLink "Holdtag" (93 : Nat) "Holdtag" "holds" "LHoldtag$Register;") ∈ lw_all := lw_g (lw_at lw_m2 19 rfl) rfl
theorem q313 : (Jvm.Cond.fieldLink "Holdtag" (40 : Nat) "Holdtag" "byDefault" "LHoldtag$Tag;") ∈ lw_all := lw_g (lw_at lw_m2 20 rfl) rfl
theorem q314 : (Jvm.Cond.fieldLink "Holdtag" (49 : Nat) "Holdtag" "events" "Ljava/util/Map;") ∈ lw_all := lw_g (lw_at lw_m2 21 rfl) rfl
theorem q315 : (Jvm.Cond.fieldLink "Holdtag" (125 : Nat) "Holdtag" "today" "I") ∈ lw_all := lw_g (lw_at lw_m2 22 rfl) rfl
theorem q316 : (Jvm.Cond.fieldLink "Holdtag" (122 : Nat) "Holdtag" "window" "I") ∈ lw_all := lw_g (lw_at lw_m2 23 rfl) rfl
theorem q317 : (Jvm.Cond.fieldLink "Holdtag" (195 : Nat) "Holdtag" "quota" "I") ∈ lw_all := lw_g (lw_at lw_m2 24 rfl) rfl
theorem q318 : (Jvm.Cond.fieldLink "Holdtag" (189 : Nat) "Holdtag" "gone" "I") ∈ lw_all := lw_g (lw_at lw_m2 25 rfl) rfl
theorem q319 : (Jvm.Cond.fieldLink "Holdtag" (242 : Nat) "Holdtag" "output" "Ljava/lang/StringBuilder;") ∈ lw_all := lw_g (lw_at lw_m2 26 rfl) rfl
theorem q320 : (Jvm.Cond.lays "Holdtag" "Holdtag" "folders" "LHoldtag$Register;") ∈ lw_all := lw_g (lw_at lw_m2 27 rfl) rfl
theorem q321 : (Jvm.Cond.soleField "Holdtag" "folders") ∈ lw_all := lw_g (lw_at lw_m2 28 rfl) rfl
theorem q322 : (Jvm.Cond.lays "Holdtag" "Holdtag" "tags" "LHoldtag$Register;") ∈ lw_all := lw_g (lw_at lw_m2 29 rfl) rfl
theorem q323 : (Jvm.Cond.soleField "Holdtag" "tags") ∈ lw_all := lw_g (lw_at lw_m2 30 rfl) rfl
theorem q324 : (Jvm.Cond.lays "Holdtag" "Holdtag" "items" "LHoldtag$Register;") ∈ lw_all := lw_g (lw_at lw_m2 31 rfl) rfl
theorem q325 : (Jvm.Cond.soleField "Holdtag" "items") ∈ lw_all := lw_g (lw_at lw_m2 32 rfl) rfl
theorem q326 : (Jvm.Cond.lays "Holdtag" "Holdtag" "holds" "LHoldtag$Register;") ∈ lw_all := lw_g (lw_at lw_m2 33 rfl) rfl
theorem q327 : (Jvm.Cond.soleField "Holdtag" "holds") ∈ lw_all := lw_g (lw_at lw_m2 34 rfl) rfl
theorem q328 : (Jvm.Cond.lays "Holdtag" "Holdtag" "byDefault" "LHoldtag$Tag;") ∈ lw_all := lw_g (lw_at lw_m2 35 rfl) rfl
theorem q329 : (Jvm.Cond.soleField "Holdtag" "byDefault") ∈ lw_all := lw_g (lw_at lw_m2 36 rfl) rfl
theorem q330 : (Jvm.Cond.lays "Holdtag" "Holdtag" "events" "Ljava/util/Map;") ∈ lw_all := lw_g (lw_at lw_m2 37 rfl) rfl
theorem q331 : (Jvm.Cond.soleField "Holdtag" "events") ∈ lw_all := lw_g (lw_at lw_m2 38 rfl) rfl
theorem q332 : (Jvm.Cond.lays "Holdtag" "Holdtag" "today" "I") ∈ lw_all := lw_g (lw_at lw_m2 39 rfl) rfl
theorem q333 : (Jvm.Cond.soleField "Holdtag" "today") ∈ lw_all := lw_g (lw_at lw_m2 40 rfl) rfl
theorem q334 : (Jvm.Cond.lays "Holdtag" "Holdtag" "window" "I") ∈ lw_all := lw_g (lw_at lw_m2 41 rfl) rfl
theorem q335 : (Jvm.Cond.soleField "Holdtag" "window") ∈ lw_all := lw_g (lw_at lw_m2 42 rfl) rfl
theorem q336 : (Jvm.Cond.lays "Holdtag" "Holdtag" "quota" "I") ∈ lw_all := lw_g (lw_at lw_m2 43 rfl) rfl
theorem q337 : (Jvm.Cond.soleField "Holdtag" "quota") ∈ lw_all := lw_g (lw_at lw_m2 44 rfl) rfl
theorem q338 : (Jvm.Cond.lays "Holdtag" "Holdtag" "gone" "I") ∈ lw_all := lw_g (lw_at lw_m2 45 rfl) rfl
theorem q339 : (Jvm.Cond.soleField "Holdtag" "gone") ∈ lw_all := lw_g (lw_at lw_m2 46 rfl) rfl
theorem q340 : (Jvm.Cond.laysFinal "Holdtag" "Holdtag" "output" "Ljava/lang/StringBuilder;") ∈ lw_all := lw_g (lw_at lw_m2 47 rfl) rfl
theorem q341 : (Jvm.Cond.soleField "Holdtag" "output") ∈ lw_all := lw_g (lw_at lw_m2 48 rfl) rfl
theorem q342 : (Jvm.Cond.superclass "Holdtag" "java/lang/Object") ∈ lw_all := lw_g (lw_at lw_m2 49 rfl) rfl
theorem q344 : (Jvm.Cond.instanceMethod ({ cls := "Holdtag", name := "clear", desc := "()I" } : Jvm.MethodName)) ∈ lw_all := lw_g (lw_at lw_m2 51 rfl) rfl
theorem q345 : (Jvm.Cond.selects "Holdtag" ({ cls := "Holdtag", name := "clear", desc := "()I" } : Jvm.MethodName) ({ cls := "Holdtag", name := "clear", desc := "()I" } : Jvm.MethodName)) ∈ lw_all := lw_g (lw_at lw_m2 52 rfl) rfl
theorem q346 : (Jvm.Cond.code ({ cls := "Holdtag", name := "clear", desc := "()I" } : Jvm.MethodName) prog_1_method_18_code (2 : Nat) (Option.some Jvm.ClassFile.FieldType.int)) ∈ lw_all := lw_g (lw_at lw_m2 53 rfl) rfl
theorem q347 : (Jvm.Cond.methodLink "Holdtag" (97 : Nat) ({ cls := "Holdtag$Register", name := "size", desc := "()I" } : Jvm.MethodName)) ∈ lw_all := lw_g (lw_at lw_m2 54 rfl) rfl
theorem q361 : (Jvm.Cond.instanceMethod ({ cls := "Holdtag", name := "today", desc := "()I" } : Jvm.MethodName)) ∈ lw_all := lw_g (lw_at lw_m2 68 rfl) rfl
theorem q362 : (Jvm.Cond.selects "Holdtag" ({ cls := "Holdtag", name := "today", desc := "()I" } : Jvm.MethodName) ({ cls := "Holdtag", name := "today", desc := "()I" } : Jvm.MethodName)) ∈ lw_all := lw_g (lw_at lw_m2 69 rfl) rfl
theorem q363 : (Jvm.Cond.code ({ cls := "Holdtag", name := "today", desc := "()I" } : Jvm.MethodName) prog_1_method_39_code (1 : Nat) (Option.some Jvm.ClassFile.FieldType.int)) ∈ lw_all := lw_g (lw_at lw_m2 70 rfl) rfl
theorem q365 : (Jvm.Cond.instanceMethod ({ cls := "Holdtag", name := "outputAt", desc := "(I)I" } : Jvm.MethodName)) ∈ lw_all := lw_g (lw_at lw_m2 72 rfl) rfl
theorem q366 : (Jvm.Cond.selects "Holdtag" ({ cls := "Holdtag", name := "outputAt", desc := "(I)I" } : Jvm.MethodName) ({ cls := "Holdtag", name := "outputAt", desc := "(I)I" } : Jvm.MethodName)) ∈ lw_all := lw_g (lw_at lw_m2 73 rfl) rfl
theorem q367 : (Jvm.Cond.code ({ cls := "Holdtag", name := "outputAt", desc := "(I)I" } : Jvm.MethodName) prog_1_method_48_code (2 : Nat) (Option.some Jvm.ClassFile.FieldType.int)) ∈ lw_all := lw_g (lw_at lw_m2 74 rfl) rfl
theorem q368 : (Jvm.Cond.methodLink "Holdtag" (364 : Nat) ({ cls := "java/lang/StringBuilder", name := "length", desc := "()I" } : Jvm.MethodName)) ∈ lw_all := lw_g (lw_at lw_m2 75 rfl) rfl
theorem q375 : (Jvm.Cond.methodLink "Holdtag" (367 : Nat) ({ cls := "java/lang/StringBuilder", name := "charAt", desc := "(I)C" } : Jvm.MethodName)) ∈ lw_all := lw_g (lw_at lw_m2 82 rfl) rfl
theorem q404 : (Jvm.Cond.instanceMethod ({ cls := "Holdtag", name := "meanAge", desc := "()D" } : Jvm.MethodName)) ∈ lw_all := lw_g (lw_at lw_m2 111 rfl) rfl
theorem q405 : (Jvm.Cond.selects "Holdtag" ({ cls := "Holdtag", name := "meanAge", desc := "()D" } : Jvm.MethodName) ({ cls := "Holdtag", name := "meanAge", desc := "()D" } : Jvm.MethodName)) ∈ lw_all := lw_g (lw_at lw_m2 112 rfl) rfl
theorem q406 : (Jvm.Cond.code ({ cls := "Holdtag", name := "meanAge", desc := "()D" } : Jvm.MethodName) prog_1_method_49_code (5 : Nat) (Option.some Jvm.ClassFile.FieldType.double)) ∈ lw_all := lw_g (lw_at lw_m2 113 rfl) rfl
theorem q407 : (Jvm.Cond.classLink "Holdtag" (170 : Nat) "Holdtag$InState") ∈ lw_all := lw_g (lw_at lw_m2 114 rfl) rfl
theorem q409 : (Jvm.Cond.methodLink "Holdtag" (172 : Nat) ({ cls := "Holdtag$InState", name := "<init>", desc := "(LHoldtag;I)V" } : Jvm.MethodName)) ∈ lw_all := lw_g (lw_at lw_m2 116 rfl) rfl
theorem q416 : (Jvm.Cond.fieldLinkNest "Holdtag" (329 : Nat) "Holdtag$InState" "met" "I" "Holdtag") ∈ lw_tbl := lw_at lw_m2 123 rfl
theorem q426 : (Jvm.Cond.methodLink "Holdtag" (175 : Nat) ({ cls := "Holdtag$InState", name := "iterator", desc := "()Ljava/util/Iterator;" } : Jvm.MethodName)) ∈ lw_all := lw_g (lw_at lw_m2 133 rfl) rfl
theorem q538 : (Jvm.Cond.interfaceEntry "Holdtag" (179 : Nat)) ∈ lw_tbl := lw_at lw_m3 5 rfl
theorem q539 : (Jvm.Cond.methodLink "Holdtag" (179 : Nat) ({ cls := "java/util/Iterator", name := "hasNext", desc := "()Z" } : Jvm.MethodName)) ∈ lw_all := lw_g (lw_at lw_m3 6 rfl) rfl
theorem q548 : (Jvm.Cond.interfaceEntry "Holdtag" (184 : Nat)) ∈ lw_tbl := lw_at lw_m3 15 rfl
theorem q549 : (Jvm.Cond.methodLink "Holdtag" (184 : Nat) ({ cls := "java/util/Iterator", name := "next", desc := "()Ljava/lang/Object;" } : Jvm.MethodName)) ∈ lw_all := lw_g (lw_at lw_m3 16 rfl) rfl
theorem q577 : (Jvm.Cond.classLink "Holdtag" (22 : Nat) "Holdtag$Item") ∈ lw_all := lw_g (lw_at lw_m3 44 rfl) rfl
theorem q579 : (Jvm.Cond.instanceMethod ({ cls := "Holdtag", name := "heldShare", desc := "()F" } : Jvm.MethodName)) ∈ lw_all := lw_g (lw_at lw_m3 46 rfl) rfl
theorem q580 : (Jvm.Cond.selects "Holdtag" ({ cls := "Holdtag", name := "heldShare", desc := "()F" } : Jvm.MethodName) ({ cls := "Holdtag", name := "heldShare", desc := "()F" } : Jvm.MethodName)) ∈ lw_all := lw_g (lw_at lw_m3 47 rfl) rfl
theorem q581 : (Jvm.Cond.code ({ cls := "Holdtag", name := "heldShare", desc := "()F" } : Jvm.MethodName) prog_1_method_50_code (3 : Nat) (Option.some Jvm.ClassFile.FieldType.float)) ∈ lw_all := lw_g (lw_at lw_m3 48 rfl) rfl
theorem q582 : (Jvm.Cond.methodLink "Holdtag" (100 : Nat) ({ cls := "Holdtag$Register", name := "at", desc := "(I)LHoldtag$Numbered;" } : Jvm.MethodName)) ∈ lw_all := lw_g (lw_at lw_m3 49 rfl) rfl
theorem q583 : (Jvm.Cond.methodLink "Holdtag" (318 : Nat) ({ cls := "Holdtag", name := "countHeld", desc := "()I" } : Jvm.MethodName)) ∈ lw_all := lw_g (lw_at lw_m3 50 rfl) rfl
theorem q584 : (Jvm.Cond.privateMethod ({ cls := "Holdtag", name := "countHeld", desc := "()I" } : Jvm.MethodName)) ∈ lw_tbl := lw_at lw_m3 51 rfl
theorem q585 : (Jvm.Cond.instanceMethod ({ cls := "Holdtag", name := "countHeld", desc := "()I" } : Jvm.MethodName)) ∈ lw_all := lw_g (lw_at lw_m3 52 rfl) rfl
theorem q586 : (Jvm.Cond.code ({ cls := "Holdtag", name := "countHeld", desc := "()I" } : Jvm.MethodName) prog_1_method_36_code (3 : Nat) (Option.some Jvm.ClassFile.FieldType.int)) ∈ lw_all := lw_g (lw_at lw_m3 53 rfl) rfl
theorem q587 : (Jvm.Cond.methodLink "Holdtag" (116 : Nat) ({ cls := "Holdtag", name := "isHeld", desc := "(LHoldtag$Item;)Z" } : Jvm.MethodName)) ∈ lw_all := lw_g (lw_at lw_m3 54 rfl) rfl
theorem q588 : (Jvm.Cond.privateMethod ({ cls := "Holdtag", name := "isHeld", desc := "(LHoldtag$Item;)Z" } : Jvm.MethodName)) ∈ lw_tbl := lw_at lw_m3 55 rfl
theorem q589 : (Jvm.Cond.instanceMethod ({ cls := "Holdtag", name := "isHeld", desc := "(LHoldtag$Item;)Z" } : Jvm.MethodName)) ∈ lw_all := lw_g (lw_at lw_m3 56 rfl) rfl
theorem q590 : (Jvm.Cond.code ({ cls := "Holdtag", name := "isHeld", desc := "(LHoldtag$Item;)Z" } : Jvm.MethodName) prog_1_method_7_code (3 : Nat) (Option.some Jvm.ClassFile.FieldType.boolean)) ∈ lw_all := lw_g (lw_at lw_m3 57 rfl) rfl
theorem q591 : (Jvm.Cond.classLink "Holdtag" (104 : Nat) "Holdtag$Hold") ∈ lw_all := lw_g (lw_at lw_m3 58 rfl) rfl
theorem q592 : (Jvm.Cond.methodLink "Holdtag" (106 : Nat) ({ cls := "Holdtag$Hold", name := "holds", desc := "(LHoldtag$Item;)Z" } : Jvm.MethodName)) ∈ lw_all := lw_g (lw_at lw_m3 59 rfl) rfl
theorem q597 : (Jvm.Cond.instanceMethod ({ cls := "Holdtag", name := "errors", desc := "()I" } : Jvm.MethodName)) ∈ lw_all := lw_g (lw_at lw_m3 64 rfl) rfl
theorem q598 : (Jvm.Cond.selects "Holdtag" ({ cls := "Holdtag", name := "errors", desc := "()I" } : Jvm.MethodName) ({ cls := "Holdtag", name := "errors", desc := "()I" } : Jvm.MethodName)) ∈ lw_all := lw_g (lw_at lw_m3 65 rfl) rfl
theorem q599 : (Jvm.Cond.code ({ cls := "Holdtag", name := "errors", desc := "()I" } : Jvm.MethodName) prog_1_method_52_code (5 : Nat) (Option.some Jvm.ClassFile.FieldType.int)) ∈ lw_all := lw_g (lw_at lw_m3 66 rfl) rfl
theorem q600 : (Jvm.Cond.methodLink "Holdtag" (332 : Nat) ({ cls := "Holdtag", name := "endOf", desc := "(LHoldtag$Item;)I" } : Jvm.MethodName)) ∈ lw_all := lw_g (lw_at lw_m3 67 rfl) rfl
theorem q601 : (Jvm.Cond.privateMethod ({ cls := "Holdtag", name := "endOf", desc := "(LHoldtag$Item;)I" } : Jvm.MethodName)) ∈ lw_tbl := lw_at lw_m3 68 rfl
theorem q602 : (Jvm.Cond.instanceMethod ({ cls := "Holdtag", name := "endOf", desc := "(LHoldtag$Item;)I" } : Jvm.MethodName)) ∈ lw_all := lw_g (lw_at lw_m3 69 rfl) rfl
theorem q603 : (Jvm.Cond.code ({ cls := "Holdtag", name := "endOf", desc := "(LHoldtag$Item;)I" } : Jvm.MethodName) prog_1_method_8_code (4 : Nat) (Option.some Jvm.ClassFile.FieldType.int)) ∈ lw_all := lw_g (lw_at lw_m3 70 rfl) rfl
theorem q604 : (Jvm.Cond.methodLink "Holdtag" (128 : Nat) ({ cls := "java/lang/Math", name := "max", desc := "(II)I" } : Jvm.MethodName)) ∈ lw_all := lw_g (lw_at lw_m3 71 rfl) rfl
theorem q605 : (Jvm.Cond.methodLink "Holdtag" (134 : Nat) ({ cls := "Holdtag", name := "dueOf", desc := "(LHoldtag$Item;)I" } : Jvm.MethodName)) ∈ lw_all := lw_g (lw_at lw_m3 72 rfl) rfl
theorem q606 : (Jvm.Cond.privateMethod ({ cls := "Holdtag", name := "dueOf", desc := "(LHoldtag$Item;)I" } : Jvm.MethodName)) ∈ lw_tbl := lw_at lw_m3 73 rfl
theorem q607 : (Jvm.Cond.instanceMethod ({ cls := "Holdtag", name := "dueOf", desc := "(LHoldtag$Item;)I" } : Jvm.MethodName)) ∈ lw_all := lw_g (lw_at lw_m3 74 rfl) rfl
theorem q608 : (Jvm.Cond.code ({ cls := "Holdtag", name := "dueOf", desc := "(LHoldtag$Item;)I" } : Jvm.MethodName) prog_1_method_5_code (4 : Nat) (Option.some Jvm.ClassFile.FieldType.int)) ∈ lw_all := lw_g (lw_at lw_m3 75 rfl) rfl
theorem q609 : (Jvm.Cond.methodLink "Holdtag" (73 : Nat) ({ cls := "Holdtag", name := "tagFor", desc := "(LHoldtag$Item;)LHoldtag$Tag;" } : Jvm.MethodName)) ∈ lw_all := lw_g (lw_at lw_m3 76 rfl) rfl
theorem q610 : (Jvm.Cond.privateMethod ({ cls := "Holdtag", name := "tagFor", desc := "(LHoldtag$Item;)LHoldtag$Tag;" } : Jvm.MethodName)) ∈ lw_tbl := lw_at lw_m3 77 rfl
theorem q611 : (Jvm.Cond.instanceMethod ({ cls := "Holdtag", name := "tagFor", desc := "(LHoldtag$Item;)LHoldtag$Tag;" } : Jvm.MethodName)) ∈ lw_all := lw_g (lw_at lw_m3 78 rfl) rfl
theorem q612 : (Jvm.Cond.code ({ cls := "Holdtag", name := "tagFor", desc := "(LHoldtag$Item;)LHoldtag$Tag;" } : Jvm.MethodName) prog_1_method_3_code (3 : Nat) (Option.some (Jvm.ClassFile.FieldType.object "Holdtag$Tag"))) ∈ lw_all := lw_g (lw_at lw_m3 79 rfl) rfl
theorem q613 : (Jvm.Cond.methodLink "Holdtag" (27 : Nat) ({ cls := "Holdtag$Folder", name := "tagged", desc := "()LHoldtag$Folder;" } : Jvm.MethodName)) ∈ lw_all := lw_g (lw_at lw_m3 80 rfl) rfl
theorem q618 : (Jvm.Cond.methodLink "Holdtag" (80 : Nat) ({ cls := "Holdtag", name := "startOf", desc := "(LHoldtag$Item;LHoldtag$Tag;)I" } : Jvm.MethodName)) ∈ lw_all := lw_g (lw_at lw_m3 85 rfl) rfl
theorem q619 : (Jvm.Cond.privateMethod ({ cls := "Holdtag", name := "startOf", desc := "(LHoldtag$Item;LHoldtag$Tag;)I" } : Jvm.MethodName)) ∈ lw_tbl := lw_at lw_m3 86 rfl
theorem q620 : (Jvm.Cond.instanceMethod ({ cls := "Holdtag", name := "startOf", desc := "(LHoldtag$Item;LHoldtag$Tag;)I" } : Jvm.MethodName)) ∈ lw_all := lw_g (lw_at lw_m3 87 rfl) rfl
theorem q621 : (Jvm.Cond.code ({ cls := "Holdtag", name := "startOf", desc := "(LHoldtag$Item;LHoldtag$Tag;)I" } : Jvm.MethodName) prog_1_method_4_code (4 : Nat) (Option.some Jvm.ClassFile.FieldType.int)) ∈ lw_all := lw_g (lw_at lw_m3 88 rfl) rfl
theorem q622 : (Jvm.Cond.methodLink "Holdtag" (53 : Nat) ({ cls := "java/lang/Integer", name := "valueOf", desc := "(I)Ljava/lang/Integer;" } : Jvm.MethodName)) ∈ lw_all := lw_g (lw_at lw_m3 89 rfl) rfl
theorem q642 : (Jvm.Cond.interfaceEntry "Holdtag" (59 : Nat)) ∈ lw_tbl := lw_at lw_m3 109 rfl
theorem q643 : (Jvm.Cond.methodLink "Holdtag" (59 : Nat) ({ cls := "java/util/Map", name := "get", desc := "(Ljava/lang/Object;)Ljava/lang/Object;" } : Jvm.MethodName)) ∈ lw_all := lw_g (lw_at lw_m3 110 rfl) rfl
theorem q889 : (Jvm.Cond.classLink "Holdtag" (54 : Nat) "java/lang/Integer") ∈ lw_all := lw_g (lw_at lw_m4 116 rfl) rfl
theorem q890 : (Jvm.Cond.methodLink "Holdtag" (64 : Nat) ({ cls := "java/lang/Integer", name := "intValue", desc := "()I" } : Jvm.MethodName)) ∈ lw_all := lw_g (lw_at lw_m4 117 rfl) rfl
theorem q894 : (Jvm.Cond.methodLink "Holdtag" (371 : Nat) ({ cls := "Holdtag", name := "walk", desc := "(LHoldtag$Item;)I" } : Jvm.MethodName)) ∈ lw_all := lw_g (lw_at lw_m4 121 rfl) rfl
theorem q895 : (Jvm.Cond.privateMethod ({ cls := "Holdtag", name := "walk", desc := "(LHoldtag$Item;)I" } : Jvm.MethodName)) ∈ lw_tbl := lw_at lw_m4 122 rfl
theorem q896 : (Jvm.Cond.instanceMethod ({ cls := "Holdtag", name := "walk", desc := "(LHoldtag$Item;)I" } : Jvm.MethodName)) ∈ lw_all := lw_g (lw_at lw_m4 123 rfl) rfl
theorem q897 : (Jvm.Cond.code ({ cls := "Holdtag", name := "walk", desc := "(LHoldtag$Item;)I" } : Jvm.MethodName) prog_1_method_51_code (4 : Nat) (Option.some Jvm.ClassFile.FieldType.int)) ∈ lw_all := lw_g (lw_at lw_m4 124 rfl) rfl
theorem q899 : (Jvm.Cond.methodLink "Holdtag" (300 : Nat) ({ cls := "Holdtag$Item", name := "<init>", desc := "(ILHoldtag$Item;)V" } : Jvm.MethodName)) ∈ lw_all := lw_g (lw_at lw_m4 126 rfl) rfl
theorem q908 : (Jvm.Cond.fieldLinkNest "Holdtag" (341 : Nat) "Holdtag$Item" "number" "I" "Holdtag") ∈ lw_tbl := lw_at lw_m4 135 rfl
theorem q913 : (Jvm.Cond.fieldLinkNest "Holdtag" (208 : Nat) "Holdtag$Item" "size" "I" "Holdtag") ∈ lw_tbl := lw_at lw_m4 140 rfl
theorem q916 : (Jvm.Cond.fieldLinkNest "Holdtag" (70 : Nat) "Holdtag$Item" "arrival" "I" "Holdtag") ∈ lw_tbl := lw_at lw_m4 143 rfl
theorem q918 : (Jvm.Cond.fieldLinkNest "Holdtag" (21 : Nat) "Holdtag$Item" "folder" "LHoldtag$Folder;" "Holdtag") ∈ lw_tbl := lw_at lw_m4 145 rfl
theorem q921 : (Jvm.Cond.fieldLinkNest "Holdtag" (297 : Nat) "Holdtag$Item" "word" "I" "Holdtag") ∈ lw_tbl := lw_at lw_m4 148 rfl
theorem q923 : (Jvm.Cond.fieldLinkNest "Holdtag" (67 : Nat) "Holdtag$Item" "meeting" "I" "Holdtag") ∈ lw_tbl := lw_at lw_m4 150 rfl
theorem q925 : (Jvm.Cond.fieldLinkNest "Holdtag" (33 : Nat) "Holdtag$Item" "own" "LHoldtag$Tag;" "Holdtag") ∈ lw_tbl := lw_at lw_m4 152 rfl
theorem q929 : (Jvm.Cond.fieldLinkNest "Holdtag" (113 : Nat) "Holdtag$Item" "state" "I" "Holdtag") ∈ lw_tbl := lw_at lw_m4 156 rfl
theorem q932 : (Jvm.Cond.fieldLinkNest "Holdtag" (119 : Nat) "Holdtag$Item" "day" "I" "Holdtag") ∈ lw_tbl := lw_at lw_m4 159 rfl
theorem q954 : (Jvm.Cond.methodLink "Holdtag" (217 : Nat) ({ cls := "Holdtag", name := "live", desc := "(LHoldtag$Item;I)V" } : Jvm.MethodName)) ∈ lw_all := lw_g (lw_at lw_m4 181 rfl) rfl
theorem q955 : (Jvm.Cond.privateMethod ({ cls := "Holdtag", name := "live", desc := "(LHoldtag$Item;I)V" } : Jvm.MethodName)) ∈ lw_tbl := lw_at lw_m4 182 rfl
theorem q956 : (Jvm.Cond.instanceMethod ({ cls := "Holdtag", name := "live", desc := "(LHoldtag$Item;I)V" } : Jvm.MethodName)) ∈ lw_all := lw_g (lw_at lw_m4 183 rfl) rfl
theorem q957 : (Jvm.Cond.code ({ cls := "Holdtag", name := "live", desc := "(LHoldtag$Item;I)V" } : Jvm.MethodName) prog_1_method_9_code (6 : Nat) (Option.none : Option Jvm.ClassFile.FieldType)) ∈ lw_all := lw_g (lw_at lw_m4 184 rfl) rfl
theorem q958 : (Jvm.Cond.methodLink "Holdtag" (138 : Nat) ({ cls := "Holdtag$Item", name := "isAtHand", desc := "()Z" } : Jvm.MethodName)) ∈ lw_all := lw_g (lw_at lw_m4 185 rfl) rfl
theorem q962 : (Jvm.Cond.methodLink "Holdtag" (142 : Nat) ({ cls := "Holdtag$Tag", name := "does", desc := "()Ljava/lang/String;" } : Jvm.MethodName)) ∈ lw_all := lw_g (lw_at lw_m4 189 rfl) rfl
theorem q969 : (Jvm.Cond.methodLink "Holdtag" (146 : Nat) ({ cls := "java/lang/String", name := "hashCode", desc := "()I" } : Jvm.MethodName)) ∈ lw_all := lw_g (lw_at lw_m4 196 rfl) rfl
theorem q1214 : (Jvm.Cond.stringRef "Holdtag" (151 : Nat) "delete") ∈ lw_tbl := lw_at lw_m5 201 rfl
theorem q1215 : (Jvm.Cond.methodLink "Holdtag" (153 : Nat) ({ cls := "java/lang/String", name := "equals", desc := "(Ljava/lang/Object;)Z" } : Jvm.MethodName)) ∈ lw_all := lw_g (lw_at lw_m5 202 rfl) rfl
theorem q1222 : (Jvm.Cond.stringRef "Holdtag" (156 : Nat) "archive") ∈ lw_tbl := lw_at lw_m5 209 rfl
theorem q1223 : (Jvm.Cond.methodLink "Holdtag" (158 : Nat) ({ cls := "Holdtag$Item", name := "become", desc := "(II)V" } : Jvm.MethodName)) ∈ lw_all := lw_g (lw_at lw_m5 210 rfl) rfl
theorem q1251 : (Jvm.Cond.instanceMethod ({ cls := "Holdtag", name := "folder", desc := "(I)I" } : Jvm.MethodName)) ∈ lw_all := lw_g (lw_at lw_m5 238 rfl) rfl
theorem q1252 : (Jvm.Cond.selects "Holdtag" ({ cls := "Holdtag", name := "folder", desc := "(I)I" } : Jvm.MethodName) ({ cls := "Holdtag", name := "folder", desc := "(I)I" } : Jvm.MethodName)) ∈ lw_all := lw_g (lw_at lw_m5 239 rfl) rfl
theorem q1253 : (Jvm.Cond.code ({ cls := "Holdtag", name := "folder", desc := "(I)I" } : Jvm.MethodName) prog_1_method_19_code (3 : Nat) (Option.some Jvm.ClassFile.FieldType.int)) ∈ lw_all := lw_g (lw_at lw_m6 0 rfl) rfl
theorem q1254 : (Jvm.Cond.methodLink "Holdtag" (262 : Nat) ({ cls := "Holdtag$Register", name := "checkRoom", desc := "()V" } : Jvm.MethodName)) ∈ lw_all := lw_g (lw_at lw_m6 1 rfl) rfl
theorem q1273 : (Jvm.Cond.methodLink "Holdtag" (265 : Nat) ({ cls := "Holdtag$Register", name := "add", desc := "(LHoldtag$Numbered;)I" } : Jvm.MethodName)) ∈ lw_all := lw_g (lw_at lw_m6 20 rfl) rfl
theorem q1312 : (Jvm.Cond.instanceMethod ({ cls := "Holdtag", name := "tag", desc := "(III)I" } : Jvm.MethodName)) ∈ lw_all := lw_g (lw_at lw_m6 59 rfl) rfl
theorem q1313 : (Jvm.Cond.selects "Holdtag" ({ cls := "Holdtag", name := "tag", desc := "(III)I" } : Jvm.MethodName) ({ cls := "Holdtag", name := "tag", desc := "(III)I" } : Jvm.MethodName)) ∈ lw_all := lw_g (lw_at lw_m6 60 rfl) rfl
theorem q1314 : (Jvm.Cond.code ({ cls := "Holdtag", name := "tag", desc := "(III)I" } : Jvm.MethodName) prog_1_method_20_code (4 : Nat) (Option.some Jvm.ClassFile.FieldType.int)) ∈ lw_all := lw_g (lw_at lw_m6 61 rfl) rfl
theorem q1315 : (Jvm.Cond.methodLink "Holdtag" (268 : Nat) ({ cls := "Holdtag", name := "checkRange", desc := "(III)V" } : Jvm.MethodName)) ∈ lw_all := lw_g (lw_at lw_m6 62 rfl) rfl
theorem q1316 : (Jvm.Cond.static ({ cls := "Holdtag", name := "checkRange", desc := "(III)V" } : Jvm.MethodName)) ∈ lw_all := lw_g (lw_at lw_m6 63 rfl) rfl
theorem q1317 : (Jvm.Cond.code ({ cls := "Holdtag", name := "checkRange", desc := "(III)V" } : Jvm.MethodName) prog_1_method_15_code (3 : Nat) (Option.none : Option Jvm.ClassFile.FieldType)) ∈ lw_all := lw_g (lw_at lw_m6 64 rfl) rfl
theorem q1318 : (Jvm.Cond.classLink "Holdtag" (253 : Nat) "java/lang/IllegalArgumentException") ∈ lw_all := lw_g (lw_at lw_m6 65 rfl) rfl
theorem q1319 : (Jvm.Cond.methodLink "Holdtag" (255 : Nat) ({ cls := "java/lang/IllegalArgumentException", name := "<init>", desc := "()V" } : Jvm.MethodName)) ∈ lw_all := lw_g (lw_at lw_m6 66 rfl) rfl
theorem q1323 : (Jvm.Cond.classLink "Holdtag" (44 : Nat) "Holdtag$Tag") ∈ lw_all := lw_g (lw_at lw_m6 70 rfl) rfl
theorem q1325 : (Jvm.Cond.methodLink "Holdtag" (272 : Nat) ({ cls := "Holdtag$Tag", name := "<init>", desc := "(IIII)V" } : Jvm.MethodName)) ∈ lw_all := lw_g (lw_at lw_m6 72 rfl) rfl
theorem q1331 : (Jvm.Cond.fieldLinkNest "Holdtag" (77 : Nat) "Holdtag$Tag" "action" "I" "Holdtag") ∈ lw_tbl := lw_at lw_m6 78 rfl
theorem q1333 : (Jvm.Cond.fieldLinkNest "Holdtag" (43 : Nat) "Holdtag$Tag" "start" "I" "Holdtag") ∈ lw_tbl := lw_at lw_m6 80 rfl
theorem q1335 : (Jvm.Cond.fieldLinkNest "Holdtag" (84 : Nat) "Holdtag$Tag" "age" "I" "Holdtag") ∈ lw_tbl := lw_at lw_m6 82 rfl
theorem q1349 : (Jvm.Cond.instanceMethod ({ cls := "Holdtag", name := "tagFolder", desc := "(II)I" } : Jvm.MethodName)) ∈ lw_all := lw_g (lw_at lw_m6 96 rfl) rfl
theorem q1350 : (Jvm.Cond.selects "Holdtag" ({ cls := "Holdtag", name := "tagFolder", desc := "(II)I" } : Jvm.MethodName) ({ cls := "Holdtag", name := "tagFolder", desc := "(II)I" } : Jvm.MethodName)) ∈ lw_all := lw_g (lw_at lw_m6 97 rfl) rfl
theorem q1351 : (Jvm.Cond.code ({ cls := "Holdtag", name := "tagFolder", desc := "(II)I" } : Jvm.MethodName) prog_1_method_21_code (6 : Nat) (Option.some Jvm.ClassFile.FieldType.int)) ∈ lw_all := lw_g (lw_at lw_m6 98 rfl) rfl
theorem q1352 : (Jvm.Cond.methodLink "Holdtag" (275 : Nat) ({ cls := "Holdtag$Register", name := "atOrNone", desc := "(I)LHoldtag$Numbered;" } : Jvm.MethodName)) ∈ lw_all := lw_g (lw_at lw_m6 99 rfl) rfl
theorem q1357 : (Jvm.Cond.methodLink "Holdtag" (278 : Nat) ({ cls := "Holdtag", name := "numberOf", desc := "(LHoldtag$Numbered;)I" } : Jvm.MethodName)) ∈ lw_all := lw_g (lw_at lw_m6 104 rfl) rfl
theorem q1358 : (Jvm.Cond.static ({ cls := "Holdtag", name := "numberOf", desc := "(LHoldtag$Numbered;)I" } : Jvm.MethodName)) ∈ lw_all := lw_g (lw_at lw_m6 105 rfl) rfl
theorem q1359 : (Jvm.Cond.code ({ cls := "Holdtag", name := "numberOf", desc := "(LHoldtag$Numbered;)I" } : Jvm.MethodName) prog_1_method_1_code (1 : Nat) (Option.some Jvm.ClassFile.FieldType.int)) ∈ lw_all := lw_g (lw_at lw_m6 106 rfl) rfl
theorem q1360 : (Jvm.Cond.interfaceEntry "Holdtag" (3 : Nat)) ∈ lw_tbl := lw_at lw_m6 107 rfl
theorem q1361 : (Jvm.Cond.methodLink "Holdtag" (3 : Nat) ({ cls := "Holdtag$Numbered", name := "number", desc := "()I" } : Jvm.MethodName)) ∈ lw_all := lw_g (lw_at lw_m6 108 rfl) rfl
theorem q1366 : (Jvm.Cond.instanceMethod ({ cls := "Holdtag", name := "tagItem", desc := "(II)I" } : Jvm.MethodName)) ∈ lw_all := lw_g (lw_at lw_m6 113 rfl) rfl
theorem q1367 : (Jvm.Cond.selects "Holdtag" ({ cls := "Holdtag", name := "tagItem", desc := "(II)I" } : Jvm.MethodName) ({ cls := "Holdtag", name := "tagItem", desc := "(II)I" } : Jvm.MethodName)) ∈ lw_all := lw_g (lw_at lw_m6 114 rfl) rfl
theorem q1368 : (Jvm.Cond.code ({ cls := "Holdtag", name := "tagItem", desc := "(II)I" } : Jvm.MethodName) prog_1_method_22_code (6 : Nat) (Option.some Jvm.ClassFile.FieldType.int)) ∈ lw_all := lw_g (lw_at lw_m6 115 rfl) rfl
theorem q1369 : (Jvm.Cond.methodLink "Holdtag" (281 : Nat) ({ cls := "Holdtag", name := "checkState", desc := "(Z)V" } : Jvm.MethodName)) ∈ lw_all := lw_g (lw_at lw_m6 116 rfl) rfl
theorem q1370 : (Jvm.Cond.static ({ cls := "Holdtag", name := "checkState", desc := "(Z)V" } : Jvm.MethodName)) ∈ lw_all := lw_g (lw_at lw_m6 117 rfl) rfl
theorem q1371 : (Jvm.Cond.code ({ cls := "Holdtag", name := "checkState", desc := "(Z)V" } : Jvm.MethodName) prog_1_method_16_code (1 : Nat) (Option.none : Option Jvm.ClassFile.FieldType)) ∈ lw_all := lw_g (lw_at lw_m6 118 rfl) rfl
theorem q1372 : (Jvm.Cond.classLink "Holdtag" (256 : Nat) "java/lang/IllegalStateException") ∈ lw_all := lw_g (lw_at lw_m6 119 rfl) rfl
theorem q1373 : (Jvm.Cond.methodLink "Holdtag" (258 : Nat) ({ cls := "java/lang/IllegalStateException", name := "<init>", desc := "()V" } : Jvm.MethodName)) ∈ lw_all := lw_g (lw_at lw_m6 120 rfl) rfl
theorem q1378 : (Jvm.Cond.instanceMethod ({ cls := "Holdtag", name := "byDefault", desc := "(I)I" } : Jvm.MethodName)) ∈ lw_all := lw_g (lw_at lw_m6 125 rfl) rfl
theorem q1379 : (Jvm.Cond.selects "Holdtag" ({ cls := "Holdtag", name := "byDefault", desc := "(I)I" } : Jvm.MethodName) ({ cls := "Holdtag", name := "byDefault", desc := "(I)I" } : Jvm.MethodName)) ∈ lw_all := lw_g (lw_at lw_m6 126 rfl) rfl
theorem q1380 : (Jvm.Cond.code ({ cls := "Holdtag", name := "byDefault", desc := "(I)I" } : Jvm.MethodName) prog_1_method_23_code (4 : Nat) (Option.some Jvm.ClassFile.FieldType.int)) ∈ lw_all := lw_g (lw_at lw_m6 127 rfl) rfl
theorem q1385 : (Jvm.Cond.instanceMethod ({ cls := "Holdtag", name := "item", desc := "(IIII)I" } : Jvm.MethodName)) ∈ lw_all := lw_g (lw_at lw_m6 132 rfl) rfl
theorem q1386 : (Jvm.Cond.selects "Holdtag" ({ cls := "Holdtag", name := "item", desc := "(IIII)I" } : Jvm.MethodName) ({ cls := "Holdtag", name := "item", desc := "(IIII)I" } : Jvm.MethodName)) ∈ lw_all := lw_g (lw_at lw_m6 133 rfl) rfl
theorem q1387 : (Jvm.Cond.code ({ cls := "Holdtag", name := "item", desc := "(IIII)I" } : Jvm.MethodName) prog_1_method_24_code (6 : Nat) (Option.some Jvm.ClassFile.FieldType.int)) ∈ lw_all := lw_g (lw_at lw_m6 134 rfl) rfl
theorem q1388 : (Jvm.Cond.methodLink "Holdtag" (285 : Nat) ({ cls := "Holdtag$Item", name := "<init>", desc := "(ILHoldtag$Folder;IIII)V" } : Jvm.MethodName)) ∈ lw_all := lw_g (lw_at lw_m6 135 rfl) rfl
theorem q1393 : (Jvm.Cond.instanceMethod ({ cls := "Holdtag", name := "meeting", desc := "(II)I" } : Jvm.MethodName)) ∈ lw_all := lw_g (lw_at lw_m6 140 rfl) rfl
theorem q1394 : (Jvm.Cond.selects "Holdtag" ({ cls := "Holdtag", name := "meeting", desc := "(II)I" } : Jvm.MethodName) ({ cls := "Holdtag", name := "meeting", desc := "(II)I" } : Jvm.MethodName)) ∈ lw_all := lw_g (lw_at lw_m6 141 rfl) rfl
theorem q1395 : (Jvm.Cond.code ({ cls := "Holdtag", name := "meeting", desc := "(II)I" } : Jvm.MethodName) prog_1_method_25_code (5 : Nat) (Option.some Jvm.ClassFile.FieldType.int)) ∈ lw_all := lw_g (lw_at lw_m6 142 rfl) rfl
theorem q1396 : (Jvm.Cond.constant "Holdtag" (288 : Nat) (100000 : Int32)) ∈ lw_all := lw_g (lw_at lw_m6 143 rfl) rfl
theorem q1401 : (Jvm.Cond.instanceMethod ({ cls := "Holdtag", name := "event", desc := "(II)I" } : Jvm.MethodName)) ∈ lw_all := lw_g (lw_at lw_m6 148 rfl) rfl
theorem q1402 : (Jvm.Cond.selects "Holdtag" ({ cls := "Holdtag", name := "event", desc := "(II)I" } : Jvm.MethodName) ({ cls := "Holdtag", name := "event", desc := "(II)I" } : Jvm.MethodName)) ∈ lw_all := lw_g (lw_at lw_m6 149 rfl) rfl
theorem q1403 : (Jvm.Cond.code ({ cls := "Holdtag", name := "event", desc := "(II)I" } : Jvm.MethodName) prog_1_method_26_code (4 : Nat) (Option.some Jvm.ClassFile.FieldType.int)) ∈ lw_all := lw_g (lw_at lw_m6 150 rfl) rfl
theorem q1404 : (Jvm.Cond.interfaceEntry "Holdtag" (289 : Nat)) ∈ lw_tbl := lw_at lw_m6 151 rfl
theorem q1405 : (Jvm.Cond.methodLink "Holdtag" (289 : Nat) ({ cls := "java/util/Map", name := "remove", desc := "(Ljava/lang/Object;)Ljava/lang/Object;" } : Jvm.MethodName)) ∈ lw_all := lw_g (lw_at lw_m6 152 rfl) rfl
theorem q1447 : (Jvm.Cond.interfaceEntry "Holdtag" (291 : Nat)) ∈ lw_tbl := lw_at lw_m6 194 rfl
theorem q1448 : (Jvm.Cond.methodLink "Holdtag" (291 : Nat) ({ cls := "java/util/Map", name := "put", desc := "(Ljava/lang/Object;Ljava/lang/Object;)Ljava/lang/Object;" } : Jvm.MethodName)) ∈ lw_all := lw_g (lw_at lw_m6 195 rfl) rfl
theorem q1509 : (Jvm.Cond.instanceMethod ({ cls := "Holdtag", name := "move", desc := "(II)I" } : Jvm.MethodName)) ∈ lw_all := lw_g (lw_at lw_m7 16 rfl) rfl
theorem q1510 : (Jvm.Cond.selects "Holdtag" ({ cls := "Holdtag", name := "move", desc := "(II)I" } : Jvm.MethodName) ({ cls := "Holdtag", name := "move", desc := "(II)I" } : Jvm.MethodName)) ∈ lw_all := lw_g (lw_at lw_m7 17 rfl) rfl
theorem q1511 : (Jvm.Cond.code ({ cls := "Holdtag", name := "move", desc := "(II)I" } : Jvm.MethodName) prog_1_method_27_code (6 : Nat) (Option.some Jvm.ClassFile.FieldType.int)) ∈ lw_all := lw_g (lw_at lw_m7 18 rfl) rfl
theorem q1516 : (Jvm.Cond.instanceMethod ({ cls := "Holdtag", name := "edit", desc := "(II)I" } : Jvm.MethodName)) ∈ lw_all := lw_g (lw_at lw_m7 23 rfl) rfl
theorem q1517 : (Jvm.Cond.selects "Holdtag" ({ cls := "Holdtag", name := "edit", desc := "(II)I" } : Jvm.MethodName) ({ cls := "Holdtag", name := "edit", desc := "(II)I" } : Jvm.MethodName)) ∈ lw_all := lw_g (lw_at lw_m7 24 rfl) rfl
theorem q1518 : (Jvm.Cond.code ({ cls := "Holdtag", name := "edit", desc := "(II)I" } : Jvm.MethodName) prog_1_method_28_code (6 : Nat) (Option.some Jvm.ClassFile.FieldType.int)) ∈ lw_all := lw_g (lw_at lw_m7 25 rfl) rfl
theorem q1519 : (Jvm.Cond.methodLink "Holdtag" (221 : Nat) ({ cls := "Holdtag", name := "countQuota", desc := "()V" } : Jvm.MethodName)) ∈ lw_all := lw_g (lw_at lw_m7 26 rfl) rfl
theorem q1520 : (Jvm.Cond.privateMethod ({ cls := "Holdtag", name := "countQuota", desc := "()V" } : Jvm.MethodName)) ∈ lw_tbl := lw_at lw_m7 27 rfl
theorem q1521 : (Jvm.Cond.instanceMethod ({ cls := "Holdtag", name := "countQuota", desc := "()V" } : Jvm.MethodName)) ∈ lw_all := lw_g (lw_at lw_m7 28 rfl) rfl
theorem q1522 : (Jvm.Cond.code ({ cls := "Holdtag", name := "countQuota", desc := "()V" } : Jvm.MethodName) prog_1_method_12_code (4 : Nat) (Option.none : Option Jvm.ClassFile.FieldType)) ∈ lw_all := lw_g (lw_at lw_m7 29 rfl) rfl
theorem q1523 : (Jvm.Cond.methodLink "Holdtag" (192 : Nat) ({ cls := "Holdtag$InState", name := "sizes", desc := "()I" } : Jvm.MethodName)) ∈ lw_all := lw_g (lw_at lw_m7 30 rfl) rfl
theorem q1533 : (Jvm.Cond.methodLink "Holdtag" (198 : Nat) ({ cls := "Holdtag", name := "goers", desc := "()Ljava/util/PriorityQueue;" } : Jvm.MethodName)) ∈ lw_all := lw_g (lw_at lw_m7 40 rfl) rfl
theorem q1534 : (Jvm.Cond.privateMethod ({ cls := "Holdtag", name := "goers", desc := "()Ljava/util/PriorityQueue;" } : Jvm.MethodName)) ∈ lw_tbl := lw_at lw_m7 41 rfl
theorem q1535 : (Jvm.Cond.instanceMethod ({ cls := "Holdtag", name := "goers", desc := "()Ljava/util/PriorityQueue;" } : Jvm.MethodName)) ∈ lw_all := lw_g (lw_at lw_m7 42 rfl) rfl
theorem q1536 : (Jvm.Cond.code ({ cls := "Holdtag", name := "goers", desc := "()Ljava/util/PriorityQueue;" } : Jvm.MethodName) prog_1_method_10_code (5 : Nat) (Option.some (Jvm.ClassFile.FieldType.object "java/util/PriorityQueue"))) ∈ lw_all := lw_g (lw_at lw_m7 43 rfl) rfl
theorem q1537 : (Jvm.Cond.classLink "Holdtag" (162 : Nat) "java/util/PriorityQueue") ∈ lw_all := lw_g (lw_at lw_m7 44 rfl) rfl
theorem q1539 : (Jvm.Cond.classLink "Holdtag" (164 : Nat) "Holdtag$Earlier") ∈ lw_all := lw_g (lw_at lw_m7 46 rfl) rfl
theorem q1541 : (Jvm.Cond.methodLinkNest "Holdtag" (166 : Nat) ({ cls := "Holdtag$Earlier", name := "<init>", desc := "()V" } : Jvm.MethodName) "Holdtag") ∈ lw_tbl := lw_at lw_m7 48 rfl
theorem q1546 : (Jvm.Cond.methodLink "Holdtag" (167 : Nat) ({ cls := "java/util/PriorityQueue", name := "<init>", desc := "(Ljava/util/Comparator;)V" } : Jvm.MethodName)) ∈ lw_all := lw_g (lw_at lw_m7 53 rfl) rfl
theorem q1572 : (Jvm.Cond.methodLink "Holdtag" (188 : Nat) ({ cls := "java/util/PriorityQueue", name := "add", desc := "(Ljava/lang/Object;)Z" } : Jvm.MethodName)) ∈ lw_all := lw_g (lw_at lw_m7 79 rfl) rfl
theorem q1601 : (Jvm.Cond.methodLink "Holdtag" (202 : Nat) ({ cls := "java/util/PriorityQueue", name := "isEmpty", desc := "()Z" } : Jvm.MethodName)) ∈ lw_all := lw_g (lw_at lw_m7 108 rfl) rfl
theorem q1614 : (Jvm.Cond.methodLink "Holdtag" (205 : Nat) ({ cls := "java/util/PriorityQueue", name := "remove", desc := "()Ljava/lang/Object;" } : Jvm.MethodName)) ∈ lw_all := lw_g (lw_at lw_m7 121 rfl) rfl
theorem q1633 : (Jvm.Cond.methodLink "Holdtag" (210 : Nat) ({ cls := "Holdtag", name := "loseItem", desc := "(LHoldtag$Item;)V" } : Jvm.MethodName)) ∈ lw_all := lw_g (lw_at lw_m7 140 rfl) rfl
theorem q1634 : (Jvm.Cond.privateMethod ({ cls := "Holdtag", name := "loseItem", desc := "(LHoldtag$Item;)V" } : Jvm.MethodName)) ∈ lw_tbl := lw_at lw_m7 141 rfl
theorem q1635 : (Jvm.Cond.instanceMethod ({ cls := "Holdtag", name := "loseItem", desc := "(LHoldtag$Item;)V" } : Jvm.MethodName)) ∈ lw_all := lw_g (lw_at lw_m7 142 rfl) rfl
theorem q1636 : (Jvm.Cond.code ({ cls := "Holdtag", name := "loseItem", desc := "(LHoldtag$Item;)V" } : Jvm.MethodName) prog_1_method_11_code (2 : Nat) (Option.none : Option Jvm.ClassFile.FieldType)) ∈ lw_all := lw_g (lw_at lw_m7 143 rfl) rfl
theorem q1641 : (Jvm.Cond.instanceMethod ({ cls := "Holdtag", name := "delete", desc := "(I)I" } : Jvm.MethodName)) ∈ lw_all := lw_g (lw_at lw_m7 148 rfl) rfl
theorem q1642 : (Jvm.Cond.selects "Holdtag" ({ cls := "Holdtag", name := "delete", desc := "(I)I" } : Jvm.MethodName) ({ cls := "Holdtag", name := "delete", desc := "(I)I" } : Jvm.MethodName)) ∈ lw_all := lw_g (lw_at lw_m7 149 rfl) rfl
theorem q1643 : (Jvm.Cond.code ({ cls := "Holdtag", name := "delete", desc := "(I)I" } : Jvm.MethodName) prog_1_method_29_code (3 : Nat) (Option.some Jvm.ClassFile.FieldType.int)) ∈ lw_all := lw_g (lw_at lw_m7 150 rfl) rfl
theorem q1648 : (Jvm.Cond.instanceMethod ({ cls := "Holdtag", name := "purge", desc := "(I)Z" } : Jvm.MethodName)) ∈ lw_all := lw_g (lw_at lw_m7 155 rfl) rfl
theorem q1649 : (Jvm.Cond.selects "Holdtag" ({ cls := "Holdtag", name := "purge", desc := "(I)Z" } : Jvm.MethodName) ({ cls := "Holdtag", name := "purge", desc := "(I)Z" } : Jvm.MethodName)) ∈ lw_all := lw_g (lw_at lw_m7 156 rfl) rfl
theorem q1650 : (Jvm.Cond.code ({ cls := "Holdtag", name := "purge", desc := "(I)Z" } : Jvm.MethodName) prog_1_method_31_code (3 : Nat) (Option.some Jvm.ClassFile.FieldType.boolean)) ∈ lw_all := lw_g (lw_at lw_m7 157 rfl) rfl
theorem q1651 : (Jvm.Cond.methodLink "Holdtag" (303 : Nat) ({ cls := "Holdtag", name := "recoverable", desc := "(I)LHoldtag$Item;" } : Jvm.MethodName)) ∈ lw_all := lw_g (lw_at lw_m7 158 rfl) rfl
theorem q1652 : (Jvm.Cond.privateMethod ({ cls := "Holdtag", name := "recoverable", desc := "(I)LHoldtag$Item;" } : Jvm.MethodName)) ∈ lw_tbl := lw_at lw_m7 159 rfl
theorem q1653 : (Jvm.Cond.instanceMethod ({ cls := "Holdtag", name := "recoverable", desc := "(I)LHoldtag$Item;" } : Jvm.MethodName)) ∈ lw_all := lw_g (lw_at lw_m7 160 rfl) rfl
theorem q1654 : (Jvm.Cond.code ({ cls := "Holdtag", name := "recoverable", desc := "(I)LHoldtag$Item;" } : Jvm.MethodName) prog_1_method_30_code (3 : Nat) (Option.some (Jvm.ClassFile.FieldType.object "Holdtag$Item"))) ∈ lw_all := lw_g (lw_at lw_m7 161 rfl) rfl
theorem q1659 : (Jvm.Cond.instanceMethod ({ cls := "Holdtag", name := "recover", desc := "(I)I" } : Jvm.MethodName)) ∈ lw_all := lw_g (lw_at lw_m7 166 rfl) rfl
theorem q1660 : (Jvm.Cond.selects "Holdtag" ({ cls := "Holdtag", name := "recover", desc := "(I)I" } : Jvm.MethodName) ({ cls := "Holdtag", name := "recover", desc := "(I)I" } : Jvm.MethodName)) ∈ lw_all := lw_g (lw_at lw_m7 167 rfl) rfl
theorem q1661 : (Jvm.Cond.code ({ cls := "Holdtag", name := "recover", desc := "(I)I" } : Jvm.MethodName) prog_1_method_32_code (4 : Nat) (Option.some Jvm.ClassFile.FieldType.int)) ∈ lw_all := lw_g (lw_at lw_m7 168 rfl) rfl
theorem q1666 : (Jvm.Cond.instanceMethod ({ cls := "Holdtag", name := "keep", desc := "(II)I" } : Jvm.MethodName)) ∈ lw_all := lw_g (lw_at lw_m7 173 rfl) rfl
theorem q1667 : (Jvm.Cond.selects "Holdtag" ({ cls := "Holdtag", name := "keep", desc := "(II)I" } : Jvm.MethodName) ({ cls := "Holdtag", name := "keep", desc := "(II)I" } : Jvm.MethodName)) ∈ lw_all := lw_g (lw_at lw_m7 174 rfl) rfl
theorem q1668 : (Jvm.Cond.code ({ cls := "Holdtag", name := "keep", desc := "(II)I" } : Jvm.MethodName) prog_1_method_33_code (3 : Nat) (Option.some Jvm.ClassFile.FieldType.int)) ∈ lw_all := lw_g (lw_at lw_m7 175 rfl) rfl
theorem q1673 : (Jvm.Cond.instanceMethod ({ cls := "Holdtag", name := "pass", desc := "(I)I" } : Jvm.MethodName)) ∈ lw_all := lw_g (lw_at lw_m7 180 rfl) rfl
theorem q1674 : (Jvm.Cond.selects "Holdtag" ({ cls := "Holdtag", name := "pass", desc := "(I)I" } : Jvm.MethodName) ({ cls := "Holdtag", name := "pass", desc := "(I)I" } : Jvm.MethodName)) ∈ lw_all := lw_g (lw_at lw_m7 181 rfl) rfl
theorem q1675 : (Jvm.Cond.code ({ cls := "Holdtag", name := "pass", desc := "(I)I" } : Jvm.MethodName) prog_1_method_34_code (3 : Nat) (Option.some Jvm.ClassFile.FieldType.int)) ∈ lw_all := lw_g (lw_at lw_m7 182 rfl) rfl
theorem q1676 : (Jvm.Cond.methodLink "Holdtag" (307 : Nat) ({ cls := "Holdtag", name := "liveDay", desc := "()V" } : Jvm.MethodName)) ∈ lw_all := lw_g (lw_at lw_m7 183 rfl) rfl
theorem q1677 : (Jvm.Cond.privateMethod ({ cls := "Holdtag", name := "liveDay", desc := "()V" } : Jvm.MethodName)) ∈ lw_tbl := lw_at lw_m7 184 rfl
theorem q1678 : (Jvm.Cond.instanceMethod ({ cls := "Holdtag", name := "liveDay", desc := "()V" } : Jvm.MethodName)) ∈ lw_all := lw_g (lw_at lw_m7 185 rfl) rfl
theorem q1679 : (Jvm.Cond.code ({ cls := "Holdtag", name := "liveDay", desc := "()V" } : Jvm.MethodName) prog_1_method_13_code (4 : Nat) (Option.none : Option Jvm.ClassFile.FieldType)) ∈ lw_all := lw_g (lw_at lw_m7 186 rfl) rfl
theorem q1684 : (Jvm.Cond.instanceMethod ({ cls := "Holdtag", name := "hold", desc := "(IIII)I" } : Jvm.MethodName)) ∈ lw_all := lw_g (lw_at lw_m7 191 rfl) rfl
theorem q1685 : (Jvm.Cond.selects "Holdtag" ({ cls := "Holdtag", name := "hold", desc := "(IIII)I" } : Jvm.MethodName) ({ cls := "Holdtag", name := "hold", desc := "(IIII)I" } : Jvm.MethodName)) ∈ lw_all := lw_g (lw_at lw_m7 192 rfl) rfl
theorem q1686 : (Jvm.Cond.code ({ cls := "Holdtag", name := "hold", desc := "(IIII)I" } : Jvm.MethodName) prog_1_method_35_code (5 : Nat) (Option.some Jvm.ClassFile.FieldType.int)) ∈ lw_all := lw_g (lw_at lw_m7 193 rfl) rfl
theorem q1687 : (Jvm.Cond.constant "Holdtag" (310 : Nat) (2147483647 : Int32)) ∈ lw_all := lw_g (lw_at lw_m7 194 rfl) rfl
theorem q1689 : (Jvm.Cond.methodLink "Holdtag" (311 : Nat) ({ cls := "Holdtag$Hold", name := "<init>", desc := "(IIIII)V" } : Jvm.MethodName)) ∈ lw_all := lw_g (lw_at lw_m7 196 rfl) rfl
theorem q1699 : (Jvm.Cond.fieldLinkNest "Holdtag" (314 : Nat) "Holdtag$Hold" "released" "Z" "Holdtag") ∈ lw_tbl := lw_at lw_m7 206 rfl
theorem q1717 : (Jvm.Cond.instanceMethod ({ cls := "Holdtag", name := "release", desc := "(I)I" } : Jvm.MethodName)) ∈ lw_all := lw_g (lw_at lw_m7 224 rfl) rfl
theorem q1718 : (Jvm.Cond.selects "Holdtag" ({ cls := "Holdtag", name := "release", desc := "(I)I" } : Jvm.MethodName) ({ cls := "Holdtag", name := "release", desc := "(I)I" } : Jvm.MethodName)) ∈ lw_all := lw_g (lw_at lw_m7 225 rfl) rfl
theorem q1719 : (Jvm.Cond.code ({ cls := "Holdtag", name := "release", desc := "(I)I" } : Jvm.MethodName) prog_1_method_37_code (4 : Nat) (Option.some Jvm.ClassFile.FieldType.int)) ∈ lw_all := lw_g (lw_at lw_m7 226 rfl) rfl
theorem q1724 : (Jvm.Cond.instanceMethod ({ cls := "Holdtag", name := "holds", desc := "(I)I" } : Jvm.MethodName)) ∈ lw_all := lw_g (lw_at lw_m7 231 rfl) rfl
theorem q1725 : (Jvm.Cond.selects "Holdtag" ({ cls := "Holdtag", name := "holds", desc := "(I)I" } : Jvm.MethodName) ({ cls := "Holdtag", name := "holds", desc := "(I)I" } : Jvm.MethodName)) ∈ lw_all := lw_g (lw_at lw_m7 232 rfl) rfl
theorem q1726 : (Jvm.Cond.code ({ cls := "Holdtag", name := "holds", desc := "(I)I" } : Jvm.MethodName) prog_1_method_38_code (2 : Nat) (Option.some Jvm.ClassFile.FieldType.int)) ∈ lw_all := lw_g (lw_at lw_m7 233 rfl) rfl
theorem q1727 : (Jvm.Cond.methodLink "Holdtag" (321 : Nat) ({ cls := "Holdtag", name := "holdsOf", desc := "(LHoldtag$Item;)Ljava/util/List;" } : Jvm.MethodName)) ∈ lw_all := lw_g (lw_at lw_m7 234 rfl) rfl
theorem q1728 : (Jvm.Cond.privateMethod ({ cls := "Holdtag", name := "holdsOf", desc := "(LHoldtag$Item;)Ljava/util/List;" } : Jvm.MethodName)) ∈ lw_tbl := lw_at lw_m7 235 rfl
theorem q1729 : (Jvm.Cond.instanceMethod ({ cls := "Holdtag", name := "holdsOf", desc := "(LHoldtag$Item;)Ljava/util/List;" } : Jvm.MethodName)) ∈ lw_all := lw_g (lw_at lw_m7 236 rfl) rfl
theorem q1730 : (Jvm.Cond.code ({ cls := "Holdtag", name := "holdsOf", desc := "(LHoldtag$Item;)Ljava/util/List;" } : Jvm.MethodName) prog_1_method_6_code (4 : Nat) (Option.some (Jvm.ClassFile.FieldType.object "java/util/List"))) ∈ lw_all := lw_g (lw_at lw_m7 237 rfl) rfl
theorem q1731 : (Jvm.Cond.classLink "Holdtag" (87 : Nat) "java/util/ArrayList") ∈ lw_all := lw_g (lw_at lw_m7 238 rfl) rfl
theorem q1732 : (Jvm.Cond.methodLink "Holdtag" (89 : Nat) ({ cls := "java/util/ArrayList", name := "<init>", desc := "()V" } : Jvm.MethodName)) ∈ lw_all := lw_g (lw_at lw_m7 239 rfl) rfl
theorem q1733 : (Jvm.Cond.methodLink "Holdtag" (325 : Nat) ({ cls := "Holdtag", name := "setOf", desc := "(Ljava/util/List;)I" } : Jvm.MethodName)) ∈ lw_all := lw_g (lw_at lw_m8 0 rfl) rfl
theorem q1734 : (Jvm.Cond.static ({ cls := "Holdtag", name := "setOf", desc := "(Ljava/util/List;)I" } : Jvm.MethodName)) ∈ lw_all := lw_g (lw_at lw_m8 1 rfl) rfl
theorem q1735 : (Jvm.Cond.code ({ cls := "Holdtag", name := "setOf", desc := "(Ljava/util/List;)I" } : Jvm.MethodName) prog_1_method_2_code (3 : Nat) (Option.some Jvm.ClassFile.FieldType.int)) ∈ lw_all := lw_g (lw_at lw_m8 2 rfl) rfl
theorem q1736 : (Jvm.Cond.interfaceEntry "Holdtag" (9 : Nat)) ∈ lw_tbl := lw_at lw_m8 3 rfl
theorem q1737 : (Jvm.Cond.methodLink "Holdtag" (9 : Nat) ({ cls := "java/util/List", name := "size", desc := "()I" } : Jvm.MethodName)) ∈ lw_all := lw_g (lw_at lw_m8 4 rfl) rfl
theorem q1738 : (Jvm.Cond.interfaceEntry "Holdtag" (14 : Nat)) ∈ lw_tbl := lw_at lw_m8 5 rfl
theorem q1739 : (Jvm.Cond.methodLink "Holdtag" (14 : Nat) ({ cls := "java/util/List", name := "get", desc := "(I)Ljava/lang/Object;" } : Jvm.MethodName)) ∈ lw_all := lw_g (lw_at lw_m8 6 rfl) rfl
theorem q1740 : (Jvm.Cond.classLink "Holdtag" (4 : Nat) "Holdtag$Numbered") ∈ lw_all := lw_g (lw_at lw_m8 7 rfl) rfl
theorem q1741 : (Jvm.Cond.interfaceEntry "Holdtag" (18 : Nat)) ∈ lw_tbl := lw_at lw_m8 8 rfl
theorem q1742 : (Jvm.Cond.methodLink "Holdtag" (18 : Nat) ({ cls := "Holdtag$Numbered", name := "bit", desc := "()I" } : Jvm.MethodName)) ∈ lw_all := lw_g (lw_at lw_m8 9 rfl) rfl
theorem q1758 : (Jvm.Cond.instanceMethod ({ cls := "Holdtag", name := "state", desc := "(I)I" } : Jvm.MethodName)) ∈ lw_all := lw_g (lw_at lw_m8 25 rfl) rfl
theorem q1759 : (Jvm.Cond.selects "Holdtag" ({ cls := "Holdtag", name := "state", desc := "(I)I" } : Jvm.MethodName) ({ cls := "Holdtag", name := "state", desc := "(I)I" } : Jvm.MethodName)) ∈ lw_all := lw_g (lw_at lw_m8 26 rfl) rfl
theorem q1760 : (Jvm.Cond.code ({ cls := "Holdtag", name := "state", desc := "(I)I" } : Jvm.MethodName) prog_1_method_40_code (2 : Nat) (Option.some Jvm.ClassFile.FieldType.int)) ∈ lw_all := lw_g (lw_at lw_m8 27 rfl) rfl
theorem q1765 : (Jvm.Cond.instanceMethod ({ cls := "Holdtag", name := "count", desc := "(IZ)I" } : Jvm.MethodName)) ∈ lw_all := lw_g (lw_at lw_m8 32 rfl) rfl
theorem q1766 : (Jvm.Cond.selects "Holdtag" ({ cls := "Holdtag", name := "count", desc := "(IZ)I" } : Jvm.MethodName) ({ cls := "Holdtag", name := "count", desc := "(IZ)I" } : Jvm.MethodName)) ∈ lw_all := lw_g (lw_at lw_m8 33 rfl) rfl
theorem q1767 : (Jvm.Cond.code ({ cls := "Holdtag", name := "count", desc := "(IZ)I" } : Jvm.MethodName) prog_1_method_41_code (5 : Nat) (Option.some Jvm.ClassFile.FieldType.int)) ∈ lw_all := lw_g (lw_at lw_m8 34 rfl) rfl
theorem q1772 : (Jvm.Cond.instanceMethod ({ cls := "Holdtag", name := "tagOf", desc := "(I)I" } : Jvm.MethodName)) ∈ lw_all := lw_g (lw_at lw_m8 39 rfl) rfl
theorem q1773 : (Jvm.Cond.selects "Holdtag" ({ cls := "Holdtag", name := "tagOf", desc := "(I)I" } : Jvm.MethodName) ({ cls := "Holdtag", name := "tagOf", desc := "(I)I" } : Jvm.MethodName)) ∈ lw_all := lw_g (lw_at lw_m8 40 rfl) rfl
theorem q1774 : (Jvm.Cond.code ({ cls := "Holdtag", name := "tagOf", desc := "(I)I" } : Jvm.MethodName) prog_1_method_42_code (2 : Nat) (Option.some Jvm.ClassFile.FieldType.int)) ∈ lw_all := lw_g (lw_at lw_m8 41 rfl) rfl
theorem q1779 : (Jvm.Cond.instanceMethod ({ cls := "Holdtag", name := "ruleOf", desc := "(I)I" } : Jvm.MethodName)) ∈ lw_all := lw_g (lw_at lw_m8 46 rfl) rfl
theorem q1780 : (Jvm.Cond.selects "Holdtag" ({ cls := "Holdtag", name := "ruleOf", desc := "(I)I" } : Jvm.MethodName) ({ cls := "Holdtag", name := "ruleOf", desc := "(I)I" } : Jvm.MethodName)) ∈ lw_all := lw_g (lw_at lw_m8 47 rfl) rfl
theorem q1781 : (Jvm.Cond.code ({ cls := "Holdtag", name := "ruleOf", desc := "(I)I" } : Jvm.MethodName) prog_1_method_43_code (4 : Nat) (Option.some Jvm.ClassFile.FieldType.int)) ∈ lw_all := lw_g (lw_at lw_m8 48 rfl) rfl
theorem q1786 : (Jvm.Cond.instanceMethod ({ cls := "Holdtag", name := "due", desc := "(I)I" } : Jvm.MethodName)) ∈ lw_all := lw_g (lw_at lw_m8 53 rfl) rfl
theorem q1787 : (Jvm.Cond.selects "Holdtag" ({ cls := "Holdtag", name := "due", desc := "(I)I" } : Jvm.MethodName) ({ cls := "Holdtag", name := "due", desc := "(I)I" } : Jvm.MethodName)) ∈ lw_all := lw_g (lw_at lw_m8 54 rfl) rfl
theorem q1788 : (Jvm.Cond.code ({ cls := "Holdtag", name := "due", desc := "(I)I" } : Jvm.MethodName) prog_1_method_44_code (2 : Nat) (Option.some Jvm.ClassFile.FieldType.int)) ∈ lw_all := lw_g (lw_at lw_m8 55 rfl) rfl
theorem q1793 : (Jvm.Cond.instanceMethod ({ cls := "Holdtag", name := "end", desc := "(I)I" } : Jvm.MethodName)) ∈ lw_all := lw_g (lw_at lw_m8 60 rfl) rfl
theorem q1794 : (Jvm.Cond.selects "Holdtag" ({ cls := "Holdtag", name := "end", desc := "(I)I" } : Jvm.MethodName) ({ cls := "Holdtag", name := "end", desc := "(I)I" } : Jvm.MethodName)) ∈ lw_all := lw_g (lw_at lw_m8 61 rfl) rfl
theorem q1795 : (Jvm.Cond.code ({ cls := "Holdtag", name := "end", desc := "(I)I" } : Jvm.MethodName) prog_1_method_45_code (2 : Nat) (Option.some Jvm.ClassFile.FieldType.int)) ∈ lw_all := lw_g (lw_at lw_m8 62 rfl) rfl
theorem q1801 : (Jvm.Cond.instanceMethod ({ cls := "Holdtag", name := "firstOut", desc := "()I" } : Jvm.MethodName)) ∈ lw_all := lw_g (lw_at lw_m8 68 rfl) rfl
theorem q1802 : (Jvm.Cond.selects "Holdtag" ({ cls := "Holdtag", name := "firstOut", desc := "()I" } : Jvm.MethodName) ({ cls := "Holdtag", name := "firstOut", desc := "()I" } : Jvm.MethodName)) ∈ lw_all := lw_g (lw_at lw_m8 69 rfl) rfl
theorem q1803 : (Jvm.Cond.code ({ cls := "Holdtag", name := "firstOut", desc := "()I" } : Jvm.MethodName) prog_1_method_46_code (2 : Nat) (Option.some Jvm.ClassFile.FieldType.int)) ∈ lw_all := lw_g (lw_at lw_m8 70 rfl) rfl
theorem q1804 : (Jvm.Cond.methodLink "Holdtag" (335 : Nat) ({ cls := "Holdtag", name := "checkElement", desc := "(Z)V" } : Jvm.MethodName)) ∈ lw_all := lw_g (lw_at lw_m8 71 rfl) rfl
theorem q1805 : (Jvm.Cond.static ({ cls := "Holdtag", name := "checkElement", desc := "(Z)V" } : Jvm.MethodName)) ∈ lw_all := lw_g (lw_at lw_m8 72 rfl) rfl
theorem q1806 : (Jvm.Cond.code ({ cls := "Holdtag", name := "checkElement", desc := "(Z)V" } : Jvm.MethodName) prog_1_method_17_code (1 : Nat) (Option.none : Option Jvm.ClassFile.FieldType)) ∈ lw_all := lw_g (lw_at lw_m8 73 rfl) rfl
theorem q1807 : (Jvm.Cond.classLink "Holdtag" (259 : Nat) "java/util/NoSuchElementException") ∈ lw_all := lw_g (lw_at lw_m8 74 rfl) rfl
theorem q1808 : (Jvm.Cond.methodLink "Holdtag" (261 : Nat) ({ cls := "java/util/NoSuchElementException", name := "<init>", desc := "()V" } : Jvm.MethodName)) ∈ lw_all := lw_g (lw_at lw_m8 75 rfl) rfl
theorem q1809 : (Jvm.Cond.methodLink "Holdtag" (338 : Nat) ({ cls := "java/util/PriorityQueue", name := "peek", desc := "()Ljava/lang/Object;" } : Jvm.MethodName)) ∈ lw_all := lw_g (lw_at lw_m8 76 rfl) rfl
theorem q1817 : (Jvm.Cond.instanceMethod ({ cls := "Holdtag", name := "write", desc := "(I)I" } : Jvm.MethodName)) ∈ lw_all := lw_g (lw_at lw_m8 84 rfl) rfl
theorem q1818 : (Jvm.Cond.selects "Holdtag" ({ cls := "Holdtag", name := "write", desc := "(I)I" } : Jvm.MethodName) ({ cls := "Holdtag", name := "write", desc := "(I)I" } : Jvm.MethodName)) ∈ lw_all := lw_g (lw_at lw_m8 85 rfl) rfl
theorem q1819 : (Jvm.Cond.code ({ cls := "Holdtag", name := "write", desc := "(I)I" } : Jvm.MethodName) prog_1_method_47_code (4 : Nat) (Option.some Jvm.ClassFile.FieldType.int)) ∈ lw_all := lw_g (lw_at lw_m8 86 rfl) rfl
theorem q1820 : (Jvm.Cond.methodLink "Holdtag" (342 : Nat) ({ cls := "java/lang/StringBuilder", name := "setLength", desc := "(I)V" } : Jvm.MethodName)) ∈ lw_all := lw_g (lw_at lw_m8 87 rfl) rfl
theorem q1872 : (Jvm.Cond.methodLink "Holdtag" (345 : Nat) ({ cls := "java/lang/StringBuilder", name := "append", desc := "(C)Ljava/lang/StringBuilder;" } : Jvm.MethodName)) ∈ lw_all := lw_g (lw_at lw_m8 139 rfl) rfl
theorem q1889 : (Jvm.Cond.methodLink "Holdtag" (349 : Nat) ({ cls := "java/lang/StringBuilder", name := "append", desc := "(I)Ljava/lang/StringBuilder;" } : Jvm.MethodName)) ∈ lw_all := lw_g (lw_at lw_m8 156 rfl) rfl
theorem q1890 : (Jvm.Cond.methodLink "Holdtag" (352 : Nat) ({ cls := "Holdtag$Numbered", name := "word", desc := "(I)Ljava/lang/String;" } : Jvm.MethodName)) ∈ lw_all := lw_g (lw_at lw_m8 157 rfl) rfl
theorem q1897 : (Jvm.Cond.methodLink "Holdtag" (355 : Nat) ({ cls := "java/lang/StringBuilder", name := "append", desc := "(Ljava/lang/String;)Ljava/lang/StringBuilder;" } : Jvm.MethodName)) ∈ lw_all := lw_g (lw_at lw_m8 164 rfl) rfl
theorem q1898 : (Jvm.Cond.stringRef "Holdtag" (358 : Nat) " end ") ∈ lw_tbl := lw_at lw_m8 165 rfl
theorem q1899 : (Jvm.Cond.stringRef "Holdtag" (360 : Nat) " held") ∈ lw_tbl := lw_at lw_m8 166 rfl
theorem q1900 : (Jvm.Cond.stringRef "Holdtag" (362 : Nat) "") ∈ lw_tbl := lw_at lw_m8 167 rfl
theorem q2270 : (Jvm.Cond.castable "Holdtag" "java/lang/Object") ∈ lw_tbl := lw_at lw_m10 57 rfl
theorem in_X1 : ∀ w ∈ wsX10, w ∈ lw_all := lw_in wsX10 [320, 322, 324, 326, 328, 330, 332, 334, 336, 338, 340] (by decide +kernel) (by decide +kernel)

