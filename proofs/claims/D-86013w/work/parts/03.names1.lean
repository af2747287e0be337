/-! MailRoomsModel -/
set_option maxRecDepth 100000
def RX1 : String := "MailRoomsModel"
def TX1 : u_T := fun k => match k with
  | 0 => ("MailRoomsModel", "items", "I", false)
  | 1 => ("MailRoomsModel", "kind", "[I", true)
  | 2 => ("MailRoomsModel", "size", "[I", true)
  | 3 => ("MailRoomsModel", "stamp", "[I", true)
  | 4 => ("MailRoomsModel", "cell", "[J", true)
  | 5 => ("MailRoomsModel", "desks", "[I", true)
  | 6 => ("MailRoomsModel", "form", "[I", true)
  | 7 => ("MailRoomsModel", "act", "[I", true)
  | 8 => ("MailRoomsModel", "asks", "[Z", true)
  | 9 => ("MailRoomsModel", "tally", "[I", true)
  | 10 => ("MailRoomsModel", "held", "[I", true)
  | 11 => ("MailRoomsModel", "worked", "[I", true)
  | 12 => ("MailRoomsModel", "gave", "[I", true)
  | 13 => ("MailRoomsModel", "gaveLast", "[I", true)
  | 14 => ("MailRoomsModel", "gaveNow", "[Z", true)
  | 15 => ("MailRoomsModel", "refused", "I", false)
  | 16 => ("MailRoomsModel", "casts", "I", false)
  | 17 => ("MailRoomsModel", "indexes", "I", false)
  | 18 => ("MailRoomsModel", "stores", "I", false)
  | 19 => ("MailRoomsModel", "givenBack", "I", false)
  | 20 => ("MailRoomsModel", "out", "I", false)
  | 21 => ("MailRoomsModel", "whose", "[I", true)
  | 22 => ("MailRoomsModel", "room", "[I", true)
  | 23 => ("MailRoomsModel", "at", "[I", true)
  | 24 => ("MailRoomsModel", "place", "[I", true)
  | 25 => ("MailRoomsModel", "depth", "I", false)
  | _ => ("MailRoomsModel", "works", "I", false)
def tyX1 : Nat → FieldType := fun k => match k with
  | 0 => .int
  | 1 => .array .int
  | 2 => .array .int
  | 3 => .array .int
  | 4 => .array .long
  | 5 => .array .int
  | 6 => .array .int
  | 7 => .array .int
  | 8 => .array .boolean
  | 9 => .array .int
  | 10 => .array .int
  | 11 => .array .int
  | 12 => .array .int
  | 13 => .array .int
  | 14 => .array .boolean
  | 15 => .int
  | 16 => .int
  | 17 => .int
  | 18 => .int
  | 19 => .int
  | 20 => .int
  | 21 => .array .int
  | 22 => .array .int
  | 23 => .array .int
  | 24 => .array .int
  | 25 => .int
  | _ => .int
abbrev wsX10 : List Cond := u_ws RX1 TX1 27
set_option maxRecDepth 100000 in
theorem nmX1 : ∀ a, a < 27 → ∀ b, b < 27 → a ≠ b → (TX1 a).2.1 ≠ (TX1 b).2.1 := by decide +kernel
set_option maxRecDepth 100000 in
theorem tyX1_ok : ∀ k, k < 27 → parseFieldDescriptor (TX1 k).2.2.1 = some (tyX1 k) := by decide +kernel
abbrev cX1_init : ByteArray := prog_9_method_1_code
def yX1_init : MethodName := ⟨RX1, "<init>", "()V"⟩
def dkwX1_init_6 : List UInt8 := [188, 10, 181, 0, 64, 42, 16, 9, 188, 10, 181, 0, 67, 177]
abbrev dktX1_init_6 : List UInt8 := dkwX1_init_6 ++ []
def dkwX1_init_5 : List UInt8 := [2, 181, 0, 54, 42, 16, 9, 188, 10, 181, 0, 58, 42, 16, 9, 188, 10, 181, 0, 61, 42, 16, 9]
abbrev dktX1_init_5 : List UInt8 := dkwX1_init_5 ++ dktX1_init_6
def dkwX1_init_4 : List UInt8 := [16, 32, 188, 10, 181, 0, 45, 42, 16, 32, 188, 10, 181, 0, 48, 42, 16, 32, 188, 4, 181, 0, 51, 42]
abbrev dktX1_init_4 : List UInt8 := dkwX1_init_4 ++ dktX1_init_5
def dkwX1_init_3 : List UInt8 := [16, 32, 188, 10, 181, 0, 36, 42, 16, 32, 188, 10, 181, 0, 39, 42, 16, 32, 188, 10, 181, 0, 42, 42]
abbrev dktX1_init_3 : List UInt8 := dkwX1_init_3 ++ dktX1_init_4
def dkwX1_init_2 : List UInt8 := [16, 32, 188, 10, 181, 0, 26, 42, 16, 32, 188, 10, 181, 0, 29, 42, 16, 32, 188, 4, 181, 0, 32, 42]
abbrev dktX1_init_2 : List UInt8 := dkwX1_init_2 ++ dktX1_init_3
def dkwX1_init_1 : List UInt8 := [188, 10, 181, 0, 16, 42, 17, 0, 180, 188, 11, 181, 0, 19, 42, 16, 8, 188, 10, 181, 0, 23, 42]
abbrev dktX1_init_1 : List UInt8 := dkwX1_init_1 ++ dktX1_init_2
def dkwX1_init_0 : List UInt8 := [42, 183, 0, 1, 42, 16, 60, 188, 10, 181, 0, 7, 42, 16, 60, 188, 10, 181, 0, 13, 42, 16, 60]
abbrev dktX1_init_0 : List UInt8 := dkwX1_init_0 ++ dktX1_init_1
theorem dksX1_init_0 : cX1_init.data.toList.drop 0 = dktX1_init_0 := by decide +kernel
theorem dksX1_init_1 : cX1_init.data.toList.drop 23 = dktX1_init_1 := dk_seg dksX1_init_0 23 rfl rfl
theorem dksX1_init_2 : cX1_init.data.toList.drop 46 = dktX1_init_2 := dk_seg dksX1_init_1 23 rfl rfl
theorem dksX1_init_3 : cX1_init.data.toList.drop 70 = dktX1_init_3 := dk_seg dksX1_init_2 24 rfl rfl
theorem dksX1_init_4 : cX1_init.data.toList.drop 94 = dktX1_init_4 := dk_seg dksX1_init_3 24 rfl rfl
theorem dksX1_init_5 : cX1_init.data.toList.drop 118 = dktX1_init_5 := dk_seg dksX1_init_4 24 rfl rfl
theorem dksX1_init_6 : cX1_init.data.toList.drop 141 = dktX1_init_6 := dk_seg dksX1_init_5 23 rfl rfl
theorem dX1_init_0 : decode cX1_init 0 = .ok (.aload_n 0, 1) := dk_42 (dk_at dksX1_init_0 0 rfl rfl)
theorem dX1_init_1 : decode cX1_init 1 = .ok (.invokespecial 1, 3) := dk_183 0 1 (dk_at dksX1_init_0 1 rfl rfl)
theorem dX1_init_4 : decode cX1_init 4 = .ok (.aload_n 0, 1) := dk_42 (dk_at dksX1_init_0 4 rfl rfl)
theorem dX1_init_5 : decode cX1_init 5 = .ok (.bipush 60, 2) := dk_16 60 (dk_at dksX1_init_0 5 rfl rfl)
theorem dX1_init_7 : decode cX1_init 7 = .ok (.newarray .int, 2) := dk_188_10 (dk_at dksX1_init_0 7 rfl rfl)
theorem dX1_init_9 : decode cX1_init 9 = .ok (.putfield 7, 3) := dk_181 0 7 (dk_at dksX1_init_0 9 rfl rfl)
theorem dX1_init_12 : decode cX1_init 12 = .ok (.aload_n 0, 1) := dk_42 (dk_at dksX1_init_0 12 rfl rfl)
theorem dX1_init_13 : decode cX1_init 13 = .ok (.bipush 60, 2) := dk_16 60 (dk_at dksX1_init_0 13 rfl rfl)
theorem dX1_init_15 : decode cX1_init 15 = .ok (.newarray .int, 2) := dk_188_10 (dk_at dksX1_init_0 15 rfl rfl)
theorem dX1_init_17 : decode cX1_init 17 = .ok (.putfield 13, 3) := dk_181 0 13 (dk_at dksX1_init_0 17 rfl rfl)
theorem dX1_init_20 : decode cX1_init 20 = .ok (.aload_n 0, 1) := dk_42 (dk_at dksX1_init_0 20 rfl rfl)
theorem dX1_init_21 : decode cX1_init 21 = .ok (.bipush 60, 2) := dk_16 60 (dk_at dksX1_init_0 21 rfl rfl)
theorem dX1_init_23 : decode cX1_init 23 = .ok (.newarray .int, 2) := dk_188_10 (dk_at dksX1_init_1 0 rfl rfl)
theorem dX1_init_25 : decode cX1_init 25 = .ok (.putfield 16, 3) := dk_181 0 16 (dk_at dksX1_init_1 2 rfl rfl)
theorem dX1_init_28 : decode cX1_init 28 = .ok (.aload_n 0, 1) := dk_42 (dk_at dksX1_init_1 5 rfl rfl)
theorem dX1_init_29 : decode cX1_init 29 = .ok (.sipush 180, 3) := dk_17 0 180 (dk_at dksX1_init_1 6 rfl rfl)
theorem dX1_init_32 : decode cX1_init 32 = .ok (.newarray .long, 2) := dk_188_11 (dk_at dksX1_init_1 9 rfl rfl)
theorem dX1_init_34 : decode cX1_init 34 = .ok (.putfield 19, 3) := dk_181 0 19 (dk_at dksX1_init_1 11 rfl rfl)
theorem dX1_init_37 : decode cX1_init 37 = .ok (.aload_n 0, 1) := dk_42 (dk_at dksX1_init_1 14 rfl rfl)
theorem dX1_init_38 : decode cX1_init 38 = .ok (.bipush 8, 2) := dk_16 8 (dk_at dksX1_init_1 15 rfl rfl)
theorem dX1_init_40 : decode cX1_init 40 = .ok (.newarray .int, 2) := dk_188_10 (dk_at dksX1_init_1 17 rfl rfl)
theorem dX1_init_42 : decode cX1_init 42 = .ok (.putfield 23, 3) := dk_181 0 23 (dk_at dksX1_init_1 19 rfl rfl)
theorem dX1_init_45 : decode cX1_init 45 = .ok (.aload_n 0, 1) := dk_42 (dk_at dksX1_init_1 22 rfl rfl)
theorem dX1_init_46 : decode cX1_init 46 = .ok (.bipush 32, 2) := dk_16 32 (dk_at dksX1_init_2 0 rfl rfl)
theorem dX1_init_48 : decode cX1_init 48 = .ok (.newarray .int, 2) := dk_188_10 (dk_at dksX1_init_2 2 rfl rfl)
theorem dX1_init_50 : decode cX1_init 50 = .ok (.putfield 26, 3) := dk_181 0 26 (dk_at dksX1_init_2 4 rfl rfl)
theorem dX1_init_53 : decode cX1_init 53 = .ok (.aload_n 0, 1) := dk_42 (dk_at dksX1_init_2 7 rfl rfl)
theorem dX1_init_54 : decode cX1_init 54 = .ok (.bipush 32, 2) := dk_16 32 (dk_at dksX1_init_2 8 rfl rfl)
theorem dX1_init_56 : decode cX1_init 56 = .ok (.newarray .int, 2) := dk_188_10 (dk_at dksX1_init_2 10 rfl rfl)
theorem dX1_init_58 : decode cX1_init 58 = .ok (.putfield 29, 3) := dk_181 0 29 (dk_at dksX1_init_2 12 rfl rfl)
theorem dX1_init_61 : decode cX1_init 61 = .ok (.aload_n 0, 1) := dk_42 (dk_at dksX1_init_2 15 rfl rfl)
theorem dX1_init_62 : decode cX1_init 62 = .ok (.bipush 32, 2) := dk_16 32 (dk_at dksX1_init_2 16 rfl rfl)
theorem dX1_init_64 : decode cX1_init 64 = .ok (.newarray .boolean, 2) := dk_188_4 (dk_at dksX1_init_2 18 rfl rfl)
theorem dX1_init_66 : decode cX1_init 66 = .ok (.putfield 32, 3) := dk_181 0 32 (dk_at dksX1_init_2 20 rfl rfl)
theorem dX1_init_69 : decode cX1_init 69 = .ok (.aload_n 0, 1) := dk_42 (dk_at dksX1_init_2 23 rfl rfl)
theorem dX1_init_70 : decode cX1_init 70 = .ok (.bipush 32, 2) := dk_16 32 (dk_at dksX1_init_3 0 rfl rfl)
theorem dX1_init_72 : decode cX1_init 72 = .ok (.newarray .int, 2) := dk_188_10 (dk_at dksX1_init_3 2 rfl rfl)
theorem dX1_init_74 : decode cX1_init 74 = .ok (.putfield 36, 3) := dk_181 0 36 (dk_at dksX1_init_3 4 rfl rfl)
theorem dX1_init_77 : decode cX1_init 77 = .ok (.aload_n 0, 1) := dk_42 (dk_at dksX1_init_3 7 rfl rfl)
theorem dX1_init_78 : decode cX1_init 78 = .ok (.bipush 32, 2) := dk_16 32 (dk_at dksX1_init_3 8 rfl rfl)
theorem dX1_init_80 : decode cX1_init 80 = .ok (.newarray .int, 2) := dk_188_10 (dk_at dksX1_init_3 10 rfl rfl)
theorem dX1_init_82 : decode cX1_init 82 = .ok (.putfield 39, 3) := dk_181 0 39 (dk_at dksX1_init_3 12 rfl rfl)
theorem dX1_init_85 : decode cX1_init 85 = .ok (.aload_n 0, 1) := dk_42 (dk_at dksX1_init_3 15 rfl rfl)
theorem dX1_init_86 : decode cX1_init 86 = .ok (.bipush 32, 2) := dk_16 32 (dk_at dksX1_init_3 16 rfl rfl)
theorem dX1_init_88 : decode cX1_init 88 = .ok (.newarray .int, 2) := dk_188_10 (dk_at dksX1_init_3 18 rfl rfl)
theorem dX1_init_90 : decode cX1_init 90 = .ok (.putfield 42, 3) := dk_181 0 42 (dk_at dksX1_init_3 20 rfl rfl)
theorem dX1_init_93 : decode cX1_init 93 = .ok (.aload_n 0, 1) := dk_42 (dk_at dksX1_init_3 23 rfl rfl)
theorem dX1_init_94 : decode cX1_init 94 = .ok (.bipush 32, 2) := dk_16 32 (dk_at dksX1_init_4 0 rfl rfl)
theorem dX1_init_96 : decode cX1_init 96 = .ok (.newarray .int, 2) := dk_188_10 (dk_at dksX1_init_4 2 rfl rfl)
theorem dX1_init_98 : decode cX1_init 98 = .ok (.putfield 45, 3) := dk_181 0 45 (dk_at dksX1_init_4 4 rfl rfl)
theorem dX1_init_101 : decode cX1_init 101 = .ok (.aload_n 0, 1) := dk_42 (dk_at dksX1_init_4 7 rfl rfl)
theorem dX1_init_102 : decode cX1_init 102 = .ok (.bipush 32, 2) := dk_16 32 (dk_at dksX1_init_4 8 rfl rfl)
theorem dX1_init_104 : decode cX1_init 104 = .ok (.newarray .int, 2) := dk_188_10 (dk_at dksX1_init_4 10 rfl rfl)
theorem dX1_init_106 : decode cX1_init 106 = .ok (.putfield 48, 3) := dk_181 0 48 (dk_at dksX1_init_4 12 rfl rfl)
theorem dX1_init_109 : decode cX1_init 109 = .ok (.aload_n 0, 1) := dk_42 (dk_at dksX1_init_4 15 rfl rfl)
theorem dX1_init_110 : decode cX1_init 110 = .ok (.bipush 32, 2) := dk_16 32 (dk_at dksX1_init_4 16 rfl rfl)
theorem dX1_init_112 : decode cX1_init 112 = .ok (.newarray .boolean, 2) := dk_188_4 (dk_at dksX1_init_4 18 rfl rfl)
theorem dX1_init_114 : decode cX1_init 114 = .ok (.putfield 51, 3) := dk_181 0 51 (dk_at dksX1_init_4 20 rfl rfl)
theorem dX1_init_117 : decode cX1_init 117 = .ok (.aload_n 0, 1) := dk_42 (dk_at dksX1_init_4 23 rfl rfl)
theorem dX1_init_118 : decode cX1_init 118 = .ok (.iconst (-1), 1) := dk_2 (dk_at dksX1_init_5 0 rfl rfl)
theorem dX1_init_119 : decode cX1_init 119 = .ok (.putfield 54, 3) := dk_181 0 54 (dk_at dksX1_init_5 1 rfl rfl)
theorem dX1_init_122 : decode cX1_init 122 = .ok (.aload_n 0, 1) := dk_42 (dk_at dksX1_init_5 4 rfl rfl)
theorem dX1_init_123 : decode cX1_init 123 = .ok (.bipush 9, 2) := dk_16 9 (dk_at dksX1_init_5 5 rfl rfl)
theorem dX1_init_125 : decode cX1_init 125 = .ok (.newarray .int, 2) := dk_188_10 (dk_at dksX1_init_5 7 rfl rfl)
theorem dX1_init_127 : decode cX1_init 127 = .ok (.putfield 58, 3) := dk_181 0 58 (dk_at dksX1_init_5 9 rfl rfl)
theorem dX1_init_130 : decode cX1_init 130 = .ok (.aload_n 0, 1) := dk_42 (dk_at dksX1_init_5 12 rfl rfl)
theorem dX1_init_131 : decode cX1_init 131 = .ok (.bipush 9, 2) := dk_16 9 (dk_at dksX1_init_5 13 rfl rfl)
theorem dX1_init_133 : decode cX1_init 133 = .ok (.newarray .int, 2) := dk_188_10 (dk_at dksX1_init_5 15 rfl rfl)
theorem dX1_init_135 : decode cX1_init 135 = .ok (.putfield 61, 3) := dk_181 0 61 (dk_at dksX1_init_5 17 rfl rfl)
theorem dX1_init_138 : decode cX1_init 138 = .ok (.aload_n 0, 1) := dk_42 (dk_at dksX1_init_5 20 rfl rfl)
theorem dX1_init_139 : decode cX1_init 139 = .ok (.bipush 9, 2) := dk_16 9 (dk_at dksX1_init_5 21 rfl rfl)
theorem dX1_init_141 : decode cX1_init 141 = .ok (.newarray .int, 2) := dk_188_10 (dk_at dksX1_init_6 0 rfl rfl)
theorem dX1_init_143 : decode cX1_init 143 = .ok (.putfield 64, 3) := dk_181 0 64 (dk_at dksX1_init_6 2 rfl rfl)
theorem dX1_init_146 : decode cX1_init 146 = .ok (.aload_n 0, 1) := dk_42 (dk_at dksX1_init_6 5 rfl rfl)
theorem dX1_init_147 : decode cX1_init 147 = .ok (.bipush 9, 2) := dk_16 9 (dk_at dksX1_init_6 6 rfl rfl)
theorem dX1_init_149 : decode cX1_init 149 = .ok (.newarray .int, 2) := dk_188_10 (dk_at dksX1_init_6 8 rfl rfl)
theorem dX1_init_151 : decode cX1_init 151 = .ok (.putfield 67, 3) := dk_181 0 67 (dk_at dksX1_init_6 10 rfl rfl)
theorem dX1_init_154 : decode cX1_init 154 = .ok (.return_, 1) := dk_177 (dk_at dksX1_init_6 13 rfl rfl)
abbrev cX1_make : ByteArray := prog_9_method_9_code
def yX1_make : MethodName := ⟨RX1, "make", "(II)I"⟩
def dkwX1_make_6 : List UInt8 := [181, 0, 70, 42, 180, 0, 70, 4, 100, 172]
abbrev dktX1_make_6 : List UInt8 := dkwX1_make_6 ++ []
def dkwX1_make_5 : List UInt8 := [153, 0, 9, 20, 0, 100, 167, 0, 4, 9, 80, 132, 3, 1, 167, 255, 221, 42, 89, 180, 0, 70, 4, 96]
abbrev dktX1_make_5 : List UInt8 := dkwX1_make_5 ++ dktX1_make_6
def dkwX1_make_4 : List UInt8 := [62, 29, 6, 162, 0, 36, 42, 180, 0, 19, 6, 42, 180, 0, 70, 104, 29, 96, 27, 184, 0, 97]
abbrev dktX1_make_4 : List UInt8 := dkwX1_make_4 ++ dktX1_make_5
def dkwX1_make_3 : List UInt8 := [27, 184, 0, 89, 153, 0, 7, 3, 167, 0, 4, 28, 79, 42, 180, 0, 16, 42, 180, 0, 70, 3, 79, 3]
abbrev dktX1_make_3 : List UInt8 := dkwX1_make_3 ++ dktX1_make_4
def dkwX1_make_2 : List UInt8 := [16, 253, 182, 0, 93, 172, 42, 180, 0, 7, 42, 180, 0, 70, 27, 79, 42, 180, 0, 13, 42, 180, 0, 70]
abbrev dktX1_make_2 : List UInt8 := dkwX1_make_2 ++ dktX1_make_3
def dkwX1_make_1 : List UInt8 := [6, 184, 0, 73, 154, 0, 10, 42, 16, 254, 182, 0, 93, 172, 42, 180, 0, 70, 16, 60, 160, 0, 10, 42]
abbrev dktX1_make_1 : List UInt8 := dkwX1_make_1 ++ dktX1_make_2
def dkwX1_make_0 : List UInt8 := [42, 3, 181, 0, 77, 27, 3, 16, 12, 184, 0, 73, 153, 0, 19, 27, 184, 0, 89, 154, 0, 19, 28, 3]
abbrev dktX1_make_0 : List UInt8 := dkwX1_make_0 ++ dktX1_make_1
theorem dksX1_make_0 : cX1_make.data.toList.drop 0 = dktX1_make_0 := by decide +kernel
theorem dksX1_make_1 : cX1_make.data.toList.drop 24 = dktX1_make_1 := dk_seg dksX1_make_0 24 rfl rfl
theorem dksX1_make_2 : cX1_make.data.toList.drop 48 = dktX1_make_2 := dk_seg dksX1_make_1 24 rfl rfl
theorem dksX1_make_3 : cX1_make.data.toList.drop 72 = dktX1_make_3 := dk_seg dksX1_make_2 24 rfl rfl
theorem dksX1_make_4 : cX1_make.data.toList.drop 96 = dktX1_make_4 := dk_seg dksX1_make_3 24 rfl rfl
theorem dksX1_make_5 : cX1_make.data.toList.drop 118 = dktX1_make_5 := dk_seg dksX1_make_4 22 rfl rfl
theorem dksX1_make_6 : cX1_make.data.toList.drop 142 = dktX1_make_6 := dk_seg dksX1_make_5 24 rfl rfl
theorem dX1_make_0 : decode cX1_make 0 = .ok (.aload_n 0, 1) := dk_42 (dk_at dksX1_make_0 0 rfl rfl)
theorem dX1_make_1 : decode cX1_make 1 = .ok (.iconst 0, 1) := dk_3 (dk_at dksX1_make_0 1 rfl rfl)
theorem dX1_make_2 : decode cX1_make 2 = .ok (.putfield 77, 3) := dk_181 0 77 (dk_at dksX1_make_0 2 rfl rfl)
theorem dX1_make_5 : decode cX1_make 5 = .ok (.iload_n 1, 1) := dk_27 (dk_at dksX1_make_0 5 rfl rfl)
theorem dX1_make_6 : decode cX1_make 6 = .ok (.iconst 0, 1) := dk_3 (dk_at dksX1_make_0 6 rfl rfl)
theorem dX1_make_7 : decode cX1_make 7 = .ok (.bipush 12, 2) := dk_16 12 (dk_at dksX1_make_0 7 rfl rfl)
theorem dX1_make_9 : decode cX1_make 9 = .ok (.invokestatic 73, 3) := dk_184 0 73 (dk_at dksX1_make_0 9 rfl rfl)
theorem dX1_make_12 : decode cX1_make 12 = .ok (.ifCond .eq 19, 3) := dk_153 0 19 (dk_at dksX1_make_0 12 rfl rfl)
theorem dX1_make_15 : decode cX1_make 15 = .ok (.iload_n 1, 1) := dk_27 (dk_at dksX1_make_0 15 rfl rfl)
theorem dX1_make_16 : decode cX1_make 16 = .ok (.invokestatic 89, 3) := dk_184 0 89 (dk_at dksX1_make_0 16 rfl rfl)
theorem dX1_make_19 : decode cX1_make 19 = .ok (.ifCond .ne 19, 3) := dk_154 0 19 (dk_at dksX1_make_0 19 rfl rfl)
theorem dX1_make_22 : decode cX1_make 22 = .ok (.iload_n 2, 1) := dk_28 (dk_at dksX1_make_0 22 rfl rfl)
theorem dX1_make_23 : decode cX1_make 23 = .ok (.iconst 0, 1) := dk_3 (dk_at dksX1_make_0 23 rfl rfl)
theorem dX1_make_24 : decode cX1_make 24 = .ok (.iconst 3, 1) := dk_6 (dk_at dksX1_make_1 0 rfl rfl)
theorem dX1_make_25 : decode cX1_make 25 = .ok (.invokestatic 73, 3) := dk_184 0 73 (dk_at dksX1_make_1 1 rfl rfl)
theorem dX1_make_28 : decode cX1_make 28 = .ok (.ifCond .ne 10, 3) := dk_154 0 10 (dk_at dksX1_make_1 4 rfl rfl)
theorem dX1_make_31 : decode cX1_make 31 = .ok (.aload_n 0, 1) := dk_42 (dk_at dksX1_make_1 7 rfl rfl)
theorem dX1_make_32 : decode cX1_make 32 = .ok (.bipush (-2), 2) := dk_16 254 (dk_at dksX1_make_1 8 rfl rfl)
theorem dX1_make_34 : decode cX1_make 34 = .ok (.invokevirtual 93, 3) := dk_182 0 93 (dk_at dksX1_make_1 10 rfl rfl)
theorem dX1_make_37 : decode cX1_make 37 = .ok (.ireturn, 1) := dk_172 (dk_at dksX1_make_1 13 rfl rfl)
theorem dX1_make_38 : decode cX1_make 38 = .ok (.aload_n 0, 1) := dk_42 (dk_at dksX1_make_1 14 rfl rfl)
theorem dX1_make_39 : decode cX1_make 39 = .ok (.getfield 70, 3) := dk_180 0 70 (dk_at dksX1_make_1 15 rfl rfl)
theorem dX1_make_42 : decode cX1_make 42 = .ok (.bipush 60, 2) := dk_16 60 (dk_at dksX1_make_1 18 rfl rfl)
theorem dX1_make_44 : decode cX1_make 44 = .ok (.if_icmp .ne 10, 3) := dk_160 0 10 (dk_at dksX1_make_1 20 rfl rfl)
theorem dX1_make_47 : decode cX1_make 47 = .ok (.aload_n 0, 1) := dk_42 (dk_at dksX1_make_1 23 rfl rfl)
theorem dX1_make_48 : decode cX1_make 48 = .ok (.bipush (-3), 2) := dk_16 253 (dk_at dksX1_make_2 0 rfl rfl)
theorem dX1_make_50 : decode cX1_make 50 = .ok (.invokevirtual 93, 3) := dk_182 0 93 (dk_at dksX1_make_2 2 rfl rfl)
theorem dX1_make_53 : decode cX1_make 53 = .ok (.ireturn, 1) := dk_172 (dk_at dksX1_make_2 5 rfl rfl)
theorem dX1_make_54 : decode cX1_make 54 = .ok (.aload_n 0, 1) := dk_42 (dk_at dksX1_make_2 6 rfl rfl)
theorem dX1_make_55 : decode cX1_make 55 = .ok (.getfield 7, 3) := dk_180 0 7 (dk_at dksX1_make_2 7 rfl rfl)
theorem dX1_make_58 : decode cX1_make 58 = .ok (.aload_n 0, 1) := dk_42 (dk_at dksX1_make_2 10 rfl rfl)
theorem dX1_make_59 : decode cX1_make 59 = .ok (.getfield 70, 3) := dk_180 0 70 (dk_at dksX1_make_2 11 rfl rfl)
theorem dX1_make_62 : decode cX1_make 62 = .ok (.iload_n 1, 1) := dk_27 (dk_at dksX1_make_2 14 rfl rfl)
theorem dX1_make_63 : decode cX1_make 63 = .ok (.iastore, 1) := dk_79 (dk_at dksX1_make_2 15 rfl rfl)
theorem dX1_make_64 : decode cX1_make 64 = .ok (.aload_n 0, 1) := dk_42 (dk_at dksX1_make_2 16 rfl rfl)
theorem dX1_make_65 : decode cX1_make 65 = .ok (.getfield 13, 3) := dk_180 0 13 (dk_at dksX1_make_2 17 rfl rfl)
theorem dX1_make_68 : decode cX1_make 68 = .ok (.aload_n 0, 1) := dk_42 (dk_at dksX1_make_2 20 rfl rfl)
theorem dX1_make_69 : decode cX1_make 69 = .ok (.getfield 70, 3) := dk_180 0 70 (dk_at dksX1_make_2 21 rfl rfl)
theorem dX1_make_72 : decode cX1_make 72 = .ok (.iload_n 1, 1) := dk_27 (dk_at dksX1_make_3 0 rfl rfl)
theorem dX1_make_73 : decode cX1_make 73 = .ok (.invokestatic 89, 3) := dk_184 0 89 (dk_at dksX1_make_3 1 rfl rfl)
theorem dX1_make_76 : decode cX1_make 76 = .ok (.ifCond .eq 7, 3) := dk_153 0 7 (dk_at dksX1_make_3 4 rfl rfl)
theorem dX1_make_79 : decode cX1_make 79 = .ok (.iconst 0, 1) := dk_3 (dk_at dksX1_make_3 7 rfl rfl)
theorem dX1_make_80 : decode cX1_make 80 = .ok (.goto 4, 3) := dk_167 0 4 (dk_at dksX1_make_3 8 rfl rfl)
theorem dX1_make_83 : decode cX1_make 83 = .ok (.iload_n 2, 1) := dk_28 (dk_at dksX1_make_3 11 rfl rfl)
theorem dX1_make_84 : decode cX1_make 84 = .ok (.iastore, 1) := dk_79 (dk_at dksX1_make_3 12 rfl rfl)
theorem dX1_make_85 : decode cX1_make 85 = .ok (.aload_n 0, 1) := dk_42 (dk_at dksX1_make_3 13 rfl rfl)
theorem dX1_make_86 : decode cX1_make 86 = .ok (.getfield 16, 3) := dk_180 0 16 (dk_at dksX1_make_3 14 rfl rfl)
theorem dX1_make_89 : decode cX1_make 89 = .ok (.aload_n 0, 1) := dk_42 (dk_at dksX1_make_3 17 rfl rfl)
theorem dX1_make_90 : decode cX1_make 90 = .ok (.getfield 70, 3) := dk_180 0 70 (dk_at dksX1_make_3 18 rfl rfl)
theorem dX1_make_93 : decode cX1_make 93 = .ok (.iconst 0, 1) := dk_3 (dk_at dksX1_make_3 21 rfl rfl)
theorem dX1_make_94 : decode cX1_make 94 = .ok (.iastore, 1) := dk_79 (dk_at dksX1_make_3 22 rfl rfl)
theorem dX1_make_95 : decode cX1_make 95 = .ok (.iconst 0, 1) := dk_3 (dk_at dksX1_make_3 23 rfl rfl)
theorem dX1_make_96 : decode cX1_make 96 = .ok (.istore_n 3, 1) := dk_62 (dk_at dksX1_make_4 0 rfl rfl)
theorem dX1_make_97 : decode cX1_make 97 = .ok (.iload_n 3, 1) := dk_29 (dk_at dksX1_make_4 1 rfl rfl)
theorem dX1_make_98 : decode cX1_make 98 = .ok (.iconst 3, 1) := dk_6 (dk_at dksX1_make_4 2 rfl rfl)
theorem dX1_make_99 : decode cX1_make 99 = .ok (.if_icmp .ge 36, 3) := dk_162 0 36 (dk_at dksX1_make_4 3 rfl rfl)
theorem dX1_make_102 : decode cX1_make 102 = .ok (.aload_n 0, 1) := dk_42 (dk_at dksX1_make_4 6 rfl rfl)
theorem dX1_make_103 : decode cX1_make 103 = .ok (.getfield 19, 3) := dk_180 0 19 (dk_at dksX1_make_4 7 rfl rfl)
theorem dX1_make_106 : decode cX1_make 106 = .ok (.iconst 3, 1) := dk_6 (dk_at dksX1_make_4 10 rfl rfl)
theorem dX1_make_107 : decode cX1_make 107 = .ok (.aload_n 0, 1) := dk_42 (dk_at dksX1_make_4 11 rfl rfl)
theorem dX1_make_108 : decode cX1_make 108 = .ok (.getfield 70, 3) := dk_180 0 70 (dk_at dksX1_make_4 12 rfl rfl)
theorem dX1_make_111 : decode cX1_make 111 = .ok (.imul, 1) := dk_104 (dk_at dksX1_make_4 15 rfl rfl)
theorem dX1_make_112 : decode cX1_make 112 = .ok (.iload_n 3, 1) := dk_29 (dk_at dksX1_make_4 16 rfl rfl)
theorem dX1_make_113 : decode cX1_make 113 = .ok (.iadd, 1) := dk_96 (dk_at dksX1_make_4 17 rfl rfl)
theorem dX1_make_114 : decode cX1_make 114 = .ok (.iload_n 1, 1) := dk_27 (dk_at dksX1_make_4 18 rfl rfl)
theorem dX1_make_115 : decode cX1_make 115 = .ok (.invokestatic 97, 3) := dk_184 0 97 (dk_at dksX1_make_4 19 rfl rfl)
theorem dX1_make_118 : decode cX1_make 118 = .ok (.ifCond .eq 9, 3) := dk_153 0 9 (dk_at dksX1_make_5 0 rfl rfl)
theorem dX1_make_121 : decode cX1_make 121 = .ok (.ldc2_w 100, 3) := dk_20 0 100 (dk_at dksX1_make_5 3 rfl rfl)
theorem dX1_make_124 : decode cX1_make 124 = .ok (.goto 4, 3) := dk_167 0 4 (dk_at dksX1_make_5 6 rfl rfl)
theorem dX1_make_127 : decode cX1_make 127 = .ok (.lconst 0, 1) := dk_9 (dk_at dksX1_make_5 9 rfl rfl)
theorem dX1_make_128 : decode cX1_make 128 = .ok (.lastore, 1) := dk_80 (dk_at dksX1_make_5 10 rfl rfl)
theorem dX1_make_129 : decode cX1_make 129 = .ok (.iinc 3 1, 3) := dk_132 3 1 (dk_at dksX1_make_5 11 rfl rfl)
theorem dX1_make_132 : decode cX1_make 132 = .ok (.goto (-35), 3) := dk_167 255 221 (dk_at dksX1_make_5 14 rfl rfl)
theorem dX1_make_135 : decode cX1_make 135 = .ok (.aload_n 0, 1) := dk_42 (dk_at dksX1_make_5 17 rfl rfl)
theorem dX1_make_136 : decode cX1_make 136 = .ok (.dup, 1) := dk_89 (dk_at dksX1_make_5 18 rfl rfl)
theorem dX1_make_137 : decode cX1_make 137 = .ok (.getfield 70, 3) := dk_180 0 70 (dk_at dksX1_make_5 19 rfl rfl)
theorem dX1_make_140 : decode cX1_make 140 = .ok (.iconst 1, 1) := dk_4 (dk_at dksX1_make_5 22 rfl rfl)
theorem dX1_make_141 : decode cX1_make 141 = .ok (.iadd, 1) := dk_96 (dk_at dksX1_make_5 23 rfl rfl)
theorem dX1_make_142 : decode cX1_make 142 = .ok (.putfield 70, 3) := dk_181 0 70 (dk_at dksX1_make_6 0 rfl rfl)
theorem dX1_make_145 : decode cX1_make 145 = .ok (.aload_n 0, 1) := dk_42 (dk_at dksX1_make_6 3 rfl rfl)
theorem dX1_make_146 : decode cX1_make 146 = .ok (.getfield 70, 3) := dk_180 0 70 (dk_at dksX1_make_6 4 rfl rfl)
theorem dX1_make_149 : decode cX1_make 149 = .ok (.iconst 1, 1) := dk_4 (dk_at dksX1_make_6 7 rfl rfl)
theorem dX1_make_150 : decode cX1_make 150 = .ok (.isub, 1) := dk_100 (dk_at dksX1_make_6 8 rfl rfl)
theorem dX1_make_151 : decode cX1_make 151 = .ok (.ireturn, 1) := dk_172 (dk_at dksX1_make_6 9 rfl rfl)
abbrev cX1_isIn : ByteArray := prog_9_method_2_code
def yX1_isIn : MethodName := ⟨RX1, "isIn", "(III)Z"⟩
def dkwX1_isIn_0 : List UInt8 := [26, 27, 161, 0, 12, 26, 28, 163, 0, 7, 4, 167, 0, 4, 3, 172]
abbrev dktX1_isIn_0 : List UInt8 := dkwX1_isIn_0 ++ []
theorem dksX1_isIn_0 : cX1_isIn.data.toList.drop 0 = dktX1_isIn_0 := by decide +kernel
theorem dX1_isIn_0 : decode cX1_isIn 0 = .ok (.iload_n 0, 1) := dk_26 (dk_at dksX1_isIn_0 0 rfl rfl)
theorem dX1_isIn_1 : decode cX1_isIn 1 = .ok (.iload_n 1, 1) := dk_27 (dk_at dksX1_isIn_0 1 rfl rfl)
theorem dX1_isIn_2 : decode cX1_isIn 2 = .ok (.if_icmp .lt 12, 3) := dk_161 0 12 (dk_at dksX1_isIn_0 2 rfl rfl)
theorem dX1_isIn_5 : decode cX1_isIn 5 = .ok (.iload_n 0, 1) := dk_26 (dk_at dksX1_isIn_0 5 rfl rfl)
theorem dX1_isIn_6 : decode cX1_isIn 6 = .ok (.iload_n 2, 1) := dk_28 (dk_at dksX1_isIn_0 6 rfl rfl)
theorem dX1_isIn_7 : decode cX1_isIn 7 = .ok (.if_icmp .gt 7, 3) := dk_163 0 7 (dk_at dksX1_isIn_0 7 rfl rfl)
theorem dX1_isIn_10 : decode cX1_isIn 10 = .ok (.iconst 1, 1) := dk_4 (dk_at dksX1_isIn_0 10 rfl rfl)
theorem dX1_isIn_11 : decode cX1_isIn 11 = .ok (.goto 4, 3) := dk_167 0 4 (dk_at dksX1_isIn_0 11 rfl rfl)
theorem dX1_isIn_14 : decode cX1_isIn 14 = .ok (.iconst 0, 1) := dk_3 (dk_at dksX1_isIn_0 14 rfl rfl)
theorem dX1_isIn_15 : decode cX1_isIn 15 = .ok (.ireturn, 1) := dk_172 (dk_at dksX1_isIn_0 15 rfl rfl)
abbrev cX1_isOne : ByteArray := prog_9_method_6_code
def yX1_isOne : MethodName := ⟨RX1, "isOne", "(I)Z"⟩
def dkwX1_isOne_0 : List UInt8 := [26, 8, 16, 7, 184, 0, 73, 172]
abbrev dktX1_isOne_0 : List UInt8 := dkwX1_isOne_0 ++ []
theorem dksX1_isOne_0 : cX1_isOne.data.toList.drop 0 = dktX1_isOne_0 := by decide +kernel
theorem dX1_isOne_0 : decode cX1_isOne 0 = .ok (.iload_n 0, 1) := dk_26 (dk_at dksX1_isOne_0 0 rfl rfl)
theorem dX1_isOne_1 : decode cX1_isOne 1 = .ok (.iconst 5, 1) := dk_8 (dk_at dksX1_isOne_0 1 rfl rfl)
theorem dX1_isOne_2 : decode cX1_isOne 2 = .ok (.bipush 7, 2) := dk_16 7 (dk_at dksX1_isOne_0 2 rfl rfl)
theorem dX1_isOne_4 : decode cX1_isOne 4 = .ok (.invokestatic 73, 3) := dk_184 0 73 (dk_at dksX1_isOne_0 4 rfl rfl)
theorem dX1_isOne_7 : decode cX1_isOne 7 = .ok (.ireturn, 1) := dk_172 (dk_at dksX1_isOne_0 7 rfl rfl)
abbrev cX1_refuse : ByteArray := prog_9_method_4_code
def yX1_refuse : MethodName := ⟨RX1, "refuse", "(I)I"⟩
def dkwX1_refuse_2 : List UInt8 := [89, 180, 0, 86, 27, 16, 250, 160, 0, 7, 4, 167, 0, 4, 3, 96, 181, 0, 86, 27, 172]
abbrev dktX1_refuse_2 : List UInt8 := dkwX1_refuse_2 ++ []
def dkwX1_refuse_1 : List UInt8 := [181, 0, 80, 42, 89, 180, 0, 83, 27, 16, 251, 160, 0, 7, 4, 167, 0, 4, 3, 96, 181, 0, 83, 42]
abbrev dktX1_refuse_1 : List UInt8 := dkwX1_refuse_1 ++ dktX1_refuse_2
def dkwX1_refuse_0 : List UInt8 := [42, 27, 181, 0, 77, 42, 89, 180, 0, 80, 27, 16, 252, 160, 0, 7, 4, 167, 0, 4, 3, 96]
abbrev dktX1_refuse_0 : List UInt8 := dkwX1_refuse_0 ++ dktX1_refuse_1
theorem dksX1_refuse_0 : cX1_refuse.data.toList.drop 0 = dktX1_refuse_0 := by decide +kernel
theorem dksX1_refuse_1 : cX1_refuse.data.toList.drop 22 = dktX1_refuse_1 := dk_seg dksX1_refuse_0 22 rfl rfl
theorem dksX1_refuse_2 : cX1_refuse.data.toList.drop 46 = dktX1_refuse_2 := dk_seg dksX1_refuse_1 24 rfl rfl
theorem dX1_refuse_0 : decode cX1_refuse 0 = .ok (.aload_n 0, 1) := dk_42 (dk_at dksX1_refuse_0 0 rfl rfl)
theorem dX1_refuse_1 : decode cX1_refuse 1 = .ok (.iload_n 1, 1) := dk_27 (dk_at dksX1_refuse_0 1 rfl rfl)
theorem dX1_refuse_2 : decode cX1_refuse 2 = .ok (.putfield 77, 3) := dk_181 0 77 (dk_at dksX1_refuse_0 2 rfl rfl)
theorem dX1_refuse_5 : decode cX1_refuse 5 = .ok (.aload_n 0, 1) := dk_42 (dk_at dksX1_refuse_0 5 rfl rfl)
theorem dX1_refuse_6 : decode cX1_refuse 6 = .ok (.dup, 1) := dk_89 (dk_at dksX1_refuse_0 6 rfl rfl)
theorem dX1_refuse_7 : decode cX1_refuse 7 = .ok (.getfield 80, 3) := dk_180 0 80 (dk_at dksX1_refuse_0 7 rfl rfl)
theorem dX1_refuse_10 : decode cX1_refuse 10 = .ok (.iload_n 1, 1) := dk_27 (dk_at dksX1_refuse_0 10 rfl rfl)
theorem dX1_refuse_11 : decode cX1_refuse 11 = .ok (.bipush (-4), 2) := dk_16 252 (dk_at dksX1_refuse_0 11 rfl rfl)
theorem dX1_refuse_13 : decode cX1_refuse 13 = .ok (.if_icmp .ne 7, 3) := dk_160 0 7 (dk_at dksX1_refuse_0 13 rfl rfl)
theorem dX1_refuse_16 : decode cX1_refuse 16 = .ok (.iconst 1, 1) := dk_4 (dk_at dksX1_refuse_0 16 rfl rfl)
theorem dX1_refuse_17 : decode cX1_refuse 17 = .ok (.goto 4, 3) := dk_167 0 4 (dk_at dksX1_refuse_0 17 rfl rfl)
theorem dX1_refuse_20 : decode cX1_refuse 20 = .ok (.iconst 0, 1) := dk_3 (dk_at dksX1_refuse_0 20 rfl rfl)
theorem dX1_refuse_21 : decode cX1_refuse 21 = .ok (.iadd, 1) := dk_96 (dk_at dksX1_refuse_0 21 rfl rfl)
theorem dX1_refuse_22 : decode cX1_refuse 22 = .ok (.putfield 80, 3) := dk_181 0 80 (dk_at dksX1_refuse_1 0 rfl rfl)
theorem dX1_refuse_25 : decode cX1_refuse 25 = .ok (.aload_n 0, 1) := dk_42 (dk_at dksX1_refuse_1 3 rfl rfl)
theorem dX1_refuse_26 : decode cX1_refuse 26 = .ok (.dup, 1) := dk_89 (dk_at dksX1_refuse_1 4 rfl rfl)
theorem dX1_refuse_27 : decode cX1_refuse 27 = .ok (.getfield 83, 3) := dk_180 0 83 (dk_at dksX1_refuse_1 5 rfl rfl)
theorem dX1_refuse_30 : decode cX1_refuse 30 = .ok (.iload_n 1, 1) := dk_27 (dk_at dksX1_refuse_1 8 rfl rfl)
theorem dX1_refuse_31 : decode cX1_refuse 31 = .ok (.bipush (-5), 2) := dk_16 251 (dk_at dksX1_refuse_1 9 rfl rfl)
theorem dX1_refuse_33 : decode cX1_refuse 33 = .ok (.if_icmp .ne 7, 3) := dk_160 0 7 (dk_at dksX1_refuse_1 11 rfl rfl)
theorem dX1_refuse_36 : decode cX1_refuse 36 = .ok (.iconst 1, 1) := dk_4 (dk_at dksX1_refuse_1 14 rfl rfl)
theorem dX1_refuse_37 : decode cX1_refuse 37 = .ok (.goto 4, 3) := dk_167 0 4 (dk_at dksX1_refuse_1 15 rfl rfl)
theorem dX1_refuse_40 : decode cX1_refuse 40 = .ok (.iconst 0, 1) := dk_3 (dk_at dksX1_refuse_1 18 rfl rfl)
theorem dX1_refuse_41 : decode cX1_refuse 41 = .ok (.iadd, 1) := dk_96 (dk_at dksX1_refuse_1 19 rfl rfl)
theorem dX1_refuse_42 : decode cX1_refuse 42 = .ok (.putfield 83, 3) := dk_181 0 83 (dk_at dksX1_refuse_1 20 rfl rfl)
theorem dX1_refuse_45 : decode cX1_refuse 45 = .ok (.aload_n 0, 1) := dk_42 (dk_at dksX1_refuse_1 23 rfl rfl)
theorem dX1_refuse_46 : decode cX1_refuse 46 = .ok (.dup, 1) := dk_89 (dk_at dksX1_refuse_2 0 rfl rfl)
theorem dX1_refuse_47 : decode cX1_refuse 47 = .ok (.getfield 86, 3) := dk_180 0 86 (dk_at dksX1_refuse_2 1 rfl rfl)
theorem dX1_refuse_50 : decode cX1_refuse 50 = .ok (.iload_n 1, 1) := dk_27 (dk_at dksX1_refuse_2 4 rfl rfl)
theorem dX1_refuse_51 : decode cX1_refuse 51 = .ok (.bipush (-6), 2) := dk_16 250 (dk_at dksX1_refuse_2 5 rfl rfl)
theorem dX1_refuse_53 : decode cX1_refuse 53 = .ok (.if_icmp .ne 7, 3) := dk_160 0 7 (dk_at dksX1_refuse_2 7 rfl rfl)
theorem dX1_refuse_56 : decode cX1_refuse 56 = .ok (.iconst 1, 1) := dk_4 (dk_at dksX1_refuse_2 10 rfl rfl)
theorem dX1_refuse_57 : decode cX1_refuse 57 = .ok (.goto 4, 3) := dk_167 0 4 (dk_at dksX1_refuse_2 11 rfl rfl)
theorem dX1_refuse_60 : decode cX1_refuse 60 = .ok (.iconst 0, 1) := dk_3 (dk_at dksX1_refuse_2 14 rfl rfl)
theorem dX1_refuse_61 : decode cX1_refuse 61 = .ok (.iadd, 1) := dk_96 (dk_at dksX1_refuse_2 15 rfl rfl)
theorem dX1_refuse_62 : decode cX1_refuse 62 = .ok (.putfield 86, 3) := dk_181 0 86 (dk_at dksX1_refuse_2 16 rfl rfl)
theorem dX1_refuse_65 : decode cX1_refuse 65 = .ok (.iload_n 1, 1) := dk_27 (dk_at dksX1_refuse_2 19 rfl rfl)
theorem dX1_refuse_66 : decode cX1_refuse 66 = .ok (.ireturn, 1) := dk_172 (dk_at dksX1_refuse_2 20 rfl rfl)
abbrev cX1_isOfThings : ByteArray := prog_9_method_8_code
def yX1_isOfThings : MethodName := ⟨RX1, "isOfThings", "(I)Z"⟩
def dkwX1_isOfThings_0 : List UInt8 := [26, 7, 159, 0, 9, 26, 16, 8, 161, 0, 7, 4, 167, 0, 4, 3, 172]
abbrev dktX1_isOfThings_0 : List UInt8 := dkwX1_isOfThings_0 ++ []
theorem dksX1_isOfThings_0 : cX1_isOfThings.data.toList.drop 0 = dktX1_isOfThings_0 := by decide +kernel
theorem dX1_isOfThings_0 : decode cX1_isOfThings 0 = .ok (.iload_n 0, 1) := dk_26 (dk_at dksX1_isOfThings_0 0 rfl rfl)
theorem dX1_isOfThings_1 : decode cX1_isOfThings 1 = .ok (.iconst 4, 1) := dk_7 (dk_at dksX1_isOfThings_0 1 rfl rfl)
theorem dX1_isOfThings_2 : decode cX1_isOfThings 2 = .ok (.if_icmp .eq 9, 3) := dk_159 0 9 (dk_at dksX1_isOfThings_0 2 rfl rfl)
theorem dX1_isOfThings_5 : decode cX1_isOfThings 5 = .ok (.iload_n 0, 1) := dk_26 (dk_at dksX1_isOfThings_0 5 rfl rfl)
theorem dX1_isOfThings_6 : decode cX1_isOfThings 6 = .ok (.bipush 8, 2) := dk_16 8 (dk_at dksX1_isOfThings_0 6 rfl rfl)
theorem dX1_isOfThings_8 : decode cX1_isOfThings 8 = .ok (.if_icmp .lt 7, 3) := dk_161 0 7 (dk_at dksX1_isOfThings_0 8 rfl rfl)
theorem dX1_isOfThings_11 : decode cX1_isOfThings 11 = .ok (.iconst 1, 1) := dk_4 (dk_at dksX1_isOfThings_0 11 rfl rfl)
theorem dX1_isOfThings_12 : decode cX1_isOfThings 12 = .ok (.goto 4, 3) := dk_167 0 4 (dk_at dksX1_isOfThings_0 12 rfl rfl)
theorem dX1_isOfThings_15 : decode cX1_isOfThings 15 = .ok (.iconst 0, 1) := dk_3 (dk_at dksX1_isOfThings_0 15 rfl rfl)
theorem dX1_isOfThings_16 : decode cX1_isOfThings 16 = .ok (.ireturn, 1) := dk_172 (dk_at dksX1_isOfThings_0 16 rfl rfl)
abbrev cX1_put : ByteArray := prog_9_method_12_code
def yX1_put : MethodName := ⟨RX1, "put", "(III)I"⟩
def dkwX1_put_2 : List UInt8 := [172, 42, 180, 0, 19, 6, 27, 104, 28, 96, 42, 180, 0, 7, 27, 46, 29, 133, 184, 0, 114, 80, 4, 172]
abbrev dktX1_put_2 : List UInt8 := dkwX1_put_2 ++ []
def dkwX1_put_1 : List UInt8 := [180, 0, 7, 27, 46, 184, 0, 107, 182, 0, 110, 54, 4, 21, 4, 153, 0, 10, 42, 21, 4, 182, 0, 93]
abbrev dktX1_put_1 : List UInt8 := dkwX1_put_1 ++ dktX1_put_2
def dkwX1_put_0 : List UInt8 := [42, 3, 181, 0, 77, 42, 27, 182, 0, 104, 154, 0, 10, 42, 16, 254, 182, 0, 93, 172, 42, 27, 28, 42]
abbrev dktX1_put_0 : List UInt8 := dkwX1_put_0 ++ dktX1_put_1
theorem dksX1_put_0 : cX1_put.data.toList.drop 0 = dktX1_put_0 := by decide +kernel
theorem dksX1_put_1 : cX1_put.data.toList.drop 24 = dktX1_put_1 := dk_seg dksX1_put_0 24 rfl rfl
theorem dksX1_put_2 : cX1_put.data.toList.drop 48 = dktX1_put_2 := dk_seg dksX1_put_1 24 rfl rfl
theorem dX1_put_0 : decode cX1_put 0 = .ok (.aload_n 0, 1) := dk_42 (dk_at dksX1_put_0 0 rfl rfl)
theorem dX1_put_1 : decode cX1_put 1 = .ok (.iconst 0, 1) := dk_3 (dk_at dksX1_put_0 1 rfl rfl)
theorem dX1_put_2 : decode cX1_put 2 = .ok (.putfield 77, 3) := dk_181 0 77 (dk_at dksX1_put_0 2 rfl rfl)
theorem dX1_put_5 : decode cX1_put 5 = .ok (.aload_n 0, 1) := dk_42 (dk_at dksX1_put_0 5 rfl rfl)
theorem dX1_put_6 : decode cX1_put 6 = .ok (.iload_n 1, 1) := dk_27 (dk_at dksX1_put_0 6 rfl rfl)
theorem dX1_put_7 : decode cX1_put 7 = .ok (.invokevirtual 104, 3) := dk_182 0 104 (dk_at dksX1_put_0 7 rfl rfl)
theorem dX1_put_10 : decode cX1_put 10 = .ok (.ifCond .ne 10, 3) := dk_154 0 10 (dk_at dksX1_put_0 10 rfl rfl)
theorem dX1_put_13 : decode cX1_put 13 = .ok (.aload_n 0, 1) := dk_42 (dk_at dksX1_put_0 13 rfl rfl)
theorem dX1_put_14 : decode cX1_put 14 = .ok (.bipush (-2), 2) := dk_16 254 (dk_at dksX1_put_0 14 rfl rfl)
theorem dX1_put_16 : decode cX1_put 16 = .ok (.invokevirtual 93, 3) := dk_182 0 93 (dk_at dksX1_put_0 16 rfl rfl)
theorem dX1_put_19 : decode cX1_put 19 = .ok (.ireturn, 1) := dk_172 (dk_at dksX1_put_0 19 rfl rfl)
theorem dX1_put_20 : decode cX1_put 20 = .ok (.aload_n 0, 1) := dk_42 (dk_at dksX1_put_0 20 rfl rfl)
theorem dX1_put_21 : decode cX1_put 21 = .ok (.iload_n 1, 1) := dk_27 (dk_at dksX1_put_0 21 rfl rfl)
theorem dX1_put_22 : decode cX1_put 22 = .ok (.iload_n 2, 1) := dk_28 (dk_at dksX1_put_0 22 rfl rfl)
theorem dX1_put_23 : decode cX1_put 23 = .ok (.aload_n 0, 1) := dk_42 (dk_at dksX1_put_0 23 rfl rfl)
theorem dX1_put_24 : decode cX1_put 24 = .ok (.getfield 7, 3) := dk_180 0 7 (dk_at dksX1_put_1 0 rfl rfl)
theorem dX1_put_27 : decode cX1_put 27 = .ok (.iload_n 1, 1) := dk_27 (dk_at dksX1_put_1 3 rfl rfl)
theorem dX1_put_28 : decode cX1_put 28 = .ok (.iaload, 1) := dk_46 (dk_at dksX1_put_1 4 rfl rfl)
theorem dX1_put_29 : decode cX1_put 29 = .ok (.invokestatic 107, 3) := dk_184 0 107 (dk_at dksX1_put_1 5 rfl rfl)
theorem dX1_put_32 : decode cX1_put 32 = .ok (.invokevirtual 110, 3) := dk_182 0 110 (dk_at dksX1_put_1 8 rfl rfl)
theorem dX1_put_35 : decode cX1_put 35 = .ok (.istore 4, 2) := dk_54 4 (dk_at dksX1_put_1 11 rfl rfl)
theorem dX1_put_37 : decode cX1_put 37 = .ok (.iload 4, 2) := dk_21 4 (dk_at dksX1_put_1 13 rfl rfl)
theorem dX1_put_39 : decode cX1_put 39 = .ok (.ifCond .eq 10, 3) := dk_153 0 10 (dk_at dksX1_put_1 15 rfl rfl)
theorem dX1_put_42 : decode cX1_put 42 = .ok (.aload_n 0, 1) := dk_42 (dk_at dksX1_put_1 18 rfl rfl)
theorem dX1_put_43 : decode cX1_put 43 = .ok (.iload 4, 2) := dk_21 4 (dk_at dksX1_put_1 19 rfl rfl)
theorem dX1_put_45 : decode cX1_put 45 = .ok (.invokevirtual 93, 3) := dk_182 0 93 (dk_at dksX1_put_1 21 rfl rfl)
theorem dX1_put_48 : decode cX1_put 48 = .ok (.ireturn, 1) := dk_172 (dk_at dksX1_put_2 0 rfl rfl)
theorem dX1_put_49 : decode cX1_put 49 = .ok (.aload_n 0, 1) := dk_42 (dk_at dksX1_put_2 1 rfl rfl)
theorem dX1_put_50 : decode cX1_put 50 = .ok (.getfield 19, 3) := dk_180 0 19 (dk_at dksX1_put_2 2 rfl rfl)
theorem dX1_put_53 : decode cX1_put 53 = .ok (.iconst 3, 1) := dk_6 (dk_at dksX1_put_2 5 rfl rfl)
theorem dX1_put_54 : decode cX1_put 54 = .ok (.iload_n 1, 1) := dk_27 (dk_at dksX1_put_2 6 rfl rfl)
theorem dX1_put_55 : decode cX1_put 55 = .ok (.imul, 1) := dk_104 (dk_at dksX1_put_2 7 rfl rfl)
theorem dX1_put_56 : decode cX1_put 56 = .ok (.iload_n 2, 1) := dk_28 (dk_at dksX1_put_2 8 rfl rfl)
theorem dX1_put_57 : decode cX1_put 57 = .ok (.iadd, 1) := dk_96 (dk_at dksX1_put_2 9 rfl rfl)
theorem dX1_put_58 : decode cX1_put 58 = .ok (.aload_n 0, 1) := dk_42 (dk_at dksX1_put_2 10 rfl rfl)
theorem dX1_put_59 : decode cX1_put 59 = .ok (.getfield 7, 3) := dk_180 0 7 (dk_at dksX1_put_2 11 rfl rfl)
theorem dX1_put_62 : decode cX1_put 62 = .ok (.iload_n 1, 1) := dk_27 (dk_at dksX1_put_2 14 rfl rfl)
theorem dX1_put_63 : decode cX1_put 63 = .ok (.iaload, 1) := dk_46 (dk_at dksX1_put_2 15 rfl rfl)
theorem dX1_put_64 : decode cX1_put 64 = .ok (.iload_n 3, 1) := dk_29 (dk_at dksX1_put_2 16 rfl rfl)
theorem dX1_put_65 : decode cX1_put 65 = .ok (.i2l, 1) := dk_133 (dk_at dksX1_put_2 17 rfl rfl)
theorem dX1_put_66 : decode cX1_put 66 = .ok (.invokestatic 114, 3) := dk_184 0 114 (dk_at dksX1_put_2 18 rfl rfl)
theorem dX1_put_69 : decode cX1_put 69 = .ok (.lastore, 1) := dk_80 (dk_at dksX1_put_2 21 rfl rfl)
theorem dX1_put_70 : decode cX1_put 70 = .ok (.iconst 1, 1) := dk_4 (dk_at dksX1_put_2 22 rfl rfl)
theorem dX1_put_71 : decode cX1_put 71 = .ok (.ireturn, 1) := dk_172 (dk_at dksX1_put_2 23 rfl rfl)
abbrev cX1_isItem : ByteArray := prog_9_method_3_code
def yX1_isItem : MethodName := ⟨RX1, "isItem", "(I)Z"⟩
def dkwX1_isItem_0 : List UInt8 := [27, 3, 42, 180, 0, 70, 4, 100, 184, 0, 73, 172]
abbrev dktX1_isItem_0 : List UInt8 := dkwX1_isItem_0 ++ []
theorem dksX1_isItem_0 : cX1_isItem.data.toList.drop 0 = dktX1_isItem_0 := by decide +kernel
theorem dX1_isItem_0 : decode cX1_isItem 0 = .ok (.iload_n 1, 1) := dk_27 (dk_at dksX1_isItem_0 0 rfl rfl)
theorem dX1_isItem_1 : decode cX1_isItem 1 = .ok (.iconst 0, 1) := dk_3 (dk_at dksX1_isItem_0 1 rfl rfl)
theorem dX1_isItem_2 : decode cX1_isItem 2 = .ok (.aload_n 0, 1) := dk_42 (dk_at dksX1_isItem_0 2 rfl rfl)
theorem dX1_isItem_3 : decode cX1_isItem 3 = .ok (.getfield 70, 3) := dk_180 0 70 (dk_at dksX1_isItem_0 3 rfl rfl)
theorem dX1_isItem_6 : decode cX1_isItem 6 = .ok (.iconst 1, 1) := dk_4 (dk_at dksX1_isItem_0 6 rfl rfl)
theorem dX1_isItem_7 : decode cX1_isItem 7 = .ok (.isub, 1) := dk_100 (dk_at dksX1_isItem_0 7 rfl rfl)
theorem dX1_isItem_8 : decode cX1_isItem 8 = .ok (.invokestatic 73, 3) := dk_184 0 73 (dk_at dksX1_isItem_0 8 rfl rfl)
theorem dX1_isItem_11 : decode cX1_isItem 11 = .ok (.ireturn, 1) := dk_172 (dk_at dksX1_isItem_0 11 rfl rfl)
abbrev cX1_isOfNumbers : ByteArray := prog_9_method_7_code
def yX1_isOfNumbers : MethodName := ⟨RX1, "isOfNumbers", "(I)Z"⟩
def dkwX1_isOfNumbers_0 : List UInt8 := [26, 6, 163, 0, 7, 4, 167, 0, 4, 3, 172]
abbrev dktX1_isOfNumbers_0 : List UInt8 := dkwX1_isOfNumbers_0 ++ []
theorem dksX1_isOfNumbers_0 : cX1_isOfNumbers.data.toList.drop 0 = dktX1_isOfNumbers_0 := by decide +kernel
theorem dX1_isOfNumbers_0 : decode cX1_isOfNumbers 0 = .ok (.iload_n 0, 1) := dk_26 (dk_at dksX1_isOfNumbers_0 0 rfl rfl)
theorem dX1_isOfNumbers_1 : decode cX1_isOfNumbers 1 = .ok (.iconst 3, 1) := dk_6 (dk_at dksX1_isOfNumbers_0 1 rfl rfl)
theorem dX1_isOfNumbers_2 : decode cX1_isOfNumbers 2 = .ok (.if_icmp .gt 7, 3) := dk_163 0 7 (dk_at dksX1_isOfNumbers_0 2 rfl rfl)
theorem dX1_isOfNumbers_5 : decode cX1_isOfNumbers 5 = .ok (.iconst 1, 1) := dk_4 (dk_at dksX1_isOfNumbers_0 5 rfl rfl)
theorem dX1_isOfNumbers_6 : decode cX1_isOfNumbers 6 = .ok (.goto 4, 3) := dk_167 0 4 (dk_at dksX1_isOfNumbers_0 6 rfl rfl)
theorem dX1_isOfNumbers_9 : decode cX1_isOfNumbers 9 = .ok (.iconst 0, 1) := dk_3 (dk_at dksX1_isOfNumbers_0 9 rfl rfl)
theorem dX1_isOfNumbers_10 : decode cX1_isOfNumbers 10 = .ok (.ireturn, 1) := dk_172 (dk_at dksX1_isOfNumbers_0 10 rfl rfl)
abbrev cX1_wrongPlace : ByteArray := prog_9_method_11_code
def yX1_wrongPlace : MethodName := ⟨RX1, "wrongPlace", "(IIZ)I"⟩
def dkwX1_wrongPlace_1 : List UInt8 := [154, 0, 8, 16, 251, 167, 0, 4, 3, 172]
abbrev dktX1_wrongPlace_1 : List UInt8 := dkwX1_wrongPlace_1 ++ []
def dkwX1_wrongPlace_0 : List UInt8 := [29, 154, 0, 8, 16, 252, 167, 0, 25, 28, 3, 42, 180, 0, 13, 27, 46, 4, 100, 184, 0, 73]
abbrev dktX1_wrongPlace_0 : List UInt8 := dkwX1_wrongPlace_0 ++ dktX1_wrongPlace_1
theorem dksX1_wrongPlace_0 : cX1_wrongPlace.data.toList.drop 0 = dktX1_wrongPlace_0 := by decide +kernel
theorem dksX1_wrongPlace_1 : cX1_wrongPlace.data.toList.drop 22 = dktX1_wrongPlace_1 := dk_seg dksX1_wrongPlace_0 22 rfl rfl
theorem dX1_wrongPlace_0 : decode cX1_wrongPlace 0 = .ok (.iload_n 3, 1) := dk_29 (dk_at dksX1_wrongPlace_0 0 rfl rfl)
theorem dX1_wrongPlace_1 : decode cX1_wrongPlace 1 = .ok (.ifCond .ne 8, 3) := dk_154 0 8 (dk_at dksX1_wrongPlace_0 1 rfl rfl)
theorem dX1_wrongPlace_4 : decode cX1_wrongPlace 4 = .ok (.bipush (-4), 2) := dk_16 252 (dk_at dksX1_wrongPlace_0 4 rfl rfl)
theorem dX1_wrongPlace_6 : decode cX1_wrongPlace 6 = .ok (.goto 25, 3) := dk_167 0 25 (dk_at dksX1_wrongPlace_0 6 rfl rfl)
theorem dX1_wrongPlace_9 : decode cX1_wrongPlace 9 = .ok (.iload_n 2, 1) := dk_28 (dk_at dksX1_wrongPlace_0 9 rfl rfl)
theorem dX1_wrongPlace_10 : decode cX1_wrongPlace 10 = .ok (.iconst 0, 1) := dk_3 (dk_at dksX1_wrongPlace_0 10 rfl rfl)
theorem dX1_wrongPlace_11 : decode cX1_wrongPlace 11 = .ok (.aload_n 0, 1) := dk_42 (dk_at dksX1_wrongPlace_0 11 rfl rfl)
theorem dX1_wrongPlace_12 : decode cX1_wrongPlace 12 = .ok (.getfield 13, 3) := dk_180 0 13 (dk_at dksX1_wrongPlace_0 12 rfl rfl)
theorem dX1_wrongPlace_15 : decode cX1_wrongPlace 15 = .ok (.iload_n 1, 1) := dk_27 (dk_at dksX1_wrongPlace_0 15 rfl rfl)
theorem dX1_wrongPlace_16 : decode cX1_wrongPlace 16 = .ok (.iaload, 1) := dk_46 (dk_at dksX1_wrongPlace_0 16 rfl rfl)
theorem dX1_wrongPlace_17 : decode cX1_wrongPlace 17 = .ok (.iconst 1, 1) := dk_4 (dk_at dksX1_wrongPlace_0 17 rfl rfl)
theorem dX1_wrongPlace_18 : decode cX1_wrongPlace 18 = .ok (.isub, 1) := dk_100 (dk_at dksX1_wrongPlace_0 18 rfl rfl)
theorem dX1_wrongPlace_19 : decode cX1_wrongPlace 19 = .ok (.invokestatic 73, 3) := dk_184 0 73 (dk_at dksX1_wrongPlace_0 19 rfl rfl)
theorem dX1_wrongPlace_22 : decode cX1_wrongPlace 22 = .ok (.ifCond .ne 8, 3) := dk_154 0 8 (dk_at dksX1_wrongPlace_1 0 rfl rfl)
theorem dX1_wrongPlace_25 : decode cX1_wrongPlace 25 = .ok (.bipush (-5), 2) := dk_16 251 (dk_at dksX1_wrongPlace_1 3 rfl rfl)
theorem dX1_wrongPlace_27 : decode cX1_wrongPlace 27 = .ok (.goto 4, 3) := dk_167 0 4 (dk_at dksX1_wrongPlace_1 5 rfl rfl)
theorem dX1_wrongPlace_30 : decode cX1_wrongPlace 30 = .ok (.iconst 0, 1) := dk_3 (dk_at dksX1_wrongPlace_1 8 rfl rfl)
theorem dX1_wrongPlace_31 : decode cX1_wrongPlace 31 = .ok (.ireturn, 1) := dk_172 (dk_at dksX1_wrongPlace_1 9 rfl rfl)
abbrev cX1_kept : ByteArray := prog_9_method_10_code
def yX1_kept : MethodName := ⟨RX1, "kept", "(IJ)J"⟩
def dkwX1_kept_1 : List UInt8 := [26, 6, 160, 0, 17, 31, 9, 148, 153, 0, 7, 10, 167, 0, 8, 9, 167, 0, 4, 31, 173]
abbrev dktX1_kept_1 : List UInt8 := dkwX1_kept_1 ++ []
def dkwX1_kept_0 : List UInt8 := [26, 154, 0, 11, 31, 20, 0, 102, 127, 167, 0, 35, 26, 4, 160, 0, 10, 31, 136, 147, 133, 167, 0, 23]
abbrev dktX1_kept_0 : List UInt8 := dkwX1_kept_0 ++ dktX1_kept_1
theorem dksX1_kept_0 : cX1_kept.data.toList.drop 0 = dktX1_kept_0 := by decide +kernel
theorem dksX1_kept_1 : cX1_kept.data.toList.drop 24 = dktX1_kept_1 := dk_seg dksX1_kept_0 24 rfl rfl
theorem dX1_kept_0 : decode cX1_kept 0 = .ok (.iload_n 0, 1) := dk_26 (dk_at dksX1_kept_0 0 rfl rfl)
theorem dX1_kept_1 : decode cX1_kept 1 = .ok (.ifCond .ne 11, 3) := dk_154 0 11 (dk_at dksX1_kept_0 1 rfl rfl)
theorem dX1_kept_4 : decode cX1_kept 4 = .ok (.lload_n 1, 1) := dk_31 (dk_at dksX1_kept_0 4 rfl rfl)
theorem dX1_kept_5 : decode cX1_kept 5 = .ok (.ldc2_w 102, 3) := dk_20 0 102 (dk_at dksX1_kept_0 5 rfl rfl)
theorem dX1_kept_8 : decode cX1_kept 8 = .ok (.land, 1) := dk_127 (dk_at dksX1_kept_0 8 rfl rfl)
theorem dX1_kept_9 : decode cX1_kept 9 = .ok (.goto 35, 3) := dk_167 0 35 (dk_at dksX1_kept_0 9 rfl rfl)
theorem dX1_kept_12 : decode cX1_kept 12 = .ok (.iload_n 0, 1) := dk_26 (dk_at dksX1_kept_0 12 rfl rfl)
theorem dX1_kept_13 : decode cX1_kept 13 = .ok (.iconst 1, 1) := dk_4 (dk_at dksX1_kept_0 13 rfl rfl)
theorem dX1_kept_14 : decode cX1_kept 14 = .ok (.if_icmp .ne 10, 3) := dk_160 0 10 (dk_at dksX1_kept_0 14 rfl rfl)
theorem dX1_kept_17 : decode cX1_kept 17 = .ok (.lload_n 1, 1) := dk_31 (dk_at dksX1_kept_0 17 rfl rfl)
theorem dX1_kept_18 : decode cX1_kept 18 = .ok (.l2i, 1) := dk_136 (dk_at dksX1_kept_0 18 rfl rfl)
theorem dX1_kept_19 : decode cX1_kept 19 = .ok (.i2s, 1) := dk_147 (dk_at dksX1_kept_0 19 rfl rfl)
theorem dX1_kept_20 : decode cX1_kept 20 = .ok (.i2l, 1) := dk_133 (dk_at dksX1_kept_0 20 rfl rfl)
theorem dX1_kept_21 : decode cX1_kept 21 = .ok (.goto 23, 3) := dk_167 0 23 (dk_at dksX1_kept_0 21 rfl rfl)
theorem dX1_kept_24 : decode cX1_kept 24 = .ok (.iload_n 0, 1) := dk_26 (dk_at dksX1_kept_1 0 rfl rfl)
theorem dX1_kept_25 : decode cX1_kept 25 = .ok (.iconst 3, 1) := dk_6 (dk_at dksX1_kept_1 1 rfl rfl)
theorem dX1_kept_26 : decode cX1_kept 26 = .ok (.if_icmp .ne 17, 3) := dk_160 0 17 (dk_at dksX1_kept_1 2 rfl rfl)
theorem dX1_kept_29 : decode cX1_kept 29 = .ok (.lload_n 1, 1) := dk_31 (dk_at dksX1_kept_1 5 rfl rfl)
theorem dX1_kept_30 : decode cX1_kept 30 = .ok (.lconst 0, 1) := dk_9 (dk_at dksX1_kept_1 6 rfl rfl)
theorem dX1_kept_31 : decode cX1_kept 31 = .ok (.lcmp, 1) := dk_148 (dk_at dksX1_kept_1 7 rfl rfl)
theorem dX1_kept_32 : decode cX1_kept 32 = .ok (.ifCond .eq 7, 3) := dk_153 0 7 (dk_at dksX1_kept_1 8 rfl rfl)
theorem dX1_kept_35 : decode cX1_kept 35 = .ok (.lconst 1, 1) := dk_10 (dk_at dksX1_kept_1 11 rfl rfl)
theorem dX1_kept_36 : decode cX1_kept 36 = .ok (.goto 8, 3) := dk_167 0 8 (dk_at dksX1_kept_1 12 rfl rfl)
theorem dX1_kept_39 : decode cX1_kept 39 = .ok (.lconst 0, 1) := dk_9 (dk_at dksX1_kept_1 15 rfl rfl)
theorem dX1_kept_40 : decode cX1_kept 40 = .ok (.goto 4, 3) := dk_167 0 4 (dk_at dksX1_kept_1 16 rfl rfl)
theorem dX1_kept_43 : decode cX1_kept 43 = .ok (.lload_n 1, 1) := dk_31 (dk_at dksX1_kept_1 19 rfl rfl)
theorem dX1_kept_44 : decode cX1_kept 44 = .ok (.lreturn, 1) := dk_173 (dk_at dksX1_kept_1 20 rfl rfl)
abbrev cX1_get : ByteArray := prog_9_method_13_code
def yX1_get : MethodName := ⟨RX1, "get", "(II)I"⟩
def dkwX1_get_3 : List UInt8 := [167, 0, 6, 22, 4, 136, 172]
abbrev dktX1_get_3 : List UInt8 := dkwX1_get_3 ++ []
def dkwX1_get_2 : List UInt8 := [42, 180, 0, 19, 6, 27, 104, 28, 96, 47, 55, 4, 22, 4, 20, 0, 118, 148, 158, 0, 8, 18, 120]
abbrev dktX1_get_2 : List UInt8 := dkwX1_get_2 ++ dktX1_get_3
def dkwX1_get_1 : List UInt8 := [180, 0, 7, 27, 46, 184, 0, 107, 182, 0, 110, 62, 29, 153, 0, 11, 42, 29, 182, 0, 93, 62, 3, 172]
abbrev dktX1_get_1 : List UInt8 := dkwX1_get_1 ++ dktX1_get_2
def dkwX1_get_0 : List UInt8 := [42, 3, 181, 0, 77, 42, 27, 182, 0, 104, 154, 0, 8, 16, 254, 167, 0, 18, 42, 27, 28, 42]
abbrev dktX1_get_0 : List UInt8 := dkwX1_get_0 ++ dktX1_get_1
theorem dksX1_get_0 : cX1_get.data.toList.drop 0 = dktX1_get_0 := by decide +kernel
theorem dksX1_get_1 : cX1_get.data.toList.drop 22 = dktX1_get_1 := dk_seg dksX1_get_0 22 rfl rfl
theorem dksX1_get_2 : cX1_get.data.toList.drop 46 = dktX1_get_2 := dk_seg dksX1_get_1 24 rfl rfl
theorem dksX1_get_3 : cX1_get.data.toList.drop 69 = dktX1_get_3 := dk_seg dksX1_get_2 23 rfl rfl
theorem dX1_get_0 : decode cX1_get 0 = .ok (.aload_n 0, 1) := dk_42 (dk_at dksX1_get_0 0 rfl rfl)
theorem dX1_get_1 : decode cX1_get 1 = .ok (.iconst 0, 1) := dk_3 (dk_at dksX1_get_0 1 rfl rfl)
theorem dX1_get_2 : decode cX1_get 2 = .ok (.putfield 77, 3) := dk_181 0 77 (dk_at dksX1_get_0 2 rfl rfl)
theorem dX1_get_5 : decode cX1_get 5 = .ok (.aload_n 0, 1) := dk_42 (dk_at dksX1_get_0 5 rfl rfl)
theorem dX1_get_6 : decode cX1_get 6 = .ok (.iload_n 1, 1) := dk_27 (dk_at dksX1_get_0 6 rfl rfl)
theorem dX1_get_7 : decode cX1_get 7 = .ok (.invokevirtual 104, 3) := dk_182 0 104 (dk_at dksX1_get_0 7 rfl rfl)
theorem dX1_get_10 : decode cX1_get 10 = .ok (.ifCond .ne 8, 3) := dk_154 0 8 (dk_at dksX1_get_0 10 rfl rfl)
theorem dX1_get_13 : decode cX1_get 13 = .ok (.bipush (-2), 2) := dk_16 254 (dk_at dksX1_get_0 13 rfl rfl)
theorem dX1_get_15 : decode cX1_get 15 = .ok (.goto 18, 3) := dk_167 0 18 (dk_at dksX1_get_0 15 rfl rfl)
theorem dX1_get_18 : decode cX1_get 18 = .ok (.aload_n 0, 1) := dk_42 (dk_at dksX1_get_0 18 rfl rfl)
theorem dX1_get_19 : decode cX1_get 19 = .ok (.iload_n 1, 1) := dk_27 (dk_at dksX1_get_0 19 rfl rfl)
theorem dX1_get_20 : decode cX1_get 20 = .ok (.iload_n 2, 1) := dk_28 (dk_at dksX1_get_0 20 rfl rfl)
theorem dX1_get_21 : decode cX1_get 21 = .ok (.aload_n 0, 1) := dk_42 (dk_at dksX1_get_0 21 rfl rfl)
theorem dX1_get_22 : decode cX1_get 22 = .ok (.getfield 7, 3) := dk_180 0 7 (dk_at dksX1_get_1 0 rfl rfl)
theorem dX1_get_25 : decode cX1_get 25 = .ok (.iload_n 1, 1) := dk_27 (dk_at dksX1_get_1 3 rfl rfl)
theorem dX1_get_26 : decode cX1_get 26 = .ok (.iaload, 1) := dk_46 (dk_at dksX1_get_1 4 rfl rfl)
theorem dX1_get_27 : decode cX1_get 27 = .ok (.invokestatic 107, 3) := dk_184 0 107 (dk_at dksX1_get_1 5 rfl rfl)
theorem dX1_get_30 : decode cX1_get 30 = .ok (.invokevirtual 110, 3) := dk_182 0 110 (dk_at dksX1_get_1 8 rfl rfl)
theorem dX1_get_33 : decode cX1_get 33 = .ok (.istore_n 3, 1) := dk_62 (dk_at dksX1_get_1 11 rfl rfl)
theorem dX1_get_34 : decode cX1_get 34 = .ok (.iload_n 3, 1) := dk_29 (dk_at dksX1_get_1 12 rfl rfl)
theorem dX1_get_35 : decode cX1_get 35 = .ok (.ifCond .eq 11, 3) := dk_153 0 11 (dk_at dksX1_get_1 13 rfl rfl)
theorem dX1_get_38 : decode cX1_get 38 = .ok (.aload_n 0, 1) := dk_42 (dk_at dksX1_get_1 16 rfl rfl)
theorem dX1_get_39 : decode cX1_get 39 = .ok (.iload_n 3, 1) := dk_29 (dk_at dksX1_get_1 17 rfl rfl)
theorem dX1_get_40 : decode cX1_get 40 = .ok (.invokevirtual 93, 3) := dk_182 0 93 (dk_at dksX1_get_1 18 rfl rfl)
theorem dX1_get_43 : decode cX1_get 43 = .ok (.istore_n 3, 1) := dk_62 (dk_at dksX1_get_1 21 rfl rfl)
theorem dX1_get_44 : decode cX1_get 44 = .ok (.iconst 0, 1) := dk_3 (dk_at dksX1_get_1 22 rfl rfl)
theorem dX1_get_45 : decode cX1_get 45 = .ok (.ireturn, 1) := dk_172 (dk_at dksX1_get_1 23 rfl rfl)
theorem dX1_get_46 : decode cX1_get 46 = .ok (.aload_n 0, 1) := dk_42 (dk_at dksX1_get_2 0 rfl rfl)
theorem dX1_get_47 : decode cX1_get 47 = .ok (.getfield 19, 3) := dk_180 0 19 (dk_at dksX1_get_2 1 rfl rfl)
theorem dX1_get_50 : decode cX1_get 50 = .ok (.iconst 3, 1) := dk_6 (dk_at dksX1_get_2 4 rfl rfl)
theorem dX1_get_51 : decode cX1_get 51 = .ok (.iload_n 1, 1) := dk_27 (dk_at dksX1_get_2 5 rfl rfl)
theorem dX1_get_52 : decode cX1_get 52 = .ok (.imul, 1) := dk_104 (dk_at dksX1_get_2 6 rfl rfl)
theorem dX1_get_53 : decode cX1_get 53 = .ok (.iload_n 2, 1) := dk_28 (dk_at dksX1_get_2 7 rfl rfl)
theorem dX1_get_54 : decode cX1_get 54 = .ok (.iadd, 1) := dk_96 (dk_at dksX1_get_2 8 rfl rfl)
theorem dX1_get_55 : decode cX1_get 55 = .ok (.laload, 1) := dk_47 (dk_at dksX1_get_2 9 rfl rfl)
theorem dX1_get_56 : decode cX1_get 56 = .ok (.lstore 4, 2) := dk_55 4 (dk_at dksX1_get_2 10 rfl rfl)
theorem dX1_get_58 : decode cX1_get 58 = .ok (.lload 4, 2) := dk_22 4 (dk_at dksX1_get_2 12 rfl rfl)
theorem dX1_get_60 : decode cX1_get 60 = .ok (.ldc2_w 118, 3) := dk_20 0 118 (dk_at dksX1_get_2 14 rfl rfl)
theorem dX1_get_63 : decode cX1_get 63 = .ok (.lcmp, 1) := dk_148 (dk_at dksX1_get_2 17 rfl rfl)
theorem dX1_get_64 : decode cX1_get 64 = .ok (.ifCond .le 8, 3) := dk_158 0 8 (dk_at dksX1_get_2 18 rfl rfl)
theorem dX1_get_67 : decode cX1_get 67 = .ok (.ldc 120, 2) := dk_18 120 (dk_at dksX1_get_2 21 rfl rfl)
theorem dX1_get_69 : decode cX1_get 69 = .ok (.goto 6, 3) := dk_167 0 6 (dk_at dksX1_get_3 0 rfl rfl)
theorem dX1_get_72 : decode cX1_get 72 = .ok (.lload 4, 2) := dk_22 4 (dk_at dksX1_get_3 3 rfl rfl)
theorem dX1_get_74 : decode cX1_get 74 = .ok (.l2i, 1) := dk_136 (dk_at dksX1_get_3 5 rfl rfl)
theorem dX1_get_75 : decode cX1_get 75 = .ok (.ireturn, 1) := dk_172 (dk_at dksX1_get_3 6 rfl rfl)
abbrev cX1_lay : ByteArray := prog_9_method_16_code
def yX1_lay : MethodName := ⟨RX1, "lay", "(III)I"⟩
def dkwX1_lay_6 : List UInt8 := [80, 4, 172]
abbrev dktX1_lay_6 : List UInt8 := dkwX1_lay_6 ++ []
def dkwX1_lay_5 : List UInt8 := [184, 0, 124, 154, 0, 10, 42, 16, 250, 182, 0, 93, 172, 42, 180, 0, 19, 6, 27, 104, 28, 96, 29, 133]
abbrev dktX1_lay_5 : List UInt8 := dkwX1_lay_5 ++ dktX1_lay_6
def dkwX1_lay_4 : List UInt8 := [182, 0, 93, 172, 29, 2, 159, 0, 31, 42, 180, 0, 7, 29, 46, 42, 180, 0, 7, 27, 46, 184, 0, 128]
abbrev dktX1_lay_4 : List UInt8 := dkwX1_lay_4 ++ dktX1_lay_5
def dkwX1_lay_3 : List UInt8 := [184, 0, 124, 153, 0, 7, 4, 167, 0, 4, 3, 182, 0, 110, 54, 4, 21, 4, 153, 0, 10, 42, 21, 4]
abbrev dktX1_lay_3 : List UInt8 := dkwX1_lay_3 ++ dktX1_lay_4
def dkwX1_lay_2 : List UInt8 := [153, 0, 33, 29, 2, 159, 0, 24, 42, 180, 0, 7, 29, 46, 42, 180, 0, 7, 27, 46, 184, 0, 121]
abbrev dktX1_lay_2 : List UInt8 := dkwX1_lay_2 ++ dktX1_lay_3
def dkwX1_lay_1 : List UInt8 := [154, 0, 10, 42, 16, 254, 182, 0, 93, 172, 42, 27, 28, 42, 180, 0, 7, 27, 46, 184, 0, 97]
abbrev dktX1_lay_1 : List UInt8 := dkwX1_lay_1 ++ dktX1_lay_2
def dkwX1_lay_0 : List UInt8 := [42, 3, 181, 0, 77, 42, 27, 182, 0, 104, 153, 0, 16, 29, 2, 159, 0, 18, 42, 29, 182, 0, 104]
abbrev dktX1_lay_0 : List UInt8 := dkwX1_lay_0 ++ dktX1_lay_1
theorem dksX1_lay_0 : cX1_lay.data.toList.drop 0 = dktX1_lay_0 := by decide +kernel
theorem dksX1_lay_1 : cX1_lay.data.toList.drop 23 = dktX1_lay_1 := dk_seg dksX1_lay_0 23 rfl rfl
theorem dksX1_lay_2 : cX1_lay.data.toList.drop 45 = dktX1_lay_2 := dk_seg dksX1_lay_1 22 rfl rfl
theorem dksX1_lay_3 : cX1_lay.data.toList.drop 68 = dktX1_lay_3 := dk_seg dksX1_lay_2 23 rfl rfl
theorem dksX1_lay_4 : cX1_lay.data.toList.drop 92 = dktX1_lay_4 := dk_seg dksX1_lay_3 24 rfl rfl
theorem dksX1_lay_5 : cX1_lay.data.toList.drop 116 = dktX1_lay_5 := dk_seg dksX1_lay_4 24 rfl rfl
theorem dksX1_lay_6 : cX1_lay.data.toList.drop 140 = dktX1_lay_6 := dk_seg dksX1_lay_5 24 rfl rfl
theorem dX1_lay_0 : decode cX1_lay 0 = .ok (.aload_n 0, 1) := dk_42 (dk_at dksX1_lay_0 0 rfl rfl)
theorem dX1_lay_1 : decode cX1_lay 1 = .ok (.iconst 0, 1) := dk_3 (dk_at dksX1_lay_0 1 rfl rfl)
theorem dX1_lay_2 : decode cX1_lay 2 = .ok (.putfield 77, 3) := dk_181 0 77 (dk_at dksX1_lay_0 2 rfl rfl)
theorem dX1_lay_5 : decode cX1_lay 5 = .ok (.aload_n 0, 1) := dk_42 (dk_at dksX1_lay_0 5 rfl rfl)
theorem dX1_lay_6 : decode cX1_lay 6 = .ok (.iload_n 1, 1) := dk_27 (dk_at dksX1_lay_0 6 rfl rfl)
theorem dX1_lay_7 : decode cX1_lay 7 = .ok (.invokevirtual 104, 3) := dk_182 0 104 (dk_at dksX1_lay_0 7 rfl rfl)
theorem dX1_lay_10 : decode cX1_lay 10 = .ok (.ifCond .eq 16, 3) := dk_153 0 16 (dk_at dksX1_lay_0 10 rfl rfl)
theorem dX1_lay_13 : decode cX1_lay 13 = .ok (.iload_n 3, 1) := dk_29 (dk_at dksX1_lay_0 13 rfl rfl)
theorem dX1_lay_14 : decode cX1_lay 14 = .ok (.iconst (-1), 1) := dk_2 (dk_at dksX1_lay_0 14 rfl rfl)
theorem dX1_lay_15 : decode cX1_lay 15 = .ok (.if_icmp .eq 18, 3) := dk_159 0 18 (dk_at dksX1_lay_0 15 rfl rfl)
theorem dX1_lay_18 : decode cX1_lay 18 = .ok (.aload_n 0, 1) := dk_42 (dk_at dksX1_lay_0 18 rfl rfl)
theorem dX1_lay_19 : decode cX1_lay 19 = .ok (.iload_n 3, 1) := dk_29 (dk_at dksX1_lay_0 19 rfl rfl)
theorem dX1_lay_20 : decode cX1_lay 20 = .ok (.invokevirtual 104, 3) := dk_182 0 104 (dk_at dksX1_lay_0 20 rfl rfl)
theorem dX1_lay_23 : decode cX1_lay 23 = .ok (.ifCond .ne 10, 3) := dk_154 0 10 (dk_at dksX1_lay_1 0 rfl rfl)
theorem dX1_lay_26 : decode cX1_lay 26 = .ok (.aload_n 0, 1) := dk_42 (dk_at dksX1_lay_1 3 rfl rfl)
theorem dX1_lay_27 : decode cX1_lay 27 = .ok (.bipush (-2), 2) := dk_16 254 (dk_at dksX1_lay_1 4 rfl rfl)
theorem dX1_lay_29 : decode cX1_lay 29 = .ok (.invokevirtual 93, 3) := dk_182 0 93 (dk_at dksX1_lay_1 6 rfl rfl)
theorem dX1_lay_32 : decode cX1_lay 32 = .ok (.ireturn, 1) := dk_172 (dk_at dksX1_lay_1 9 rfl rfl)
theorem dX1_lay_33 : decode cX1_lay 33 = .ok (.aload_n 0, 1) := dk_42 (dk_at dksX1_lay_1 10 rfl rfl)
theorem dX1_lay_34 : decode cX1_lay 34 = .ok (.iload_n 1, 1) := dk_27 (dk_at dksX1_lay_1 11 rfl rfl)
theorem dX1_lay_35 : decode cX1_lay 35 = .ok (.iload_n 2, 1) := dk_28 (dk_at dksX1_lay_1 12 rfl rfl)
theorem dX1_lay_36 : decode cX1_lay 36 = .ok (.aload_n 0, 1) := dk_42 (dk_at dksX1_lay_1 13 rfl rfl)
theorem dX1_lay_37 : decode cX1_lay 37 = .ok (.getfield 7, 3) := dk_180 0 7 (dk_at dksX1_lay_1 14 rfl rfl)
theorem dX1_lay_40 : decode cX1_lay 40 = .ok (.iload_n 1, 1) := dk_27 (dk_at dksX1_lay_1 17 rfl rfl)
theorem dX1_lay_41 : decode cX1_lay 41 = .ok (.iaload, 1) := dk_46 (dk_at dksX1_lay_1 18 rfl rfl)
theorem dX1_lay_42 : decode cX1_lay 42 = .ok (.invokestatic 97, 3) := dk_184 0 97 (dk_at dksX1_lay_1 19 rfl rfl)
theorem dX1_lay_45 : decode cX1_lay 45 = .ok (.ifCond .eq 33, 3) := dk_153 0 33 (dk_at dksX1_lay_2 0 rfl rfl)
theorem dX1_lay_48 : decode cX1_lay 48 = .ok (.iload_n 3, 1) := dk_29 (dk_at dksX1_lay_2 3 rfl rfl)
theorem dX1_lay_49 : decode cX1_lay 49 = .ok (.iconst (-1), 1) := dk_2 (dk_at dksX1_lay_2 4 rfl rfl)
theorem dX1_lay_50 : decode cX1_lay 50 = .ok (.if_icmp .eq 24, 3) := dk_159 0 24 (dk_at dksX1_lay_2 5 rfl rfl)
theorem dX1_lay_53 : decode cX1_lay 53 = .ok (.aload_n 0, 1) := dk_42 (dk_at dksX1_lay_2 8 rfl rfl)
theorem dX1_lay_54 : decode cX1_lay 54 = .ok (.getfield 7, 3) := dk_180 0 7 (dk_at dksX1_lay_2 9 rfl rfl)
theorem dX1_lay_57 : decode cX1_lay 57 = .ok (.iload_n 3, 1) := dk_29 (dk_at dksX1_lay_2 12 rfl rfl)
theorem dX1_lay_58 : decode cX1_lay 58 = .ok (.iaload, 1) := dk_46 (dk_at dksX1_lay_2 13 rfl rfl)
theorem dX1_lay_59 : decode cX1_lay 59 = .ok (.aload_n 0, 1) := dk_42 (dk_at dksX1_lay_2 14 rfl rfl)
theorem dX1_lay_60 : decode cX1_lay 60 = .ok (.getfield 7, 3) := dk_180 0 7 (dk_at dksX1_lay_2 15 rfl rfl)
theorem dX1_lay_63 : decode cX1_lay 63 = .ok (.iload_n 1, 1) := dk_27 (dk_at dksX1_lay_2 18 rfl rfl)
theorem dX1_lay_64 : decode cX1_lay 64 = .ok (.iaload, 1) := dk_46 (dk_at dksX1_lay_2 19 rfl rfl)
theorem dX1_lay_65 : decode cX1_lay 65 = .ok (.invokestatic 121, 3) := dk_184 0 121 (dk_at dksX1_lay_2 20 rfl rfl)
theorem dX1_lay_68 : decode cX1_lay 68 = .ok (.invokestatic 124, 3) := dk_184 0 124 (dk_at dksX1_lay_3 0 rfl rfl)
theorem dX1_lay_71 : decode cX1_lay 71 = .ok (.ifCond .eq 7, 3) := dk_153 0 7 (dk_at dksX1_lay_3 3 rfl rfl)
theorem dX1_lay_74 : decode cX1_lay 74 = .ok (.iconst 1, 1) := dk_4 (dk_at dksX1_lay_3 6 rfl rfl)
theorem dX1_lay_75 : decode cX1_lay 75 = .ok (.goto 4, 3) := dk_167 0 4 (dk_at dksX1_lay_3 7 rfl rfl)
theorem dX1_lay_78 : decode cX1_lay 78 = .ok (.iconst 0, 1) := dk_3 (dk_at dksX1_lay_3 10 rfl rfl)
theorem dX1_lay_79 : decode cX1_lay 79 = .ok (.invokevirtual 110, 3) := dk_182 0 110 (dk_at dksX1_lay_3 11 rfl rfl)
theorem dX1_lay_82 : decode cX1_lay 82 = .ok (.istore 4, 2) := dk_54 4 (dk_at dksX1_lay_3 14 rfl rfl)
theorem dX1_lay_84 : decode cX1_lay 84 = .ok (.iload 4, 2) := dk_21 4 (dk_at dksX1_lay_3 16 rfl rfl)
theorem dX1_lay_86 : decode cX1_lay 86 = .ok (.ifCond .eq 10, 3) := dk_153 0 10 (dk_at dksX1_lay_3 18 rfl rfl)
theorem dX1_lay_89 : decode cX1_lay 89 = .ok (.aload_n 0, 1) := dk_42 (dk_at dksX1_lay_3 21 rfl rfl)
theorem dX1_lay_90 : decode cX1_lay 90 = .ok (.iload 4, 2) := dk_21 4 (dk_at dksX1_lay_3 22 rfl rfl)
theorem dX1_lay_92 : decode cX1_lay 92 = .ok (.invokevirtual 93, 3) := dk_182 0 93 (dk_at dksX1_lay_4 0 rfl rfl)
theorem dX1_lay_95 : decode cX1_lay 95 = .ok (.ireturn, 1) := dk_172 (dk_at dksX1_lay_4 3 rfl rfl)
theorem dX1_lay_96 : decode cX1_lay 96 = .ok (.iload_n 3, 1) := dk_29 (dk_at dksX1_lay_4 4 rfl rfl)
theorem dX1_lay_97 : decode cX1_lay 97 = .ok (.iconst (-1), 1) := dk_2 (dk_at dksX1_lay_4 5 rfl rfl)
theorem dX1_lay_98 : decode cX1_lay 98 = .ok (.if_icmp .eq 31, 3) := dk_159 0 31 (dk_at dksX1_lay_4 6 rfl rfl)
theorem dX1_lay_101 : decode cX1_lay 101 = .ok (.aload_n 0, 1) := dk_42 (dk_at dksX1_lay_4 9 rfl rfl)
theorem dX1_lay_102 : decode cX1_lay 102 = .ok (.getfield 7, 3) := dk_180 0 7 (dk_at dksX1_lay_4 10 rfl rfl)
theorem dX1_lay_105 : decode cX1_lay 105 = .ok (.iload_n 3, 1) := dk_29 (dk_at dksX1_lay_4 13 rfl rfl)
theorem dX1_lay_106 : decode cX1_lay 106 = .ok (.iaload, 1) := dk_46 (dk_at dksX1_lay_4 14 rfl rfl)
theorem dX1_lay_107 : decode cX1_lay 107 = .ok (.aload_n 0, 1) := dk_42 (dk_at dksX1_lay_4 15 rfl rfl)
theorem dX1_lay_108 : decode cX1_lay 108 = .ok (.getfield 7, 3) := dk_180 0 7 (dk_at dksX1_lay_4 16 rfl rfl)
theorem dX1_lay_111 : decode cX1_lay 111 = .ok (.iload_n 1, 1) := dk_27 (dk_at dksX1_lay_4 19 rfl rfl)
theorem dX1_lay_112 : decode cX1_lay 112 = .ok (.iaload, 1) := dk_46 (dk_at dksX1_lay_4 20 rfl rfl)
theorem dX1_lay_113 : decode cX1_lay 113 = .ok (.invokestatic 128, 3) := dk_184 0 128 (dk_at dksX1_lay_4 21 rfl rfl)
theorem dX1_lay_116 : decode cX1_lay 116 = .ok (.invokestatic 124, 3) := dk_184 0 124 (dk_at dksX1_lay_5 0 rfl rfl)
theorem dX1_lay_119 : decode cX1_lay 119 = .ok (.ifCond .ne 10, 3) := dk_154 0 10 (dk_at dksX1_lay_5 3 rfl rfl)
theorem dX1_lay_122 : decode cX1_lay 122 = .ok (.aload_n 0, 1) := dk_42 (dk_at dksX1_lay_5 6 rfl rfl)
theorem dX1_lay_123 : decode cX1_lay 123 = .ok (.bipush (-6), 2) := dk_16 250 (dk_at dksX1_lay_5 7 rfl rfl)
theorem dX1_lay_125 : decode cX1_lay 125 = .ok (.invokevirtual 93, 3) := dk_182 0 93 (dk_at dksX1_lay_5 9 rfl rfl)
theorem dX1_lay_128 : decode cX1_lay 128 = .ok (.ireturn, 1) := dk_172 (dk_at dksX1_lay_5 12 rfl rfl)
theorem dX1_lay_129 : decode cX1_lay 129 = .ok (.aload_n 0, 1) := dk_42 (dk_at dksX1_lay_5 13 rfl rfl)
theorem dX1_lay_130 : decode cX1_lay 130 = .ok (.getfield 19, 3) := dk_180 0 19 (dk_at dksX1_lay_5 14 rfl rfl)
theorem dX1_lay_133 : decode cX1_lay 133 = .ok (.iconst 3, 1) := dk_6 (dk_at dksX1_lay_5 17 rfl rfl)
theorem dX1_lay_134 : decode cX1_lay 134 = .ok (.iload_n 1, 1) := dk_27 (dk_at dksX1_lay_5 18 rfl rfl)
theorem dX1_lay_135 : decode cX1_lay 135 = .ok (.imul, 1) := dk_104 (dk_at dksX1_lay_5 19 rfl rfl)
theorem dX1_lay_136 : decode cX1_lay 136 = .ok (.iload_n 2, 1) := dk_28 (dk_at dksX1_lay_5 20 rfl rfl)
theorem dX1_lay_137 : decode cX1_lay 137 = .ok (.iadd, 1) := dk_96 (dk_at dksX1_lay_5 21 rfl rfl)
theorem dX1_lay_138 : decode cX1_lay 138 = .ok (.iload_n 3, 1) := dk_29 (dk_at dksX1_lay_5 22 rfl rfl)
theorem dX1_lay_139 : decode cX1_lay 139 = .ok (.i2l, 1) := dk_133 (dk_at dksX1_lay_5 23 rfl rfl)
theorem dX1_lay_140 : decode cX1_lay 140 = .ok (.lastore, 1) := dk_80 (dk_at dksX1_lay_6 0 rfl rfl)
theorem dX1_lay_141 : decode cX1_lay 141 = .ok (.iconst 1, 1) := dk_4 (dk_at dksX1_lay_6 1 rfl rfl)
theorem dX1_lay_142 : decode cX1_lay 142 = .ok (.ireturn, 1) := dk_172 (dk_at dksX1_lay_6 2 rfl rfl)
abbrev cX1_wanted : ByteArray := prog_9_method_14_code
def yX1_wanted : MethodName := ⟨RX1, "wanted", "(I)I"⟩
def dkwX1_wanted_1 : List UInt8 := [162, 0, 7, 8, 167, 0, 5, 16, 8, 172]
abbrev dktX1_wanted_1 : List UInt8 := dkwX1_wanted_1 ++ []
def dkwX1_wanted_0 : List UInt8 := [26, 7, 160, 0, 7, 3, 167, 0, 26, 26, 16, 10, 160, 0, 8, 16, 13, 167, 0, 15, 26, 16, 10]
abbrev dktX1_wanted_0 : List UInt8 := dkwX1_wanted_0 ++ dktX1_wanted_1
theorem dksX1_wanted_0 : cX1_wanted.data.toList.drop 0 = dktX1_wanted_0 := by decide +kernel
theorem dksX1_wanted_1 : cX1_wanted.data.toList.drop 23 = dktX1_wanted_1 := dk_seg dksX1_wanted_0 23 rfl rfl
theorem dX1_wanted_0 : decode cX1_wanted 0 = .ok (.iload_n 0, 1) := dk_26 (dk_at dksX1_wanted_0 0 rfl rfl)
theorem dX1_wanted_1 : decode cX1_wanted 1 = .ok (.iconst 4, 1) := dk_7 (dk_at dksX1_wanted_0 1 rfl rfl)
theorem dX1_wanted_2 : decode cX1_wanted 2 = .ok (.if_icmp .ne 7, 3) := dk_160 0 7 (dk_at dksX1_wanted_0 2 rfl rfl)
theorem dX1_wanted_5 : decode cX1_wanted 5 = .ok (.iconst 0, 1) := dk_3 (dk_at dksX1_wanted_0 5 rfl rfl)
theorem dX1_wanted_6 : decode cX1_wanted 6 = .ok (.goto 26, 3) := dk_167 0 26 (dk_at dksX1_wanted_0 6 rfl rfl)
theorem dX1_wanted_9 : decode cX1_wanted 9 = .ok (.iload_n 0, 1) := dk_26 (dk_at dksX1_wanted_0 9 rfl rfl)
theorem dX1_wanted_10 : decode cX1_wanted 10 = .ok (.bipush 10, 2) := dk_16 10 (dk_at dksX1_wanted_0 10 rfl rfl)
theorem dX1_wanted_12 : decode cX1_wanted 12 = .ok (.if_icmp .ne 8, 3) := dk_160 0 8 (dk_at dksX1_wanted_0 12 rfl rfl)
theorem dX1_wanted_15 : decode cX1_wanted 15 = .ok (.bipush 13, 2) := dk_16 13 (dk_at dksX1_wanted_0 15 rfl rfl)
theorem dX1_wanted_17 : decode cX1_wanted 17 = .ok (.goto 15, 3) := dk_167 0 15 (dk_at dksX1_wanted_0 17 rfl rfl)
theorem dX1_wanted_20 : decode cX1_wanted 20 = .ok (.iload_n 0, 1) := dk_26 (dk_at dksX1_wanted_0 20 rfl rfl)
theorem dX1_wanted_21 : decode cX1_wanted 21 = .ok (.bipush 10, 2) := dk_16 10 (dk_at dksX1_wanted_0 21 rfl rfl)
theorem dX1_wanted_23 : decode cX1_wanted 23 = .ok (.if_icmp .ge 7, 3) := dk_162 0 7 (dk_at dksX1_wanted_1 0 rfl rfl)
theorem dX1_wanted_26 : decode cX1_wanted 26 = .ok (.iconst 5, 1) := dk_8 (dk_at dksX1_wanted_1 3 rfl rfl)
theorem dX1_wanted_27 : decode cX1_wanted 27 = .ok (.goto 5, 3) := dk_167 0 5 (dk_at dksX1_wanted_1 4 rfl rfl)
theorem dX1_wanted_30 : decode cX1_wanted 30 = .ok (.bipush 8, 2) := dk_16 8 (dk_at dksX1_wanted_1 7 rfl rfl)
theorem dX1_wanted_32 : decode cX1_wanted 32 = .ok (.ireturn, 1) := dk_172 (dk_at dksX1_wanted_1 9 rfl rfl)
abbrev cX1_goes : ByteArray := prog_9_method_5_code
def yX1_goes : MethodName := ⟨RX1, "goes", "(II)Z"⟩
def dkwX1_goes_5 : List UInt8 := [172]
abbrev dktX1_goes_5 : List UInt8 := dkwX1_goes_5 ++ []
def dkwX1_goes_4 : List UInt8 := [16, 10, 160, 0, 7, 4, 167, 0, 4, 3, 172, 27, 16, 11, 160, 0, 7, 4, 167, 0, 4, 3, 172, 3]
abbrev dktX1_goes_4 : List UInt8 := dkwX1_goes_4 ++ dktX1_goes_5
def dkwX1_goes_3 : List UInt8 := [167, 0, 4, 3, 172, 27, 16, 10, 160, 0, 7, 4, 167, 0, 4, 3, 172, 27, 16, 8, 159, 0, 9, 27]
abbrev dktX1_goes_3 : List UInt8 := dkwX1_goes_3 ++ dktX1_goes_4
def dkwX1_goes_2 : List UInt8 := [27, 16, 13, 160, 0, 7, 4, 167, 0, 4, 3, 172, 27, 8, 159, 0, 9, 27, 16, 13, 160, 0, 7, 4]
abbrev dktX1_goes_2 : List UInt8 := dkwX1_goes_2 ++ dktX1_goes_3
def dkwX1_goes_1 : List UInt8 := [170, 0, 0, 0, 0, 0, 0, 119, 0, 0, 0, 5, 0, 0, 0, 12, 0, 0, 0, 48, 0, 0, 0, 60, 0, 0, 0, 48, 0, 0, 0, 77, 0, 0, 0, 89, 0, 0, 0, 119, 0, 0, 0, 119, 0, 0, 0, 107]
abbrev dktX1_goes_1 : List UInt8 := dkwX1_goes_1 ++ dktX1_goes_2
def dkwX1_goes_0 : List UInt8 := [26, 27, 160, 0, 5, 4, 172, 26]
abbrev dktX1_goes_0 : List UInt8 := dkwX1_goes_0 ++ dktX1_goes_1
theorem dksX1_goes_0 : cX1_goes.data.toList.drop 0 = dktX1_goes_0 := by decide +kernel
theorem dksX1_goes_1 : cX1_goes.data.toList.drop 8 = dktX1_goes_1 := dk_seg dksX1_goes_0 8 rfl rfl
theorem dksX1_goes_2 : cX1_goes.data.toList.drop 56 = dktX1_goes_2 := dk_seg dksX1_goes_1 48 rfl rfl
theorem dksX1_goes_3 : cX1_goes.data.toList.drop 80 = dktX1_goes_3 := dk_seg dksX1_goes_2 24 rfl rfl
theorem dksX1_goes_4 : cX1_goes.data.toList.drop 104 = dktX1_goes_4 := dk_seg dksX1_goes_3 24 rfl rfl
theorem dksX1_goes_5 : cX1_goes.data.toList.drop 128 = dktX1_goes_5 := dk_seg dksX1_goes_4 24 rfl rfl
theorem dX1_goes_0 : decode cX1_goes 0 = .ok (.iload_n 0, 1) := dk_26 (dk_at dksX1_goes_0 0 rfl rfl)
theorem dX1_goes_1 : decode cX1_goes 1 = .ok (.iload_n 1, 1) := dk_27 (dk_at dksX1_goes_0 1 rfl rfl)
theorem dX1_goes_2 : decode cX1_goes 2 = .ok (.if_icmp .ne 5, 3) := dk_160 0 5 (dk_at dksX1_goes_0 2 rfl rfl)
theorem dX1_goes_5 : decode cX1_goes 5 = .ok (.iconst 1, 1) := dk_4 (dk_at dksX1_goes_0 5 rfl rfl)
theorem dX1_goes_6 : decode cX1_goes 6 = .ok (.ireturn, 1) := dk_172 (dk_at dksX1_goes_0 6 rfl rfl)
theorem dX1_goes_7 : decode cX1_goes 7 = .ok (.iload_n 0, 1) := dk_26 (dk_at dksX1_goes_0 7 rfl rfl)
theorem dX1_goes_8 : decode cX1_goes 8 = .ok (.tableswitch 119 5 12 #[48, 60, 48, 77, 89, 119, 119, 107], 48) := by decide +kernel
theorem dX1_goes_56 : decode cX1_goes 56 = .ok (.iload_n 1, 1) := dk_27 (dk_at dksX1_goes_2 0 rfl rfl)
theorem dX1_goes_57 : decode cX1_goes 57 = .ok (.bipush 13, 2) := dk_16 13 (dk_at dksX1_goes_2 1 rfl rfl)
theorem dX1_goes_59 : decode cX1_goes 59 = .ok (.if_icmp .ne 7, 3) := dk_160 0 7 (dk_at dksX1_goes_2 3 rfl rfl)
theorem dX1_goes_62 : decode cX1_goes 62 = .ok (.iconst 1, 1) := dk_4 (dk_at dksX1_goes_2 6 rfl rfl)
theorem dX1_goes_63 : decode cX1_goes 63 = .ok (.goto 4, 3) := dk_167 0 4 (dk_at dksX1_goes_2 7 rfl rfl)
theorem dX1_goes_66 : decode cX1_goes 66 = .ok (.iconst 0, 1) := dk_3 (dk_at dksX1_goes_2 10 rfl rfl)
theorem dX1_goes_67 : decode cX1_goes 67 = .ok (.ireturn, 1) := dk_172 (dk_at dksX1_goes_2 11 rfl rfl)
theorem dX1_goes_68 : decode cX1_goes 68 = .ok (.iload_n 1, 1) := dk_27 (dk_at dksX1_goes_2 12 rfl rfl)
theorem dX1_goes_69 : decode cX1_goes 69 = .ok (.iconst 5, 1) := dk_8 (dk_at dksX1_goes_2 13 rfl rfl)
theorem dX1_goes_70 : decode cX1_goes 70 = .ok (.if_icmp .eq 9, 3) := dk_159 0 9 (dk_at dksX1_goes_2 14 rfl rfl)
theorem dX1_goes_73 : decode cX1_goes 73 = .ok (.iload_n 1, 1) := dk_27 (dk_at dksX1_goes_2 17 rfl rfl)
theorem dX1_goes_74 : decode cX1_goes 74 = .ok (.bipush 13, 2) := dk_16 13 (dk_at dksX1_goes_2 18 rfl rfl)
theorem dX1_goes_76 : decode cX1_goes 76 = .ok (.if_icmp .ne 7, 3) := dk_160 0 7 (dk_at dksX1_goes_2 20 rfl rfl)
theorem dX1_goes_79 : decode cX1_goes 79 = .ok (.iconst 1, 1) := dk_4 (dk_at dksX1_goes_2 23 rfl rfl)
theorem dX1_goes_80 : decode cX1_goes 80 = .ok (.goto 4, 3) := dk_167 0 4 (dk_at dksX1_goes_3 0 rfl rfl)
theorem dX1_goes_83 : decode cX1_goes 83 = .ok (.iconst 0, 1) := dk_3 (dk_at dksX1_goes_3 3 rfl rfl)
theorem dX1_goes_84 : decode cX1_goes 84 = .ok (.ireturn, 1) := dk_172 (dk_at dksX1_goes_3 4 rfl rfl)
theorem dX1_goes_85 : decode cX1_goes 85 = .ok (.iload_n 1, 1) := dk_27 (dk_at dksX1_goes_3 5 rfl rfl)
theorem dX1_goes_86 : decode cX1_goes 86 = .ok (.bipush 10, 2) := dk_16 10 (dk_at dksX1_goes_3 6 rfl rfl)
theorem dX1_goes_88 : decode cX1_goes 88 = .ok (.if_icmp .ne 7, 3) := dk_160 0 7 (dk_at dksX1_goes_3 8 rfl rfl)
theorem dX1_goes_91 : decode cX1_goes 91 = .ok (.iconst 1, 1) := dk_4 (dk_at dksX1_goes_3 11 rfl rfl)
theorem dX1_goes_92 : decode cX1_goes 92 = .ok (.goto 4, 3) := dk_167 0 4 (dk_at dksX1_goes_3 12 rfl rfl)
theorem dX1_goes_95 : decode cX1_goes 95 = .ok (.iconst 0, 1) := dk_3 (dk_at dksX1_goes_3 15 rfl rfl)
theorem dX1_goes_96 : decode cX1_goes 96 = .ok (.ireturn, 1) := dk_172 (dk_at dksX1_goes_3 16 rfl rfl)
theorem dX1_goes_97 : decode cX1_goes 97 = .ok (.iload_n 1, 1) := dk_27 (dk_at dksX1_goes_3 17 rfl rfl)
theorem dX1_goes_98 : decode cX1_goes 98 = .ok (.bipush 8, 2) := dk_16 8 (dk_at dksX1_goes_3 18 rfl rfl)
theorem dX1_goes_100 : decode cX1_goes 100 = .ok (.if_icmp .eq 9, 3) := dk_159 0 9 (dk_at dksX1_goes_3 20 rfl rfl)
theorem dX1_goes_103 : decode cX1_goes 103 = .ok (.iload_n 1, 1) := dk_27 (dk_at dksX1_goes_3 23 rfl rfl)
theorem dX1_goes_104 : decode cX1_goes 104 = .ok (.bipush 10, 2) := dk_16 10 (dk_at dksX1_goes_4 0 rfl rfl)
theorem dX1_goes_106 : decode cX1_goes 106 = .ok (.if_icmp .ne 7, 3) := dk_160 0 7 (dk_at dksX1_goes_4 2 rfl rfl)
theorem dX1_goes_109 : decode cX1_goes 109 = .ok (.iconst 1, 1) := dk_4 (dk_at dksX1_goes_4 5 rfl rfl)
theorem dX1_goes_110 : decode cX1_goes 110 = .ok (.goto 4, 3) := dk_167 0 4 (dk_at dksX1_goes_4 6 rfl rfl)
theorem dX1_goes_113 : decode cX1_goes 113 = .ok (.iconst 0, 1) := dk_3 (dk_at dksX1_goes_4 9 rfl rfl)
theorem dX1_goes_114 : decode cX1_goes 114 = .ok (.ireturn, 1) := dk_172 (dk_at dksX1_goes_4 10 rfl rfl)
theorem dX1_goes_115 : decode cX1_goes 115 = .ok (.iload_n 1, 1) := dk_27 (dk_at dksX1_goes_4 11 rfl rfl)
theorem dX1_goes_116 : decode cX1_goes 116 = .ok (.bipush 11, 2) := dk_16 11 (dk_at dksX1_goes_4 12 rfl rfl)
theorem dX1_goes_118 : decode cX1_goes 118 = .ok (.if_icmp .ne 7, 3) := dk_160 0 7 (dk_at dksX1_goes_4 14 rfl rfl)
theorem dX1_goes_121 : decode cX1_goes 121 = .ok (.iconst 1, 1) := dk_4 (dk_at dksX1_goes_4 17 rfl rfl)
theorem dX1_goes_122 : decode cX1_goes 122 = .ok (.goto 4, 3) := dk_167 0 4 (dk_at dksX1_goes_4 18 rfl rfl)
theorem dX1_goes_125 : decode cX1_goes 125 = .ok (.iconst 0, 1) := dk_3 (dk_at dksX1_goes_4 21 rfl rfl)
theorem dX1_goes_126 : decode cX1_goes 126 = .ok (.ireturn, 1) := dk_172 (dk_at dksX1_goes_4 22 rfl rfl)
theorem dX1_goes_127 : decode cX1_goes 127 = .ok (.iconst 0, 1) := dk_3 (dk_at dksX1_goes_4 23 rfl rfl)
theorem dX1_goes_128 : decode cX1_goes 128 = .ok (.ireturn, 1) := dk_172 (dk_at dksX1_goes_5 0 rfl rfl)
abbrev cX1_holds : ByteArray := prog_9_method_15_code
def yX1_holds : MethodName := ⟨RX1, "holds", "(I)I"⟩
def dkwX1_holds_1 : List UInt8 := [184, 0, 121, 172]
abbrev dktX1_holds_1 : List UInt8 := dkwX1_holds_1 ++ []
def dkwX1_holds_0 : List UInt8 := [26, 16, 9, 160, 0, 8, 16, 6, 167, 0, 18, 26, 16, 12, 160, 0, 8, 16, 9, 167, 0, 7, 26]
abbrev dktX1_holds_0 : List UInt8 := dkwX1_holds_0 ++ dktX1_holds_1
theorem dksX1_holds_0 : cX1_holds.data.toList.drop 0 = dktX1_holds_0 := by decide +kernel
theorem dksX1_holds_1 : cX1_holds.data.toList.drop 23 = dktX1_holds_1 := dk_seg dksX1_holds_0 23 rfl rfl
theorem dX1_holds_0 : decode cX1_holds 0 = .ok (.iload_n 0, 1) := dk_26 (dk_at dksX1_holds_0 0 rfl rfl)
theorem dX1_holds_1 : decode cX1_holds 1 = .ok (.bipush 9, 2) := dk_16 9 (dk_at dksX1_holds_0 1 rfl rfl)
theorem dX1_holds_3 : decode cX1_holds 3 = .ok (.if_icmp .ne 8, 3) := dk_160 0 8 (dk_at dksX1_holds_0 3 rfl rfl)
theorem dX1_holds_6 : decode cX1_holds 6 = .ok (.bipush 6, 2) := dk_16 6 (dk_at dksX1_holds_0 6 rfl rfl)
theorem dX1_holds_8 : decode cX1_holds 8 = .ok (.goto 18, 3) := dk_167 0 18 (dk_at dksX1_holds_0 8 rfl rfl)
theorem dX1_holds_11 : decode cX1_holds 11 = .ok (.iload_n 0, 1) := dk_26 (dk_at dksX1_holds_0 11 rfl rfl)
theorem dX1_holds_12 : decode cX1_holds 12 = .ok (.bipush 12, 2) := dk_16 12 (dk_at dksX1_holds_0 12 rfl rfl)
theorem dX1_holds_14 : decode cX1_holds 14 = .ok (.if_icmp .ne 8, 3) := dk_160 0 8 (dk_at dksX1_holds_0 14 rfl rfl)
theorem dX1_holds_17 : decode cX1_holds 17 = .ok (.bipush 9, 2) := dk_16 9 (dk_at dksX1_holds_0 17 rfl rfl)
theorem dX1_holds_19 : decode cX1_holds 19 = .ok (.goto 7, 3) := dk_167 0 7 (dk_at dksX1_holds_0 19 rfl rfl)
theorem dX1_holds_22 : decode cX1_holds 22 = .ok (.iload_n 0, 1) := dk_26 (dk_at dksX1_holds_0 22 rfl rfl)
theorem dX1_holds_23 : decode cX1_holds 23 = .ok (.invokestatic 121, 3) := dk_184 0 121 (dk_at dksX1_holds_1 0 rfl rfl)
theorem dX1_holds_26 : decode cX1_holds 26 = .ok (.ireturn, 1) := dk_172 (dk_at dksX1_holds_1 3 rfl rfl)
abbrev cX1_at : ByteArray := prog_9_method_17_code
def yX1_at : MethodName := ⟨RX1, "at", "(II)I"⟩
def dkwX1_at_2 : List UInt8 := [42, 180, 0, 19, 6, 27, 104, 28, 96, 47, 136, 172]
abbrev dktX1_at_2 : List UInt8 := dkwX1_at_2 ++ []
def dkwX1_at_1 : List UInt8 := [180, 0, 7, 27, 46, 184, 0, 97, 182, 0, 110, 62, 29, 153, 0, 11, 42, 29, 182, 0, 93, 167, 0, 14]
abbrev dktX1_at_1 : List UInt8 := dkwX1_at_1 ++ dktX1_at_2
def dkwX1_at_0 : List UInt8 := [42, 3, 181, 0, 77, 42, 27, 182, 0, 104, 154, 0, 8, 16, 254, 167, 0, 18, 42, 27, 28, 42]
abbrev dktX1_at_0 : List UInt8 := dkwX1_at_0 ++ dktX1_at_1
theorem dksX1_at_0 : cX1_at.data.toList.drop 0 = dktX1_at_0 := by decide +kernel
theorem dksX1_at_1 : cX1_at.data.toList.drop 22 = dktX1_at_1 := dk_seg dksX1_at_0 22 rfl rfl
theorem dksX1_at_2 : cX1_at.data.toList.drop 46 = dktX1_at_2 := dk_seg dksX1_at_1 24 rfl rfl
theorem dX1_at_0 : decode cX1_at 0 = .ok (.aload_n 0, 1) := dk_42 (dk_at dksX1_at_0 0 rfl rfl)
theorem dX1_at_1 : decode cX1_at 1 = .ok (.iconst 0, 1) := dk_3 (dk_at dksX1_at_0 1 rfl rfl)
theorem dX1_at_2 : decode cX1_at 2 = .ok (.putfield 77, 3) := dk_181 0 77 (dk_at dksX1_at_0 2 rfl rfl)
theorem dX1_at_5 : decode cX1_at 5 = .ok (.aload_n 0, 1) := dk_42 (dk_at dksX1_at_0 5 rfl rfl)
theorem dX1_at_6 : decode cX1_at 6 = .ok (.iload_n 1, 1) := dk_27 (dk_at dksX1_at_0 6 rfl rfl)
theorem dX1_at_7 : decode cX1_at 7 = .ok (.invokevirtual 104, 3) := dk_182 0 104 (dk_at dksX1_at_0 7 rfl rfl)
theorem dX1_at_10 : decode cX1_at 10 = .ok (.ifCond .ne 8, 3) := dk_154 0 8 (dk_at dksX1_at_0 10 rfl rfl)
theorem dX1_at_13 : decode cX1_at 13 = .ok (.bipush (-2), 2) := dk_16 254 (dk_at dksX1_at_0 13 rfl rfl)
theorem dX1_at_15 : decode cX1_at 15 = .ok (.goto 18, 3) := dk_167 0 18 (dk_at dksX1_at_0 15 rfl rfl)
theorem dX1_at_18 : decode cX1_at 18 = .ok (.aload_n 0, 1) := dk_42 (dk_at dksX1_at_0 18 rfl rfl)
theorem dX1_at_19 : decode cX1_at 19 = .ok (.iload_n 1, 1) := dk_27 (dk_at dksX1_at_0 19 rfl rfl)
theorem dX1_at_20 : decode cX1_at 20 = .ok (.iload_n 2, 1) := dk_28 (dk_at dksX1_at_0 20 rfl rfl)
theorem dX1_at_21 : decode cX1_at 21 = .ok (.aload_n 0, 1) := dk_42 (dk_at dksX1_at_0 21 rfl rfl)
theorem dX1_at_22 : decode cX1_at 22 = .ok (.getfield 7, 3) := dk_180 0 7 (dk_at dksX1_at_1 0 rfl rfl)
theorem dX1_at_25 : decode cX1_at 25 = .ok (.iload_n 1, 1) := dk_27 (dk_at dksX1_at_1 3 rfl rfl)
theorem dX1_at_26 : decode cX1_at 26 = .ok (.iaload, 1) := dk_46 (dk_at dksX1_at_1 4 rfl rfl)
theorem dX1_at_27 : decode cX1_at 27 = .ok (.invokestatic 97, 3) := dk_184 0 97 (dk_at dksX1_at_1 5 rfl rfl)
theorem dX1_at_30 : decode cX1_at 30 = .ok (.invokevirtual 110, 3) := dk_182 0 110 (dk_at dksX1_at_1 8 rfl rfl)
theorem dX1_at_33 : decode cX1_at 33 = .ok (.istore_n 3, 1) := dk_62 (dk_at dksX1_at_1 11 rfl rfl)
theorem dX1_at_34 : decode cX1_at 34 = .ok (.iload_n 3, 1) := dk_29 (dk_at dksX1_at_1 12 rfl rfl)
theorem dX1_at_35 : decode cX1_at 35 = .ok (.ifCond .eq 11, 3) := dk_153 0 11 (dk_at dksX1_at_1 13 rfl rfl)
theorem dX1_at_38 : decode cX1_at 38 = .ok (.aload_n 0, 1) := dk_42 (dk_at dksX1_at_1 16 rfl rfl)
theorem dX1_at_39 : decode cX1_at 39 = .ok (.iload_n 3, 1) := dk_29 (dk_at dksX1_at_1 17 rfl rfl)
theorem dX1_at_40 : decode cX1_at 40 = .ok (.invokevirtual 93, 3) := dk_182 0 93 (dk_at dksX1_at_1 18 rfl rfl)
theorem dX1_at_43 : decode cX1_at 43 = .ok (.goto 14, 3) := dk_167 0 14 (dk_at dksX1_at_1 21 rfl rfl)
theorem dX1_at_46 : decode cX1_at 46 = .ok (.aload_n 0, 1) := dk_42 (dk_at dksX1_at_2 0 rfl rfl)
theorem dX1_at_47 : decode cX1_at 47 = .ok (.getfield 19, 3) := dk_180 0 19 (dk_at dksX1_at_2 1 rfl rfl)
theorem dX1_at_50 : decode cX1_at 50 = .ok (.iconst 3, 1) := dk_6 (dk_at dksX1_at_2 4 rfl rfl)
theorem dX1_at_51 : decode cX1_at 51 = .ok (.iload_n 1, 1) := dk_27 (dk_at dksX1_at_2 5 rfl rfl)
theorem dX1_at_52 : decode cX1_at 52 = .ok (.imul, 1) := dk_104 (dk_at dksX1_at_2 6 rfl rfl)
theorem dX1_at_53 : decode cX1_at 53 = .ok (.iload_n 2, 1) := dk_28 (dk_at dksX1_at_2 7 rfl rfl)
theorem dX1_at_54 : decode cX1_at 54 = .ok (.iadd, 1) := dk_96 (dk_at dksX1_at_2 8 rfl rfl)
theorem dX1_at_55 : decode cX1_at 55 = .ok (.laload, 1) := dk_47 (dk_at dksX1_at_2 9 rfl rfl)
theorem dX1_at_56 : decode cX1_at 56 = .ok (.l2i, 1) := dk_136 (dk_at dksX1_at_2 10 rfl rfl)
theorem dX1_at_57 : decode cX1_at 57 = .ok (.ireturn, 1) := dk_172 (dk_at dksX1_at_2 11 rfl rfl)
abbrev cX1_is : ByteArray := prog_9_method_18_code
def yX1_is : MethodName := ⟨RX1, "is", "(II)I"⟩
def dkwX1_is_2 : List UInt8 := [167, 0, 4, 3, 172]
abbrev dktX1_is_2 : List UInt8 := dkwX1_is_2 ++ []
def dkwX1_is_1 : List UInt8 := [16, 254, 182, 0, 93, 167, 0, 21, 42, 180, 0, 7, 27, 46, 28, 184, 0, 124, 153, 0, 7, 4]
abbrev dktX1_is_1 : List UInt8 := dkwX1_is_1 ++ dktX1_is_2
def dkwX1_is_0 : List UInt8 := [42, 3, 181, 0, 77, 42, 27, 182, 0, 104, 153, 0, 13, 28, 3, 16, 13, 184, 0, 73, 154, 0, 12, 42]
abbrev dktX1_is_0 : List UInt8 := dkwX1_is_0 ++ dktX1_is_1
theorem dksX1_is_0 : cX1_is.data.toList.drop 0 = dktX1_is_0 := by decide +kernel
theorem dksX1_is_1 : cX1_is.data.toList.drop 24 = dktX1_is_1 := dk_seg dksX1_is_0 24 rfl rfl
theorem dksX1_is_2 : cX1_is.data.toList.drop 46 = dktX1_is_2 := dk_seg dksX1_is_1 22 rfl rfl
theorem dX1_is_0 : decode cX1_is 0 = .ok (.aload_n 0, 1) := dk_42 (dk_at dksX1_is_0 0 rfl rfl)
theorem dX1_is_1 : decode cX1_is 1 = .ok (.iconst 0, 1) := dk_3 (dk_at dksX1_is_0 1 rfl rfl)
theorem dX1_is_2 : decode cX1_is 2 = .ok (.putfield 77, 3) := dk_181 0 77 (dk_at dksX1_is_0 2 rfl rfl)
theorem dX1_is_5 : decode cX1_is 5 = .ok (.aload_n 0, 1) := dk_42 (dk_at dksX1_is_0 5 rfl rfl)
theorem dX1_is_6 : decode cX1_is 6 = .ok (.iload_n 1, 1) := dk_27 (dk_at dksX1_is_0 6 rfl rfl)
theorem dX1_is_7 : decode cX1_is 7 = .ok (.invokevirtual 104, 3) := dk_182 0 104 (dk_at dksX1_is_0 7 rfl rfl)
theorem dX1_is_10 : decode cX1_is 10 = .ok (.ifCond .eq 13, 3) := dk_153 0 13 (dk_at dksX1_is_0 10 rfl rfl)
theorem dX1_is_13 : decode cX1_is 13 = .ok (.iload_n 2, 1) := dk_28 (dk_at dksX1_is_0 13 rfl rfl)
theorem dX1_is_14 : decode cX1_is 14 = .ok (.iconst 0, 1) := dk_3 (dk_at dksX1_is_0 14 rfl rfl)
theorem dX1_is_15 : decode cX1_is 15 = .ok (.bipush 13, 2) := dk_16 13 (dk_at dksX1_is_0 15 rfl rfl)
theorem dX1_is_17 : decode cX1_is 17 = .ok (.invokestatic 73, 3) := dk_184 0 73 (dk_at dksX1_is_0 17 rfl rfl)
theorem dX1_is_20 : decode cX1_is 20 = .ok (.ifCond .ne 12, 3) := dk_154 0 12 (dk_at dksX1_is_0 20 rfl rfl)
theorem dX1_is_23 : decode cX1_is 23 = .ok (.aload_n 0, 1) := dk_42 (dk_at dksX1_is_0 23 rfl rfl)
theorem dX1_is_24 : decode cX1_is 24 = .ok (.bipush (-2), 2) := dk_16 254 (dk_at dksX1_is_1 0 rfl rfl)
theorem dX1_is_26 : decode cX1_is 26 = .ok (.invokevirtual 93, 3) := dk_182 0 93 (dk_at dksX1_is_1 2 rfl rfl)
theorem dX1_is_29 : decode cX1_is 29 = .ok (.goto 21, 3) := dk_167 0 21 (dk_at dksX1_is_1 5 rfl rfl)
theorem dX1_is_32 : decode cX1_is 32 = .ok (.aload_n 0, 1) := dk_42 (dk_at dksX1_is_1 8 rfl rfl)
theorem dX1_is_33 : decode cX1_is 33 = .ok (.getfield 7, 3) := dk_180 0 7 (dk_at dksX1_is_1 9 rfl rfl)
theorem dX1_is_36 : decode cX1_is 36 = .ok (.iload_n 1, 1) := dk_27 (dk_at dksX1_is_1 12 rfl rfl)
theorem dX1_is_37 : decode cX1_is 37 = .ok (.iaload, 1) := dk_46 (dk_at dksX1_is_1 13 rfl rfl)
theorem dX1_is_38 : decode cX1_is 38 = .ok (.iload_n 2, 1) := dk_28 (dk_at dksX1_is_1 14 rfl rfl)
theorem dX1_is_39 : decode cX1_is 39 = .ok (.invokestatic 124, 3) := dk_184 0 124 (dk_at dksX1_is_1 15 rfl rfl)
theorem dX1_is_42 : decode cX1_is 42 = .ok (.ifCond .eq 7, 3) := dk_153 0 7 (dk_at dksX1_is_1 18 rfl rfl)
theorem dX1_is_45 : decode cX1_is 45 = .ok (.iconst 1, 1) := dk_4 (dk_at dksX1_is_1 21 rfl rfl)
theorem dX1_is_46 : decode cX1_is 46 = .ok (.goto 4, 3) := dk_167 0 4 (dk_at dksX1_is_2 0 rfl rfl)
theorem dX1_is_49 : decode cX1_is 49 = .ok (.iconst 0, 1) := dk_3 (dk_at dksX1_is_2 3 rfl rfl)
theorem dX1_is_50 : decode cX1_is 50 = .ok (.ireturn, 1) := dk_172 (dk_at dksX1_is_2 4 rfl rfl)
abbrev cX1_stamps : ByteArray := prog_9_method_19_code
def yX1_stamps : MethodName := ⟨RX1, "stamps", "(I)I"⟩
def dkwX1_stamps_2 : List UInt8 := [172, 42, 180, 0, 16, 27, 46, 172]
abbrev dktX1_stamps_2 : List UInt8 := dkwX1_stamps_2 ++ []
def dkwX1_stamps_1 : List UInt8 := [184, 0, 89, 154, 0, 8, 16, 252, 167, 0, 4, 3, 61, 28, 153, 0, 11, 42, 28, 182, 0, 93, 61, 3]
abbrev dktX1_stamps_1 : List UInt8 := dkwX1_stamps_1 ++ dktX1_stamps_2
def dkwX1_stamps_0 : List UInt8 := [42, 3, 181, 0, 77, 42, 27, 182, 0, 104, 154, 0, 8, 16, 254, 167, 0, 21, 42, 180, 0, 7, 27, 46]
abbrev dktX1_stamps_0 : List UInt8 := dkwX1_stamps_0 ++ dktX1_stamps_1
theorem dksX1_stamps_0 : cX1_stamps.data.toList.drop 0 = dktX1_stamps_0 := by decide +kernel
theorem dksX1_stamps_1 : cX1_stamps.data.toList.drop 24 = dktX1_stamps_1 := dk_seg dksX1_stamps_0 24 rfl rfl
theorem dksX1_stamps_2 : cX1_stamps.data.toList.drop 48 = dktX1_stamps_2 := dk_seg dksX1_stamps_1 24 rfl rfl
theorem dX1_stamps_0 : decode cX1_stamps 0 = .ok (.aload_n 0, 1) := dk_42 (dk_at dksX1_stamps_0 0 rfl rfl)
theorem dX1_stamps_1 : decode cX1_stamps 1 = .ok (.iconst 0, 1) := dk_3 (dk_at dksX1_stamps_0 1 rfl rfl)
theorem dX1_stamps_2 : decode cX1_stamps 2 = .ok (.putfield 77, 3) := dk_181 0 77 (dk_at dksX1_stamps_0 2 rfl rfl)
theorem dX1_stamps_5 : decode cX1_stamps 5 = .ok (.aload_n 0, 1) := dk_42 (dk_at dksX1_stamps_0 5 rfl rfl)
theorem dX1_stamps_6 : decode cX1_stamps 6 = .ok (.iload_n 1, 1) := dk_27 (dk_at dksX1_stamps_0 6 rfl rfl)
theorem dX1_stamps_7 : decode cX1_stamps 7 = .ok (.invokevirtual 104, 3) := dk_182 0 104 (dk_at dksX1_stamps_0 7 rfl rfl)
theorem dX1_stamps_10 : decode cX1_stamps 10 = .ok (.ifCond .ne 8, 3) := dk_154 0 8 (dk_at dksX1_stamps_0 10 rfl rfl)
theorem dX1_stamps_13 : decode cX1_stamps 13 = .ok (.bipush (-2), 2) := dk_16 254 (dk_at dksX1_stamps_0 13 rfl rfl)
theorem dX1_stamps_15 : decode cX1_stamps 15 = .ok (.goto 21, 3) := dk_167 0 21 (dk_at dksX1_stamps_0 15 rfl rfl)
theorem dX1_stamps_18 : decode cX1_stamps 18 = .ok (.aload_n 0, 1) := dk_42 (dk_at dksX1_stamps_0 18 rfl rfl)
theorem dX1_stamps_19 : decode cX1_stamps 19 = .ok (.getfield 7, 3) := dk_180 0 7 (dk_at dksX1_stamps_0 19 rfl rfl)
theorem dX1_stamps_22 : decode cX1_stamps 22 = .ok (.iload_n 1, 1) := dk_27 (dk_at dksX1_stamps_0 22 rfl rfl)
theorem dX1_stamps_23 : decode cX1_stamps 23 = .ok (.iaload, 1) := dk_46 (dk_at dksX1_stamps_0 23 rfl rfl)
theorem dX1_stamps_24 : decode cX1_stamps 24 = .ok (.invokestatic 89, 3) := dk_184 0 89 (dk_at dksX1_stamps_1 0 rfl rfl)
theorem dX1_stamps_27 : decode cX1_stamps 27 = .ok (.ifCond .ne 8, 3) := dk_154 0 8 (dk_at dksX1_stamps_1 3 rfl rfl)
theorem dX1_stamps_30 : decode cX1_stamps 30 = .ok (.bipush (-4), 2) := dk_16 252 (dk_at dksX1_stamps_1 6 rfl rfl)
theorem dX1_stamps_32 : decode cX1_stamps 32 = .ok (.goto 4, 3) := dk_167 0 4 (dk_at dksX1_stamps_1 8 rfl rfl)
theorem dX1_stamps_35 : decode cX1_stamps 35 = .ok (.iconst 0, 1) := dk_3 (dk_at dksX1_stamps_1 11 rfl rfl)
theorem dX1_stamps_36 : decode cX1_stamps 36 = .ok (.istore_n 2, 1) := dk_61 (dk_at dksX1_stamps_1 12 rfl rfl)
theorem dX1_stamps_37 : decode cX1_stamps 37 = .ok (.iload_n 2, 1) := dk_28 (dk_at dksX1_stamps_1 13 rfl rfl)
theorem dX1_stamps_38 : decode cX1_stamps 38 = .ok (.ifCond .eq 11, 3) := dk_153 0 11 (dk_at dksX1_stamps_1 14 rfl rfl)
theorem dX1_stamps_41 : decode cX1_stamps 41 = .ok (.aload_n 0, 1) := dk_42 (dk_at dksX1_stamps_1 17 rfl rfl)
theorem dX1_stamps_42 : decode cX1_stamps 42 = .ok (.iload_n 2, 1) := dk_28 (dk_at dksX1_stamps_1 18 rfl rfl)
theorem dX1_stamps_43 : decode cX1_stamps 43 = .ok (.invokevirtual 93, 3) := dk_182 0 93 (dk_at dksX1_stamps_1 19 rfl rfl)
theorem dX1_stamps_46 : decode cX1_stamps 46 = .ok (.istore_n 2, 1) := dk_61 (dk_at dksX1_stamps_1 22 rfl rfl)
theorem dX1_stamps_47 : decode cX1_stamps 47 = .ok (.iconst 0, 1) := dk_3 (dk_at dksX1_stamps_1 23 rfl rfl)
theorem dX1_stamps_48 : decode cX1_stamps 48 = .ok (.ireturn, 1) := dk_172 (dk_at dksX1_stamps_2 0 rfl rfl)
theorem dX1_stamps_49 : decode cX1_stamps 49 = .ok (.aload_n 0, 1) := dk_42 (dk_at dksX1_stamps_2 1 rfl rfl)
theorem dX1_stamps_50 : decode cX1_stamps 50 = .ok (.getfield 16, 3) := dk_180 0 16 (dk_at dksX1_stamps_2 2 rfl rfl)
theorem dX1_stamps_53 : decode cX1_stamps 53 = .ok (.iload_n 1, 1) := dk_27 (dk_at dksX1_stamps_2 5 rfl rfl)
theorem dX1_stamps_54 : decode cX1_stamps 54 = .ok (.iaload, 1) := dk_46 (dk_at dksX1_stamps_2 6 rfl rfl)
theorem dX1_stamps_55 : decode cX1_stamps 55 = .ok (.ireturn, 1) := dk_172 (dk_at dksX1_stamps_2 7 rfl rfl)
abbrev cX1_desk : ByteArray := prog_9_method_22_code
def yX1_desk : MethodName := ⟨RX1, "desk", "(IIIZ)I"⟩
def dkwX1_desk_5 : List UInt8 := [180, 0, 23, 27, 92, 46, 4, 96, 79, 42, 180, 0, 23, 27, 46, 4, 100, 172]
abbrev dktX1_desk_5 : List UInt8 := dkwX1_desk_5 ++ []
def dkwX1_desk_4 : List UInt8 := [180, 0, 42, 21, 5, 3, 79, 42, 180, 0, 45, 21, 5, 3, 79, 42, 180, 0, 48, 21, 5, 2, 79, 42]
abbrev dktX1_desk_4 : List UInt8 := dkwX1_desk_4 ++ dktX1_desk_5
def dkwX1_desk_3 : List UInt8 := [21, 4, 182, 0, 134, 42, 180, 0, 36, 21, 5, 3, 79, 42, 180, 0, 39, 21, 5, 2, 79, 42]
abbrev dktX1_desk_3 : List UInt8 := dkwX1_desk_3 ++ dktX1_desk_4
def dkwX1_desk_2 : List UInt8 := [42, 16, 253, 182, 0, 93, 172, 7, 27, 104, 42, 180, 0, 23, 27, 46, 96, 54, 5, 42, 21, 5, 28, 29]
abbrev dktX1_desk_2 : List UInt8 := dkwX1_desk_2 ++ dktX1_desk_3
def dkwX1_desk_1 : List UInt8 := [7, 184, 0, 73, 154, 0, 10, 42, 16, 254, 182, 0, 93, 172, 42, 180, 0, 23, 27, 46, 7, 160, 0, 10]
abbrev dktX1_desk_1 : List UInt8 := dkwX1_desk_1 ++ dktX1_desk_2
def dkwX1_desk_0 : List UInt8 := [42, 3, 181, 0, 77, 27, 184, 0, 131, 153, 0, 22, 28, 3, 16, 13, 184, 0, 73, 153, 0, 12, 29, 3]
abbrev dktX1_desk_0 : List UInt8 := dkwX1_desk_0 ++ dktX1_desk_1
theorem dksX1_desk_0 : cX1_desk.data.toList.drop 0 = dktX1_desk_0 := by decide +kernel
theorem dksX1_desk_1 : cX1_desk.data.toList.drop 24 = dktX1_desk_1 := dk_seg dksX1_desk_0 24 rfl rfl
theorem dksX1_desk_2 : cX1_desk.data.toList.drop 48 = dktX1_desk_2 := dk_seg dksX1_desk_1 24 rfl rfl
theorem dksX1_desk_3 : cX1_desk.data.toList.drop 72 = dktX1_desk_3 := dk_seg dksX1_desk_2 24 rfl rfl
theorem dksX1_desk_4 : cX1_desk.data.toList.drop 94 = dktX1_desk_4 := dk_seg dksX1_desk_3 22 rfl rfl
theorem dksX1_desk_5 : cX1_desk.data.toList.drop 118 = dktX1_desk_5 := dk_seg dksX1_desk_4 24 rfl rfl
theorem dX1_desk_0 : decode cX1_desk 0 = .ok (.aload_n 0, 1) := dk_42 (dk_at dksX1_desk_0 0 rfl rfl)
theorem dX1_desk_1 : decode cX1_desk 1 = .ok (.iconst 0, 1) := dk_3 (dk_at dksX1_desk_0 1 rfl rfl)
theorem dX1_desk_2 : decode cX1_desk 2 = .ok (.putfield 77, 3) := dk_181 0 77 (dk_at dksX1_desk_0 2 rfl rfl)
theorem dX1_desk_5 : decode cX1_desk 5 = .ok (.iload_n 1, 1) := dk_27 (dk_at dksX1_desk_0 5 rfl rfl)
theorem dX1_desk_6 : decode cX1_desk 6 = .ok (.invokestatic 131, 3) := dk_184 0 131 (dk_at dksX1_desk_0 6 rfl rfl)
theorem dX1_desk_9 : decode cX1_desk 9 = .ok (.ifCond .eq 22, 3) := dk_153 0 22 (dk_at dksX1_desk_0 9 rfl rfl)
theorem dX1_desk_12 : decode cX1_desk 12 = .ok (.iload_n 2, 1) := dk_28 (dk_at dksX1_desk_0 12 rfl rfl)
theorem dX1_desk_13 : decode cX1_desk 13 = .ok (.iconst 0, 1) := dk_3 (dk_at dksX1_desk_0 13 rfl rfl)
theorem dX1_desk_14 : decode cX1_desk 14 = .ok (.bipush 13, 2) := dk_16 13 (dk_at dksX1_desk_0 14 rfl rfl)
theorem dX1_desk_16 : decode cX1_desk 16 = .ok (.invokestatic 73, 3) := dk_184 0 73 (dk_at dksX1_desk_0 16 rfl rfl)
theorem dX1_desk_19 : decode cX1_desk 19 = .ok (.ifCond .eq 12, 3) := dk_153 0 12 (dk_at dksX1_desk_0 19 rfl rfl)
theorem dX1_desk_22 : decode cX1_desk 22 = .ok (.iload_n 3, 1) := dk_29 (dk_at dksX1_desk_0 22 rfl rfl)
theorem dX1_desk_23 : decode cX1_desk 23 = .ok (.iconst 0, 1) := dk_3 (dk_at dksX1_desk_0 23 rfl rfl)
theorem dX1_desk_24 : decode cX1_desk 24 = .ok (.iconst 4, 1) := dk_7 (dk_at dksX1_desk_1 0 rfl rfl)
theorem dX1_desk_25 : decode cX1_desk 25 = .ok (.invokestatic 73, 3) := dk_184 0 73 (dk_at dksX1_desk_1 1 rfl rfl)
theorem dX1_desk_28 : decode cX1_desk 28 = .ok (.ifCond .ne 10, 3) := dk_154 0 10 (dk_at dksX1_desk_1 4 rfl rfl)
theorem dX1_desk_31 : decode cX1_desk 31 = .ok (.aload_n 0, 1) := dk_42 (dk_at dksX1_desk_1 7 rfl rfl)
theorem dX1_desk_32 : decode cX1_desk 32 = .ok (.bipush (-2), 2) := dk_16 254 (dk_at dksX1_desk_1 8 rfl rfl)
theorem dX1_desk_34 : decode cX1_desk 34 = .ok (.invokevirtual 93, 3) := dk_182 0 93 (dk_at dksX1_desk_1 10 rfl rfl)
theorem dX1_desk_37 : decode cX1_desk 37 = .ok (.ireturn, 1) := dk_172 (dk_at dksX1_desk_1 13 rfl rfl)
theorem dX1_desk_38 : decode cX1_desk 38 = .ok (.aload_n 0, 1) := dk_42 (dk_at dksX1_desk_1 14 rfl rfl)
theorem dX1_desk_39 : decode cX1_desk 39 = .ok (.getfield 23, 3) := dk_180 0 23 (dk_at dksX1_desk_1 15 rfl rfl)
theorem dX1_desk_42 : decode cX1_desk 42 = .ok (.iload_n 1, 1) := dk_27 (dk_at dksX1_desk_1 18 rfl rfl)
theorem dX1_desk_43 : decode cX1_desk 43 = .ok (.iaload, 1) := dk_46 (dk_at dksX1_desk_1 19 rfl rfl)
theorem dX1_desk_44 : decode cX1_desk 44 = .ok (.iconst 4, 1) := dk_7 (dk_at dksX1_desk_1 20 rfl rfl)
theorem dX1_desk_45 : decode cX1_desk 45 = .ok (.if_icmp .ne 10, 3) := dk_160 0 10 (dk_at dksX1_desk_1 21 rfl rfl)
theorem dX1_desk_48 : decode cX1_desk 48 = .ok (.aload_n 0, 1) := dk_42 (dk_at dksX1_desk_2 0 rfl rfl)
theorem dX1_desk_49 : decode cX1_desk 49 = .ok (.bipush (-3), 2) := dk_16 253 (dk_at dksX1_desk_2 1 rfl rfl)
theorem dX1_desk_51 : decode cX1_desk 51 = .ok (.invokevirtual 93, 3) := dk_182 0 93 (dk_at dksX1_desk_2 3 rfl rfl)
theorem dX1_desk_54 : decode cX1_desk 54 = .ok (.ireturn, 1) := dk_172 (dk_at dksX1_desk_2 6 rfl rfl)
theorem dX1_desk_55 : decode cX1_desk 55 = .ok (.iconst 4, 1) := dk_7 (dk_at dksX1_desk_2 7 rfl rfl)
theorem dX1_desk_56 : decode cX1_desk 56 = .ok (.iload_n 1, 1) := dk_27 (dk_at dksX1_desk_2 8 rfl rfl)
theorem dX1_desk_57 : decode cX1_desk 57 = .ok (.imul, 1) := dk_104 (dk_at dksX1_desk_2 9 rfl rfl)
theorem dX1_desk_58 : decode cX1_desk 58 = .ok (.aload_n 0, 1) := dk_42 (dk_at dksX1_desk_2 10 rfl rfl)
theorem dX1_desk_59 : decode cX1_desk 59 = .ok (.getfield 23, 3) := dk_180 0 23 (dk_at dksX1_desk_2 11 rfl rfl)
theorem dX1_desk_62 : decode cX1_desk 62 = .ok (.iload_n 1, 1) := dk_27 (dk_at dksX1_desk_2 14 rfl rfl)
theorem dX1_desk_63 : decode cX1_desk 63 = .ok (.iaload, 1) := dk_46 (dk_at dksX1_desk_2 15 rfl rfl)
theorem dX1_desk_64 : decode cX1_desk 64 = .ok (.iadd, 1) := dk_96 (dk_at dksX1_desk_2 16 rfl rfl)
theorem dX1_desk_65 : decode cX1_desk 65 = .ok (.istore 5, 2) := dk_54 5 (dk_at dksX1_desk_2 17 rfl rfl)
theorem dX1_desk_67 : decode cX1_desk 67 = .ok (.aload_n 0, 1) := dk_42 (dk_at dksX1_desk_2 19 rfl rfl)
theorem dX1_desk_68 : decode cX1_desk 68 = .ok (.iload 5, 2) := dk_21 5 (dk_at dksX1_desk_2 20 rfl rfl)
theorem dX1_desk_70 : decode cX1_desk 70 = .ok (.iload_n 2, 1) := dk_28 (dk_at dksX1_desk_2 22 rfl rfl)
theorem dX1_desk_71 : decode cX1_desk 71 = .ok (.iload_n 3, 1) := dk_29 (dk_at dksX1_desk_2 23 rfl rfl)
theorem dX1_desk_72 : decode cX1_desk 72 = .ok (.iload 4, 2) := dk_21 4 (dk_at dksX1_desk_3 0 rfl rfl)
theorem dX1_desk_74 : decode cX1_desk 74 = .ok (.invokevirtual 134, 3) := dk_182 0 134 (dk_at dksX1_desk_3 2 rfl rfl)
theorem dX1_desk_77 : decode cX1_desk 77 = .ok (.aload_n 0, 1) := dk_42 (dk_at dksX1_desk_3 5 rfl rfl)
theorem dX1_desk_78 : decode cX1_desk 78 = .ok (.getfield 36, 3) := dk_180 0 36 (dk_at dksX1_desk_3 6 rfl rfl)
theorem dX1_desk_81 : decode cX1_desk 81 = .ok (.iload 5, 2) := dk_21 5 (dk_at dksX1_desk_3 9 rfl rfl)
theorem dX1_desk_83 : decode cX1_desk 83 = .ok (.iconst 0, 1) := dk_3 (dk_at dksX1_desk_3 11 rfl rfl)
theorem dX1_desk_84 : decode cX1_desk 84 = .ok (.iastore, 1) := dk_79 (dk_at dksX1_desk_3 12 rfl rfl)
theorem dX1_desk_85 : decode cX1_desk 85 = .ok (.aload_n 0, 1) := dk_42 (dk_at dksX1_desk_3 13 rfl rfl)
theorem dX1_desk_86 : decode cX1_desk 86 = .ok (.getfield 39, 3) := dk_180 0 39 (dk_at dksX1_desk_3 14 rfl rfl)
theorem dX1_desk_89 : decode cX1_desk 89 = .ok (.iload 5, 2) := dk_21 5 (dk_at dksX1_desk_3 17 rfl rfl)
theorem dX1_desk_91 : decode cX1_desk 91 = .ok (.iconst (-1), 1) := dk_2 (dk_at dksX1_desk_3 19 rfl rfl)
theorem dX1_desk_92 : decode cX1_desk 92 = .ok (.iastore, 1) := dk_79 (dk_at dksX1_desk_3 20 rfl rfl)
theorem dX1_desk_93 : decode cX1_desk 93 = .ok (.aload_n 0, 1) := dk_42 (dk_at dksX1_desk_3 21 rfl rfl)
theorem dX1_desk_94 : decode cX1_desk 94 = .ok (.getfield 42, 3) := dk_180 0 42 (dk_at dksX1_desk_4 0 rfl rfl)
theorem dX1_desk_97 : decode cX1_desk 97 = .ok (.iload 5, 2) := dk_21 5 (dk_at dksX1_desk_4 3 rfl rfl)
theorem dX1_desk_99 : decode cX1_desk 99 = .ok (.iconst 0, 1) := dk_3 (dk_at dksX1_desk_4 5 rfl rfl)
theorem dX1_desk_100 : decode cX1_desk 100 = .ok (.iastore, 1) := dk_79 (dk_at dksX1_desk_4 6 rfl rfl)
theorem dX1_desk_101 : decode cX1_desk 101 = .ok (.aload_n 0, 1) := dk_42 (dk_at dksX1_desk_4 7 rfl rfl)
theorem dX1_desk_102 : decode cX1_desk 102 = .ok (.getfield 45, 3) := dk_180 0 45 (dk_at dksX1_desk_4 8 rfl rfl)
theorem dX1_desk_105 : decode cX1_desk 105 = .ok (.iload 5, 2) := dk_21 5 (dk_at dksX1_desk_4 11 rfl rfl)
theorem dX1_desk_107 : decode cX1_desk 107 = .ok (.iconst 0, 1) := dk_3 (dk_at dksX1_desk_4 13 rfl rfl)
theorem dX1_desk_108 : decode cX1_desk 108 = .ok (.iastore, 1) := dk_79 (dk_at dksX1_desk_4 14 rfl rfl)
theorem dX1_desk_109 : decode cX1_desk 109 = .ok (.aload_n 0, 1) := dk_42 (dk_at dksX1_desk_4 15 rfl rfl)
theorem dX1_desk_110 : decode cX1_desk 110 = .ok (.getfield 48, 3) := dk_180 0 48 (dk_at dksX1_desk_4 16 rfl rfl)
theorem dX1_desk_113 : decode cX1_desk 113 = .ok (.iload 5, 2) := dk_21 5 (dk_at dksX1_desk_4 19 rfl rfl)
theorem dX1_desk_115 : decode cX1_desk 115 = .ok (.iconst (-1), 1) := dk_2 (dk_at dksX1_desk_4 21 rfl rfl)
theorem dX1_desk_116 : decode cX1_desk 116 = .ok (.iastore, 1) := dk_79 (dk_at dksX1_desk_4 22 rfl rfl)
theorem dX1_desk_117 : decode cX1_desk 117 = .ok (.aload_n 0, 1) := dk_42 (dk_at dksX1_desk_4 23 rfl rfl)
theorem dX1_desk_118 : decode cX1_desk 118 = .ok (.getfield 23, 3) := dk_180 0 23 (dk_at dksX1_desk_5 0 rfl rfl)
theorem dX1_desk_121 : decode cX1_desk 121 = .ok (.iload_n 1, 1) := dk_27 (dk_at dksX1_desk_5 3 rfl rfl)
theorem dX1_desk_122 : decode cX1_desk 122 = .ok (.dup2, 1) := dk_92 (dk_at dksX1_desk_5 4 rfl rfl)
theorem dX1_desk_123 : decode cX1_desk 123 = .ok (.iaload, 1) := dk_46 (dk_at dksX1_desk_5 5 rfl rfl)
theorem dX1_desk_124 : decode cX1_desk 124 = .ok (.iconst 1, 1) := dk_4 (dk_at dksX1_desk_5 6 rfl rfl)
theorem dX1_desk_125 : decode cX1_desk 125 = .ok (.iadd, 1) := dk_96 (dk_at dksX1_desk_5 7 rfl rfl)
theorem dX1_desk_126 : decode cX1_desk 126 = .ok (.iastore, 1) := dk_79 (dk_at dksX1_desk_5 8 rfl rfl)
theorem dX1_desk_127 : decode cX1_desk 127 = .ok (.aload_n 0, 1) := dk_42 (dk_at dksX1_desk_5 9 rfl rfl)
theorem dX1_desk_128 : decode cX1_desk 128 = .ok (.getfield 23, 3) := dk_180 0 23 (dk_at dksX1_desk_5 10 rfl rfl)
theorem dX1_desk_131 : decode cX1_desk 131 = .ok (.iload_n 1, 1) := dk_27 (dk_at dksX1_desk_5 13 rfl rfl)
theorem dX1_desk_132 : decode cX1_desk 132 = .ok (.iaload, 1) := dk_46 (dk_at dksX1_desk_5 14 rfl rfl)
theorem dX1_desk_133 : decode cX1_desk 133 = .ok (.iconst 1, 1) := dk_4 (dk_at dksX1_desk_5 15 rfl rfl)
theorem dX1_desk_134 : decode cX1_desk 134 = .ok (.isub, 1) := dk_100 (dk_at dksX1_desk_5 16 rfl rfl)
theorem dX1_desk_135 : decode cX1_desk 135 = .ok (.ireturn, 1) := dk_172 (dk_at dksX1_desk_5 17 rfl rfl)
abbrev cX1_isRoom : ByteArray := prog_9_method_20_code
def yX1_isRoom : MethodName := ⟨RX1, "isRoom", "(I)Z"⟩
def dkwX1_isRoom_0 : List UInt8 := [26, 3, 16, 7, 184, 0, 73, 172]
abbrev dktX1_isRoom_0 : List UInt8 := dkwX1_isRoom_0 ++ []
theorem dksX1_isRoom_0 : cX1_isRoom.data.toList.drop 0 = dktX1_isRoom_0 := by decide +kernel
theorem dX1_isRoom_0 : decode cX1_isRoom 0 = .ok (.iload_n 0, 1) := dk_26 (dk_at dksX1_isRoom_0 0 rfl rfl)
theorem dX1_isRoom_1 : decode cX1_isRoom 1 = .ok (.iconst 0, 1) := dk_3 (dk_at dksX1_isRoom_0 1 rfl rfl)
theorem dX1_isRoom_2 : decode cX1_isRoom 2 = .ok (.bipush 7, 2) := dk_16 7 (dk_at dksX1_isRoom_0 2 rfl rfl)
theorem dX1_isRoom_4 : decode cX1_isRoom 4 = .ok (.invokestatic 73, 3) := dk_184 0 73 (dk_at dksX1_isRoom_0 4 rfl rfl)
theorem dX1_isRoom_7 : decode cX1_isRoom 7 = .ok (.ireturn, 1) := dk_172 (dk_at dksX1_isRoom_0 7 rfl rfl)
abbrev cX1_settle : ByteArray := prog_9_method_21_code
def yX1_settle : MethodName := ⟨RX1, "settle", "(IIIZ)V"⟩
def dkwX1_settle_0 : List UInt8 := [42, 180, 0, 26, 27, 28, 79, 42, 180, 0, 29, 27, 29, 79, 42, 180, 0, 32, 27, 21, 4, 84, 177]
abbrev dktX1_settle_0 : List UInt8 := dkwX1_settle_0 ++ []
theorem dksX1_settle_0 : cX1_settle.data.toList.drop 0 = dktX1_settle_0 := by decide +kernel
theorem dX1_settle_0 : decode cX1_settle 0 = .ok (.aload_n 0, 1) := dk_42 (dk_at dksX1_settle_0 0 rfl rfl)
theorem dX1_settle_1 : decode cX1_settle 1 = .ok (.getfield 26, 3) := dk_180 0 26 (dk_at dksX1_settle_0 1 rfl rfl)
theorem dX1_settle_4 : decode cX1_settle 4 = .ok (.iload_n 1, 1) := dk_27 (dk_at dksX1_settle_0 4 rfl rfl)
theorem dX1_settle_5 : decode cX1_settle 5 = .ok (.iload_n 2, 1) := dk_28 (dk_at dksX1_settle_0 5 rfl rfl)
theorem dX1_settle_6 : decode cX1_settle 6 = .ok (.iastore, 1) := dk_79 (dk_at dksX1_settle_0 6 rfl rfl)
theorem dX1_settle_7 : decode cX1_settle 7 = .ok (.aload_n 0, 1) := dk_42 (dk_at dksX1_settle_0 7 rfl rfl)
theorem dX1_settle_8 : decode cX1_settle 8 = .ok (.getfield 29, 3) := dk_180 0 29 (dk_at dksX1_settle_0 8 rfl rfl)
theorem dX1_settle_11 : decode cX1_settle 11 = .ok (.iload_n 1, 1) := dk_27 (dk_at dksX1_settle_0 11 rfl rfl)
theorem dX1_settle_12 : decode cX1_settle 12 = .ok (.iload_n 3, 1) := dk_29 (dk_at dksX1_settle_0 12 rfl rfl)
theorem dX1_settle_13 : decode cX1_settle 13 = .ok (.iastore, 1) := dk_79 (dk_at dksX1_settle_0 13 rfl rfl)
theorem dX1_settle_14 : decode cX1_settle 14 = .ok (.aload_n 0, 1) := dk_42 (dk_at dksX1_settle_0 14 rfl rfl)
theorem dX1_settle_15 : decode cX1_settle 15 = .ok (.getfield 32, 3) := dk_180 0 32 (dk_at dksX1_settle_0 15 rfl rfl)
theorem dX1_settle_18 : decode cX1_settle 18 = .ok (.iload_n 1, 1) := dk_27 (dk_at dksX1_settle_0 18 rfl rfl)
theorem dX1_settle_19 : decode cX1_settle 19 = .ok (.iload 4, 2) := dk_21 4 (dk_at dksX1_settle_0 19 rfl rfl)
theorem dX1_settle_21 : decode cX1_settle 21 = .ok (.bastore, 1) := dk_84 (dk_at dksX1_settle_0 21 rfl rfl)
theorem dX1_settle_22 : decode cX1_settle 22 = .ok (.return_, 1) := dk_177 (dk_at dksX1_settle_0 22 rfl rfl)
abbrev cX1_change : ByteArray := prog_9_method_23_code
def yX1_change : MethodName := ⟨RX1, "change", "(IIIIZ)I"⟩
def dkwX1_change_3 : List UInt8 := [4, 172]
abbrev dktX1_change_3 : List UInt8 := dkwX1_change_3 ++ []
def dkwX1_change_2 : List UInt8 := [154, 0, 10, 42, 16, 254, 182, 0, 93, 172, 42, 7, 27, 104, 28, 96, 29, 21, 4, 21, 5, 182, 0, 134]
abbrev dktX1_change_2 : List UInt8 := dkwX1_change_2 ++ dktX1_change_3
def dkwX1_change_1 : List UInt8 := [184, 0, 73, 153, 0, 23, 29, 3, 16, 13, 184, 0, 73, 153, 0, 13, 21, 4, 3, 7, 184, 0, 73]
abbrev dktX1_change_1 : List UInt8 := dkwX1_change_1 ++ dktX1_change_2
def dkwX1_change_0 : List UInt8 := [42, 3, 181, 0, 77, 27, 184, 0, 131, 153, 0, 39, 28, 3, 42, 180, 0, 23, 27, 46, 4, 100]
abbrev dktX1_change_0 : List UInt8 := dkwX1_change_0 ++ dktX1_change_1
theorem dksX1_change_0 : cX1_change.data.toList.drop 0 = dktX1_change_0 := by decide +kernel
theorem dksX1_change_1 : cX1_change.data.toList.drop 22 = dktX1_change_1 := dk_seg dksX1_change_0 22 rfl rfl
theorem dksX1_change_2 : cX1_change.data.toList.drop 45 = dktX1_change_2 := dk_seg dksX1_change_1 23 rfl rfl
theorem dksX1_change_3 : cX1_change.data.toList.drop 69 = dktX1_change_3 := dk_seg dksX1_change_2 24 rfl rfl
theorem dX1_change_0 : decode cX1_change 0 = .ok (.aload_n 0, 1) := dk_42 (dk_at dksX1_change_0 0 rfl rfl)
theorem dX1_change_1 : decode cX1_change 1 = .ok (.iconst 0, 1) := dk_3 (dk_at dksX1_change_0 1 rfl rfl)
theorem dX1_change_2 : decode cX1_change 2 = .ok (.putfield 77, 3) := dk_181 0 77 (dk_at dksX1_change_0 2 rfl rfl)
theorem dX1_change_5 : decode cX1_change 5 = .ok (.iload_n 1, 1) := dk_27 (dk_at dksX1_change_0 5 rfl rfl)
theorem dX1_change_6 : decode cX1_change 6 = .ok (.invokestatic 131, 3) := dk_184 0 131 (dk_at dksX1_change_0 6 rfl rfl)
theorem dX1_change_9 : decode cX1_change 9 = .ok (.ifCond .eq 39, 3) := dk_153 0 39 (dk_at dksX1_change_0 9 rfl rfl)
theorem dX1_change_12 : decode cX1_change 12 = .ok (.iload_n 2, 1) := dk_28 (dk_at dksX1_change_0 12 rfl rfl)
theorem dX1_change_13 : decode cX1_change 13 = .ok (.iconst 0, 1) := dk_3 (dk_at dksX1_change_0 13 rfl rfl)
theorem dX1_change_14 : decode cX1_change 14 = .ok (.aload_n 0, 1) := dk_42 (dk_at dksX1_change_0 14 rfl rfl)
theorem dX1_change_15 : decode cX1_change 15 = .ok (.getfield 23, 3) := dk_180 0 23 (dk_at dksX1_change_0 15 rfl rfl)
theorem dX1_change_18 : decode cX1_change 18 = .ok (.iload_n 1, 1) := dk_27 (dk_at dksX1_change_0 18 rfl rfl)
theorem dX1_change_19 : decode cX1_change 19 = .ok (.iaload, 1) := dk_46 (dk_at dksX1_change_0 19 rfl rfl)
theorem dX1_change_20 : decode cX1_change 20 = .ok (.iconst 1, 1) := dk_4 (dk_at dksX1_change_0 20 rfl rfl)
theorem dX1_change_21 : decode cX1_change 21 = .ok (.isub, 1) := dk_100 (dk_at dksX1_change_0 21 rfl rfl)
theorem dX1_change_22 : decode cX1_change 22 = .ok (.invokestatic 73, 3) := dk_184 0 73 (dk_at dksX1_change_1 0 rfl rfl)
theorem dX1_change_25 : decode cX1_change 25 = .ok (.ifCond .eq 23, 3) := dk_153 0 23 (dk_at dksX1_change_1 3 rfl rfl)
theorem dX1_change_28 : decode cX1_change 28 = .ok (.iload_n 3, 1) := dk_29 (dk_at dksX1_change_1 6 rfl rfl)
theorem dX1_change_29 : decode cX1_change 29 = .ok (.iconst 0, 1) := dk_3 (dk_at dksX1_change_1 7 rfl rfl)
theorem dX1_change_30 : decode cX1_change 30 = .ok (.bipush 13, 2) := dk_16 13 (dk_at dksX1_change_1 8 rfl rfl)
theorem dX1_change_32 : decode cX1_change 32 = .ok (.invokestatic 73, 3) := dk_184 0 73 (dk_at dksX1_change_1 10 rfl rfl)
theorem dX1_change_35 : decode cX1_change 35 = .ok (.ifCond .eq 13, 3) := dk_153 0 13 (dk_at dksX1_change_1 13 rfl rfl)
theorem dX1_change_38 : decode cX1_change 38 = .ok (.iload 4, 2) := dk_21 4 (dk_at dksX1_change_1 16 rfl rfl)
theorem dX1_change_40 : decode cX1_change 40 = .ok (.iconst 0, 1) := dk_3 (dk_at dksX1_change_1 18 rfl rfl)
theorem dX1_change_41 : decode cX1_change 41 = .ok (.iconst 4, 1) := dk_7 (dk_at dksX1_change_1 19 rfl rfl)
theorem dX1_change_42 : decode cX1_change 42 = .ok (.invokestatic 73, 3) := dk_184 0 73 (dk_at dksX1_change_1 20 rfl rfl)
theorem dX1_change_45 : decode cX1_change 45 = .ok (.ifCond .ne 10, 3) := dk_154 0 10 (dk_at dksX1_change_2 0 rfl rfl)
theorem dX1_change_48 : decode cX1_change 48 = .ok (.aload_n 0, 1) := dk_42 (dk_at dksX1_change_2 3 rfl rfl)
theorem dX1_change_49 : decode cX1_change 49 = .ok (.bipush (-2), 2) := dk_16 254 (dk_at dksX1_change_2 4 rfl rfl)
theorem dX1_change_51 : decode cX1_change 51 = .ok (.invokevirtual 93, 3) := dk_182 0 93 (dk_at dksX1_change_2 6 rfl rfl)
theorem dX1_change_54 : decode cX1_change 54 = .ok (.ireturn, 1) := dk_172 (dk_at dksX1_change_2 9 rfl rfl)
theorem dX1_change_55 : decode cX1_change 55 = .ok (.aload_n 0, 1) := dk_42 (dk_at dksX1_change_2 10 rfl rfl)
theorem dX1_change_56 : decode cX1_change 56 = .ok (.iconst 4, 1) := dk_7 (dk_at dksX1_change_2 11 rfl rfl)
theorem dX1_change_57 : decode cX1_change 57 = .ok (.iload_n 1, 1) := dk_27 (dk_at dksX1_change_2 12 rfl rfl)
theorem dX1_change_58 : decode cX1_change 58 = .ok (.imul, 1) := dk_104 (dk_at dksX1_change_2 13 rfl rfl)
theorem dX1_change_59 : decode cX1_change 59 = .ok (.iload_n 2, 1) := dk_28 (dk_at dksX1_change_2 14 rfl rfl)
theorem dX1_change_60 : decode cX1_change 60 = .ok (.iadd, 1) := dk_96 (dk_at dksX1_change_2 15 rfl rfl)
theorem dX1_change_61 : decode cX1_change 61 = .ok (.iload_n 3, 1) := dk_29 (dk_at dksX1_change_2 16 rfl rfl)
theorem dX1_change_62 : decode cX1_change 62 = .ok (.iload 4, 2) := dk_21 4 (dk_at dksX1_change_2 17 rfl rfl)
theorem dX1_change_64 : decode cX1_change 64 = .ok (.iload 5, 2) := dk_21 5 (dk_at dksX1_change_2 19 rfl rfl)
theorem dX1_change_66 : decode cX1_change 66 = .ok (.invokevirtual 134, 3) := dk_182 0 134 (dk_at dksX1_change_2 21 rfl rfl)
theorem dX1_change_69 : decode cX1_change 69 = .ok (.iconst 1, 1) := dk_4 (dk_at dksX1_change_3 0 rfl rfl)
theorem dX1_change_70 : decode cX1_change 70 = .ok (.ireturn, 1) := dk_172 (dk_at dksX1_change_3 1 rfl rfl)
abbrev cX1_hand : ByteArray := prog_9_method_33_code
def yX1_hand : MethodName := ⟨RX1, "hand", "(II)I"⟩
def dkwX1_hand_6 : List UInt8 := [172]
abbrev dktX1_hand_6 : List UInt8 := dkwX1_hand_6 ++ []
def dkwX1_hand_5 : List UInt8 := [42, 180, 0, 58, 29, 46, 182, 0, 161, 167, 0, 8, 42, 29, 182, 0, 173, 167, 255, 186, 42, 180, 0, 152]
abbrev dktX1_hand_5 : List UInt8 := dkwX1_hand_5 ++ dktX1_hand_6
def dkwX1_hand_4 : List UInt8 := [167, 0, 41, 42, 180, 0, 64, 29, 46, 42, 180, 0, 23, 42, 180, 0, 61, 29, 46, 46, 160, 0, 16, 42]
abbrev dktX1_hand_4 : List UInt8 := dkwX1_hand_4 ++ dktX1_hand_5
def dkwX1_hand_3 : List UInt8 := [42, 180, 0, 145, 4, 100, 62, 42, 180, 0, 67, 29, 46, 2, 159, 0, 11, 42, 29, 182, 0, 170]
abbrev dktX1_hand_3 : List UInt8 := dkwX1_hand_3 ++ dktX1_hand_4
def dkwX1_hand_2 : List UInt8 := [132, 3, 1, 167, 255, 240, 42, 3, 181, 0, 145, 42, 27, 28, 182, 0, 148, 42, 180, 0, 145, 158, 0, 69]
abbrev dktX1_hand_2 : List UInt8 := dkwX1_hand_2 ++ dktX1_hand_3
def dkwX1_hand_1 : List UInt8 := [182, 0, 93, 172, 42, 3, 181, 0, 152, 3, 62, 29, 16, 32, 162, 0, 16, 42, 180, 0, 51, 29, 3, 84]
abbrev dktX1_hand_1 : List UInt8 := dkwX1_hand_1 ++ dktX1_hand_2
def dkwX1_hand_0 : List UInt8 := [42, 3, 181, 0, 77, 42, 27, 182, 0, 104, 153, 0, 10, 28, 184, 0, 131, 154, 0, 10, 42, 16, 254]
abbrev dktX1_hand_0 : List UInt8 := dkwX1_hand_0 ++ dktX1_hand_1
theorem dksX1_hand_0 : cX1_hand.data.toList.drop 0 = dktX1_hand_0 := by decide +kernel
theorem dksX1_hand_1 : cX1_hand.data.toList.drop 23 = dktX1_hand_1 := dk_seg dksX1_hand_0 23 rfl rfl
theorem dksX1_hand_2 : cX1_hand.data.toList.drop 47 = dktX1_hand_2 := dk_seg dksX1_hand_1 24 rfl rfl
theorem dksX1_hand_3 : cX1_hand.data.toList.drop 71 = dktX1_hand_3 := dk_seg dksX1_hand_2 24 rfl rfl
theorem dksX1_hand_4 : cX1_hand.data.toList.drop 93 = dktX1_hand_4 := dk_seg dksX1_hand_3 22 rfl rfl
theorem dksX1_hand_5 : cX1_hand.data.toList.drop 117 = dktX1_hand_5 := dk_seg dksX1_hand_4 24 rfl rfl
theorem dksX1_hand_6 : cX1_hand.data.toList.drop 141 = dktX1_hand_6 := dk_seg dksX1_hand_5 24 rfl rfl
theorem dX1_hand_0 : decode cX1_hand 0 = .ok (.aload_n 0, 1) := dk_42 (dk_at dksX1_hand_0 0 rfl rfl)
theorem dX1_hand_1 : decode cX1_hand 1 = .ok (.iconst 0, 1) := dk_3 (dk_at dksX1_hand_0 1 rfl rfl)
theorem dX1_hand_2 : decode cX1_hand 2 = .ok (.putfield 77, 3) := dk_181 0 77 (dk_at dksX1_hand_0 2 rfl rfl)
theorem dX1_hand_5 : decode cX1_hand 5 = .ok (.aload_n 0, 1) := dk_42 (dk_at dksX1_hand_0 5 rfl rfl)
theorem dX1_hand_6 : decode cX1_hand 6 = .ok (.iload_n 1, 1) := dk_27 (dk_at dksX1_hand_0 6 rfl rfl)
theorem dX1_hand_7 : decode cX1_hand 7 = .ok (.invokevirtual 104, 3) := dk_182 0 104 (dk_at dksX1_hand_0 7 rfl rfl)
theorem dX1_hand_10 : decode cX1_hand 10 = .ok (.ifCond .eq 10, 3) := dk_153 0 10 (dk_at dksX1_hand_0 10 rfl rfl)
theorem dX1_hand_13 : decode cX1_hand 13 = .ok (.iload_n 2, 1) := dk_28 (dk_at dksX1_hand_0 13 rfl rfl)
theorem dX1_hand_14 : decode cX1_hand 14 = .ok (.invokestatic 131, 3) := dk_184 0 131 (dk_at dksX1_hand_0 14 rfl rfl)
theorem dX1_hand_17 : decode cX1_hand 17 = .ok (.ifCond .ne 10, 3) := dk_154 0 10 (dk_at dksX1_hand_0 17 rfl rfl)
theorem dX1_hand_20 : decode cX1_hand 20 = .ok (.aload_n 0, 1) := dk_42 (dk_at dksX1_hand_0 20 rfl rfl)
theorem dX1_hand_21 : decode cX1_hand 21 = .ok (.bipush (-2), 2) := dk_16 254 (dk_at dksX1_hand_0 21 rfl rfl)
theorem dX1_hand_23 : decode cX1_hand 23 = .ok (.invokevirtual 93, 3) := dk_182 0 93 (dk_at dksX1_hand_1 0 rfl rfl)
theorem dX1_hand_26 : decode cX1_hand 26 = .ok (.ireturn, 1) := dk_172 (dk_at dksX1_hand_1 3 rfl rfl)
theorem dX1_hand_27 : decode cX1_hand 27 = .ok (.aload_n 0, 1) := dk_42 (dk_at dksX1_hand_1 4 rfl rfl)
theorem dX1_hand_28 : decode cX1_hand 28 = .ok (.iconst 0, 1) := dk_3 (dk_at dksX1_hand_1 5 rfl rfl)
theorem dX1_hand_29 : decode cX1_hand 29 = .ok (.putfield 152, 3) := dk_181 0 152 (dk_at dksX1_hand_1 6 rfl rfl)
theorem dX1_hand_32 : decode cX1_hand 32 = .ok (.iconst 0, 1) := dk_3 (dk_at dksX1_hand_1 9 rfl rfl)
theorem dX1_hand_33 : decode cX1_hand 33 = .ok (.istore_n 3, 1) := dk_62 (dk_at dksX1_hand_1 10 rfl rfl)
theorem dX1_hand_34 : decode cX1_hand 34 = .ok (.iload_n 3, 1) := dk_29 (dk_at dksX1_hand_1 11 rfl rfl)
theorem dX1_hand_35 : decode cX1_hand 35 = .ok (.bipush 32, 2) := dk_16 32 (dk_at dksX1_hand_1 12 rfl rfl)
theorem dX1_hand_37 : decode cX1_hand 37 = .ok (.if_icmp .ge 16, 3) := dk_162 0 16 (dk_at dksX1_hand_1 14 rfl rfl)
theorem dX1_hand_40 : decode cX1_hand 40 = .ok (.aload_n 0, 1) := dk_42 (dk_at dksX1_hand_1 17 rfl rfl)
theorem dX1_hand_41 : decode cX1_hand 41 = .ok (.getfield 51, 3) := dk_180 0 51 (dk_at dksX1_hand_1 18 rfl rfl)
theorem dX1_hand_44 : decode cX1_hand 44 = .ok (.iload_n 3, 1) := dk_29 (dk_at dksX1_hand_1 21 rfl rfl)
theorem dX1_hand_45 : decode cX1_hand 45 = .ok (.iconst 0, 1) := dk_3 (dk_at dksX1_hand_1 22 rfl rfl)
theorem dX1_hand_46 : decode cX1_hand 46 = .ok (.bastore, 1) := dk_84 (dk_at dksX1_hand_1 23 rfl rfl)
theorem dX1_hand_47 : decode cX1_hand 47 = .ok (.iinc 3 1, 3) := dk_132 3 1 (dk_at dksX1_hand_2 0 rfl rfl)
theorem dX1_hand_50 : decode cX1_hand 50 = .ok (.goto (-16), 3) := dk_167 255 240 (dk_at dksX1_hand_2 3 rfl rfl)
theorem dX1_hand_53 : decode cX1_hand 53 = .ok (.aload_n 0, 1) := dk_42 (dk_at dksX1_hand_2 6 rfl rfl)
theorem dX1_hand_54 : decode cX1_hand 54 = .ok (.iconst 0, 1) := dk_3 (dk_at dksX1_hand_2 7 rfl rfl)
theorem dX1_hand_55 : decode cX1_hand 55 = .ok (.putfield 145, 3) := dk_181 0 145 (dk_at dksX1_hand_2 8 rfl rfl)
theorem dX1_hand_58 : decode cX1_hand 58 = .ok (.aload_n 0, 1) := dk_42 (dk_at dksX1_hand_2 11 rfl rfl)
theorem dX1_hand_59 : decode cX1_hand 59 = .ok (.iload_n 1, 1) := dk_27 (dk_at dksX1_hand_2 12 rfl rfl)
theorem dX1_hand_60 : decode cX1_hand 60 = .ok (.iload_n 2, 1) := dk_28 (dk_at dksX1_hand_2 13 rfl rfl)
theorem dX1_hand_61 : decode cX1_hand 61 = .ok (.invokevirtual 148, 3) := dk_182 0 148 (dk_at dksX1_hand_2 14 rfl rfl)
theorem dX1_hand_64 : decode cX1_hand 64 = .ok (.aload_n 0, 1) := dk_42 (dk_at dksX1_hand_2 17 rfl rfl)
theorem dX1_hand_65 : decode cX1_hand 65 = .ok (.getfield 145, 3) := dk_180 0 145 (dk_at dksX1_hand_2 18 rfl rfl)
theorem dX1_hand_68 : decode cX1_hand 68 = .ok (.ifCond .le 69, 3) := dk_158 0 69 (dk_at dksX1_hand_2 21 rfl rfl)
theorem dX1_hand_71 : decode cX1_hand 71 = .ok (.aload_n 0, 1) := dk_42 (dk_at dksX1_hand_3 0 rfl rfl)
theorem dX1_hand_72 : decode cX1_hand 72 = .ok (.getfield 145, 3) := dk_180 0 145 (dk_at dksX1_hand_3 1 rfl rfl)
theorem dX1_hand_75 : decode cX1_hand 75 = .ok (.iconst 1, 1) := dk_4 (dk_at dksX1_hand_3 4 rfl rfl)
theorem dX1_hand_76 : decode cX1_hand 76 = .ok (.isub, 1) := dk_100 (dk_at dksX1_hand_3 5 rfl rfl)
theorem dX1_hand_77 : decode cX1_hand 77 = .ok (.istore_n 3, 1) := dk_62 (dk_at dksX1_hand_3 6 rfl rfl)
theorem dX1_hand_78 : decode cX1_hand 78 = .ok (.aload_n 0, 1) := dk_42 (dk_at dksX1_hand_3 7 rfl rfl)
theorem dX1_hand_79 : decode cX1_hand 79 = .ok (.getfield 67, 3) := dk_180 0 67 (dk_at dksX1_hand_3 8 rfl rfl)
theorem dX1_hand_82 : decode cX1_hand 82 = .ok (.iload_n 3, 1) := dk_29 (dk_at dksX1_hand_3 11 rfl rfl)
theorem dX1_hand_83 : decode cX1_hand 83 = .ok (.iaload, 1) := dk_46 (dk_at dksX1_hand_3 12 rfl rfl)
theorem dX1_hand_84 : decode cX1_hand 84 = .ok (.iconst (-1), 1) := dk_2 (dk_at dksX1_hand_3 13 rfl rfl)
theorem dX1_hand_85 : decode cX1_hand 85 = .ok (.if_icmp .eq 11, 3) := dk_159 0 11 (dk_at dksX1_hand_3 14 rfl rfl)
theorem dX1_hand_88 : decode cX1_hand 88 = .ok (.aload_n 0, 1) := dk_42 (dk_at dksX1_hand_3 17 rfl rfl)
theorem dX1_hand_89 : decode cX1_hand 89 = .ok (.iload_n 3, 1) := dk_29 (dk_at dksX1_hand_3 18 rfl rfl)
theorem dX1_hand_90 : decode cX1_hand 90 = .ok (.invokevirtual 170, 3) := dk_182 0 170 (dk_at dksX1_hand_3 19 rfl rfl)
theorem dX1_hand_93 : decode cX1_hand 93 = .ok (.goto 41, 3) := dk_167 0 41 (dk_at dksX1_hand_4 0 rfl rfl)
theorem dX1_hand_96 : decode cX1_hand 96 = .ok (.aload_n 0, 1) := dk_42 (dk_at dksX1_hand_4 3 rfl rfl)
theorem dX1_hand_97 : decode cX1_hand 97 = .ok (.getfield 64, 3) := dk_180 0 64 (dk_at dksX1_hand_4 4 rfl rfl)
theorem dX1_hand_100 : decode cX1_hand 100 = .ok (.iload_n 3, 1) := dk_29 (dk_at dksX1_hand_4 7 rfl rfl)
theorem dX1_hand_101 : decode cX1_hand 101 = .ok (.iaload, 1) := dk_46 (dk_at dksX1_hand_4 8 rfl rfl)
theorem dX1_hand_102 : decode cX1_hand 102 = .ok (.aload_n 0, 1) := dk_42 (dk_at dksX1_hand_4 9 rfl rfl)
theorem dX1_hand_103 : decode cX1_hand 103 = .ok (.getfield 23, 3) := dk_180 0 23 (dk_at dksX1_hand_4 10 rfl rfl)
theorem dX1_hand_106 : decode cX1_hand 106 = .ok (.aload_n 0, 1) := dk_42 (dk_at dksX1_hand_4 13 rfl rfl)
theorem dX1_hand_107 : decode cX1_hand 107 = .ok (.getfield 61, 3) := dk_180 0 61 (dk_at dksX1_hand_4 14 rfl rfl)
theorem dX1_hand_110 : decode cX1_hand 110 = .ok (.iload_n 3, 1) := dk_29 (dk_at dksX1_hand_4 17 rfl rfl)
theorem dX1_hand_111 : decode cX1_hand 111 = .ok (.iaload, 1) := dk_46 (dk_at dksX1_hand_4 18 rfl rfl)
theorem dX1_hand_112 : decode cX1_hand 112 = .ok (.iaload, 1) := dk_46 (dk_at dksX1_hand_4 19 rfl rfl)
theorem dX1_hand_113 : decode cX1_hand 113 = .ok (.if_icmp .ne 16, 3) := dk_160 0 16 (dk_at dksX1_hand_4 20 rfl rfl)
theorem dX1_hand_116 : decode cX1_hand 116 = .ok (.aload_n 0, 1) := dk_42 (dk_at dksX1_hand_4 23 rfl rfl)
theorem dX1_hand_117 : decode cX1_hand 117 = .ok (.aload_n 0, 1) := dk_42 (dk_at dksX1_hand_5 0 rfl rfl)
theorem dX1_hand_118 : decode cX1_hand 118 = .ok (.getfield 58, 3) := dk_180 0 58 (dk_at dksX1_hand_5 1 rfl rfl)
theorem dX1_hand_121 : decode cX1_hand 121 = .ok (.iload_n 3, 1) := dk_29 (dk_at dksX1_hand_5 4 rfl rfl)
theorem dX1_hand_122 : decode cX1_hand 122 = .ok (.iaload, 1) := dk_46 (dk_at dksX1_hand_5 5 rfl rfl)
theorem dX1_hand_123 : decode cX1_hand 123 = .ok (.invokevirtual 161, 3) := dk_182 0 161 (dk_at dksX1_hand_5 6 rfl rfl)
theorem dX1_hand_126 : decode cX1_hand 126 = .ok (.goto 8, 3) := dk_167 0 8 (dk_at dksX1_hand_5 9 rfl rfl)
theorem dX1_hand_129 : decode cX1_hand 129 = .ok (.aload_n 0, 1) := dk_42 (dk_at dksX1_hand_5 12 rfl rfl)
theorem dX1_hand_130 : decode cX1_hand 130 = .ok (.iload_n 3, 1) := dk_29 (dk_at dksX1_hand_5 13 rfl rfl)
theorem dX1_hand_131 : decode cX1_hand 131 = .ok (.invokevirtual 173, 3) := dk_182 0 173 (dk_at dksX1_hand_5 14 rfl rfl)
theorem dX1_hand_134 : decode cX1_hand 134 = .ok (.goto (-70), 3) := dk_167 255 186 (dk_at dksX1_hand_5 17 rfl rfl)
theorem dX1_hand_137 : decode cX1_hand 137 = .ok (.aload_n 0, 1) := dk_42 (dk_at dksX1_hand_5 20 rfl rfl)
theorem dX1_hand_138 : decode cX1_hand 138 = .ok (.getfield 152, 3) := dk_180 0 152 (dk_at dksX1_hand_5 21 rfl rfl)
theorem dX1_hand_141 : decode cX1_hand 141 = .ok (.ireturn, 1) := dk_172 (dk_at dksX1_hand_6 0 rfl rfl)
abbrev cX1_begin : ByteArray := prog_9_method_28_code
def yX1_begin : MethodName := ⟨RX1, "begin", "(II)V"⟩
def dkwX1_begin_2 : List UInt8 := [181, 0, 145, 177]
abbrev dktX1_begin_2 : List UInt8 := dkwX1_begin_2 ++ []
def dkwX1_begin_1 : List UInt8 := [42, 180, 0, 145, 3, 79, 42, 180, 0, 67, 42, 180, 0, 145, 2, 79, 42, 89, 180, 0, 145, 4, 96]
abbrev dktX1_begin_1 : List UInt8 := dkwX1_begin_1 ++ dktX1_begin_2
def dkwX1_begin_0 : List UInt8 := [42, 180, 0, 58, 42, 180, 0, 145, 27, 79, 42, 180, 0, 61, 42, 180, 0, 145, 28, 79, 42, 180, 0, 64]
abbrev dktX1_begin_0 : List UInt8 := dkwX1_begin_0 ++ dktX1_begin_1
theorem dksX1_begin_0 : cX1_begin.data.toList.drop 0 = dktX1_begin_0 := by decide +kernel
theorem dksX1_begin_1 : cX1_begin.data.toList.drop 24 = dktX1_begin_1 := dk_seg dksX1_begin_0 24 rfl rfl
theorem dksX1_begin_2 : cX1_begin.data.toList.drop 47 = dktX1_begin_2 := dk_seg dksX1_begin_1 23 rfl rfl
theorem dX1_begin_0 : decode cX1_begin 0 = .ok (.aload_n 0, 1) := dk_42 (dk_at dksX1_begin_0 0 rfl rfl)
theorem dX1_begin_1 : decode cX1_begin 1 = .ok (.getfield 58, 3) := dk_180 0 58 (dk_at dksX1_begin_0 1 rfl rfl)
theorem dX1_begin_4 : decode cX1_begin 4 = .ok (.aload_n 0, 1) := dk_42 (dk_at dksX1_begin_0 4 rfl rfl)
theorem dX1_begin_5 : decode cX1_begin 5 = .ok (.getfield 145, 3) := dk_180 0 145 (dk_at dksX1_begin_0 5 rfl rfl)
theorem dX1_begin_8 : decode cX1_begin 8 = .ok (.iload_n 1, 1) := dk_27 (dk_at dksX1_begin_0 8 rfl rfl)
theorem dX1_begin_9 : decode cX1_begin 9 = .ok (.iastore, 1) := dk_79 (dk_at dksX1_begin_0 9 rfl rfl)
theorem dX1_begin_10 : decode cX1_begin 10 = .ok (.aload_n 0, 1) := dk_42 (dk_at dksX1_begin_0 10 rfl rfl)
theorem dX1_begin_11 : decode cX1_begin 11 = .ok (.getfield 61, 3) := dk_180 0 61 (dk_at dksX1_begin_0 11 rfl rfl)
theorem dX1_begin_14 : decode cX1_begin 14 = .ok (.aload_n 0, 1) := dk_42 (dk_at dksX1_begin_0 14 rfl rfl)
theorem dX1_begin_15 : decode cX1_begin 15 = .ok (.getfield 145, 3) := dk_180 0 145 (dk_at dksX1_begin_0 15 rfl rfl)
theorem dX1_begin_18 : decode cX1_begin 18 = .ok (.iload_n 2, 1) := dk_28 (dk_at dksX1_begin_0 18 rfl rfl)
theorem dX1_begin_19 : decode cX1_begin 19 = .ok (.iastore, 1) := dk_79 (dk_at dksX1_begin_0 19 rfl rfl)
theorem dX1_begin_20 : decode cX1_begin 20 = .ok (.aload_n 0, 1) := dk_42 (dk_at dksX1_begin_0 20 rfl rfl)
theorem dX1_begin_21 : decode cX1_begin 21 = .ok (.getfield 64, 3) := dk_180 0 64 (dk_at dksX1_begin_0 21 rfl rfl)
theorem dX1_begin_24 : decode cX1_begin 24 = .ok (.aload_n 0, 1) := dk_42 (dk_at dksX1_begin_1 0 rfl rfl)
theorem dX1_begin_25 : decode cX1_begin 25 = .ok (.getfield 145, 3) := dk_180 0 145 (dk_at dksX1_begin_1 1 rfl rfl)
theorem dX1_begin_28 : decode cX1_begin 28 = .ok (.iconst 0, 1) := dk_3 (dk_at dksX1_begin_1 4 rfl rfl)
theorem dX1_begin_29 : decode cX1_begin 29 = .ok (.iastore, 1) := dk_79 (dk_at dksX1_begin_1 5 rfl rfl)
theorem dX1_begin_30 : decode cX1_begin 30 = .ok (.aload_n 0, 1) := dk_42 (dk_at dksX1_begin_1 6 rfl rfl)
theorem dX1_begin_31 : decode cX1_begin 31 = .ok (.getfield 67, 3) := dk_180 0 67 (dk_at dksX1_begin_1 7 rfl rfl)
theorem dX1_begin_34 : decode cX1_begin 34 = .ok (.aload_n 0, 1) := dk_42 (dk_at dksX1_begin_1 10 rfl rfl)
theorem dX1_begin_35 : decode cX1_begin 35 = .ok (.getfield 145, 3) := dk_180 0 145 (dk_at dksX1_begin_1 11 rfl rfl)
theorem dX1_begin_38 : decode cX1_begin 38 = .ok (.iconst (-1), 1) := dk_2 (dk_at dksX1_begin_1 14 rfl rfl)
theorem dX1_begin_39 : decode cX1_begin 39 = .ok (.iastore, 1) := dk_79 (dk_at dksX1_begin_1 15 rfl rfl)
theorem dX1_begin_40 : decode cX1_begin 40 = .ok (.aload_n 0, 1) := dk_42 (dk_at dksX1_begin_1 16 rfl rfl)
theorem dX1_begin_41 : decode cX1_begin 41 = .ok (.dup, 1) := dk_89 (dk_at dksX1_begin_1 17 rfl rfl)
theorem dX1_begin_42 : decode cX1_begin 42 = .ok (.getfield 145, 3) := dk_180 0 145 (dk_at dksX1_begin_1 18 rfl rfl)
theorem dX1_begin_45 : decode cX1_begin 45 = .ok (.iconst 1, 1) := dk_4 (dk_at dksX1_begin_1 21 rfl rfl)
theorem dX1_begin_46 : decode cX1_begin 46 = .ok (.iadd, 1) := dk_96 (dk_at dksX1_begin_1 22 rfl rfl)
theorem dX1_begin_47 : decode cX1_begin 47 = .ok (.putfield 145, 3) := dk_181 0 145 (dk_at dksX1_begin_2 0 rfl rfl)
theorem dX1_begin_50 : decode cX1_begin 50 = .ok (.return_, 1) := dk_177 (dk_at dksX1_begin_2 3 rfl rfl)
abbrev cX1_split : ByteArray := prog_9_method_30_code
def yX1_split : MethodName := ⟨RX1, "split", "(I)V"⟩
def dkwX1_split_4 : List UInt8 := [27, 2, 79, 42, 180, 0, 64, 27, 92, 46, 4, 96, 79, 177]
abbrev dktX1_split_4 : List UInt8 := dkwX1_split_4 ++ []
def dkwX1_split_3 : List UInt8 := [28, 104, 29, 96, 47, 136, 42, 180, 0, 61, 27, 46, 4, 96, 182, 0, 148, 167, 0, 20, 42, 180, 0, 67]
abbrev dktX1_split_3 : List UInt8 := dkwX1_split_3 ++ dktX1_split_4
def dkwX1_split_2 : List UInt8 := [42, 180, 0, 13, 28, 46, 162, 0, 38, 42, 180, 0, 67, 27, 29, 4, 96, 79, 42, 42, 180, 0, 19, 6]
abbrev dktX1_split_2 : List UInt8 := dkwX1_split_2 ++ dktX1_split_3
def dkwX1_split_1 : List UInt8 := [42, 180, 0, 19, 6, 28, 104, 29, 96, 47, 20, 0, 100, 148, 154, 0, 9, 132, 3, 1, 167, 255, 226, 29]
abbrev dktX1_split_1 : List UInt8 := dkwX1_split_1 ++ dktX1_split_2
def dkwX1_split_0 : List UInt8 := [42, 180, 0, 58, 27, 46, 61, 42, 180, 0, 67, 27, 46, 62, 29, 42, 180, 0, 13, 28, 46, 162, 0, 26]
abbrev dktX1_split_0 : List UInt8 := dkwX1_split_0 ++ dktX1_split_1
theorem dksX1_split_0 : cX1_split.data.toList.drop 0 = dktX1_split_0 := by decide +kernel
theorem dksX1_split_1 : cX1_split.data.toList.drop 24 = dktX1_split_1 := dk_seg dksX1_split_0 24 rfl rfl
theorem dksX1_split_2 : cX1_split.data.toList.drop 48 = dktX1_split_2 := dk_seg dksX1_split_1 24 rfl rfl
theorem dksX1_split_3 : cX1_split.data.toList.drop 72 = dktX1_split_3 := dk_seg dksX1_split_2 24 rfl rfl
theorem dksX1_split_4 : cX1_split.data.toList.drop 96 = dktX1_split_4 := dk_seg dksX1_split_3 24 rfl rfl
theorem dX1_split_0 : decode cX1_split 0 = .ok (.aload_n 0, 1) := dk_42 (dk_at dksX1_split_0 0 rfl rfl)
theorem dX1_split_1 : decode cX1_split 1 = .ok (.getfield 58, 3) := dk_180 0 58 (dk_at dksX1_split_0 1 rfl rfl)
theorem dX1_split_4 : decode cX1_split 4 = .ok (.iload_n 1, 1) := dk_27 (dk_at dksX1_split_0 4 rfl rfl)
theorem dX1_split_5 : decode cX1_split 5 = .ok (.iaload, 1) := dk_46 (dk_at dksX1_split_0 5 rfl rfl)
theorem dX1_split_6 : decode cX1_split 6 = .ok (.istore_n 2, 1) := dk_61 (dk_at dksX1_split_0 6 rfl rfl)
theorem dX1_split_7 : decode cX1_split 7 = .ok (.aload_n 0, 1) := dk_42 (dk_at dksX1_split_0 7 rfl rfl)
theorem dX1_split_8 : decode cX1_split 8 = .ok (.getfield 67, 3) := dk_180 0 67 (dk_at dksX1_split_0 8 rfl rfl)
theorem dX1_split_11 : decode cX1_split 11 = .ok (.iload_n 1, 1) := dk_27 (dk_at dksX1_split_0 11 rfl rfl)
theorem dX1_split_12 : decode cX1_split 12 = .ok (.iaload, 1) := dk_46 (dk_at dksX1_split_0 12 rfl rfl)
theorem dX1_split_13 : decode cX1_split 13 = .ok (.istore_n 3, 1) := dk_62 (dk_at dksX1_split_0 13 rfl rfl)
theorem dX1_split_14 : decode cX1_split 14 = .ok (.iload_n 3, 1) := dk_29 (dk_at dksX1_split_0 14 rfl rfl)
theorem dX1_split_15 : decode cX1_split 15 = .ok (.aload_n 0, 1) := dk_42 (dk_at dksX1_split_0 15 rfl rfl)
theorem dX1_split_16 : decode cX1_split 16 = .ok (.getfield 13, 3) := dk_180 0 13 (dk_at dksX1_split_0 16 rfl rfl)
theorem dX1_split_19 : decode cX1_split 19 = .ok (.iload_n 2, 1) := dk_28 (dk_at dksX1_split_0 19 rfl rfl)
theorem dX1_split_20 : decode cX1_split 20 = .ok (.iaload, 1) := dk_46 (dk_at dksX1_split_0 20 rfl rfl)
theorem dX1_split_21 : decode cX1_split 21 = .ok (.if_icmp .ge 26, 3) := dk_162 0 26 (dk_at dksX1_split_0 21 rfl rfl)
theorem dX1_split_24 : decode cX1_split 24 = .ok (.aload_n 0, 1) := dk_42 (dk_at dksX1_split_1 0 rfl rfl)
theorem dX1_split_25 : decode cX1_split 25 = .ok (.getfield 19, 3) := dk_180 0 19 (dk_at dksX1_split_1 1 rfl rfl)
theorem dX1_split_28 : decode cX1_split 28 = .ok (.iconst 3, 1) := dk_6 (dk_at dksX1_split_1 4 rfl rfl)
theorem dX1_split_29 : decode cX1_split 29 = .ok (.iload_n 2, 1) := dk_28 (dk_at dksX1_split_1 5 rfl rfl)
theorem dX1_split_30 : decode cX1_split 30 = .ok (.imul, 1) := dk_104 (dk_at dksX1_split_1 6 rfl rfl)
theorem dX1_split_31 : decode cX1_split 31 = .ok (.iload_n 3, 1) := dk_29 (dk_at dksX1_split_1 7 rfl rfl)
theorem dX1_split_32 : decode cX1_split 32 = .ok (.iadd, 1) := dk_96 (dk_at dksX1_split_1 8 rfl rfl)
theorem dX1_split_33 : decode cX1_split 33 = .ok (.laload, 1) := dk_47 (dk_at dksX1_split_1 9 rfl rfl)
theorem dX1_split_34 : decode cX1_split 34 = .ok (.ldc2_w 100, 3) := dk_20 0 100 (dk_at dksX1_split_1 10 rfl rfl)
theorem dX1_split_37 : decode cX1_split 37 = .ok (.lcmp, 1) := dk_148 (dk_at dksX1_split_1 13 rfl rfl)
theorem dX1_split_38 : decode cX1_split 38 = .ok (.ifCond .ne 9, 3) := dk_154 0 9 (dk_at dksX1_split_1 14 rfl rfl)
theorem dX1_split_41 : decode cX1_split 41 = .ok (.iinc 3 1, 3) := dk_132 3 1 (dk_at dksX1_split_1 17 rfl rfl)
theorem dX1_split_44 : decode cX1_split 44 = .ok (.goto (-30), 3) := dk_167 255 226 (dk_at dksX1_split_1 20 rfl rfl)
theorem dX1_split_47 : decode cX1_split 47 = .ok (.iload_n 3, 1) := dk_29 (dk_at dksX1_split_1 23 rfl rfl)
theorem dX1_split_48 : decode cX1_split 48 = .ok (.aload_n 0, 1) := dk_42 (dk_at dksX1_split_2 0 rfl rfl)
theorem dX1_split_49 : decode cX1_split 49 = .ok (.getfield 13, 3) := dk_180 0 13 (dk_at dksX1_split_2 1 rfl rfl)
theorem dX1_split_52 : decode cX1_split 52 = .ok (.iload_n 2, 1) := dk_28 (dk_at dksX1_split_2 4 rfl rfl)
theorem dX1_split_53 : decode cX1_split 53 = .ok (.iaload, 1) := dk_46 (dk_at dksX1_split_2 5 rfl rfl)
theorem dX1_split_54 : decode cX1_split 54 = .ok (.if_icmp .ge 38, 3) := dk_162 0 38 (dk_at dksX1_split_2 6 rfl rfl)
theorem dX1_split_57 : decode cX1_split 57 = .ok (.aload_n 0, 1) := dk_42 (dk_at dksX1_split_2 9 rfl rfl)
theorem dX1_split_58 : decode cX1_split 58 = .ok (.getfield 67, 3) := dk_180 0 67 (dk_at dksX1_split_2 10 rfl rfl)
theorem dX1_split_61 : decode cX1_split 61 = .ok (.iload_n 1, 1) := dk_27 (dk_at dksX1_split_2 13 rfl rfl)
theorem dX1_split_62 : decode cX1_split 62 = .ok (.iload_n 3, 1) := dk_29 (dk_at dksX1_split_2 14 rfl rfl)
theorem dX1_split_63 : decode cX1_split 63 = .ok (.iconst 1, 1) := dk_4 (dk_at dksX1_split_2 15 rfl rfl)
theorem dX1_split_64 : decode cX1_split 64 = .ok (.iadd, 1) := dk_96 (dk_at dksX1_split_2 16 rfl rfl)
theorem dX1_split_65 : decode cX1_split 65 = .ok (.iastore, 1) := dk_79 (dk_at dksX1_split_2 17 rfl rfl)
theorem dX1_split_66 : decode cX1_split 66 = .ok (.aload_n 0, 1) := dk_42 (dk_at dksX1_split_2 18 rfl rfl)
theorem dX1_split_67 : decode cX1_split 67 = .ok (.aload_n 0, 1) := dk_42 (dk_at dksX1_split_2 19 rfl rfl)
theorem dX1_split_68 : decode cX1_split 68 = .ok (.getfield 19, 3) := dk_180 0 19 (dk_at dksX1_split_2 20 rfl rfl)
theorem dX1_split_71 : decode cX1_split 71 = .ok (.iconst 3, 1) := dk_6 (dk_at dksX1_split_2 23 rfl rfl)
theorem dX1_split_72 : decode cX1_split 72 = .ok (.iload_n 2, 1) := dk_28 (dk_at dksX1_split_3 0 rfl rfl)
theorem dX1_split_73 : decode cX1_split 73 = .ok (.imul, 1) := dk_104 (dk_at dksX1_split_3 1 rfl rfl)
theorem dX1_split_74 : decode cX1_split 74 = .ok (.iload_n 3, 1) := dk_29 (dk_at dksX1_split_3 2 rfl rfl)
theorem dX1_split_75 : decode cX1_split 75 = .ok (.iadd, 1) := dk_96 (dk_at dksX1_split_3 3 rfl rfl)
theorem dX1_split_76 : decode cX1_split 76 = .ok (.laload, 1) := dk_47 (dk_at dksX1_split_3 4 rfl rfl)
theorem dX1_split_77 : decode cX1_split 77 = .ok (.l2i, 1) := dk_136 (dk_at dksX1_split_3 5 rfl rfl)
theorem dX1_split_78 : decode cX1_split 78 = .ok (.aload_n 0, 1) := dk_42 (dk_at dksX1_split_3 6 rfl rfl)
theorem dX1_split_79 : decode cX1_split 79 = .ok (.getfield 61, 3) := dk_180 0 61 (dk_at dksX1_split_3 7 rfl rfl)
theorem dX1_split_82 : decode cX1_split 82 = .ok (.iload_n 1, 1) := dk_27 (dk_at dksX1_split_3 10 rfl rfl)
theorem dX1_split_83 : decode cX1_split 83 = .ok (.iaload, 1) := dk_46 (dk_at dksX1_split_3 11 rfl rfl)
theorem dX1_split_84 : decode cX1_split 84 = .ok (.iconst 1, 1) := dk_4 (dk_at dksX1_split_3 12 rfl rfl)
theorem dX1_split_85 : decode cX1_split 85 = .ok (.iadd, 1) := dk_96 (dk_at dksX1_split_3 13 rfl rfl)
theorem dX1_split_86 : decode cX1_split 86 = .ok (.invokevirtual 148, 3) := dk_182 0 148 (dk_at dksX1_split_3 14 rfl rfl)
theorem dX1_split_89 : decode cX1_split 89 = .ok (.goto 20, 3) := dk_167 0 20 (dk_at dksX1_split_3 17 rfl rfl)
theorem dX1_split_92 : decode cX1_split 92 = .ok (.aload_n 0, 1) := dk_42 (dk_at dksX1_split_3 20 rfl rfl)
theorem dX1_split_93 : decode cX1_split 93 = .ok (.getfield 67, 3) := dk_180 0 67 (dk_at dksX1_split_3 21 rfl rfl)
theorem dX1_split_96 : decode cX1_split 96 = .ok (.iload_n 1, 1) := dk_27 (dk_at dksX1_split_4 0 rfl rfl)
theorem dX1_split_97 : decode cX1_split 97 = .ok (.iconst (-1), 1) := dk_2 (dk_at dksX1_split_4 1 rfl rfl)
theorem dX1_split_98 : decode cX1_split 98 = .ok (.iastore, 1) := dk_79 (dk_at dksX1_split_4 2 rfl rfl)
theorem dX1_split_99 : decode cX1_split 99 = .ok (.aload_n 0, 1) := dk_42 (dk_at dksX1_split_4 3 rfl rfl)
theorem dX1_split_100 : decode cX1_split 100 = .ok (.getfield 64, 3) := dk_180 0 64 (dk_at dksX1_split_4 4 rfl rfl)
theorem dX1_split_103 : decode cX1_split 103 = .ok (.iload_n 1, 1) := dk_27 (dk_at dksX1_split_4 7 rfl rfl)
theorem dX1_split_104 : decode cX1_split 104 = .ok (.dup2, 1) := dk_92 (dk_at dksX1_split_4 8 rfl rfl)
theorem dX1_split_105 : decode cX1_split 105 = .ok (.iaload, 1) := dk_46 (dk_at dksX1_split_4 9 rfl rfl)
theorem dX1_split_106 : decode cX1_split 106 = .ok (.iconst 1, 1) := dk_4 (dk_at dksX1_split_4 10 rfl rfl)
theorem dX1_split_107 : decode cX1_split 107 = .ok (.iadd, 1) := dk_96 (dk_at dksX1_split_4 11 rfl rfl)
theorem dX1_split_108 : decode cX1_split 108 = .ok (.iastore, 1) := dk_79 (dk_at dksX1_split_4 12 rfl rfl)
theorem dX1_split_109 : decode cX1_split 109 = .ok (.return_, 1) := dk_177 (dk_at dksX1_split_4 13 rfl rfl)
abbrev cX1_ends : ByteArray := prog_9_method_29_code
def yX1_ends : MethodName := ⟨RX1, "ends", "(I)V"⟩
def dkwX1_ends_1 : List UInt8 := [180, 0, 54, 181, 0, 54, 177]
abbrev dktX1_ends_1 : List UInt8 := dkwX1_ends_1 ++ []
def dkwX1_ends_0 : List UInt8 := [42, 89, 180, 0, 145, 4, 100, 181, 0, 145, 42, 42, 180, 0, 145, 154, 0, 7, 27, 167, 0, 7, 42]
abbrev dktX1_ends_0 : List UInt8 := dkwX1_ends_0 ++ dktX1_ends_1
theorem dksX1_ends_0 : cX1_ends.data.toList.drop 0 = dktX1_ends_0 := by decide +kernel
theorem dksX1_ends_1 : cX1_ends.data.toList.drop 23 = dktX1_ends_1 := dk_seg dksX1_ends_0 23 rfl rfl
theorem dX1_ends_0 : decode cX1_ends 0 = .ok (.aload_n 0, 1) := dk_42 (dk_at dksX1_ends_0 0 rfl rfl)
theorem dX1_ends_1 : decode cX1_ends 1 = .ok (.dup, 1) := dk_89 (dk_at dksX1_ends_0 1 rfl rfl)
theorem dX1_ends_2 : decode cX1_ends 2 = .ok (.getfield 145, 3) := dk_180 0 145 (dk_at dksX1_ends_0 2 rfl rfl)
theorem dX1_ends_5 : decode cX1_ends 5 = .ok (.iconst 1, 1) := dk_4 (dk_at dksX1_ends_0 5 rfl rfl)
theorem dX1_ends_6 : decode cX1_ends 6 = .ok (.isub, 1) := dk_100 (dk_at dksX1_ends_0 6 rfl rfl)
theorem dX1_ends_7 : decode cX1_ends 7 = .ok (.putfield 145, 3) := dk_181 0 145 (dk_at dksX1_ends_0 7 rfl rfl)
theorem dX1_ends_10 : decode cX1_ends 10 = .ok (.aload_n 0, 1) := dk_42 (dk_at dksX1_ends_0 10 rfl rfl)
theorem dX1_ends_11 : decode cX1_ends 11 = .ok (.aload_n 0, 1) := dk_42 (dk_at dksX1_ends_0 11 rfl rfl)
theorem dX1_ends_12 : decode cX1_ends 12 = .ok (.getfield 145, 3) := dk_180 0 145 (dk_at dksX1_ends_0 12 rfl rfl)
theorem dX1_ends_15 : decode cX1_ends 15 = .ok (.ifCond .ne 7, 3) := dk_154 0 7 (dk_at dksX1_ends_0 15 rfl rfl)
theorem dX1_ends_18 : decode cX1_ends 18 = .ok (.iload_n 1, 1) := dk_27 (dk_at dksX1_ends_0 18 rfl rfl)
theorem dX1_ends_19 : decode cX1_ends 19 = .ok (.goto 7, 3) := dk_167 0 7 (dk_at dksX1_ends_0 19 rfl rfl)
theorem dX1_ends_22 : decode cX1_ends 22 = .ok (.aload_n 0, 1) := dk_42 (dk_at dksX1_ends_0 22 rfl rfl)
theorem dX1_ends_23 : decode cX1_ends 23 = .ok (.getfield 54, 3) := dk_180 0 54 (dk_at dksX1_ends_1 0 rfl rfl)
theorem dX1_ends_26 : decode cX1_ends 26 = .ok (.putfield 54, 3) := dk_181 0 54 (dk_at dksX1_ends_1 3 rfl rfl)
theorem dX1_ends_29 : decode cX1_ends 29 = .ok (.return_, 1) := dk_177 (dk_at dksX1_ends_1 6 rfl rfl)
abbrev cX1_comes : ByteArray := prog_9_method_32_code
def yX1_comes : MethodName := ⟨RX1, "comes", "(I)V"⟩
def dkwX1_comes_5 : List UInt8 := [182, 0, 161, 177]
abbrev dktX1_comes_5 : List UInt8 := dkwX1_comes_5 ++ []
def dkwX1_comes_4 : List UInt8 := [42, 180, 0, 48, 28, 42, 180, 0, 58, 27, 46, 79, 42, 89, 180, 0, 167, 4, 96, 181, 0, 167, 42, 2]
abbrev dktX1_comes_4 : List UInt8 := dkwX1_comes_4 ++ dktX1_comes_5
def dkwX1_comes_3 : List UInt8 := [46, 4, 96, 79, 167, 0, 47, 42, 180, 0, 45, 28, 92, 46, 4, 96, 79, 42, 180, 0, 51, 28, 4, 84]
abbrev dktX1_comes_3 : List UInt8 := dkwX1_comes_3 ++ dktX1_comes_4
def dkwX1_comes_2 : List UInt8 := [42, 180, 0, 32, 28, 51, 154, 0, 12, 42, 180, 0, 51, 28, 51, 153, 0, 16, 42, 180, 0, 64, 27, 92]
abbrev dktX1_comes_2 : List UInt8 := dkwX1_comes_2 ++ dktX1_comes_3
def dkwX1_comes_1 : List UInt8 := [27, 46, 46, 42, 180, 0, 26, 28, 46, 184, 0, 124, 153, 0, 12, 42, 27, 28, 182, 0, 164, 167, 0, 78]
abbrev dktX1_comes_1 : List UInt8 := dkwX1_comes_1 ++ dktX1_comes_2
def dkwX1_comes_0 : List UInt8 := [7, 42, 180, 0, 61, 27, 46, 104, 42, 180, 0, 64, 27, 46, 96, 61, 42, 180, 0, 7, 42, 180, 0, 58]
abbrev dktX1_comes_0 : List UInt8 := dkwX1_comes_0 ++ dktX1_comes_1
theorem dksX1_comes_0 : cX1_comes.data.toList.drop 0 = dktX1_comes_0 := by decide +kernel
theorem dksX1_comes_1 : cX1_comes.data.toList.drop 24 = dktX1_comes_1 := dk_seg dksX1_comes_0 24 rfl rfl
theorem dksX1_comes_2 : cX1_comes.data.toList.drop 48 = dktX1_comes_2 := dk_seg dksX1_comes_1 24 rfl rfl
theorem dksX1_comes_3 : cX1_comes.data.toList.drop 72 = dktX1_comes_3 := dk_seg dksX1_comes_2 24 rfl rfl
theorem dksX1_comes_4 : cX1_comes.data.toList.drop 96 = dktX1_comes_4 := dk_seg dksX1_comes_3 24 rfl rfl
theorem dksX1_comes_5 : cX1_comes.data.toList.drop 120 = dktX1_comes_5 := dk_seg dksX1_comes_4 24 rfl rfl
theorem dX1_comes_0 : decode cX1_comes 0 = .ok (.iconst 4, 1) := dk_7 (dk_at dksX1_comes_0 0 rfl rfl)
theorem dX1_comes_1 : decode cX1_comes 1 = .ok (.aload_n 0, 1) := dk_42 (dk_at dksX1_comes_0 1 rfl rfl)
theorem dX1_comes_2 : decode cX1_comes 2 = .ok (.getfield 61, 3) := dk_180 0 61 (dk_at dksX1_comes_0 2 rfl rfl)
theorem dX1_comes_5 : decode cX1_comes 5 = .ok (.iload_n 1, 1) := dk_27 (dk_at dksX1_comes_0 5 rfl rfl)
theorem dX1_comes_6 : decode cX1_comes 6 = .ok (.iaload, 1) := dk_46 (dk_at dksX1_comes_0 6 rfl rfl)
theorem dX1_comes_7 : decode cX1_comes 7 = .ok (.imul, 1) := dk_104 (dk_at dksX1_comes_0 7 rfl rfl)
theorem dX1_comes_8 : decode cX1_comes 8 = .ok (.aload_n 0, 1) := dk_42 (dk_at dksX1_comes_0 8 rfl rfl)
theorem dX1_comes_9 : decode cX1_comes 9 = .ok (.getfield 64, 3) := dk_180 0 64 (dk_at dksX1_comes_0 9 rfl rfl)
theorem dX1_comes_12 : decode cX1_comes 12 = .ok (.iload_n 1, 1) := dk_27 (dk_at dksX1_comes_0 12 rfl rfl)
theorem dX1_comes_13 : decode cX1_comes 13 = .ok (.iaload, 1) := dk_46 (dk_at dksX1_comes_0 13 rfl rfl)
theorem dX1_comes_14 : decode cX1_comes 14 = .ok (.iadd, 1) := dk_96 (dk_at dksX1_comes_0 14 rfl rfl)
theorem dX1_comes_15 : decode cX1_comes 15 = .ok (.istore_n 2, 1) := dk_61 (dk_at dksX1_comes_0 15 rfl rfl)
theorem dX1_comes_16 : decode cX1_comes 16 = .ok (.aload_n 0, 1) := dk_42 (dk_at dksX1_comes_0 16 rfl rfl)
theorem dX1_comes_17 : decode cX1_comes 17 = .ok (.getfield 7, 3) := dk_180 0 7 (dk_at dksX1_comes_0 17 rfl rfl)
theorem dX1_comes_20 : decode cX1_comes 20 = .ok (.aload_n 0, 1) := dk_42 (dk_at dksX1_comes_0 20 rfl rfl)
theorem dX1_comes_21 : decode cX1_comes 21 = .ok (.getfield 58, 3) := dk_180 0 58 (dk_at dksX1_comes_0 21 rfl rfl)
theorem dX1_comes_24 : decode cX1_comes 24 = .ok (.iload_n 1, 1) := dk_27 (dk_at dksX1_comes_1 0 rfl rfl)
theorem dX1_comes_25 : decode cX1_comes 25 = .ok (.iaload, 1) := dk_46 (dk_at dksX1_comes_1 1 rfl rfl)
theorem dX1_comes_26 : decode cX1_comes 26 = .ok (.iaload, 1) := dk_46 (dk_at dksX1_comes_1 2 rfl rfl)
theorem dX1_comes_27 : decode cX1_comes 27 = .ok (.aload_n 0, 1) := dk_42 (dk_at dksX1_comes_1 3 rfl rfl)
theorem dX1_comes_28 : decode cX1_comes 28 = .ok (.getfield 26, 3) := dk_180 0 26 (dk_at dksX1_comes_1 4 rfl rfl)
theorem dX1_comes_31 : decode cX1_comes 31 = .ok (.iload_n 2, 1) := dk_28 (dk_at dksX1_comes_1 7 rfl rfl)
theorem dX1_comes_32 : decode cX1_comes 32 = .ok (.iaload, 1) := dk_46 (dk_at dksX1_comes_1 8 rfl rfl)
theorem dX1_comes_33 : decode cX1_comes 33 = .ok (.invokestatic 124, 3) := dk_184 0 124 (dk_at dksX1_comes_1 9 rfl rfl)
theorem dX1_comes_36 : decode cX1_comes 36 = .ok (.ifCond .eq 12, 3) := dk_153 0 12 (dk_at dksX1_comes_1 12 rfl rfl)
theorem dX1_comes_39 : decode cX1_comes 39 = .ok (.aload_n 0, 1) := dk_42 (dk_at dksX1_comes_1 15 rfl rfl)
theorem dX1_comes_40 : decode cX1_comes 40 = .ok (.iload_n 1, 1) := dk_27 (dk_at dksX1_comes_1 16 rfl rfl)
theorem dX1_comes_41 : decode cX1_comes 41 = .ok (.iload_n 2, 1) := dk_28 (dk_at dksX1_comes_1 17 rfl rfl)
theorem dX1_comes_42 : decode cX1_comes 42 = .ok (.invokevirtual 164, 3) := dk_182 0 164 (dk_at dksX1_comes_1 18 rfl rfl)
theorem dX1_comes_45 : decode cX1_comes 45 = .ok (.goto 78, 3) := dk_167 0 78 (dk_at dksX1_comes_1 21 rfl rfl)
theorem dX1_comes_48 : decode cX1_comes 48 = .ok (.aload_n 0, 1) := dk_42 (dk_at dksX1_comes_2 0 rfl rfl)
theorem dX1_comes_49 : decode cX1_comes 49 = .ok (.getfield 32, 3) := dk_180 0 32 (dk_at dksX1_comes_2 1 rfl rfl)
theorem dX1_comes_52 : decode cX1_comes 52 = .ok (.iload_n 2, 1) := dk_28 (dk_at dksX1_comes_2 4 rfl rfl)
theorem dX1_comes_53 : decode cX1_comes 53 = .ok (.baload, 1) := dk_51 (dk_at dksX1_comes_2 5 rfl rfl)
theorem dX1_comes_54 : decode cX1_comes 54 = .ok (.ifCond .ne 12, 3) := dk_154 0 12 (dk_at dksX1_comes_2 6 rfl rfl)
theorem dX1_comes_57 : decode cX1_comes 57 = .ok (.aload_n 0, 1) := dk_42 (dk_at dksX1_comes_2 9 rfl rfl)
theorem dX1_comes_58 : decode cX1_comes 58 = .ok (.getfield 51, 3) := dk_180 0 51 (dk_at dksX1_comes_2 10 rfl rfl)
theorem dX1_comes_61 : decode cX1_comes 61 = .ok (.iload_n 2, 1) := dk_28 (dk_at dksX1_comes_2 13 rfl rfl)
theorem dX1_comes_62 : decode cX1_comes 62 = .ok (.baload, 1) := dk_51 (dk_at dksX1_comes_2 14 rfl rfl)
theorem dX1_comes_63 : decode cX1_comes 63 = .ok (.ifCond .eq 16, 3) := dk_153 0 16 (dk_at dksX1_comes_2 15 rfl rfl)
theorem dX1_comes_66 : decode cX1_comes 66 = .ok (.aload_n 0, 1) := dk_42 (dk_at dksX1_comes_2 18 rfl rfl)
theorem dX1_comes_67 : decode cX1_comes 67 = .ok (.getfield 64, 3) := dk_180 0 64 (dk_at dksX1_comes_2 19 rfl rfl)
theorem dX1_comes_70 : decode cX1_comes 70 = .ok (.iload_n 1, 1) := dk_27 (dk_at dksX1_comes_2 22 rfl rfl)
theorem dX1_comes_71 : decode cX1_comes 71 = .ok (.dup2, 1) := dk_92 (dk_at dksX1_comes_2 23 rfl rfl)
theorem dX1_comes_72 : decode cX1_comes 72 = .ok (.iaload, 1) := dk_46 (dk_at dksX1_comes_3 0 rfl rfl)
theorem dX1_comes_73 : decode cX1_comes 73 = .ok (.iconst 1, 1) := dk_4 (dk_at dksX1_comes_3 1 rfl rfl)
theorem dX1_comes_74 : decode cX1_comes 74 = .ok (.iadd, 1) := dk_96 (dk_at dksX1_comes_3 2 rfl rfl)
theorem dX1_comes_75 : decode cX1_comes 75 = .ok (.iastore, 1) := dk_79 (dk_at dksX1_comes_3 3 rfl rfl)
theorem dX1_comes_76 : decode cX1_comes 76 = .ok (.goto 47, 3) := dk_167 0 47 (dk_at dksX1_comes_3 4 rfl rfl)
theorem dX1_comes_79 : decode cX1_comes 79 = .ok (.aload_n 0, 1) := dk_42 (dk_at dksX1_comes_3 7 rfl rfl)
theorem dX1_comes_80 : decode cX1_comes 80 = .ok (.getfield 45, 3) := dk_180 0 45 (dk_at dksX1_comes_3 8 rfl rfl)
theorem dX1_comes_83 : decode cX1_comes 83 = .ok (.iload_n 2, 1) := dk_28 (dk_at dksX1_comes_3 11 rfl rfl)
theorem dX1_comes_84 : decode cX1_comes 84 = .ok (.dup2, 1) := dk_92 (dk_at dksX1_comes_3 12 rfl rfl)
theorem dX1_comes_85 : decode cX1_comes 85 = .ok (.iaload, 1) := dk_46 (dk_at dksX1_comes_3 13 rfl rfl)
theorem dX1_comes_86 : decode cX1_comes 86 = .ok (.iconst 1, 1) := dk_4 (dk_at dksX1_comes_3 14 rfl rfl)
theorem dX1_comes_87 : decode cX1_comes 87 = .ok (.iadd, 1) := dk_96 (dk_at dksX1_comes_3 15 rfl rfl)
theorem dX1_comes_88 : decode cX1_comes 88 = .ok (.iastore, 1) := dk_79 (dk_at dksX1_comes_3 16 rfl rfl)
theorem dX1_comes_89 : decode cX1_comes 89 = .ok (.aload_n 0, 1) := dk_42 (dk_at dksX1_comes_3 17 rfl rfl)
theorem dX1_comes_90 : decode cX1_comes 90 = .ok (.getfield 51, 3) := dk_180 0 51 (dk_at dksX1_comes_3 18 rfl rfl)
theorem dX1_comes_93 : decode cX1_comes 93 = .ok (.iload_n 2, 1) := dk_28 (dk_at dksX1_comes_3 21 rfl rfl)
theorem dX1_comes_94 : decode cX1_comes 94 = .ok (.iconst 1, 1) := dk_4 (dk_at dksX1_comes_3 22 rfl rfl)
theorem dX1_comes_95 : decode cX1_comes 95 = .ok (.bastore, 1) := dk_84 (dk_at dksX1_comes_3 23 rfl rfl)
theorem dX1_comes_96 : decode cX1_comes 96 = .ok (.aload_n 0, 1) := dk_42 (dk_at dksX1_comes_4 0 rfl rfl)
theorem dX1_comes_97 : decode cX1_comes 97 = .ok (.getfield 48, 3) := dk_180 0 48 (dk_at dksX1_comes_4 1 rfl rfl)
theorem dX1_comes_100 : decode cX1_comes 100 = .ok (.iload_n 2, 1) := dk_28 (dk_at dksX1_comes_4 4 rfl rfl)
theorem dX1_comes_101 : decode cX1_comes 101 = .ok (.aload_n 0, 1) := dk_42 (dk_at dksX1_comes_4 5 rfl rfl)
theorem dX1_comes_102 : decode cX1_comes 102 = .ok (.getfield 58, 3) := dk_180 0 58 (dk_at dksX1_comes_4 6 rfl rfl)
theorem dX1_comes_105 : decode cX1_comes 105 = .ok (.iload_n 1, 1) := dk_27 (dk_at dksX1_comes_4 9 rfl rfl)
theorem dX1_comes_106 : decode cX1_comes 106 = .ok (.iaload, 1) := dk_46 (dk_at dksX1_comes_4 10 rfl rfl)
theorem dX1_comes_107 : decode cX1_comes 107 = .ok (.iastore, 1) := dk_79 (dk_at dksX1_comes_4 11 rfl rfl)
theorem dX1_comes_108 : decode cX1_comes 108 = .ok (.aload_n 0, 1) := dk_42 (dk_at dksX1_comes_4 12 rfl rfl)
theorem dX1_comes_109 : decode cX1_comes 109 = .ok (.dup, 1) := dk_89 (dk_at dksX1_comes_4 13 rfl rfl)
theorem dX1_comes_110 : decode cX1_comes 110 = .ok (.getfield 167, 3) := dk_180 0 167 (dk_at dksX1_comes_4 14 rfl rfl)
theorem dX1_comes_113 : decode cX1_comes 113 = .ok (.iconst 1, 1) := dk_4 (dk_at dksX1_comes_4 17 rfl rfl)
theorem dX1_comes_114 : decode cX1_comes 114 = .ok (.iadd, 1) := dk_96 (dk_at dksX1_comes_4 18 rfl rfl)
theorem dX1_comes_115 : decode cX1_comes 115 = .ok (.putfield 167, 3) := dk_181 0 167 (dk_at dksX1_comes_4 19 rfl rfl)
theorem dX1_comes_118 : decode cX1_comes 118 = .ok (.aload_n 0, 1) := dk_42 (dk_at dksX1_comes_4 22 rfl rfl)
theorem dX1_comes_119 : decode cX1_comes 119 = .ok (.iconst (-1), 1) := dk_2 (dk_at dksX1_comes_4 23 rfl rfl)
theorem dX1_comes_120 : decode cX1_comes 120 = .ok (.invokevirtual 161, 3) := dk_182 0 161 (dk_at dksX1_comes_5 0 rfl rfl)
theorem dX1_comes_123 : decode cX1_comes 123 = .ok (.return_, 1) := dk_177 (dk_at dksX1_comes_5 3 rfl rfl)
abbrev cX1_work : ByteArray := prog_9_method_31_code
def yX1_work : MethodName := ⟨RX1, "work", "(II)V"⟩
def dkwX1_work_8 : List UInt8 := [180, 0, 64, 27, 92, 46, 4, 96, 79, 177]
abbrev dktX1_work_8 : List UInt8 := dkwX1_work_8 ++ []
def dkwX1_work_7 : List UInt8 := [29, 79, 21, 4, 2, 160, 0, 9, 42, 2, 182, 0, 161, 177, 42, 180, 0, 58, 27, 21, 4, 79, 42]
abbrev dktX1_work_7 : List UInt8 := dkwX1_work_7 ++ dktX1_work_8
def dkwX1_work_6 : List UInt8 := [162, 0, 46, 42, 180, 0, 67, 27, 3, 79, 177, 42, 180, 0, 39, 28, 46, 54, 4, 42, 180, 0, 39, 28]
abbrev dktX1_work_6 : List UInt8 := dkwX1_work_6 ++ dktX1_work_7
def dkwX1_work_5 : List UInt8 := [167, 0, 69, 42, 180, 0, 7, 29, 46, 184, 0, 97, 153, 0, 57, 42, 180, 0, 61, 27, 46, 16, 7]
abbrev dktX1_work_5 : List UInt8 := dkwX1_work_5 ++ dktX1_work_6
def dkwX1_work_4 : List UInt8 := [180, 0, 13, 29, 46, 96, 79, 167, 0, 85, 42, 29, 182, 0, 155, 167, 0, 77, 42, 29, 182, 0, 158]
abbrev dktX1_work_4 : List UInt8 := dkwX1_work_4 ++ dktX1_work_5
def dkwX1_work_3 : List UInt8 := [42, 180, 0, 36, 28, 92, 46, 42, 180, 0, 7, 29, 46, 184, 0, 89, 153, 0, 7, 4, 167, 0, 9, 42]
abbrev dktX1_work_3 : List UInt8 := dkwX1_work_3 ++ dktX1_work_4
def dkwX1_work_2 : List UInt8 := [170, 0, 0, 0, 0, 0, 112, 0, 0, 0, 0, 0, 0, 0, 3, 0, 0, 0, 31, 0, 0, 0, 65, 0, 0, 0, 73, 0, 0, 0, 81]
abbrev dktX1_work_2 : List UInt8 := dkwX1_work_2 ++ dktX1_work_3
def dkwX1_work_1 : List UInt8 := [181, 0, 152, 42, 180, 0, 29, 28, 46]
abbrev dktX1_work_1 : List UInt8 := dkwX1_work_1 ++ dktX1_work_2
def dkwX1_work_0 : List UInt8 := [42, 180, 0, 58, 27, 46, 62, 42, 180, 0, 42, 28, 92, 46, 4, 96, 79, 42, 89, 180, 0, 152, 4, 96]
abbrev dktX1_work_0 : List UInt8 := dkwX1_work_0 ++ dktX1_work_1
theorem dksX1_work_0 : cX1_work.data.toList.drop 0 = dktX1_work_0 := by decide +kernel
theorem dksX1_work_1 : cX1_work.data.toList.drop 24 = dktX1_work_1 := dk_seg dksX1_work_0 24 rfl rfl
theorem dksX1_work_2 : cX1_work.data.toList.drop 33 = dktX1_work_2 := dk_seg dksX1_work_1 9 rfl rfl
theorem dksX1_work_3 : cX1_work.data.toList.drop 64 = dktX1_work_3 := dk_seg dksX1_work_2 31 rfl rfl
theorem dksX1_work_4 : cX1_work.data.toList.drop 88 = dktX1_work_4 := dk_seg dksX1_work_3 24 rfl rfl
theorem dksX1_work_5 : cX1_work.data.toList.drop 111 = dktX1_work_5 := dk_seg dksX1_work_4 23 rfl rfl
theorem dksX1_work_6 : cX1_work.data.toList.drop 134 = dktX1_work_6 := dk_seg dksX1_work_5 23 rfl rfl
theorem dksX1_work_7 : cX1_work.data.toList.drop 158 = dktX1_work_7 := dk_seg dksX1_work_6 24 rfl rfl
theorem dksX1_work_8 : cX1_work.data.toList.drop 181 = dktX1_work_8 := dk_seg dksX1_work_7 23 rfl rfl
theorem dX1_work_0 : decode cX1_work 0 = .ok (.aload_n 0, 1) := dk_42 (dk_at dksX1_work_0 0 rfl rfl)
theorem dX1_work_1 : decode cX1_work 1 = .ok (.getfield 58, 3) := dk_180 0 58 (dk_at dksX1_work_0 1 rfl rfl)
theorem dX1_work_4 : decode cX1_work 4 = .ok (.iload_n 1, 1) := dk_27 (dk_at dksX1_work_0 4 rfl rfl)
theorem dX1_work_5 : decode cX1_work 5 = .ok (.iaload, 1) := dk_46 (dk_at dksX1_work_0 5 rfl rfl)
theorem dX1_work_6 : decode cX1_work 6 = .ok (.istore_n 3, 1) := dk_62 (dk_at dksX1_work_0 6 rfl rfl)
theorem dX1_work_7 : decode cX1_work 7 = .ok (.aload_n 0, 1) := dk_42 (dk_at dksX1_work_0 7 rfl rfl)
theorem dX1_work_8 : decode cX1_work 8 = .ok (.getfield 42, 3) := dk_180 0 42 (dk_at dksX1_work_0 8 rfl rfl)
theorem dX1_work_11 : decode cX1_work 11 = .ok (.iload_n 2, 1) := dk_28 (dk_at dksX1_work_0 11 rfl rfl)
theorem dX1_work_12 : decode cX1_work 12 = .ok (.dup2, 1) := dk_92 (dk_at dksX1_work_0 12 rfl rfl)
theorem dX1_work_13 : decode cX1_work 13 = .ok (.iaload, 1) := dk_46 (dk_at dksX1_work_0 13 rfl rfl)
theorem dX1_work_14 : decode cX1_work 14 = .ok (.iconst 1, 1) := dk_4 (dk_at dksX1_work_0 14 rfl rfl)
theorem dX1_work_15 : decode cX1_work 15 = .ok (.iadd, 1) := dk_96 (dk_at dksX1_work_0 15 rfl rfl)
theorem dX1_work_16 : decode cX1_work 16 = .ok (.iastore, 1) := dk_79 (dk_at dksX1_work_0 16 rfl rfl)
theorem dX1_work_17 : decode cX1_work 17 = .ok (.aload_n 0, 1) := dk_42 (dk_at dksX1_work_0 17 rfl rfl)
theorem dX1_work_18 : decode cX1_work 18 = .ok (.dup, 1) := dk_89 (dk_at dksX1_work_0 18 rfl rfl)
theorem dX1_work_19 : decode cX1_work 19 = .ok (.getfield 152, 3) := dk_180 0 152 (dk_at dksX1_work_0 19 rfl rfl)
theorem dX1_work_22 : decode cX1_work 22 = .ok (.iconst 1, 1) := dk_4 (dk_at dksX1_work_0 22 rfl rfl)
theorem dX1_work_23 : decode cX1_work 23 = .ok (.iadd, 1) := dk_96 (dk_at dksX1_work_0 23 rfl rfl)
theorem dX1_work_24 : decode cX1_work 24 = .ok (.putfield 152, 3) := dk_181 0 152 (dk_at dksX1_work_1 0 rfl rfl)
theorem dX1_work_27 : decode cX1_work 27 = .ok (.aload_n 0, 1) := dk_42 (dk_at dksX1_work_1 3 rfl rfl)
theorem dX1_work_28 : decode cX1_work 28 = .ok (.getfield 29, 3) := dk_180 0 29 (dk_at dksX1_work_1 4 rfl rfl)
theorem dX1_work_31 : decode cX1_work 31 = .ok (.iload_n 2, 1) := dk_28 (dk_at dksX1_work_1 7 rfl rfl)
theorem dX1_work_32 : decode cX1_work 32 = .ok (.iaload, 1) := dk_46 (dk_at dksX1_work_1 8 rfl rfl)
theorem dX1_work_33 : decode cX1_work 33 = .ok (.tableswitch 112 0 3 #[31, 65, 73, 81], 31) := by decide +kernel
theorem dX1_work_64 : decode cX1_work 64 = .ok (.aload_n 0, 1) := dk_42 (dk_at dksX1_work_3 0 rfl rfl)
theorem dX1_work_65 : decode cX1_work 65 = .ok (.getfield 36, 3) := dk_180 0 36 (dk_at dksX1_work_3 1 rfl rfl)
theorem dX1_work_68 : decode cX1_work 68 = .ok (.iload_n 2, 1) := dk_28 (dk_at dksX1_work_3 4 rfl rfl)
theorem dX1_work_69 : decode cX1_work 69 = .ok (.dup2, 1) := dk_92 (dk_at dksX1_work_3 5 rfl rfl)
theorem dX1_work_70 : decode cX1_work 70 = .ok (.iaload, 1) := dk_46 (dk_at dksX1_work_3 6 rfl rfl)
theorem dX1_work_71 : decode cX1_work 71 = .ok (.aload_n 0, 1) := dk_42 (dk_at dksX1_work_3 7 rfl rfl)
theorem dX1_work_72 : decode cX1_work 72 = .ok (.getfield 7, 3) := dk_180 0 7 (dk_at dksX1_work_3 8 rfl rfl)
theorem dX1_work_75 : decode cX1_work 75 = .ok (.iload_n 3, 1) := dk_29 (dk_at dksX1_work_3 11 rfl rfl)
theorem dX1_work_76 : decode cX1_work 76 = .ok (.iaload, 1) := dk_46 (dk_at dksX1_work_3 12 rfl rfl)
theorem dX1_work_77 : decode cX1_work 77 = .ok (.invokestatic 89, 3) := dk_184 0 89 (dk_at dksX1_work_3 13 rfl rfl)
theorem dX1_work_80 : decode cX1_work 80 = .ok (.ifCond .eq 7, 3) := dk_153 0 7 (dk_at dksX1_work_3 16 rfl rfl)
theorem dX1_work_83 : decode cX1_work 83 = .ok (.iconst 1, 1) := dk_4 (dk_at dksX1_work_3 19 rfl rfl)
theorem dX1_work_84 : decode cX1_work 84 = .ok (.goto 9, 3) := dk_167 0 9 (dk_at dksX1_work_3 20 rfl rfl)
theorem dX1_work_87 : decode cX1_work 87 = .ok (.aload_n 0, 1) := dk_42 (dk_at dksX1_work_3 23 rfl rfl)
theorem dX1_work_88 : decode cX1_work 88 = .ok (.getfield 13, 3) := dk_180 0 13 (dk_at dksX1_work_4 0 rfl rfl)
theorem dX1_work_91 : decode cX1_work 91 = .ok (.iload_n 3, 1) := dk_29 (dk_at dksX1_work_4 3 rfl rfl)
theorem dX1_work_92 : decode cX1_work 92 = .ok (.iaload, 1) := dk_46 (dk_at dksX1_work_4 4 rfl rfl)
theorem dX1_work_93 : decode cX1_work 93 = .ok (.iadd, 1) := dk_96 (dk_at dksX1_work_4 5 rfl rfl)
theorem dX1_work_94 : decode cX1_work 94 = .ok (.iastore, 1) := dk_79 (dk_at dksX1_work_4 6 rfl rfl)
theorem dX1_work_95 : decode cX1_work 95 = .ok (.goto 85, 3) := dk_167 0 85 (dk_at dksX1_work_4 7 rfl rfl)
theorem dX1_work_98 : decode cX1_work 98 = .ok (.aload_n 0, 1) := dk_42 (dk_at dksX1_work_4 10 rfl rfl)
theorem dX1_work_99 : decode cX1_work 99 = .ok (.iload_n 3, 1) := dk_29 (dk_at dksX1_work_4 11 rfl rfl)
theorem dX1_work_100 : decode cX1_work 100 = .ok (.invokevirtual 155, 3) := dk_182 0 155 (dk_at dksX1_work_4 12 rfl rfl)
theorem dX1_work_103 : decode cX1_work 103 = .ok (.goto 77, 3) := dk_167 0 77 (dk_at dksX1_work_4 15 rfl rfl)
theorem dX1_work_106 : decode cX1_work 106 = .ok (.aload_n 0, 1) := dk_42 (dk_at dksX1_work_4 18 rfl rfl)
theorem dX1_work_107 : decode cX1_work 107 = .ok (.iload_n 3, 1) := dk_29 (dk_at dksX1_work_4 19 rfl rfl)
theorem dX1_work_108 : decode cX1_work 108 = .ok (.invokevirtual 158, 3) := dk_182 0 158 (dk_at dksX1_work_4 20 rfl rfl)
theorem dX1_work_111 : decode cX1_work 111 = .ok (.goto 69, 3) := dk_167 0 69 (dk_at dksX1_work_5 0 rfl rfl)
theorem dX1_work_114 : decode cX1_work 114 = .ok (.aload_n 0, 1) := dk_42 (dk_at dksX1_work_5 3 rfl rfl)
theorem dX1_work_115 : decode cX1_work 115 = .ok (.getfield 7, 3) := dk_180 0 7 (dk_at dksX1_work_5 4 rfl rfl)
theorem dX1_work_118 : decode cX1_work 118 = .ok (.iload_n 3, 1) := dk_29 (dk_at dksX1_work_5 7 rfl rfl)
theorem dX1_work_119 : decode cX1_work 119 = .ok (.iaload, 1) := dk_46 (dk_at dksX1_work_5 8 rfl rfl)
theorem dX1_work_120 : decode cX1_work 120 = .ok (.invokestatic 97, 3) := dk_184 0 97 (dk_at dksX1_work_5 9 rfl rfl)
theorem dX1_work_123 : decode cX1_work 123 = .ok (.ifCond .eq 57, 3) := dk_153 0 57 (dk_at dksX1_work_5 12 rfl rfl)
theorem dX1_work_126 : decode cX1_work 126 = .ok (.aload_n 0, 1) := dk_42 (dk_at dksX1_work_5 15 rfl rfl)
theorem dX1_work_127 : decode cX1_work 127 = .ok (.getfield 61, 3) := dk_180 0 61 (dk_at dksX1_work_5 16 rfl rfl)
theorem dX1_work_130 : decode cX1_work 130 = .ok (.iload_n 1, 1) := dk_27 (dk_at dksX1_work_5 19 rfl rfl)
theorem dX1_work_131 : decode cX1_work 131 = .ok (.iaload, 1) := dk_46 (dk_at dksX1_work_5 20 rfl rfl)
theorem dX1_work_132 : decode cX1_work 132 = .ok (.bipush 7, 2) := dk_16 7 (dk_at dksX1_work_5 21 rfl rfl)
theorem dX1_work_134 : decode cX1_work 134 = .ok (.if_icmp .ge 46, 3) := dk_162 0 46 (dk_at dksX1_work_6 0 rfl rfl)
theorem dX1_work_137 : decode cX1_work 137 = .ok (.aload_n 0, 1) := dk_42 (dk_at dksX1_work_6 3 rfl rfl)
theorem dX1_work_138 : decode cX1_work 138 = .ok (.getfield 67, 3) := dk_180 0 67 (dk_at dksX1_work_6 4 rfl rfl)
theorem dX1_work_141 : decode cX1_work 141 = .ok (.iload_n 1, 1) := dk_27 (dk_at dksX1_work_6 7 rfl rfl)
theorem dX1_work_142 : decode cX1_work 142 = .ok (.iconst 0, 1) := dk_3 (dk_at dksX1_work_6 8 rfl rfl)
theorem dX1_work_143 : decode cX1_work 143 = .ok (.iastore, 1) := dk_79 (dk_at dksX1_work_6 9 rfl rfl)
theorem dX1_work_144 : decode cX1_work 144 = .ok (.return_, 1) := dk_177 (dk_at dksX1_work_6 10 rfl rfl)
theorem dX1_work_145 : decode cX1_work 145 = .ok (.aload_n 0, 1) := dk_42 (dk_at dksX1_work_6 11 rfl rfl)
theorem dX1_work_146 : decode cX1_work 146 = .ok (.getfield 39, 3) := dk_180 0 39 (dk_at dksX1_work_6 12 rfl rfl)
theorem dX1_work_149 : decode cX1_work 149 = .ok (.iload_n 2, 1) := dk_28 (dk_at dksX1_work_6 15 rfl rfl)
theorem dX1_work_150 : decode cX1_work 150 = .ok (.iaload, 1) := dk_46 (dk_at dksX1_work_6 16 rfl rfl)
theorem dX1_work_151 : decode cX1_work 151 = .ok (.istore 4, 2) := dk_54 4 (dk_at dksX1_work_6 17 rfl rfl)
theorem dX1_work_153 : decode cX1_work 153 = .ok (.aload_n 0, 1) := dk_42 (dk_at dksX1_work_6 19 rfl rfl)
theorem dX1_work_154 : decode cX1_work 154 = .ok (.getfield 39, 3) := dk_180 0 39 (dk_at dksX1_work_6 20 rfl rfl)
theorem dX1_work_157 : decode cX1_work 157 = .ok (.iload_n 2, 1) := dk_28 (dk_at dksX1_work_6 23 rfl rfl)
theorem dX1_work_158 : decode cX1_work 158 = .ok (.iload_n 3, 1) := dk_29 (dk_at dksX1_work_7 0 rfl rfl)
theorem dX1_work_159 : decode cX1_work 159 = .ok (.iastore, 1) := dk_79 (dk_at dksX1_work_7 1 rfl rfl)
theorem dX1_work_160 : decode cX1_work 160 = .ok (.iload 4, 2) := dk_21 4 (dk_at dksX1_work_7 2 rfl rfl)
theorem dX1_work_162 : decode cX1_work 162 = .ok (.iconst (-1), 1) := dk_2 (dk_at dksX1_work_7 4 rfl rfl)
theorem dX1_work_163 : decode cX1_work 163 = .ok (.if_icmp .ne 9, 3) := dk_160 0 9 (dk_at dksX1_work_7 5 rfl rfl)
theorem dX1_work_166 : decode cX1_work 166 = .ok (.aload_n 0, 1) := dk_42 (dk_at dksX1_work_7 8 rfl rfl)
theorem dX1_work_167 : decode cX1_work 167 = .ok (.iconst (-1), 1) := dk_2 (dk_at dksX1_work_7 9 rfl rfl)
theorem dX1_work_168 : decode cX1_work 168 = .ok (.invokevirtual 161, 3) := dk_182 0 161 (dk_at dksX1_work_7 10 rfl rfl)
theorem dX1_work_171 : decode cX1_work 171 = .ok (.return_, 1) := dk_177 (dk_at dksX1_work_7 13 rfl rfl)
theorem dX1_work_172 : decode cX1_work 172 = .ok (.aload_n 0, 1) := dk_42 (dk_at dksX1_work_7 14 rfl rfl)
theorem dX1_work_173 : decode cX1_work 173 = .ok (.getfield 58, 3) := dk_180 0 58 (dk_at dksX1_work_7 15 rfl rfl)
theorem dX1_work_176 : decode cX1_work 176 = .ok (.iload_n 1, 1) := dk_27 (dk_at dksX1_work_7 18 rfl rfl)
theorem dX1_work_177 : decode cX1_work 177 = .ok (.iload 4, 2) := dk_21 4 (dk_at dksX1_work_7 19 rfl rfl)
theorem dX1_work_179 : decode cX1_work 179 = .ok (.iastore, 1) := dk_79 (dk_at dksX1_work_7 21 rfl rfl)
theorem dX1_work_180 : decode cX1_work 180 = .ok (.aload_n 0, 1) := dk_42 (dk_at dksX1_work_7 22 rfl rfl)
theorem dX1_work_181 : decode cX1_work 181 = .ok (.getfield 64, 3) := dk_180 0 64 (dk_at dksX1_work_8 0 rfl rfl)
theorem dX1_work_184 : decode cX1_work 184 = .ok (.iload_n 1, 1) := dk_27 (dk_at dksX1_work_8 3 rfl rfl)
theorem dX1_work_185 : decode cX1_work 185 = .ok (.dup2, 1) := dk_92 (dk_at dksX1_work_8 4 rfl rfl)
theorem dX1_work_186 : decode cX1_work 186 = .ok (.iaload, 1) := dk_46 (dk_at dksX1_work_8 5 rfl rfl)
theorem dX1_work_187 : decode cX1_work 187 = .ok (.iconst 1, 1) := dk_4 (dk_at dksX1_work_8 6 rfl rfl)
theorem dX1_work_188 : decode cX1_work 188 = .ok (.iadd, 1) := dk_96 (dk_at dksX1_work_8 7 rfl rfl)
theorem dX1_work_189 : decode cX1_work 189 = .ok (.iastore, 1) := dk_79 (dk_at dksX1_work_8 8 rfl rfl)
theorem dX1_work_190 : decode cX1_work 190 = .ok (.return_, 1) := dk_177 (dk_at dksX1_work_8 9 rfl rfl)
abbrev cX1_turn : ByteArray := prog_9_method_24_code
def yX1_turn : MethodName := ⟨RX1, "turn", "(I)V"⟩
def dkwX1_turn_3 : List UInt8 := [33, 80, 132, 2, 1, 167, 255, 181, 177]
abbrev dktX1_turn_3 : List UInt8 := dkwX1_turn_3 ++ []
def dkwX1_turn_2 : List UInt8 := [4, 100, 28, 100, 47, 80, 42, 180, 0, 19, 6, 27, 104, 42, 180, 0, 13, 27, 46, 96, 4, 100, 28, 100]
abbrev dktX1_turn_2 : List UInt8 := dkwX1_turn_2 ++ dktX1_turn_3
def dkwX1_turn_1 : List UInt8 := [66, 42, 180, 0, 19, 6, 27, 104, 28, 96, 42, 180, 0, 19, 6, 27, 104, 42, 180, 0, 13, 27, 46, 96]
abbrev dktX1_turn_1 : List UInt8 := dkwX1_turn_1 ++ dktX1_turn_2
def dkwX1_turn_0 : List UInt8 := [3, 61, 28, 42, 180, 0, 13, 27, 46, 5, 108, 162, 0, 69, 42, 180, 0, 19, 6, 27, 104, 28, 96, 47]
abbrev dktX1_turn_0 : List UInt8 := dkwX1_turn_0 ++ dktX1_turn_1
theorem dksX1_turn_0 : cX1_turn.data.toList.drop 0 = dktX1_turn_0 := by decide +kernel
theorem dksX1_turn_1 : cX1_turn.data.toList.drop 24 = dktX1_turn_1 := dk_seg dksX1_turn_0 24 rfl rfl
theorem dksX1_turn_2 : cX1_turn.data.toList.drop 48 = dktX1_turn_2 := dk_seg dksX1_turn_1 24 rfl rfl
theorem dksX1_turn_3 : cX1_turn.data.toList.drop 72 = dktX1_turn_3 := dk_seg dksX1_turn_2 24 rfl rfl
theorem dX1_turn_0 : decode cX1_turn 0 = .ok (.iconst 0, 1) := dk_3 (dk_at dksX1_turn_0 0 rfl rfl)
theorem dX1_turn_1 : decode cX1_turn 1 = .ok (.istore_n 2, 1) := dk_61 (dk_at dksX1_turn_0 1 rfl rfl)
theorem dX1_turn_2 : decode cX1_turn 2 = .ok (.iload_n 2, 1) := dk_28 (dk_at dksX1_turn_0 2 rfl rfl)
theorem dX1_turn_3 : decode cX1_turn 3 = .ok (.aload_n 0, 1) := dk_42 (dk_at dksX1_turn_0 3 rfl rfl)
theorem dX1_turn_4 : decode cX1_turn 4 = .ok (.getfield 13, 3) := dk_180 0 13 (dk_at dksX1_turn_0 4 rfl rfl)
theorem dX1_turn_7 : decode cX1_turn 7 = .ok (.iload_n 1, 1) := dk_27 (dk_at dksX1_turn_0 7 rfl rfl)
theorem dX1_turn_8 : decode cX1_turn 8 = .ok (.iaload, 1) := dk_46 (dk_at dksX1_turn_0 8 rfl rfl)
theorem dX1_turn_9 : decode cX1_turn 9 = .ok (.iconst 2, 1) := dk_5 (dk_at dksX1_turn_0 9 rfl rfl)
theorem dX1_turn_10 : decode cX1_turn 10 = .ok (.idiv, 1) := dk_108 (dk_at dksX1_turn_0 10 rfl rfl)
theorem dX1_turn_11 : decode cX1_turn 11 = .ok (.if_icmp .ge 69, 3) := dk_162 0 69 (dk_at dksX1_turn_0 11 rfl rfl)
theorem dX1_turn_14 : decode cX1_turn 14 = .ok (.aload_n 0, 1) := dk_42 (dk_at dksX1_turn_0 14 rfl rfl)
theorem dX1_turn_15 : decode cX1_turn 15 = .ok (.getfield 19, 3) := dk_180 0 19 (dk_at dksX1_turn_0 15 rfl rfl)
theorem dX1_turn_18 : decode cX1_turn 18 = .ok (.iconst 3, 1) := dk_6 (dk_at dksX1_turn_0 18 rfl rfl)
theorem dX1_turn_19 : decode cX1_turn 19 = .ok (.iload_n 1, 1) := dk_27 (dk_at dksX1_turn_0 19 rfl rfl)
theorem dX1_turn_20 : decode cX1_turn 20 = .ok (.imul, 1) := dk_104 (dk_at dksX1_turn_0 20 rfl rfl)
theorem dX1_turn_21 : decode cX1_turn 21 = .ok (.iload_n 2, 1) := dk_28 (dk_at dksX1_turn_0 21 rfl rfl)
theorem dX1_turn_22 : decode cX1_turn 22 = .ok (.iadd, 1) := dk_96 (dk_at dksX1_turn_0 22 rfl rfl)
theorem dX1_turn_23 : decode cX1_turn 23 = .ok (.laload, 1) := dk_47 (dk_at dksX1_turn_0 23 rfl rfl)
theorem dX1_turn_24 : decode cX1_turn 24 = .ok (.lstore_n 3, 1) := dk_66 (dk_at dksX1_turn_1 0 rfl rfl)
theorem dX1_turn_25 : decode cX1_turn 25 = .ok (.aload_n 0, 1) := dk_42 (dk_at dksX1_turn_1 1 rfl rfl)
theorem dX1_turn_26 : decode cX1_turn 26 = .ok (.getfield 19, 3) := dk_180 0 19 (dk_at dksX1_turn_1 2 rfl rfl)
theorem dX1_turn_29 : decode cX1_turn 29 = .ok (.iconst 3, 1) := dk_6 (dk_at dksX1_turn_1 5 rfl rfl)
theorem dX1_turn_30 : decode cX1_turn 30 = .ok (.iload_n 1, 1) := dk_27 (dk_at dksX1_turn_1 6 rfl rfl)
theorem dX1_turn_31 : decode cX1_turn 31 = .ok (.imul, 1) := dk_104 (dk_at dksX1_turn_1 7 rfl rfl)
theorem dX1_turn_32 : decode cX1_turn 32 = .ok (.iload_n 2, 1) := dk_28 (dk_at dksX1_turn_1 8 rfl rfl)
theorem dX1_turn_33 : decode cX1_turn 33 = .ok (.iadd, 1) := dk_96 (dk_at dksX1_turn_1 9 rfl rfl)
theorem dX1_turn_34 : decode cX1_turn 34 = .ok (.aload_n 0, 1) := dk_42 (dk_at dksX1_turn_1 10 rfl rfl)
theorem dX1_turn_35 : decode cX1_turn 35 = .ok (.getfield 19, 3) := dk_180 0 19 (dk_at dksX1_turn_1 11 rfl rfl)
theorem dX1_turn_38 : decode cX1_turn 38 = .ok (.iconst 3, 1) := dk_6 (dk_at dksX1_turn_1 14 rfl rfl)
theorem dX1_turn_39 : decode cX1_turn 39 = .ok (.iload_n 1, 1) := dk_27 (dk_at dksX1_turn_1 15 rfl rfl)
theorem dX1_turn_40 : decode cX1_turn 40 = .ok (.imul, 1) := dk_104 (dk_at dksX1_turn_1 16 rfl rfl)
theorem dX1_turn_41 : decode cX1_turn 41 = .ok (.aload_n 0, 1) := dk_42 (dk_at dksX1_turn_1 17 rfl rfl)
theorem dX1_turn_42 : decode cX1_turn 42 = .ok (.getfield 13, 3) := dk_180 0 13 (dk_at dksX1_turn_1 18 rfl rfl)
theorem dX1_turn_45 : decode cX1_turn 45 = .ok (.iload_n 1, 1) := dk_27 (dk_at dksX1_turn_1 21 rfl rfl)
theorem dX1_turn_46 : decode cX1_turn 46 = .ok (.iaload, 1) := dk_46 (dk_at dksX1_turn_1 22 rfl rfl)
theorem dX1_turn_47 : decode cX1_turn 47 = .ok (.iadd, 1) := dk_96 (dk_at dksX1_turn_1 23 rfl rfl)
theorem dX1_turn_48 : decode cX1_turn 48 = .ok (.iconst 1, 1) := dk_4 (dk_at dksX1_turn_2 0 rfl rfl)
theorem dX1_turn_49 : decode cX1_turn 49 = .ok (.isub, 1) := dk_100 (dk_at dksX1_turn_2 1 rfl rfl)
theorem dX1_turn_50 : decode cX1_turn 50 = .ok (.iload_n 2, 1) := dk_28 (dk_at dksX1_turn_2 2 rfl rfl)
theorem dX1_turn_51 : decode cX1_turn 51 = .ok (.isub, 1) := dk_100 (dk_at dksX1_turn_2 3 rfl rfl)
theorem dX1_turn_52 : decode cX1_turn 52 = .ok (.laload, 1) := dk_47 (dk_at dksX1_turn_2 4 rfl rfl)
theorem dX1_turn_53 : decode cX1_turn 53 = .ok (.lastore, 1) := dk_80 (dk_at dksX1_turn_2 5 rfl rfl)
theorem dX1_turn_54 : decode cX1_turn 54 = .ok (.aload_n 0, 1) := dk_42 (dk_at dksX1_turn_2 6 rfl rfl)
theorem dX1_turn_55 : decode cX1_turn 55 = .ok (.getfield 19, 3) := dk_180 0 19 (dk_at dksX1_turn_2 7 rfl rfl)
theorem dX1_turn_58 : decode cX1_turn 58 = .ok (.iconst 3, 1) := dk_6 (dk_at dksX1_turn_2 10 rfl rfl)
theorem dX1_turn_59 : decode cX1_turn 59 = .ok (.iload_n 1, 1) := dk_27 (dk_at dksX1_turn_2 11 rfl rfl)
theorem dX1_turn_60 : decode cX1_turn 60 = .ok (.imul, 1) := dk_104 (dk_at dksX1_turn_2 12 rfl rfl)
theorem dX1_turn_61 : decode cX1_turn 61 = .ok (.aload_n 0, 1) := dk_42 (dk_at dksX1_turn_2 13 rfl rfl)
theorem dX1_turn_62 : decode cX1_turn 62 = .ok (.getfield 13, 3) := dk_180 0 13 (dk_at dksX1_turn_2 14 rfl rfl)
theorem dX1_turn_65 : decode cX1_turn 65 = .ok (.iload_n 1, 1) := dk_27 (dk_at dksX1_turn_2 17 rfl rfl)
theorem dX1_turn_66 : decode cX1_turn 66 = .ok (.iaload, 1) := dk_46 (dk_at dksX1_turn_2 18 rfl rfl)
theorem dX1_turn_67 : decode cX1_turn 67 = .ok (.iadd, 1) := dk_96 (dk_at dksX1_turn_2 19 rfl rfl)
theorem dX1_turn_68 : decode cX1_turn 68 = .ok (.iconst 1, 1) := dk_4 (dk_at dksX1_turn_2 20 rfl rfl)
theorem dX1_turn_69 : decode cX1_turn 69 = .ok (.isub, 1) := dk_100 (dk_at dksX1_turn_2 21 rfl rfl)
theorem dX1_turn_70 : decode cX1_turn 70 = .ok (.iload_n 2, 1) := dk_28 (dk_at dksX1_turn_2 22 rfl rfl)
theorem dX1_turn_71 : decode cX1_turn 71 = .ok (.isub, 1) := dk_100 (dk_at dksX1_turn_2 23 rfl rfl)
theorem dX1_turn_72 : decode cX1_turn 72 = .ok (.lload_n 3, 1) := dk_33 (dk_at dksX1_turn_3 0 rfl rfl)
theorem dX1_turn_73 : decode cX1_turn 73 = .ok (.lastore, 1) := dk_80 (dk_at dksX1_turn_3 1 rfl rfl)
theorem dX1_turn_74 : decode cX1_turn 74 = .ok (.iinc 2 1, 3) := dk_132 2 1 (dk_at dksX1_turn_3 2 rfl rfl)
theorem dX1_turn_77 : decode cX1_turn 77 = .ok (.goto (-75), 3) := dk_167 255 181 (dk_at dksX1_turn_3 5 rfl rfl)
theorem dX1_turn_80 : decode cX1_turn 80 = .ok (.return_, 1) := dk_177 (dk_at dksX1_turn_3 8 rfl rfl)
abbrev cX1_stampAll : ByteArray := prog_9_method_27_code
def yX1_stampAll : MethodName := ⟨RX1, "stampAll", "(I)V"⟩
def dkwX1_stampAll_2 : List UInt8 := [180, 0, 19, 6, 27, 104, 28, 96, 47, 136, 182, 0, 142, 132, 2, 1, 167, 255, 211, 177]
abbrev dktX1_stampAll_2 : List UInt8 := dkwX1_stampAll_2 ++ []
def dkwX1_stampAll_1 : List UInt8 := [27, 46, 162, 0, 41, 42, 180, 0, 19, 6, 27, 104, 28, 96, 47, 20, 0, 100, 148, 153, 0, 18, 42, 42]
abbrev dktX1_stampAll_1 : List UInt8 := dkwX1_stampAll_1 ++ dktX1_stampAll_2
def dkwX1_stampAll_0 : List UInt8 := [42, 180, 0, 7, 27, 46, 16, 11, 162, 0, 9, 42, 27, 182, 0, 142, 177, 3, 61, 28, 42, 180, 0, 13]
abbrev dktX1_stampAll_0 : List UInt8 := dkwX1_stampAll_0 ++ dktX1_stampAll_1
theorem dksX1_stampAll_0 : cX1_stampAll.data.toList.drop 0 = dktX1_stampAll_0 := by decide +kernel
theorem dksX1_stampAll_1 : cX1_stampAll.data.toList.drop 24 = dktX1_stampAll_1 := dk_seg dksX1_stampAll_0 24 rfl rfl
theorem dksX1_stampAll_2 : cX1_stampAll.data.toList.drop 48 = dktX1_stampAll_2 := dk_seg dksX1_stampAll_1 24 rfl rfl
theorem dX1_stampAll_0 : decode cX1_stampAll 0 = .ok (.aload_n 0, 1) := dk_42 (dk_at dksX1_stampAll_0 0 rfl rfl)
theorem dX1_stampAll_1 : decode cX1_stampAll 1 = .ok (.getfield 7, 3) := dk_180 0 7 (dk_at dksX1_stampAll_0 1 rfl rfl)
theorem dX1_stampAll_4 : decode cX1_stampAll 4 = .ok (.iload_n 1, 1) := dk_27 (dk_at dksX1_stampAll_0 4 rfl rfl)
theorem dX1_stampAll_5 : decode cX1_stampAll 5 = .ok (.iaload, 1) := dk_46 (dk_at dksX1_stampAll_0 5 rfl rfl)
theorem dX1_stampAll_6 : decode cX1_stampAll 6 = .ok (.bipush 11, 2) := dk_16 11 (dk_at dksX1_stampAll_0 6 rfl rfl)
theorem dX1_stampAll_8 : decode cX1_stampAll 8 = .ok (.if_icmp .ge 9, 3) := dk_162 0 9 (dk_at dksX1_stampAll_0 8 rfl rfl)
theorem dX1_stampAll_11 : decode cX1_stampAll 11 = .ok (.aload_n 0, 1) := dk_42 (dk_at dksX1_stampAll_0 11 rfl rfl)
theorem dX1_stampAll_12 : decode cX1_stampAll 12 = .ok (.iload_n 1, 1) := dk_27 (dk_at dksX1_stampAll_0 12 rfl rfl)
theorem dX1_stampAll_13 : decode cX1_stampAll 13 = .ok (.invokevirtual 142, 3) := dk_182 0 142 (dk_at dksX1_stampAll_0 13 rfl rfl)
theorem dX1_stampAll_16 : decode cX1_stampAll 16 = .ok (.return_, 1) := dk_177 (dk_at dksX1_stampAll_0 16 rfl rfl)
theorem dX1_stampAll_17 : decode cX1_stampAll 17 = .ok (.iconst 0, 1) := dk_3 (dk_at dksX1_stampAll_0 17 rfl rfl)
theorem dX1_stampAll_18 : decode cX1_stampAll 18 = .ok (.istore_n 2, 1) := dk_61 (dk_at dksX1_stampAll_0 18 rfl rfl)
theorem dX1_stampAll_19 : decode cX1_stampAll 19 = .ok (.iload_n 2, 1) := dk_28 (dk_at dksX1_stampAll_0 19 rfl rfl)
theorem dX1_stampAll_20 : decode cX1_stampAll 20 = .ok (.aload_n 0, 1) := dk_42 (dk_at dksX1_stampAll_0 20 rfl rfl)
theorem dX1_stampAll_21 : decode cX1_stampAll 21 = .ok (.getfield 13, 3) := dk_180 0 13 (dk_at dksX1_stampAll_0 21 rfl rfl)
theorem dX1_stampAll_24 : decode cX1_stampAll 24 = .ok (.iload_n 1, 1) := dk_27 (dk_at dksX1_stampAll_1 0 rfl rfl)
theorem dX1_stampAll_25 : decode cX1_stampAll 25 = .ok (.iaload, 1) := dk_46 (dk_at dksX1_stampAll_1 1 rfl rfl)
theorem dX1_stampAll_26 : decode cX1_stampAll 26 = .ok (.if_icmp .ge 41, 3) := dk_162 0 41 (dk_at dksX1_stampAll_1 2 rfl rfl)
theorem dX1_stampAll_29 : decode cX1_stampAll 29 = .ok (.aload_n 0, 1) := dk_42 (dk_at dksX1_stampAll_1 5 rfl rfl)
theorem dX1_stampAll_30 : decode cX1_stampAll 30 = .ok (.getfield 19, 3) := dk_180 0 19 (dk_at dksX1_stampAll_1 6 rfl rfl)
theorem dX1_stampAll_33 : decode cX1_stampAll 33 = .ok (.iconst 3, 1) := dk_6 (dk_at dksX1_stampAll_1 9 rfl rfl)
theorem dX1_stampAll_34 : decode cX1_stampAll 34 = .ok (.iload_n 1, 1) := dk_27 (dk_at dksX1_stampAll_1 10 rfl rfl)
theorem dX1_stampAll_35 : decode cX1_stampAll 35 = .ok (.imul, 1) := dk_104 (dk_at dksX1_stampAll_1 11 rfl rfl)
theorem dX1_stampAll_36 : decode cX1_stampAll 36 = .ok (.iload_n 2, 1) := dk_28 (dk_at dksX1_stampAll_1 12 rfl rfl)
theorem dX1_stampAll_37 : decode cX1_stampAll 37 = .ok (.iadd, 1) := dk_96 (dk_at dksX1_stampAll_1 13 rfl rfl)
theorem dX1_stampAll_38 : decode cX1_stampAll 38 = .ok (.laload, 1) := dk_47 (dk_at dksX1_stampAll_1 14 rfl rfl)
theorem dX1_stampAll_39 : decode cX1_stampAll 39 = .ok (.ldc2_w 100, 3) := dk_20 0 100 (dk_at dksX1_stampAll_1 15 rfl rfl)
theorem dX1_stampAll_42 : decode cX1_stampAll 42 = .ok (.lcmp, 1) := dk_148 (dk_at dksX1_stampAll_1 18 rfl rfl)
theorem dX1_stampAll_43 : decode cX1_stampAll 43 = .ok (.ifCond .eq 18, 3) := dk_153 0 18 (dk_at dksX1_stampAll_1 19 rfl rfl)
theorem dX1_stampAll_46 : decode cX1_stampAll 46 = .ok (.aload_n 0, 1) := dk_42 (dk_at dksX1_stampAll_1 22 rfl rfl)
theorem dX1_stampAll_47 : decode cX1_stampAll 47 = .ok (.aload_n 0, 1) := dk_42 (dk_at dksX1_stampAll_1 23 rfl rfl)
theorem dX1_stampAll_48 : decode cX1_stampAll 48 = .ok (.getfield 19, 3) := dk_180 0 19 (dk_at dksX1_stampAll_2 0 rfl rfl)
theorem dX1_stampAll_51 : decode cX1_stampAll 51 = .ok (.iconst 3, 1) := dk_6 (dk_at dksX1_stampAll_2 3 rfl rfl)
theorem dX1_stampAll_52 : decode cX1_stampAll 52 = .ok (.iload_n 1, 1) := dk_27 (dk_at dksX1_stampAll_2 4 rfl rfl)
theorem dX1_stampAll_53 : decode cX1_stampAll 53 = .ok (.imul, 1) := dk_104 (dk_at dksX1_stampAll_2 5 rfl rfl)
theorem dX1_stampAll_54 : decode cX1_stampAll 54 = .ok (.iload_n 2, 1) := dk_28 (dk_at dksX1_stampAll_2 6 rfl rfl)
theorem dX1_stampAll_55 : decode cX1_stampAll 55 = .ok (.iadd, 1) := dk_96 (dk_at dksX1_stampAll_2 7 rfl rfl)
theorem dX1_stampAll_56 : decode cX1_stampAll 56 = .ok (.laload, 1) := dk_47 (dk_at dksX1_stampAll_2 8 rfl rfl)
theorem dX1_stampAll_57 : decode cX1_stampAll 57 = .ok (.l2i, 1) := dk_136 (dk_at dksX1_stampAll_2 9 rfl rfl)
theorem dX1_stampAll_58 : decode cX1_stampAll 58 = .ok (.invokevirtual 142, 3) := dk_182 0 142 (dk_at dksX1_stampAll_2 10 rfl rfl)
theorem dX1_stampAll_61 : decode cX1_stampAll 61 = .ok (.iinc 2 1, 3) := dk_132 2 1 (dk_at dksX1_stampAll_2 13 rfl rfl)
theorem dX1_stampAll_64 : decode cX1_stampAll 64 = .ok (.goto (-45), 3) := dk_167 255 211 (dk_at dksX1_stampAll_2 16 rfl rfl)
theorem dX1_stampAll_67 : decode cX1_stampAll 67 = .ok (.return_, 1) := dk_177 (dk_at dksX1_stampAll_2 19 rfl rfl)
abbrev cX1_stampRow : ByteArray := prog_9_method_26_code
def yX1_stampRow : MethodName := ⟨RX1, "stampRow", "(I)V"⟩
def dkwX1_stampRow_2 : List UInt8 := [42, 180, 0, 19, 6, 27, 104, 28, 96, 47, 136, 182, 0, 138, 132, 2, 1, 167, 255, 199, 177]
abbrev dktX1_stampRow_2 : List UInt8 := dkwX1_stampRow_2 ++ []
def dkwX1_stampRow_1 : List UInt8 := [184, 0, 97, 153, 0, 41, 42, 180, 0, 19, 6, 27, 104, 28, 96, 47, 20, 0, 100, 148, 153, 0, 18, 42]
abbrev dktX1_stampRow_1 : List UInt8 := dkwX1_stampRow_1 ++ dktX1_stampRow_2
def dkwX1_stampRow_0 : List UInt8 := [42, 27, 182, 0, 138, 3, 61, 28, 42, 180, 0, 13, 27, 46, 162, 0, 53, 42, 180, 0, 7, 27, 46]
abbrev dktX1_stampRow_0 : List UInt8 := dkwX1_stampRow_0 ++ dktX1_stampRow_1
theorem dksX1_stampRow_0 : cX1_stampRow.data.toList.drop 0 = dktX1_stampRow_0 := by decide +kernel
theorem dksX1_stampRow_1 : cX1_stampRow.data.toList.drop 23 = dktX1_stampRow_1 := dk_seg dksX1_stampRow_0 23 rfl rfl
theorem dksX1_stampRow_2 : cX1_stampRow.data.toList.drop 47 = dktX1_stampRow_2 := dk_seg dksX1_stampRow_1 24 rfl rfl
theorem dX1_stampRow_0 : decode cX1_stampRow 0 = .ok (.aload_n 0, 1) := dk_42 (dk_at dksX1_stampRow_0 0 rfl rfl)
theorem dX1_stampRow_1 : decode cX1_stampRow 1 = .ok (.iload_n 1, 1) := dk_27 (dk_at dksX1_stampRow_0 1 rfl rfl)
theorem dX1_stampRow_2 : decode cX1_stampRow 2 = .ok (.invokevirtual 138, 3) := dk_182 0 138 (dk_at dksX1_stampRow_0 2 rfl rfl)
theorem dX1_stampRow_5 : decode cX1_stampRow 5 = .ok (.iconst 0, 1) := dk_3 (dk_at dksX1_stampRow_0 5 rfl rfl)
theorem dX1_stampRow_6 : decode cX1_stampRow 6 = .ok (.istore_n 2, 1) := dk_61 (dk_at dksX1_stampRow_0 6 rfl rfl)
theorem dX1_stampRow_7 : decode cX1_stampRow 7 = .ok (.iload_n 2, 1) := dk_28 (dk_at dksX1_stampRow_0 7 rfl rfl)
theorem dX1_stampRow_8 : decode cX1_stampRow 8 = .ok (.aload_n 0, 1) := dk_42 (dk_at dksX1_stampRow_0 8 rfl rfl)
theorem dX1_stampRow_9 : decode cX1_stampRow 9 = .ok (.getfield 13, 3) := dk_180 0 13 (dk_at dksX1_stampRow_0 9 rfl rfl)
theorem dX1_stampRow_12 : decode cX1_stampRow 12 = .ok (.iload_n 1, 1) := dk_27 (dk_at dksX1_stampRow_0 12 rfl rfl)
theorem dX1_stampRow_13 : decode cX1_stampRow 13 = .ok (.iaload, 1) := dk_46 (dk_at dksX1_stampRow_0 13 rfl rfl)
theorem dX1_stampRow_14 : decode cX1_stampRow 14 = .ok (.if_icmp .ge 53, 3) := dk_162 0 53 (dk_at dksX1_stampRow_0 14 rfl rfl)
theorem dX1_stampRow_17 : decode cX1_stampRow 17 = .ok (.aload_n 0, 1) := dk_42 (dk_at dksX1_stampRow_0 17 rfl rfl)
theorem dX1_stampRow_18 : decode cX1_stampRow 18 = .ok (.getfield 7, 3) := dk_180 0 7 (dk_at dksX1_stampRow_0 18 rfl rfl)
theorem dX1_stampRow_21 : decode cX1_stampRow 21 = .ok (.iload_n 1, 1) := dk_27 (dk_at dksX1_stampRow_0 21 rfl rfl)
theorem dX1_stampRow_22 : decode cX1_stampRow 22 = .ok (.iaload, 1) := dk_46 (dk_at dksX1_stampRow_0 22 rfl rfl)
theorem dX1_stampRow_23 : decode cX1_stampRow 23 = .ok (.invokestatic 97, 3) := dk_184 0 97 (dk_at dksX1_stampRow_1 0 rfl rfl)
theorem dX1_stampRow_26 : decode cX1_stampRow 26 = .ok (.ifCond .eq 41, 3) := dk_153 0 41 (dk_at dksX1_stampRow_1 3 rfl rfl)
theorem dX1_stampRow_29 : decode cX1_stampRow 29 = .ok (.aload_n 0, 1) := dk_42 (dk_at dksX1_stampRow_1 6 rfl rfl)
theorem dX1_stampRow_30 : decode cX1_stampRow 30 = .ok (.getfield 19, 3) := dk_180 0 19 (dk_at dksX1_stampRow_1 7 rfl rfl)
theorem dX1_stampRow_33 : decode cX1_stampRow 33 = .ok (.iconst 3, 1) := dk_6 (dk_at dksX1_stampRow_1 10 rfl rfl)
theorem dX1_stampRow_34 : decode cX1_stampRow 34 = .ok (.iload_n 1, 1) := dk_27 (dk_at dksX1_stampRow_1 11 rfl rfl)
theorem dX1_stampRow_35 : decode cX1_stampRow 35 = .ok (.imul, 1) := dk_104 (dk_at dksX1_stampRow_1 12 rfl rfl)
theorem dX1_stampRow_36 : decode cX1_stampRow 36 = .ok (.iload_n 2, 1) := dk_28 (dk_at dksX1_stampRow_1 13 rfl rfl)
theorem dX1_stampRow_37 : decode cX1_stampRow 37 = .ok (.iadd, 1) := dk_96 (dk_at dksX1_stampRow_1 14 rfl rfl)
theorem dX1_stampRow_38 : decode cX1_stampRow 38 = .ok (.laload, 1) := dk_47 (dk_at dksX1_stampRow_1 15 rfl rfl)
theorem dX1_stampRow_39 : decode cX1_stampRow 39 = .ok (.ldc2_w 100, 3) := dk_20 0 100 (dk_at dksX1_stampRow_1 16 rfl rfl)
theorem dX1_stampRow_42 : decode cX1_stampRow 42 = .ok (.lcmp, 1) := dk_148 (dk_at dksX1_stampRow_1 19 rfl rfl)
theorem dX1_stampRow_43 : decode cX1_stampRow 43 = .ok (.ifCond .eq 18, 3) := dk_153 0 18 (dk_at dksX1_stampRow_1 20 rfl rfl)
theorem dX1_stampRow_46 : decode cX1_stampRow 46 = .ok (.aload_n 0, 1) := dk_42 (dk_at dksX1_stampRow_1 23 rfl rfl)
theorem dX1_stampRow_47 : decode cX1_stampRow 47 = .ok (.aload_n 0, 1) := dk_42 (dk_at dksX1_stampRow_2 0 rfl rfl)
theorem dX1_stampRow_48 : decode cX1_stampRow 48 = .ok (.getfield 19, 3) := dk_180 0 19 (dk_at dksX1_stampRow_2 1 rfl rfl)
theorem dX1_stampRow_51 : decode cX1_stampRow 51 = .ok (.iconst 3, 1) := dk_6 (dk_at dksX1_stampRow_2 4 rfl rfl)
theorem dX1_stampRow_52 : decode cX1_stampRow 52 = .ok (.iload_n 1, 1) := dk_27 (dk_at dksX1_stampRow_2 5 rfl rfl)
theorem dX1_stampRow_53 : decode cX1_stampRow 53 = .ok (.imul, 1) := dk_104 (dk_at dksX1_stampRow_2 6 rfl rfl)
theorem dX1_stampRow_54 : decode cX1_stampRow 54 = .ok (.iload_n 2, 1) := dk_28 (dk_at dksX1_stampRow_2 7 rfl rfl)
theorem dX1_stampRow_55 : decode cX1_stampRow 55 = .ok (.iadd, 1) := dk_96 (dk_at dksX1_stampRow_2 8 rfl rfl)
theorem dX1_stampRow_56 : decode cX1_stampRow 56 = .ok (.laload, 1) := dk_47 (dk_at dksX1_stampRow_2 9 rfl rfl)
theorem dX1_stampRow_57 : decode cX1_stampRow 57 = .ok (.l2i, 1) := dk_136 (dk_at dksX1_stampRow_2 10 rfl rfl)
theorem dX1_stampRow_58 : decode cX1_stampRow 58 = .ok (.invokevirtual 138, 3) := dk_182 0 138 (dk_at dksX1_stampRow_2 11 rfl rfl)
theorem dX1_stampRow_61 : decode cX1_stampRow 61 = .ok (.iinc 2 1, 3) := dk_132 2 1 (dk_at dksX1_stampRow_2 14 rfl rfl)
theorem dX1_stampRow_64 : decode cX1_stampRow 64 = .ok (.goto (-57), 3) := dk_167 255 199 (dk_at dksX1_stampRow_2 17 rfl rfl)
theorem dX1_stampRow_67 : decode cX1_stampRow 67 = .ok (.return_, 1) := dk_177 (dk_at dksX1_stampRow_2 20 rfl rfl)
abbrev cX1_stampLow : ByteArray := prog_9_method_25_code
def yX1_stampLow : MethodName := ⟨RX1, "stampLow", "(I)V"⟩
def dkwX1_stampLow_5 : List UInt8 := [132, 2, 1, 167, 255, 182, 177]
abbrev dktX1_stampLow_5 : List UInt8 := dkwX1_stampLow_5 ++ []
def dkwX1_stampLow_4 : List UInt8 := [160, 0, 9, 10, 33, 101, 167, 0, 15, 42, 180, 0, 7, 27, 46, 33, 10, 97, 184, 0, 114, 80]
abbrev dktX1_stampLow_4 : List UInt8 := dkwX1_stampLow_4 ++ dktX1_stampLow_5
def dkwX1_stampLow_3 : List UInt8 := [6, 27, 104, 28, 96, 47, 66, 42, 180, 0, 19, 6, 27, 104, 28, 96, 42, 180, 0, 7, 27, 46, 6]
abbrev dktX1_stampLow_3 : List UInt8 := dkwX1_stampLow_3 ++ dktX1_stampLow_4
def dkwX1_stampLow_2 : List UInt8 := [180, 0, 13, 27, 46, 162, 0, 70, 42, 180, 0, 7, 27, 46, 184, 0, 107, 153, 0, 58, 42, 180, 0, 19]
abbrev dktX1_stampLow_2 : List UInt8 := dkwX1_stampLow_2 ++ dktX1_stampLow_3
def dkwX1_stampLow_1 : List UInt8 := [180, 0, 7, 27, 46, 184, 0, 89, 153, 0, 7, 4, 167, 0, 4, 3, 96, 79, 3, 61, 28, 42]
abbrev dktX1_stampLow_1 : List UInt8 := dkwX1_stampLow_1 ++ dktX1_stampLow_2
def dkwX1_stampLow_0 : List UInt8 := [42, 180, 0, 16, 27, 92, 46, 42, 180, 0, 7, 27, 46, 16, 6, 160, 0, 7, 5, 167, 0, 20, 42]
abbrev dktX1_stampLow_0 : List UInt8 := dkwX1_stampLow_0 ++ dktX1_stampLow_1
theorem dksX1_stampLow_0 : cX1_stampLow.data.toList.drop 0 = dktX1_stampLow_0 := by decide +kernel
theorem dksX1_stampLow_1 : cX1_stampLow.data.toList.drop 23 = dktX1_stampLow_1 := dk_seg dksX1_stampLow_0 23 rfl rfl
theorem dksX1_stampLow_2 : cX1_stampLow.data.toList.drop 45 = dktX1_stampLow_2 := dk_seg dksX1_stampLow_1 22 rfl rfl
theorem dksX1_stampLow_3 : cX1_stampLow.data.toList.drop 69 = dktX1_stampLow_3 := dk_seg dksX1_stampLow_2 24 rfl rfl
theorem dksX1_stampLow_4 : cX1_stampLow.data.toList.drop 92 = dktX1_stampLow_4 := dk_seg dksX1_stampLow_3 23 rfl rfl
theorem dksX1_stampLow_5 : cX1_stampLow.data.toList.drop 114 = dktX1_stampLow_5 := dk_seg dksX1_stampLow_4 22 rfl rfl
theorem dX1_stampLow_0 : decode cX1_stampLow 0 = .ok (.aload_n 0, 1) := dk_42 (dk_at dksX1_stampLow_0 0 rfl rfl)
theorem dX1_stampLow_1 : decode cX1_stampLow 1 = .ok (.getfield 16, 3) := dk_180 0 16 (dk_at dksX1_stampLow_0 1 rfl rfl)
theorem dX1_stampLow_4 : decode cX1_stampLow 4 = .ok (.iload_n 1, 1) := dk_27 (dk_at dksX1_stampLow_0 4 rfl rfl)
theorem dX1_stampLow_5 : decode cX1_stampLow 5 = .ok (.dup2, 1) := dk_92 (dk_at dksX1_stampLow_0 5 rfl rfl)
theorem dX1_stampLow_6 : decode cX1_stampLow 6 = .ok (.iaload, 1) := dk_46 (dk_at dksX1_stampLow_0 6 rfl rfl)
theorem dX1_stampLow_7 : decode cX1_stampLow 7 = .ok (.aload_n 0, 1) := dk_42 (dk_at dksX1_stampLow_0 7 rfl rfl)
theorem dX1_stampLow_8 : decode cX1_stampLow 8 = .ok (.getfield 7, 3) := dk_180 0 7 (dk_at dksX1_stampLow_0 8 rfl rfl)
theorem dX1_stampLow_11 : decode cX1_stampLow 11 = .ok (.iload_n 1, 1) := dk_27 (dk_at dksX1_stampLow_0 11 rfl rfl)
theorem dX1_stampLow_12 : decode cX1_stampLow 12 = .ok (.iaload, 1) := dk_46 (dk_at dksX1_stampLow_0 12 rfl rfl)
theorem dX1_stampLow_13 : decode cX1_stampLow 13 = .ok (.bipush 6, 2) := dk_16 6 (dk_at dksX1_stampLow_0 13 rfl rfl)
theorem dX1_stampLow_15 : decode cX1_stampLow 15 = .ok (.if_icmp .ne 7, 3) := dk_160 0 7 (dk_at dksX1_stampLow_0 15 rfl rfl)
theorem dX1_stampLow_18 : decode cX1_stampLow 18 = .ok (.iconst 2, 1) := dk_5 (dk_at dksX1_stampLow_0 18 rfl rfl)
theorem dX1_stampLow_19 : decode cX1_stampLow 19 = .ok (.goto 20, 3) := dk_167 0 20 (dk_at dksX1_stampLow_0 19 rfl rfl)
theorem dX1_stampLow_22 : decode cX1_stampLow 22 = .ok (.aload_n 0, 1) := dk_42 (dk_at dksX1_stampLow_0 22 rfl rfl)
theorem dX1_stampLow_23 : decode cX1_stampLow 23 = .ok (.getfield 7, 3) := dk_180 0 7 (dk_at dksX1_stampLow_1 0 rfl rfl)
theorem dX1_stampLow_26 : decode cX1_stampLow 26 = .ok (.iload_n 1, 1) := dk_27 (dk_at dksX1_stampLow_1 3 rfl rfl)
theorem dX1_stampLow_27 : decode cX1_stampLow 27 = .ok (.iaload, 1) := dk_46 (dk_at dksX1_stampLow_1 4 rfl rfl)
theorem dX1_stampLow_28 : decode cX1_stampLow 28 = .ok (.invokestatic 89, 3) := dk_184 0 89 (dk_at dksX1_stampLow_1 5 rfl rfl)
theorem dX1_stampLow_31 : decode cX1_stampLow 31 = .ok (.ifCond .eq 7, 3) := dk_153 0 7 (dk_at dksX1_stampLow_1 8 rfl rfl)
theorem dX1_stampLow_34 : decode cX1_stampLow 34 = .ok (.iconst 1, 1) := dk_4 (dk_at dksX1_stampLow_1 11 rfl rfl)
theorem dX1_stampLow_35 : decode cX1_stampLow 35 = .ok (.goto 4, 3) := dk_167 0 4 (dk_at dksX1_stampLow_1 12 rfl rfl)
theorem dX1_stampLow_38 : decode cX1_stampLow 38 = .ok (.iconst 0, 1) := dk_3 (dk_at dksX1_stampLow_1 15 rfl rfl)
theorem dX1_stampLow_39 : decode cX1_stampLow 39 = .ok (.iadd, 1) := dk_96 (dk_at dksX1_stampLow_1 16 rfl rfl)
theorem dX1_stampLow_40 : decode cX1_stampLow 40 = .ok (.iastore, 1) := dk_79 (dk_at dksX1_stampLow_1 17 rfl rfl)
theorem dX1_stampLow_41 : decode cX1_stampLow 41 = .ok (.iconst 0, 1) := dk_3 (dk_at dksX1_stampLow_1 18 rfl rfl)
theorem dX1_stampLow_42 : decode cX1_stampLow 42 = .ok (.istore_n 2, 1) := dk_61 (dk_at dksX1_stampLow_1 19 rfl rfl)
theorem dX1_stampLow_43 : decode cX1_stampLow 43 = .ok (.iload_n 2, 1) := dk_28 (dk_at dksX1_stampLow_1 20 rfl rfl)
theorem dX1_stampLow_44 : decode cX1_stampLow 44 = .ok (.aload_n 0, 1) := dk_42 (dk_at dksX1_stampLow_1 21 rfl rfl)
theorem dX1_stampLow_45 : decode cX1_stampLow 45 = .ok (.getfield 13, 3) := dk_180 0 13 (dk_at dksX1_stampLow_2 0 rfl rfl)
theorem dX1_stampLow_48 : decode cX1_stampLow 48 = .ok (.iload_n 1, 1) := dk_27 (dk_at dksX1_stampLow_2 3 rfl rfl)
theorem dX1_stampLow_49 : decode cX1_stampLow 49 = .ok (.iaload, 1) := dk_46 (dk_at dksX1_stampLow_2 4 rfl rfl)
theorem dX1_stampLow_50 : decode cX1_stampLow 50 = .ok (.if_icmp .ge 70, 3) := dk_162 0 70 (dk_at dksX1_stampLow_2 5 rfl rfl)
theorem dX1_stampLow_53 : decode cX1_stampLow 53 = .ok (.aload_n 0, 1) := dk_42 (dk_at dksX1_stampLow_2 8 rfl rfl)
theorem dX1_stampLow_54 : decode cX1_stampLow 54 = .ok (.getfield 7, 3) := dk_180 0 7 (dk_at dksX1_stampLow_2 9 rfl rfl)
theorem dX1_stampLow_57 : decode cX1_stampLow 57 = .ok (.iload_n 1, 1) := dk_27 (dk_at dksX1_stampLow_2 12 rfl rfl)
theorem dX1_stampLow_58 : decode cX1_stampLow 58 = .ok (.iaload, 1) := dk_46 (dk_at dksX1_stampLow_2 13 rfl rfl)
theorem dX1_stampLow_59 : decode cX1_stampLow 59 = .ok (.invokestatic 107, 3) := dk_184 0 107 (dk_at dksX1_stampLow_2 14 rfl rfl)
theorem dX1_stampLow_62 : decode cX1_stampLow 62 = .ok (.ifCond .eq 58, 3) := dk_153 0 58 (dk_at dksX1_stampLow_2 17 rfl rfl)
theorem dX1_stampLow_65 : decode cX1_stampLow 65 = .ok (.aload_n 0, 1) := dk_42 (dk_at dksX1_stampLow_2 20 rfl rfl)
theorem dX1_stampLow_66 : decode cX1_stampLow 66 = .ok (.getfield 19, 3) := dk_180 0 19 (dk_at dksX1_stampLow_2 21 rfl rfl)
theorem dX1_stampLow_69 : decode cX1_stampLow 69 = .ok (.iconst 3, 1) := dk_6 (dk_at dksX1_stampLow_3 0 rfl rfl)
theorem dX1_stampLow_70 : decode cX1_stampLow 70 = .ok (.iload_n 1, 1) := dk_27 (dk_at dksX1_stampLow_3 1 rfl rfl)
theorem dX1_stampLow_71 : decode cX1_stampLow 71 = .ok (.imul, 1) := dk_104 (dk_at dksX1_stampLow_3 2 rfl rfl)
theorem dX1_stampLow_72 : decode cX1_stampLow 72 = .ok (.iload_n 2, 1) := dk_28 (dk_at dksX1_stampLow_3 3 rfl rfl)
theorem dX1_stampLow_73 : decode cX1_stampLow 73 = .ok (.iadd, 1) := dk_96 (dk_at dksX1_stampLow_3 4 rfl rfl)
theorem dX1_stampLow_74 : decode cX1_stampLow 74 = .ok (.laload, 1) := dk_47 (dk_at dksX1_stampLow_3 5 rfl rfl)
theorem dX1_stampLow_75 : decode cX1_stampLow 75 = .ok (.lstore_n 3, 1) := dk_66 (dk_at dksX1_stampLow_3 6 rfl rfl)
theorem dX1_stampLow_76 : decode cX1_stampLow 76 = .ok (.aload_n 0, 1) := dk_42 (dk_at dksX1_stampLow_3 7 rfl rfl)
theorem dX1_stampLow_77 : decode cX1_stampLow 77 = .ok (.getfield 19, 3) := dk_180 0 19 (dk_at dksX1_stampLow_3 8 rfl rfl)
theorem dX1_stampLow_80 : decode cX1_stampLow 80 = .ok (.iconst 3, 1) := dk_6 (dk_at dksX1_stampLow_3 11 rfl rfl)
theorem dX1_stampLow_81 : decode cX1_stampLow 81 = .ok (.iload_n 1, 1) := dk_27 (dk_at dksX1_stampLow_3 12 rfl rfl)
theorem dX1_stampLow_82 : decode cX1_stampLow 82 = .ok (.imul, 1) := dk_104 (dk_at dksX1_stampLow_3 13 rfl rfl)
theorem dX1_stampLow_83 : decode cX1_stampLow 83 = .ok (.iload_n 2, 1) := dk_28 (dk_at dksX1_stampLow_3 14 rfl rfl)
theorem dX1_stampLow_84 : decode cX1_stampLow 84 = .ok (.iadd, 1) := dk_96 (dk_at dksX1_stampLow_3 15 rfl rfl)
theorem dX1_stampLow_85 : decode cX1_stampLow 85 = .ok (.aload_n 0, 1) := dk_42 (dk_at dksX1_stampLow_3 16 rfl rfl)
theorem dX1_stampLow_86 : decode cX1_stampLow 86 = .ok (.getfield 7, 3) := dk_180 0 7 (dk_at dksX1_stampLow_3 17 rfl rfl)
theorem dX1_stampLow_89 : decode cX1_stampLow 89 = .ok (.iload_n 1, 1) := dk_27 (dk_at dksX1_stampLow_3 20 rfl rfl)
theorem dX1_stampLow_90 : decode cX1_stampLow 90 = .ok (.iaload, 1) := dk_46 (dk_at dksX1_stampLow_3 21 rfl rfl)
theorem dX1_stampLow_91 : decode cX1_stampLow 91 = .ok (.iconst 3, 1) := dk_6 (dk_at dksX1_stampLow_3 22 rfl rfl)
theorem dX1_stampLow_92 : decode cX1_stampLow 92 = .ok (.if_icmp .ne 9, 3) := dk_160 0 9 (dk_at dksX1_stampLow_4 0 rfl rfl)
theorem dX1_stampLow_95 : decode cX1_stampLow 95 = .ok (.lconst 1, 1) := dk_10 (dk_at dksX1_stampLow_4 3 rfl rfl)
theorem dX1_stampLow_96 : decode cX1_stampLow 96 = .ok (.lload_n 3, 1) := dk_33 (dk_at dksX1_stampLow_4 4 rfl rfl)
theorem dX1_stampLow_97 : decode cX1_stampLow 97 = .ok (.lsub, 1) := dk_101 (dk_at dksX1_stampLow_4 5 rfl rfl)
theorem dX1_stampLow_98 : decode cX1_stampLow 98 = .ok (.goto 15, 3) := dk_167 0 15 (dk_at dksX1_stampLow_4 6 rfl rfl)
theorem dX1_stampLow_101 : decode cX1_stampLow 101 = .ok (.aload_n 0, 1) := dk_42 (dk_at dksX1_stampLow_4 9 rfl rfl)
theorem dX1_stampLow_102 : decode cX1_stampLow 102 = .ok (.getfield 7, 3) := dk_180 0 7 (dk_at dksX1_stampLow_4 10 rfl rfl)
theorem dX1_stampLow_105 : decode cX1_stampLow 105 = .ok (.iload_n 1, 1) := dk_27 (dk_at dksX1_stampLow_4 13 rfl rfl)
theorem dX1_stampLow_106 : decode cX1_stampLow 106 = .ok (.iaload, 1) := dk_46 (dk_at dksX1_stampLow_4 14 rfl rfl)
theorem dX1_stampLow_107 : decode cX1_stampLow 107 = .ok (.lload_n 3, 1) := dk_33 (dk_at dksX1_stampLow_4 15 rfl rfl)
theorem dX1_stampLow_108 : decode cX1_stampLow 108 = .ok (.lconst 1, 1) := dk_10 (dk_at dksX1_stampLow_4 16 rfl rfl)
theorem dX1_stampLow_109 : decode cX1_stampLow 109 = .ok (.ladd, 1) := dk_97 (dk_at dksX1_stampLow_4 17 rfl rfl)
theorem dX1_stampLow_110 : decode cX1_stampLow 110 = .ok (.invokestatic 114, 3) := dk_184 0 114 (dk_at dksX1_stampLow_4 18 rfl rfl)
theorem dX1_stampLow_113 : decode cX1_stampLow 113 = .ok (.lastore, 1) := dk_80 (dk_at dksX1_stampLow_4 21 rfl rfl)
theorem dX1_stampLow_114 : decode cX1_stampLow 114 = .ok (.iinc 2 1, 3) := dk_132 2 1 (dk_at dksX1_stampLow_5 0 rfl rfl)
theorem dX1_stampLow_117 : decode cX1_stampLow 117 = .ok (.goto (-74), 3) := dk_167 255 182 (dk_at dksX1_stampLow_5 3 rfl rfl)
theorem dX1_stampLow_120 : decode cX1_stampLow 120 = .ok (.return_, 1) := dk_177 (dk_at dksX1_stampLow_5 6 rfl rfl)
abbrev cX1_out : ByteArray := prog_9_method_34_code
def yX1_out : MethodName := ⟨RX1, "out", "()I"⟩
theorem dX1_out_0 : decode cX1_out 0 = .ok (.aload_n 0, 1) := by decide +kernel
theorem dX1_out_1 : decode cX1_out 1 = .ok (.getfield 54, 3) := by decide +kernel
theorem dX1_out_4 : decode cX1_out 4 = .ok (.ireturn, 1) := by decide +kernel
abbrev cX1_told : ByteArray := prog_9_method_35_code
def yX1_told : MethodName := ⟨RX1, "told", "(III)I"⟩
def dkwX1_told_4 : List UInt8 := [42, 180, 0, 45, 21, 4, 46, 172, 42, 180, 0, 48, 21, 4, 46, 172, 16, 254, 172]
abbrev dktX1_told_4 : List UInt8 := dkwX1_told_4 ++ []
def dkwX1_told_3 : List UInt8 := [42, 180, 0, 36, 21, 4, 46, 172, 42, 180, 0, 39, 21, 4, 46, 172, 42, 180, 0, 42, 21, 4, 46, 172]
abbrev dktX1_told_3 : List UInt8 := dkwX1_told_3 ++ dktX1_told_4
def dkwX1_told_2 : List UInt8 := [170, 0, 0, 0, 0, 74, 0, 0, 0, 0, 0, 0, 0, 4, 0, 0, 0, 34, 0, 0, 0, 42, 0, 0, 0, 50, 0, 0, 0, 58, 0, 0, 0, 66]
abbrev dktX1_told_2 : List UInt8 := dkwX1_told_2 ++ dktX1_told_3
def dkwX1_told_1 : List UInt8 := [16, 254, 172, 7, 27, 104, 28, 96, 54, 4, 29]
abbrev dktX1_told_1 : List UInt8 := dkwX1_told_1 ++ dktX1_told_2
def dkwX1_told_0 : List UInt8 := [27, 184, 0, 131, 153, 0, 19, 28, 3, 42, 180, 0, 23, 27, 46, 4, 100, 184, 0, 73, 154, 0, 6]
abbrev dktX1_told_0 : List UInt8 := dkwX1_told_0 ++ dktX1_told_1
theorem dksX1_told_0 : cX1_told.data.toList.drop 0 = dktX1_told_0 := by decide +kernel
theorem dksX1_told_1 : cX1_told.data.toList.drop 23 = dktX1_told_1 := dk_seg dksX1_told_0 23 rfl rfl
theorem dksX1_told_2 : cX1_told.data.toList.drop 34 = dktX1_told_2 := dk_seg dksX1_told_1 11 rfl rfl
theorem dksX1_told_3 : cX1_told.data.toList.drop 68 = dktX1_told_3 := dk_seg dksX1_told_2 34 rfl rfl
theorem dksX1_told_4 : cX1_told.data.toList.drop 92 = dktX1_told_4 := dk_seg dksX1_told_3 24 rfl rfl
theorem dX1_told_0 : decode cX1_told 0 = .ok (.iload_n 1, 1) := dk_27 (dk_at dksX1_told_0 0 rfl rfl)
theorem dX1_told_1 : decode cX1_told 1 = .ok (.invokestatic 131, 3) := dk_184 0 131 (dk_at dksX1_told_0 1 rfl rfl)
theorem dX1_told_4 : decode cX1_told 4 = .ok (.ifCond .eq 19, 3) := dk_153 0 19 (dk_at dksX1_told_0 4 rfl rfl)
theorem dX1_told_7 : decode cX1_told 7 = .ok (.iload_n 2, 1) := dk_28 (dk_at dksX1_told_0 7 rfl rfl)
theorem dX1_told_8 : decode cX1_told 8 = .ok (.iconst 0, 1) := dk_3 (dk_at dksX1_told_0 8 rfl rfl)
theorem dX1_told_9 : decode cX1_told 9 = .ok (.aload_n 0, 1) := dk_42 (dk_at dksX1_told_0 9 rfl rfl)
theorem dX1_told_10 : decode cX1_told 10 = .ok (.getfield 23, 3) := dk_180 0 23 (dk_at dksX1_told_0 10 rfl rfl)
theorem dX1_told_13 : decode cX1_told 13 = .ok (.iload_n 1, 1) := dk_27 (dk_at dksX1_told_0 13 rfl rfl)
theorem dX1_told_14 : decode cX1_told 14 = .ok (.iaload, 1) := dk_46 (dk_at dksX1_told_0 14 rfl rfl)
theorem dX1_told_15 : decode cX1_told 15 = .ok (.iconst 1, 1) := dk_4 (dk_at dksX1_told_0 15 rfl rfl)
theorem dX1_told_16 : decode cX1_told 16 = .ok (.isub, 1) := dk_100 (dk_at dksX1_told_0 16 rfl rfl)
theorem dX1_told_17 : decode cX1_told 17 = .ok (.invokestatic 73, 3) := dk_184 0 73 (dk_at dksX1_told_0 17 rfl rfl)
theorem dX1_told_20 : decode cX1_told 20 = .ok (.ifCond .ne 6, 3) := dk_154 0 6 (dk_at dksX1_told_0 20 rfl rfl)
theorem dX1_told_23 : decode cX1_told 23 = .ok (.bipush (-2), 2) := dk_16 254 (dk_at dksX1_told_1 0 rfl rfl)
theorem dX1_told_25 : decode cX1_told 25 = .ok (.ireturn, 1) := dk_172 (dk_at dksX1_told_1 2 rfl rfl)
theorem dX1_told_26 : decode cX1_told 26 = .ok (.iconst 4, 1) := dk_7 (dk_at dksX1_told_1 3 rfl rfl)
theorem dX1_told_27 : decode cX1_told 27 = .ok (.iload_n 1, 1) := dk_27 (dk_at dksX1_told_1 4 rfl rfl)
theorem dX1_told_28 : decode cX1_told 28 = .ok (.imul, 1) := dk_104 (dk_at dksX1_told_1 5 rfl rfl)
theorem dX1_told_29 : decode cX1_told 29 = .ok (.iload_n 2, 1) := dk_28 (dk_at dksX1_told_1 6 rfl rfl)
theorem dX1_told_30 : decode cX1_told 30 = .ok (.iadd, 1) := dk_96 (dk_at dksX1_told_1 7 rfl rfl)
theorem dX1_told_31 : decode cX1_told 31 = .ok (.istore 4, 2) := dk_54 4 (dk_at dksX1_told_1 8 rfl rfl)
theorem dX1_told_33 : decode cX1_told 33 = .ok (.iload_n 3, 1) := dk_29 (dk_at dksX1_told_1 10 rfl rfl)
theorem dX1_told_34 : decode cX1_told 34 = .ok (.tableswitch 74 0 4 #[34, 42, 50, 58, 66], 34) := by decide +kernel
theorem dX1_told_68 : decode cX1_told 68 = .ok (.aload_n 0, 1) := dk_42 (dk_at dksX1_told_3 0 rfl rfl)
theorem dX1_told_69 : decode cX1_told 69 = .ok (.getfield 36, 3) := dk_180 0 36 (dk_at dksX1_told_3 1 rfl rfl)
theorem dX1_told_72 : decode cX1_told 72 = .ok (.iload 4, 2) := dk_21 4 (dk_at dksX1_told_3 4 rfl rfl)
theorem dX1_told_74 : decode cX1_told 74 = .ok (.iaload, 1) := dk_46 (dk_at dksX1_told_3 6 rfl rfl)
theorem dX1_told_75 : decode cX1_told 75 = .ok (.ireturn, 1) := dk_172 (dk_at dksX1_told_3 7 rfl rfl)
theorem dX1_told_76 : decode cX1_told 76 = .ok (.aload_n 0, 1) := dk_42 (dk_at dksX1_told_3 8 rfl rfl)
theorem dX1_told_77 : decode cX1_told 77 = .ok (.getfield 39, 3) := dk_180 0 39 (dk_at dksX1_told_3 9 rfl rfl)
theorem dX1_told_80 : decode cX1_told 80 = .ok (.iload 4, 2) := dk_21 4 (dk_at dksX1_told_3 12 rfl rfl)
theorem dX1_told_82 : decode cX1_told 82 = .ok (.iaload, 1) := dk_46 (dk_at dksX1_told_3 14 rfl rfl)
theorem dX1_told_83 : decode cX1_told 83 = .ok (.ireturn, 1) := dk_172 (dk_at dksX1_told_3 15 rfl rfl)
theorem dX1_told_84 : decode cX1_told 84 = .ok (.aload_n 0, 1) := dk_42 (dk_at dksX1_told_3 16 rfl rfl)
theorem dX1_told_85 : decode cX1_told 85 = .ok (.getfield 42, 3) := dk_180 0 42 (dk_at dksX1_told_3 17 rfl rfl)
theorem dX1_told_88 : decode cX1_told 88 = .ok (.iload 4, 2) := dk_21 4 (dk_at dksX1_told_3 20 rfl rfl)
theorem dX1_told_90 : decode cX1_told 90 = .ok (.iaload, 1) := dk_46 (dk_at dksX1_told_3 22 rfl rfl)
theorem dX1_told_91 : decode cX1_told 91 = .ok (.ireturn, 1) := dk_172 (dk_at dksX1_told_3 23 rfl rfl)
theorem dX1_told_92 : decode cX1_told 92 = .ok (.aload_n 0, 1) := dk_42 (dk_at dksX1_told_4 0 rfl rfl)
theorem dX1_told_93 : decode cX1_told 93 = .ok (.getfield 45, 3) := dk_180 0 45 (dk_at dksX1_told_4 1 rfl rfl)
theorem dX1_told_96 : decode cX1_told 96 = .ok (.iload 4, 2) := dk_21 4 (dk_at dksX1_told_4 4 rfl rfl)
theorem dX1_told_98 : decode cX1_told 98 = .ok (.iaload, 1) := dk_46 (dk_at dksX1_told_4 6 rfl rfl)
theorem dX1_told_99 : decode cX1_told 99 = .ok (.ireturn, 1) := dk_172 (dk_at dksX1_told_4 7 rfl rfl)
theorem dX1_told_100 : decode cX1_told 100 = .ok (.aload_n 0, 1) := dk_42 (dk_at dksX1_told_4 8 rfl rfl)
theorem dX1_told_101 : decode cX1_told 101 = .ok (.getfield 48, 3) := dk_180 0 48 (dk_at dksX1_told_4 9 rfl rfl)
theorem dX1_told_104 : decode cX1_told 104 = .ok (.iload 4, 2) := dk_21 4 (dk_at dksX1_told_4 12 rfl rfl)
theorem dX1_told_106 : decode cX1_told 106 = .ok (.iaload, 1) := dk_46 (dk_at dksX1_told_4 14 rfl rfl)
theorem dX1_told_107 : decode cX1_told 107 = .ok (.ireturn, 1) := dk_172 (dk_at dksX1_told_4 15 rfl rfl)
theorem dX1_told_108 : decode cX1_told 108 = .ok (.bipush (-2), 2) := dk_16 254 (dk_at dksX1_told_4 16 rfl rfl)
theorem dX1_told_110 : decode cX1_told 110 = .ok (.ireturn, 1) := dk_172 (dk_at dksX1_told_4 18 rfl rfl)
abbrev cX1_count : ByteArray := prog_9_method_36_code
def yX1_count : MethodName := ⟨RX1, "count", "(I)I"⟩
def dkwX1_count_3 : List UInt8 := [172, 16, 254, 172]
abbrev dktX1_count_3 : List UInt8 := dkwX1_count_3 ++ []
def dkwX1_count_2 : List UInt8 := [42, 180, 0, 70, 172, 42, 180, 0, 80, 172, 42, 180, 0, 83, 172, 42, 180, 0, 86, 172, 42, 180, 0, 167]
abbrev dktX1_count_2 : List UInt8 := dkwX1_count_2 ++ dktX1_count_3
def dkwX1_count_1 : List UInt8 := [170, 0, 0, 0, 0, 0, 60, 0, 0, 0, 0, 0, 0, 0, 4, 0, 0, 0, 35, 0, 0, 0, 40, 0, 0, 0, 45, 0, 0, 0, 50, 0, 0, 0, 55]
abbrev dktX1_count_1 : List UInt8 := dkwX1_count_1 ++ dktX1_count_2
def dkwX1_count_0 : List UInt8 := [27]
abbrev dktX1_count_0 : List UInt8 := dkwX1_count_0 ++ dktX1_count_1
theorem dksX1_count_0 : cX1_count.data.toList.drop 0 = dktX1_count_0 := by decide +kernel
theorem dksX1_count_1 : cX1_count.data.toList.drop 1 = dktX1_count_1 := dk_seg dksX1_count_0 1 rfl rfl
theorem dksX1_count_2 : cX1_count.data.toList.drop 36 = dktX1_count_2 := dk_seg dksX1_count_1 35 rfl rfl
theorem dksX1_count_3 : cX1_count.data.toList.drop 60 = dktX1_count_3 := dk_seg dksX1_count_2 24 rfl rfl
theorem dX1_count_0 : decode cX1_count 0 = .ok (.iload_n 1, 1) := dk_27 (dk_at dksX1_count_0 0 rfl rfl)
theorem dX1_count_1 : decode cX1_count 1 = .ok (.tableswitch 60 0 4 #[35, 40, 45, 50, 55], 35) := by decide +kernel
theorem dX1_count_36 : decode cX1_count 36 = .ok (.aload_n 0, 1) := dk_42 (dk_at dksX1_count_2 0 rfl rfl)
theorem dX1_count_37 : decode cX1_count 37 = .ok (.getfield 70, 3) := dk_180 0 70 (dk_at dksX1_count_2 1 rfl rfl)
theorem dX1_count_40 : decode cX1_count 40 = .ok (.ireturn, 1) := dk_172 (dk_at dksX1_count_2 4 rfl rfl)
theorem dX1_count_41 : decode cX1_count 41 = .ok (.aload_n 0, 1) := dk_42 (dk_at dksX1_count_2 5 rfl rfl)
theorem dX1_count_42 : decode cX1_count 42 = .ok (.getfield 80, 3) := dk_180 0 80 (dk_at dksX1_count_2 6 rfl rfl)
theorem dX1_count_45 : decode cX1_count 45 = .ok (.ireturn, 1) := dk_172 (dk_at dksX1_count_2 9 rfl rfl)
theorem dX1_count_46 : decode cX1_count 46 = .ok (.aload_n 0, 1) := dk_42 (dk_at dksX1_count_2 10 rfl rfl)
theorem dX1_count_47 : decode cX1_count 47 = .ok (.getfield 83, 3) := dk_180 0 83 (dk_at dksX1_count_2 11 rfl rfl)
theorem dX1_count_50 : decode cX1_count 50 = .ok (.ireturn, 1) := dk_172 (dk_at dksX1_count_2 14 rfl rfl)
theorem dX1_count_51 : decode cX1_count 51 = .ok (.aload_n 0, 1) := dk_42 (dk_at dksX1_count_2 15 rfl rfl)
theorem dX1_count_52 : decode cX1_count 52 = .ok (.getfield 86, 3) := dk_180 0 86 (dk_at dksX1_count_2 16 rfl rfl)
theorem dX1_count_55 : decode cX1_count 55 = .ok (.ireturn, 1) := dk_172 (dk_at dksX1_count_2 19 rfl rfl)
theorem dX1_count_56 : decode cX1_count 56 = .ok (.aload_n 0, 1) := dk_42 (dk_at dksX1_count_2 20 rfl rfl)
theorem dX1_count_57 : decode cX1_count 57 = .ok (.getfield 167, 3) := dk_180 0 167 (dk_at dksX1_count_2 21 rfl rfl)
theorem dX1_count_60 : decode cX1_count 60 = .ok (.ireturn, 1) := dk_172 (dk_at dksX1_count_3 0 rfl rfl)
theorem dX1_count_61 : decode cX1_count 61 = .ok (.bipush (-2), 2) := dk_16 254 (dk_at dksX1_count_3 1 rfl rfl)
theorem dX1_count_63 : decode cX1_count 63 = .ok (.ireturn, 1) := dk_172 (dk_at dksX1_count_3 3 rfl rfl)
abbrev cX1_refused : ByteArray := prog_9_method_37_code
def yX1_refused : MethodName := ⟨RX1, "refused", "()I"⟩
theorem dX1_refused_0 : decode cX1_refused 0 = .ok (.aload_n 0, 1) := by decide +kernel
theorem dX1_refused_1 : decode cX1_refused 1 = .ok (.getfield 77, 3) := by decide +kernel
theorem dX1_refused_4 : decode cX1_refused 4 = .ok (.ireturn, 1) := by decide +kernel
theorem q24 : (Jvm.Cond.initialized "MailRoomsModel") ∈ lw_all := lw_g (lw_at lw_m1 2 rfl) rfl
theorem q468 : (Jvm.Cond.instantiable "MailRoomsModel" (27 : Nat)) ∈ lw_all := lw_g (lw_at lw_m2 206 rfl) rfl
theorem q470 : (Jvm.Cond.instanceMethod ({ cls := "MailRoomsModel", name := "<init>", desc := "()V" } : Jvm.MethodName)) ∈ lw_all := lw_g (lw_at lw_m2 208 rfl) rfl
theorem q471 : (Jvm.Cond.code ({ cls := "MailRoomsModel", name := "<init>", desc := "()V" } : Jvm.MethodName) prog_9_method_1_code (1 : Nat) (Option.none : Option Jvm.ClassFile.FieldType)) ∈ lw_all := lw_g (lw_at lw_m2 209 rfl) rfl
theorem q472 : (Jvm.Cond.methodLink "MailRoomsModel" (1 : Nat) ({ cls := "java/lang/Object", name := "<init>", desc := "()V" } : Jvm.MethodName)) ∈ lw_all := lw_g (lw_at lw_m2 210 rfl) rfl
theorem q473 : (Jvm.Cond.fieldLink "MailRoomsModel" (70 : Nat) "MailRoomsModel" "items" "I") ∈ lw_all := lw_g (lw_at lw_m2 211 rfl) rfl
theorem q474 : (Jvm.Cond.fieldLink "MailRoomsModel" (7 : Nat) "MailRoomsModel" "kind" "[I") ∈ lw_all := lw_g (lw_at lw_m2 212 rfl) rfl
theorem q475 : (Jvm.Cond.fieldLink "MailRoomsModel" (13 : Nat) "MailRoomsModel" "size" "[I") ∈ lw_all := lw_g (lw_at lw_m2 213 rfl) rfl
theorem q476 : (Jvm.Cond.fieldLink "MailRoomsModel" (16 : Nat) "MailRoomsModel" "stamp" "[I") ∈ lw_all := lw_g (lw_at lw_m2 214 rfl) rfl
theorem q477 : (Jvm.Cond.fieldLink "MailRoomsModel" (19 : Nat) "MailRoomsModel" "cell" "[J") ∈ lw_all := lw_g (lw_at lw_m2 215 rfl) rfl
theorem q478 : (Jvm.Cond.fieldLink "MailRoomsModel" (23 : Nat) "MailRoomsModel" "desks" "[I") ∈ lw_all := lw_g (lw_at lw_m2 216 rfl) rfl
theorem q479 : (Jvm.Cond.fieldLink "MailRoomsModel" (26 : Nat) "MailRoomsModel" "form" "[I") ∈ lw_all := lw_g (lw_at lw_m2 217 rfl) rfl
theorem q480 : (Jvm.Cond.fieldLink "MailRoomsModel" (29 : Nat) "MailRoomsModel" "act" "[I") ∈ lw_all := lw_g (lw_at lw_m2 218 rfl) rfl
theorem q481 : (Jvm.Cond.fieldLink "MailRoomsModel" (32 : Nat) "MailRoomsModel" "asks" "[Z") ∈ lw_all := lw_g (lw_at lw_m2 219 rfl) rfl
theorem q482 : (Jvm.Cond.fieldLink "MailRoomsModel" (36 : Nat) "MailRoomsModel" "tally" "[I") ∈ lw_all := lw_g (lw_at lw_m2 220 rfl) rfl
theorem q483 : (Jvm.Cond.fieldLink "MailRoomsModel" (39 : Nat) "MailRoomsModel" "held" "[I") ∈ lw_all := lw_g (lw_at lw_m2 221 rfl) rfl
theorem q484 : (Jvm.Cond.fieldLink "MailRoomsModel" (42 : Nat) "MailRoomsModel" "worked" "[I") ∈ lw_all := lw_g (lw_at lw_m2 222 rfl) rfl
theorem q485 : (Jvm.Cond.fieldLink "MailRoomsModel" (45 : Nat) "MailRoomsModel" "gave" "[I") ∈ lw_all := lw_g (lw_at lw_m2 223 rfl) rfl
theorem q486 : (Jvm.Cond.fieldLink "MailRoomsModel" (48 : Nat) "MailRoomsModel" "gaveLast" "[I") ∈ lw_all := lw_g (lw_at lw_m2 224 rfl) rfl
theorem q487 : (Jvm.Cond.fieldLink "MailRoomsModel" (51 : Nat) "MailRoomsModel" "gaveNow" "[Z") ∈ lw_all := lw_g (lw_at lw_m2 225 rfl) rfl
theorem q488 : (Jvm.Cond.fieldLink "MailRoomsModel" (77 : Nat) "MailRoomsModel" "refused" "I") ∈ lw_all := lw_g (lw_at lw_m2 226 rfl) rfl
theorem q489 : (Jvm.Cond.fieldLink "MailRoomsModel" (80 : Nat) "MailRoomsModel" "casts" "I") ∈ lw_all := lw_g (lw_at lw_m2 227 rfl) rfl
theorem q490 : (Jvm.Cond.fieldLink "MailRoomsModel" (83 : Nat) "MailRoomsModel" "indexes" "I") ∈ lw_all := lw_g (lw_at lw_m2 228 rfl) rfl
theorem q491 : (Jvm.Cond.fieldLink "MailRoomsModel" (86 : Nat) "MailRoomsModel" "stores" "I") ∈ lw_all := lw_g (lw_at lw_m2 229 rfl) rfl
theorem q492 : (Jvm.Cond.fieldLink "MailRoomsModel" (167 : Nat) "MailRoomsModel" "givenBack" "I") ∈ lw_all := lw_g (lw_at lw_m2 230 rfl) rfl
theorem q493 : (Jvm.Cond.fieldLink "MailRoomsModel" (54 : Nat) "MailRoomsModel" "out" "I") ∈ lw_all := lw_g (lw_at lw_m2 231 rfl) rfl
theorem q494 : (Jvm.Cond.fieldLink "MailRoomsModel" (58 : Nat) "MailRoomsModel" "whose" "[I") ∈ lw_all := lw_g (lw_at lw_m2 232 rfl) rfl
theorem q495 : (Jvm.Cond.fieldLink "MailRoomsModel" (61 : Nat) "MailRoomsModel" "room" "[I") ∈ lw_all := lw_g (lw_at lw_m2 233 rfl) rfl
theorem q496 : (Jvm.Cond.fieldLink "MailRoomsModel" (64 : Nat) "MailRoomsModel" "at" "[I") ∈ lw_all := lw_g (lw_at lw_m2 234 rfl) rfl
theorem q497 : (Jvm.Cond.fieldLink "MailRoomsModel" (67 : Nat) "MailRoomsModel" "place" "[I") ∈ lw_all := lw_g (lw_at lw_m2 235 rfl) rfl
theorem q498 : (Jvm.Cond.fieldLink "MailRoomsModel" (145 : Nat) "MailRoomsModel" "depth" "I") ∈ lw_all := lw_g (lw_at lw_m2 236 rfl) rfl
theorem q499 : (Jvm.Cond.fieldLink "MailRoomsModel" (152 : Nat) "MailRoomsModel" "works" "I") ∈ lw_all := lw_g (lw_at lw_m2 237 rfl) rfl
theorem q500 : (Jvm.Cond.lays "MailRoomsModel" "MailRoomsModel" "items" "I") ∈ lw_all := lw_g (lw_at lw_m2 238 rfl) rfl
theorem q501 : (Jvm.Cond.soleField "MailRoomsModel" "items") ∈ lw_all := lw_g (lw_at lw_m2 239 rfl) rfl
theorem q502 : (Jvm.Cond.laysFinal "MailRoomsModel" "MailRoomsModel" "kind" "[I") ∈ lw_all := lw_g (lw_at lw_m3 0 rfl) rfl
theorem q503 : (Jvm.Cond.soleField "MailRoomsModel" "kind") ∈ lw_all := lw_g (lw_at lw_m3 1 rfl) rfl
theorem q504 : (Jvm.Cond.laysFinal "MailRoomsModel" "MailRoomsModel" "size" "[I") ∈ lw_all := lw_g (lw_at lw_m3 2 rfl) rfl
theorem q505 : (Jvm.Cond.soleField "MailRoomsModel" "size") ∈ lw_all := lw_g (lw_at lw_m3 3 rfl) rfl
theorem q506 : (Jvm.Cond.laysFinal "MailRoomsModel" "MailRoomsModel" "stamp" "[I") ∈ lw_all := lw_g (lw_at lw_m3 4 rfl) rfl
theorem q507 : (Jvm.Cond.soleField "MailRoomsModel" "stamp") ∈ lw_all := lw_g (lw_at lw_m3 5 rfl) rfl
theorem q508 : (Jvm.Cond.laysFinal "MailRoomsModel" "MailRoomsModel" "cell" "[J") ∈ lw_all := lw_g (lw_at lw_m3 6 rfl) rfl
theorem q509 : (Jvm.Cond.soleField "MailRoomsModel" "cell") ∈ lw_all := lw_g (lw_at lw_m3 7 rfl) rfl
theorem q510 : (Jvm.Cond.laysFinal "MailRoomsModel" "MailRoomsModel" "desks" "[I") ∈ lw_all := lw_g (lw_at lw_m3 8 rfl) rfl
theorem q511 : (Jvm.Cond.soleField "MailRoomsModel" "desks") ∈ lw_all := lw_g (lw_at lw_m3 9 rfl) rfl
theorem q512 : (Jvm.Cond.laysFinal "MailRoomsModel" "MailRoomsModel" "form" "[I") ∈ lw_all := lw_g (lw_at lw_m3 10 rfl) rfl
theorem q513 : (Jvm.Cond.soleField "MailRoomsModel" "form") ∈ lw_all := lw_g (lw_at lw_m3 11 rfl) rfl
theorem q514 : (Jvm.Cond.laysFinal "MailRoomsModel" "MailRoomsModel" "act" "[I") ∈ lw_all := lw_g (lw_at lw_m3 12 rfl) rfl
theorem q515 : (Jvm.Cond.soleField "MailRoomsModel" "act") ∈ lw_all := lw_g (lw_at lw_m3 13 rfl) rfl
theorem q516 : (Jvm.Cond.laysFinal "MailRoomsModel" "MailRoomsModel" "asks" "[Z") ∈ lw_all := lw_g (lw_at lw_m3 14 rfl) rfl
theorem q517 : (Jvm.Cond.soleField "MailRoomsModel" "asks") ∈ lw_all := lw_g (lw_at lw_m3 15 rfl) rfl
theorem q518 : (Jvm.Cond.laysFinal "MailRoomsModel" "MailRoomsModel" "tally" "[I") ∈ lw_all := lw_g (lw_at lw_m3 16 rfl) rfl
theorem q519 : (Jvm.Cond.soleField "MailRoomsModel" "tally") ∈ lw_all := lw_g (lw_at lw_m3 17 rfl) rfl
theorem q520 : (Jvm.Cond.laysFinal "MailRoomsModel" "MailRoomsModel" "held" "[I") ∈ lw_all := lw_g (lw_at lw_m3 18 rfl) rfl
theorem q521 : (Jvm.Cond.soleField "MailRoomsModel" "held") ∈ lw_all := lw_g (lw_at lw_m3 19 rfl) rfl
theorem q522 : (Jvm.Cond.laysFinal "MailRoomsModel" "MailRoomsModel" "worked" "[I") ∈ lw_all := lw_g (lw_at lw_m3 20 rfl) rfl
theorem q523 : (Jvm.Cond.soleField "MailRoomsModel" "worked") ∈ lw_all := lw_g (lw_at lw_m3 21 rfl) rfl
theorem q524 : (Jvm.Cond.laysFinal "MailRoomsModel" "MailRoomsModel" "gave" "[I") ∈ lw_all := lw_g (lw_at lw_m3 22 rfl) rfl
theorem q525 : (Jvm.Cond.soleField "MailRoomsModel" "gave") ∈ lw_all := lw_g (lw_at lw_m3 23 rfl) rfl
theorem q526 : (Jvm.Cond.laysFinal "MailRoomsModel" "MailRoomsModel" "gaveLast" "[I") ∈ lw_all := lw_g (lw_at lw_m3 24 rfl) rfl
theorem q527 : (Jvm.Cond.soleField "MailRoomsModel" "gaveLast") ∈ lw_all := lw_g (lw_at lw_m3 25 rfl) rfl
theorem q528 : (Jvm.Cond.laysFinal "MailRoomsModel" "MailRoomsModel" "gaveNow" "[Z") ∈ lw_all := lw_g (lw_at lw_m3 26 rfl) rfl
theorem q529 : (Jvm.Cond.soleField "MailRoomsModel" "gaveNow") ∈ lw_all := lw_g (lw_at lw_m3 27 rfl) rfl
theorem q530 : (Jvm.Cond.lays "MailRoomsModel" "MailRoomsModel" "refused" "I") ∈ lw_all := lw_g (lw_at lw_m3 28 rfl) rfl
theorem q531 : (Jvm.Cond.soleField "MailRoomsModel" "refused") ∈ lw_all := lw_g (lw_at lw_m3 29 rfl) rfl
theorem q532 : (Jvm.Cond.lays "MailRoomsModel" "MailRoomsModel" "casts" "I") ∈ lw_all := lw_g (lw_at lw_m3 30 rfl) rfl
theorem q533 : (Jvm.Cond.soleField "MailRoomsModel" "casts") ∈ lw_all := lw_g (lw_at lw_m3 31 rfl) rfl
theorem q534 : (Jvm.Cond.lays "MailRoomsModel" "MailRoomsModel" "indexes" "I") ∈ lw_all := lw_g (lw_at lw_m3 32 rfl) rfl
theorem q535 : (Jvm.Cond.soleField "MailRoomsModel" "indexes") ∈ lw_all := lw_g (lw_at lw_m3 33 rfl) rfl
theorem q536 : (Jvm.Cond.lays "MailRoomsModel" "MailRoomsModel" "stores" "I") ∈ lw_all := lw_g (lw_at lw_m3 34 rfl) rfl
theorem q537 : (Jvm.Cond.soleField "MailRoomsModel" "stores") ∈ lw_all := lw_g (lw_at lw_m3 35 rfl) rfl
theorem q538 : (Jvm.Cond.lays "MailRoomsModel" "MailRoomsModel" "givenBack" "I") ∈ lw_all := lw_g (lw_at lw_m3 36 rfl) rfl
theorem q539 : (Jvm.Cond.soleField "MailRoomsModel" "givenBack") ∈ lw_all := lw_g (lw_at lw_m3 37 rfl) rfl
theorem q540 : (Jvm.Cond.lays "MailRoomsModel" "MailRoomsModel" "out" "I") ∈ lw_all := lw_g (lw_at lw_m3 38 rfl) rfl
theorem q541 : (Jvm.Cond.soleField "MailRoomsModel" "out") ∈ lw_all := lw_g (lw_at lw_m3 39 rfl) rfl
theorem q542 : (Jvm.Cond.laysFinal "MailRoomsModel" "MailRoomsModel" "whose" "[I") ∈ lw_all := lw_g (lw_at lw_m3 40 rfl) rfl
theorem q543 : (Jvm.Cond.soleField "MailRoomsModel" "whose") ∈ lw_all := lw_g (lw_at lw_m3 41 rfl) rfl
theorem q544 : (Jvm.Cond.laysFinal "MailRoomsModel" "MailRoomsModel" "room" "[I") ∈ lw_all := lw_g (lw_at lw_m3 42 rfl) rfl
theorem q545 : (Jvm.Cond.soleField "MailRoomsModel" "room") ∈ lw_all := lw_g (lw_at lw_m3 43 rfl) rfl
theorem q546 : (Jvm.Cond.laysFinal "MailRoomsModel" "MailRoomsModel" "at" "[I") ∈ lw_all := lw_g (lw_at lw_m3 44 rfl) rfl
theorem q547 : (Jvm.Cond.soleField "MailRoomsModel" "at") ∈ lw_all := lw_g (lw_at lw_m3 45 rfl) rfl
theorem q548 : (Jvm.Cond.laysFinal "MailRoomsModel" "MailRoomsModel" "place" "[I") ∈ lw_all := lw_g (lw_at lw_m3 46 rfl) rfl
theorem q549 : (Jvm.Cond.soleField "MailRoomsModel" "place") ∈ lw_all := lw_g (lw_at lw_m3 47 rfl) rfl
theorem q550 : (Jvm.Cond.lays "MailRoomsModel" "MailRoomsModel" "depth" "I") ∈ lw_all := lw_g (lw_at lw_m3 48 rfl) rfl
theorem q551 : (Jvm.Cond.soleField "MailRoomsModel" "depth") ∈ lw_all := lw_g (lw_at lw_m3 49 rfl) rfl
theorem q552 : (Jvm.Cond.lays "MailRoomsModel" "MailRoomsModel" "works" "I") ∈ lw_all := lw_g (lw_at lw_m3 50 rfl) rfl
theorem q553 : (Jvm.Cond.soleField "MailRoomsModel" "works") ∈ lw_all := lw_g (lw_at lw_m3 51 rfl) rfl
theorem q554 : (Jvm.Cond.superclass "MailRoomsModel" "java/lang/Object") ∈ lw_all := lw_g (lw_at lw_m3 52 rfl) rfl
theorem q557 : (Jvm.Cond.instanceMethod ({ cls := "MailRoomsModel", name := "make", desc := "(II)I" } : Jvm.MethodName)) ∈ lw_all := lw_g (lw_at lw_m3 55 rfl) rfl
theorem q558 : (Jvm.Cond.selects "MailRoomsModel" ({ cls := "MailRoomsModel", name := "make", desc := "(II)I" } : Jvm.MethodName) ({ cls := "MailRoomsModel", name := "make", desc := "(II)I" } : Jvm.MethodName)) ∈ lw_all := lw_g (lw_at lw_m3 56 rfl) rfl
theorem q559 : (Jvm.Cond.code ({ cls := "MailRoomsModel", name := "make", desc := "(II)I" } : Jvm.MethodName) prog_9_method_9_code (4 : Nat) (Option.some Jvm.ClassFile.FieldType.int)) ∈ lw_all := lw_g (lw_at lw_m3 57 rfl) rfl
theorem q560 : (Jvm.Cond.methodLink "MailRoomsModel" (73 : Nat) ({ cls := "MailRoomsModel", name := "isIn", desc := "(III)Z" } : Jvm.MethodName)) ∈ lw_all := lw_g (lw_at lw_m3 58 rfl) rfl
theorem q561 : (Jvm.Cond.static ({ cls := "MailRoomsModel", name := "isIn", desc := "(III)Z" } : Jvm.MethodName)) ∈ lw_all := lw_g (lw_at lw_m3 59 rfl) rfl
theorem q562 : (Jvm.Cond.code ({ cls := "MailRoomsModel", name := "isIn", desc := "(III)Z" } : Jvm.MethodName) prog_9_method_2_code (3 : Nat) (Option.some Jvm.ClassFile.FieldType.boolean)) ∈ lw_all := lw_g (lw_at lw_m3 60 rfl) rfl
theorem q563 : (Jvm.Cond.methodLink "MailRoomsModel" (89 : Nat) ({ cls := "MailRoomsModel", name := "isOne", desc := "(I)Z" } : Jvm.MethodName)) ∈ lw_all := lw_g (lw_at lw_m3 61 rfl) rfl
theorem q564 : (Jvm.Cond.static ({ cls := "MailRoomsModel", name := "isOne", desc := "(I)Z" } : Jvm.MethodName)) ∈ lw_all := lw_g (lw_at lw_m3 62 rfl) rfl
theorem q565 : (Jvm.Cond.code ({ cls := "MailRoomsModel", name := "isOne", desc := "(I)Z" } : Jvm.MethodName) prog_9_method_6_code (1 : Nat) (Option.some Jvm.ClassFile.FieldType.boolean)) ∈ lw_all := lw_g (lw_at lw_m3 63 rfl) rfl
theorem q566 : (Jvm.Cond.methodLink "MailRoomsModel" (93 : Nat) ({ cls := "MailRoomsModel", name := "refuse", desc := "(I)I" } : Jvm.MethodName)) ∈ lw_all := lw_g (lw_at lw_m3 64 rfl) rfl
theorem q567 : (Jvm.Cond.privateMethod ({ cls := "MailRoomsModel", name := "refuse", desc := "(I)I" } : Jvm.MethodName)) ∈ lw_tbl := lw_at lw_m3 65 rfl
theorem q568 : (Jvm.Cond.instanceMethod ({ cls := "MailRoomsModel", name := "refuse", desc := "(I)I" } : Jvm.MethodName)) ∈ lw_all := lw_g (lw_at lw_m3 66 rfl) rfl
theorem q569 : (Jvm.Cond.code ({ cls := "MailRoomsModel", name := "refuse", desc := "(I)I" } : Jvm.MethodName) prog_9_method_4_code (2 : Nat) (Option.some Jvm.ClassFile.FieldType.int)) ∈ lw_all := lw_g (lw_at lw_m3 67 rfl) rfl
theorem q570 : (Jvm.Cond.methodLink "MailRoomsModel" (97 : Nat) ({ cls := "MailRoomsModel", name := "isOfThings", desc := "(I)Z" } : Jvm.MethodName)) ∈ lw_all := lw_g (lw_at lw_m3 68 rfl) rfl
theorem q571 : (Jvm.Cond.static ({ cls := "MailRoomsModel", name := "isOfThings", desc := "(I)Z" } : Jvm.MethodName)) ∈ lw_all := lw_g (lw_at lw_m3 69 rfl) rfl
theorem q572 : (Jvm.Cond.code ({ cls := "MailRoomsModel", name := "isOfThings", desc := "(I)Z" } : Jvm.MethodName) prog_9_method_8_code (1 : Nat) (Option.some Jvm.ClassFile.FieldType.boolean)) ∈ lw_all := lw_g (lw_at lw_m3 70 rfl) rfl
theorem q573 : (Jvm.Cond.constantLong "MailRoomsModel" (100 : Nat) (-1 : Int64)) ∈ lw_all := lw_g (lw_at lw_m3 71 rfl) rfl
theorem q575 : (Jvm.Cond.instanceMethod ({ cls := "MailRoomsModel", name := "put", desc := "(III)I" } : Jvm.MethodName)) ∈ lw_all := lw_g (lw_at lw_m3 73 rfl) rfl
theorem q576 : (Jvm.Cond.selects "MailRoomsModel" ({ cls := "MailRoomsModel", name := "put", desc := "(III)I" } : Jvm.MethodName) ({ cls := "MailRoomsModel", name := "put", desc := "(III)I" } : Jvm.MethodName)) ∈ lw_all := lw_g (lw_at lw_m3 74 rfl) rfl
theorem q577 : (Jvm.Cond.code ({ cls := "MailRoomsModel", name := "put", desc := "(III)I" } : Jvm.MethodName) prog_9_method_12_code (5 : Nat) (Option.some Jvm.ClassFile.FieldType.int)) ∈ lw_all := lw_g (lw_at lw_m3 75 rfl) rfl
theorem q578 : (Jvm.Cond.methodLink "MailRoomsModel" (104 : Nat) ({ cls := "MailRoomsModel", name := "isItem", desc := "(I)Z" } : Jvm.MethodName)) ∈ lw_all := lw_g (lw_at lw_m3 76 rfl) rfl
theorem q579 : (Jvm.Cond.privateMethod ({ cls := "MailRoomsModel", name := "isItem", desc := "(I)Z" } : Jvm.MethodName)) ∈ lw_tbl := lw_at lw_m3 77 rfl
theorem q580 : (Jvm.Cond.instanceMethod ({ cls := "MailRoomsModel", name := "isItem", desc := "(I)Z" } : Jvm.MethodName)) ∈ lw_all := lw_g (lw_at lw_m3 78 rfl) rfl
theorem q581 : (Jvm.Cond.code ({ cls := "MailRoomsModel", name := "isItem", desc := "(I)Z" } : Jvm.MethodName) prog_9_method_3_code (2 : Nat) (Option.some Jvm.ClassFile.FieldType.boolean)) ∈ lw_all := lw_g (lw_at lw_m3 79 rfl) rfl
theorem q582 : (Jvm.Cond.methodLink "MailRoomsModel" (107 : Nat) ({ cls := "MailRoomsModel", name := "isOfNumbers", desc := "(I)Z" } : Jvm.MethodName)) ∈ lw_all := lw_g (lw_at lw_m3 80 rfl) rfl
theorem q583 : (Jvm.Cond.static ({ cls := "MailRoomsModel", name := "isOfNumbers", desc := "(I)Z" } : Jvm.MethodName)) ∈ lw_all := lw_g (lw_at lw_m3 81 rfl) rfl
theorem q584 : (Jvm.Cond.code ({ cls := "MailRoomsModel", name := "isOfNumbers", desc := "(I)Z" } : Jvm.MethodName) prog_9_method_7_code (1 : Nat) (Option.some Jvm.ClassFile.FieldType.boolean)) ∈ lw_all := lw_g (lw_at lw_m3 82 rfl) rfl
theorem q585 : (Jvm.Cond.methodLink "MailRoomsModel" (110 : Nat) ({ cls := "MailRoomsModel", name := "wrongPlace", desc := "(IIZ)I" } : Jvm.MethodName)) ∈ lw_all := lw_g (lw_at lw_m3 83 rfl) rfl
theorem q586 : (Jvm.Cond.privateMethod ({ cls := "MailRoomsModel", name := "wrongPlace", desc := "(IIZ)I" } : Jvm.MethodName)) ∈ lw_tbl := lw_at lw_m3 84 rfl
theorem q587 : (Jvm.Cond.instanceMethod ({ cls := "MailRoomsModel", name := "wrongPlace", desc := "(IIZ)I" } : Jvm.MethodName)) ∈ lw_all := lw_g (lw_at lw_m3 85 rfl) rfl
theorem q588 : (Jvm.Cond.code ({ cls := "MailRoomsModel", name := "wrongPlace", desc := "(IIZ)I" } : Jvm.MethodName) prog_9_method_11_code (4 : Nat) (Option.some Jvm.ClassFile.FieldType.int)) ∈ lw_all := lw_g (lw_at lw_m3 86 rfl) rfl
theorem q589 : (Jvm.Cond.methodLink "MailRoomsModel" (114 : Nat) ({ cls := "MailRoomsModel", name := "kept", desc := "(IJ)J" } : Jvm.MethodName)) ∈ lw_all := lw_g (lw_at lw_m3 87 rfl) rfl
theorem q590 : (Jvm.Cond.static ({ cls := "MailRoomsModel", name := "kept", desc := "(IJ)J" } : Jvm.MethodName)) ∈ lw_all := lw_g (lw_at lw_m3 88 rfl) rfl
theorem q591 : (Jvm.Cond.code ({ cls := "MailRoomsModel", name := "kept", desc := "(IJ)J" } : Jvm.MethodName) prog_9_method_10_code (3 : Nat) (Option.some Jvm.ClassFile.FieldType.long)) ∈ lw_all := lw_g (lw_at lw_m3 89 rfl) rfl
theorem q592 : (Jvm.Cond.constantLong "MailRoomsModel" (102 : Nat) (65535 : Int64)) ∈ lw_all := lw_g (lw_at lw_m3 90 rfl) rfl
theorem q594 : (Jvm.Cond.instanceMethod ({ cls := "MailRoomsModel", name := "get", desc := "(II)I" } : Jvm.MethodName)) ∈ lw_all := lw_g (lw_at lw_m3 92 rfl) rfl
theorem q595 : (Jvm.Cond.selects "MailRoomsModel" ({ cls := "MailRoomsModel", name := "get", desc := "(II)I" } : Jvm.MethodName) ({ cls := "MailRoomsModel", name := "get", desc := "(II)I" } : Jvm.MethodName)) ∈ lw_all := lw_g (lw_at lw_m3 93 rfl) rfl
theorem q596 : (Jvm.Cond.code ({ cls := "MailRoomsModel", name := "get", desc := "(II)I" } : Jvm.MethodName) prog_9_method_13_code (6 : Nat) (Option.some Jvm.ClassFile.FieldType.int)) ∈ lw_all := lw_g (lw_at lw_m3 94 rfl) rfl
theorem q597 : (Jvm.Cond.constantLong "MailRoomsModel" (118 : Nat) (2147483647 : Int64)) ∈ lw_all := lw_g (lw_at lw_m3 95 rfl) rfl
theorem q598 : (Jvm.Cond.constant "MailRoomsModel" (120 : Nat) (2147483647 : Int32)) ∈ lw_all := lw_g (lw_at lw_m3 96 rfl) rfl
theorem q600 : (Jvm.Cond.instanceMethod ({ cls := "MailRoomsModel", name := "lay", desc := "(III)I" } : Jvm.MethodName)) ∈ lw_all := lw_g (lw_at lw_m3 98 rfl) rfl
theorem q601 : (Jvm.Cond.selects "MailRoomsModel" ({ cls := "MailRoomsModel", name := "lay", desc := "(III)I" } : Jvm.MethodName) ({ cls := "MailRoomsModel", name := "lay", desc := "(III)I" } : Jvm.MethodName)) ∈ lw_all := lw_g (lw_at lw_m3 99 rfl) rfl
theorem q602 : (Jvm.Cond.code ({ cls := "MailRoomsModel", name := "lay", desc := "(III)I" } : Jvm.MethodName) prog_9_method_16_code (5 : Nat) (Option.some Jvm.ClassFile.FieldType.int)) ∈ lw_all := lw_g (lw_at lw_m3 100 rfl) rfl
theorem q603 : (Jvm.Cond.methodLink "MailRoomsModel" (121 : Nat) ({ cls := "MailRoomsModel", name := "wanted", desc := "(I)I" } : Jvm.MethodName)) ∈ lw_all := lw_g (lw_at lw_m3 101 rfl) rfl
theorem q604 : (Jvm.Cond.static ({ cls := "MailRoomsModel", name := "wanted", desc := "(I)I" } : Jvm.MethodName)) ∈ lw_all := lw_g (lw_at lw_m3 102 rfl) rfl
theorem q605 : (Jvm.Cond.code ({ cls := "MailRoomsModel", name := "wanted", desc := "(I)I" } : Jvm.MethodName) prog_9_method_14_code (1 : Nat) (Option.some Jvm.ClassFile.FieldType.int)) ∈ lw_all := lw_g (lw_at lw_m3 103 rfl) rfl
theorem q606 : (Jvm.Cond.methodLink "MailRoomsModel" (124 : Nat) ({ cls := "MailRoomsModel", name := "goes", desc := "(II)Z" } : Jvm.MethodName)) ∈ lw_all := lw_g (lw_at lw_m3 104 rfl) rfl
theorem q607 : (Jvm.Cond.static ({ cls := "MailRoomsModel", name := "goes", desc := "(II)Z" } : Jvm.MethodName)) ∈ lw_all := lw_g (lw_at lw_m3 105 rfl) rfl
theorem q608 : (Jvm.Cond.code ({ cls := "MailRoomsModel", name := "goes", desc := "(II)Z" } : Jvm.MethodName) prog_9_method_5_code (2 : Nat) (Option.some Jvm.ClassFile.FieldType.boolean)) ∈ lw_all := lw_g (lw_at lw_m3 106 rfl) rfl
theorem q609 : (Jvm.Cond.methodLink "MailRoomsModel" (128 : Nat) ({ cls := "MailRoomsModel", name := "holds", desc := "(I)I" } : Jvm.MethodName)) ∈ lw_all := lw_g (lw_at lw_m3 107 rfl) rfl
theorem q610 : (Jvm.Cond.static ({ cls := "MailRoomsModel", name := "holds", desc := "(I)I" } : Jvm.MethodName)) ∈ lw_all := lw_g (lw_at lw_m3 108 rfl) rfl
theorem q611 : (Jvm.Cond.code ({ cls := "MailRoomsModel", name := "holds", desc := "(I)I" } : Jvm.MethodName) prog_9_method_15_code (1 : Nat) (Option.some Jvm.ClassFile.FieldType.int)) ∈ lw_all := lw_g (lw_at lw_m3 109 rfl) rfl
theorem q613 : (Jvm.Cond.instanceMethod ({ cls := "MailRoomsModel", name := "at", desc := "(II)I" } : Jvm.MethodName)) ∈ lw_all := lw_g (lw_at lw_m3 111 rfl) rfl
theorem q614 : (Jvm.Cond.selects "MailRoomsModel" ({ cls := "MailRoomsModel", name := "at", desc := "(II)I" } : Jvm.MethodName) ({ cls := "MailRoomsModel", name := "at", desc := "(II)I" } : Jvm.MethodName)) ∈ lw_all := lw_g (lw_at lw_m3 112 rfl) rfl
theorem q615 : (Jvm.Cond.code ({ cls := "MailRoomsModel", name := "at", desc := "(II)I" } : Jvm.MethodName) prog_9_method_17_code (4 : Nat) (Option.some Jvm.ClassFile.FieldType.int)) ∈ lw_all := lw_g (lw_at lw_m3 113 rfl) rfl
theorem q617 : (Jvm.Cond.instanceMethod ({ cls := "MailRoomsModel", name := "is", desc := "(II)I" } : Jvm.MethodName)) ∈ lw_all := lw_g (lw_at lw_m3 115 rfl) rfl
theorem q618 : (Jvm.Cond.selects "MailRoomsModel" ({ cls := "MailRoomsModel", name := "is", desc := "(II)I" } : Jvm.MethodName) ({ cls := "MailRoomsModel", name := "is", desc := "(II)I" } : Jvm.MethodName)) ∈ lw_all := lw_g (lw_at lw_m3 116 rfl) rfl
theorem q619 : (Jvm.Cond.code ({ cls := "MailRoomsModel", name := "is", desc := "(II)I" } : Jvm.MethodName) prog_9_method_18_code (3 : Nat) (Option.some Jvm.ClassFile.FieldType.int)) ∈ lw_all := lw_g (lw_at lw_m3 117 rfl) rfl
theorem q621 : (Jvm.Cond.instanceMethod ({ cls := "MailRoomsModel", name := "stamps", desc := "(I)I" } : Jvm.MethodName)) ∈ lw_all := lw_g (lw_at lw_m3 119 rfl) rfl
theorem q622 : (Jvm.Cond.selects "MailRoomsModel" ({ cls := "MailRoomsModel", name := "stamps", desc := "(I)I" } : Jvm.MethodName) ({ cls := "MailRoomsModel", name := "stamps", desc := "(I)I" } : Jvm.MethodName)) ∈ lw_all := lw_g (lw_at lw_m3 120 rfl) rfl
theorem q623 : (Jvm.Cond.code ({ cls := "MailRoomsModel", name := "stamps", desc := "(I)I" } : Jvm.MethodName) prog_9_method_19_code (3 : Nat) (Option.some Jvm.ClassFile.FieldType.int)) ∈ lw_all := lw_g (lw_at lw_m3 121 rfl) rfl
theorem q625 : (Jvm.Cond.instanceMethod ({ cls := "MailRoomsModel", name := "desk", desc := "(IIIZ)I" } : Jvm.MethodName)) ∈ lw_all := lw_g (lw_at lw_m3 123 rfl) rfl
theorem q626 : (Jvm.Cond.selects "MailRoomsModel" ({ cls := "MailRoomsModel", name := "desk", desc := "(IIIZ)I" } : Jvm.MethodName) ({ cls := "MailRoomsModel", name := "desk", desc := "(IIIZ)I" } : Jvm.MethodName)) ∈ lw_all := lw_g (lw_at lw_m3 124 rfl) rfl
theorem q627 : (Jvm.Cond.code ({ cls := "MailRoomsModel", name := "desk", desc := "(IIIZ)I" } : Jvm.MethodName) prog_9_method_22_code (6 : Nat) (Option.some Jvm.ClassFile.FieldType.int)) ∈ lw_all := lw_g (lw_at lw_m3 125 rfl) rfl
theorem q628 : (Jvm.Cond.methodLink "MailRoomsModel" (131 : Nat) ({ cls := "MailRoomsModel", name := "isRoom", desc := "(I)Z" } : Jvm.MethodName)) ∈ lw_all := lw_g (lw_at lw_m3 126 rfl) rfl
theorem q629 : (Jvm.Cond.static ({ cls := "MailRoomsModel", name := "isRoom", desc := "(I)Z" } : Jvm.MethodName)) ∈ lw_all := lw_g (lw_at lw_m3 127 rfl) rfl
theorem q630 : (Jvm.Cond.code ({ cls := "MailRoomsModel", name := "isRoom", desc := "(I)Z" } : Jvm.MethodName) prog_9_method_20_code (1 : Nat) (Option.some Jvm.ClassFile.FieldType.boolean)) ∈ lw_all := lw_g (lw_at lw_m3 128 rfl) rfl
theorem q631 : (Jvm.Cond.methodLink "MailRoomsModel" (134 : Nat) ({ cls := "MailRoomsModel", name := "settle", desc := "(IIIZ)V" } : Jvm.MethodName)) ∈ lw_all := lw_g (lw_at lw_m3 129 rfl) rfl
theorem q632 : (Jvm.Cond.privateMethod ({ cls := "MailRoomsModel", name := "settle", desc := "(IIIZ)V" } : Jvm.MethodName)) ∈ lw_tbl := lw_at lw_m3 130 rfl
theorem q633 : (Jvm.Cond.instanceMethod ({ cls := "MailRoomsModel", name := "settle", desc := "(IIIZ)V" } : Jvm.MethodName)) ∈ lw_all := lw_g (lw_at lw_m3 131 rfl) rfl
theorem q634 : (Jvm.Cond.code ({ cls := "MailRoomsModel", name := "settle", desc := "(IIIZ)V" } : Jvm.MethodName) prog_9_method_21_code (5 : Nat) (Option.none : Option Jvm.ClassFile.FieldType)) ∈ lw_all := lw_g (lw_at lw_m3 132 rfl) rfl
theorem q636 : (Jvm.Cond.instanceMethod ({ cls := "MailRoomsModel", name := "change", desc := "(IIIIZ)I" } : Jvm.MethodName)) ∈ lw_all := lw_g (lw_at lw_m3 134 rfl) rfl
theorem q637 : (Jvm.Cond.selects "MailRoomsModel" ({ cls := "MailRoomsModel", name := "change", desc := "(IIIIZ)I" } : Jvm.MethodName) ({ cls := "MailRoomsModel", name := "change", desc := "(IIIIZ)I" } : Jvm.MethodName)) ∈ lw_all := lw_g (lw_at lw_m3 135 rfl) rfl
theorem q638 : (Jvm.Cond.code ({ cls := "MailRoomsModel", name := "change", desc := "(IIIIZ)I" } : Jvm.MethodName) prog_9_method_23_code (6 : Nat) (Option.some Jvm.ClassFile.FieldType.int)) ∈ lw_all := lw_g (lw_at lw_m3 136 rfl) rfl
theorem q640 : (Jvm.Cond.instanceMethod ({ cls := "MailRoomsModel", name := "hand", desc := "(II)I" } : Jvm.MethodName)) ∈ lw_all := lw_g (lw_at lw_m3 138 rfl) rfl
theorem q641 : (Jvm.Cond.selects "MailRoomsModel" ({ cls := "MailRoomsModel", name := "hand", desc := "(II)I" } : Jvm.MethodName) ({ cls := "MailRoomsModel", name := "hand", desc := "(II)I" } : Jvm.MethodName)) ∈ lw_all := lw_g (lw_at lw_m3 139 rfl) rfl
theorem q642 : (Jvm.Cond.code ({ cls := "MailRoomsModel", name := "hand", desc := "(II)I" } : Jvm.MethodName) prog_9_method_33_code (4 : Nat) (Option.some Jvm.ClassFile.FieldType.int)) ∈ lw_all := lw_g (lw_at lw_m3 140 rfl) rfl
theorem q643 : (Jvm.Cond.methodLink "MailRoomsModel" (148 : Nat) ({ cls := "MailRoomsModel", name := "begin", desc := "(II)V" } : Jvm.MethodName)) ∈ lw_all := lw_g (lw_at lw_m3 141 rfl) rfl
theorem q644 : (Jvm.Cond.privateMethod ({ cls := "MailRoomsModel", name := "begin", desc := "(II)V" } : Jvm.MethodName)) ∈ lw_tbl := lw_at lw_m3 142 rfl
theorem q645 : (Jvm.Cond.instanceMethod ({ cls := "MailRoomsModel", name := "begin", desc := "(II)V" } : Jvm.MethodName)) ∈ lw_all := lw_g (lw_at lw_m3 143 rfl) rfl
theorem q646 : (Jvm.Cond.code ({ cls := "MailRoomsModel", name := "begin", desc := "(II)V" } : Jvm.MethodName) prog_9_method_28_code (3 : Nat) (Option.none : Option Jvm.ClassFile.FieldType)) ∈ lw_all := lw_g (lw_at lw_m3 144 rfl) rfl
theorem q647 : (Jvm.Cond.methodLink "MailRoomsModel" (170 : Nat) ({ cls := "MailRoomsModel", name := "split", desc := "(I)V" } : Jvm.MethodName)) ∈ lw_all := lw_g (lw_at lw_m3 145 rfl) rfl
theorem q648 : (Jvm.Cond.privateMethod ({ cls := "MailRoomsModel", name := "split", desc := "(I)V" } : Jvm.MethodName)) ∈ lw_tbl := lw_at lw_m3 146 rfl
theorem q649 : (Jvm.Cond.instanceMethod ({ cls := "MailRoomsModel", name := "split", desc := "(I)V" } : Jvm.MethodName)) ∈ lw_all := lw_g (lw_at lw_m3 147 rfl) rfl
theorem q650 : (Jvm.Cond.code ({ cls := "MailRoomsModel", name := "split", desc := "(I)V" } : Jvm.MethodName) prog_9_method_30_code (4 : Nat) (Option.none : Option Jvm.ClassFile.FieldType)) ∈ lw_all := lw_g (lw_at lw_m3 148 rfl) rfl
theorem q651 : (Jvm.Cond.methodLink "MailRoomsModel" (161 : Nat) ({ cls := "MailRoomsModel", name := "ends", desc := "(I)V" } : Jvm.MethodName)) ∈ lw_all := lw_g (lw_at lw_m3 149 rfl) rfl
theorem q652 : (Jvm.Cond.privateMethod ({ cls := "MailRoomsModel", name := "ends", desc := "(I)V" } : Jvm.MethodName)) ∈ lw_tbl := lw_at lw_m3 150 rfl
theorem q653 : (Jvm.Cond.instanceMethod ({ cls := "MailRoomsModel", name := "ends", desc := "(I)V" } : Jvm.MethodName)) ∈ lw_all := lw_g (lw_at lw_m3 151 rfl) rfl
theorem q654 : (Jvm.Cond.code ({ cls := "MailRoomsModel", name := "ends", desc := "(I)V" } : Jvm.MethodName) prog_9_method_29_code (2 : Nat) (Option.none : Option Jvm.ClassFile.FieldType)) ∈ lw_all := lw_g (lw_at lw_m3 152 rfl) rfl
theorem q655 : (Jvm.Cond.methodLink "MailRoomsModel" (173 : Nat) ({ cls := "MailRoomsModel", name := "comes", desc := "(I)V" } : Jvm.MethodName)) ∈ lw_all := lw_g (lw_at lw_m3 153 rfl) rfl
theorem q656 : (Jvm.Cond.privateMethod ({ cls := "MailRoomsModel", name := "comes", desc := "(I)V" } : Jvm.MethodName)) ∈ lw_tbl := lw_at lw_m3 154 rfl
theorem q657 : (Jvm.Cond.instanceMethod ({ cls := "MailRoomsModel", name := "comes", desc := "(I)V" } : Jvm.MethodName)) ∈ lw_all := lw_g (lw_at lw_m3 155 rfl) rfl
theorem q658 : (Jvm.Cond.code ({ cls := "MailRoomsModel", name := "comes", desc := "(I)V" } : Jvm.MethodName) prog_9_method_32_code (3 : Nat) (Option.none : Option Jvm.ClassFile.FieldType)) ∈ lw_all := lw_g (lw_at lw_m3 156 rfl) rfl
theorem q659 : (Jvm.Cond.methodLink "MailRoomsModel" (164 : Nat) ({ cls := "MailRoomsModel", name := "work", desc := "(II)V" } : Jvm.MethodName)) ∈ lw_all := lw_g (lw_at lw_m3 157 rfl) rfl
theorem q660 : (Jvm.Cond.privateMethod ({ cls := "MailRoomsModel", name := "work", desc := "(II)V" } : Jvm.MethodName)) ∈ lw_tbl := lw_at lw_m3 158 rfl
theorem q661 : (Jvm.Cond.instanceMethod ({ cls := "MailRoomsModel", name := "work", desc := "(II)V" } : Jvm.MethodName)) ∈ lw_all := lw_g (lw_at lw_m3 159 rfl) rfl
theorem q662 : (Jvm.Cond.code ({ cls := "MailRoomsModel", name := "work", desc := "(II)V" } : Jvm.MethodName) prog_9_method_31_code (5 : Nat) (Option.none : Option Jvm.ClassFile.FieldType)) ∈ lw_all := lw_g (lw_at lw_m3 160 rfl) rfl
theorem q663 : (Jvm.Cond.methodLink "MailRoomsModel" (155 : Nat) ({ cls := "MailRoomsModel", name := "turn", desc := "(I)V" } : Jvm.MethodName)) ∈ lw_all := lw_g (lw_at lw_m3 161 rfl) rfl
theorem q664 : (Jvm.Cond.privateMethod ({ cls := "MailRoomsModel", name := "turn", desc := "(I)V" } : Jvm.MethodName)) ∈ lw_tbl := lw_at lw_m3 162 rfl
theorem q665 : (Jvm.Cond.instanceMethod ({ cls := "MailRoomsModel", name := "turn", desc := "(I)V" } : Jvm.MethodName)) ∈ lw_all := lw_g (lw_at lw_m3 163 rfl) rfl
theorem q666 : (Jvm.Cond.code ({ cls := "MailRoomsModel", name := "turn", desc := "(I)V" } : Jvm.MethodName) prog_9_method_24_code (5 : Nat) (Option.none : Option Jvm.ClassFile.FieldType)) ∈ lw_all := lw_g (lw_at lw_m3 164 rfl) rfl
theorem q667 : (Jvm.Cond.methodLink "MailRoomsModel" (158 : Nat) ({ cls := "MailRoomsModel", name := "stampAll", desc := "(I)V" } : Jvm.MethodName)) ∈ lw_all := lw_g (lw_at lw_m3 165 rfl) rfl
theorem q668 : (Jvm.Cond.privateMethod ({ cls := "MailRoomsModel", name := "stampAll", desc := "(I)V" } : Jvm.MethodName)) ∈ lw_tbl := lw_at lw_m3 166 rfl
theorem q669 : (Jvm.Cond.instanceMethod ({ cls := "MailRoomsModel", name := "stampAll", desc := "(I)V" } : Jvm.MethodName)) ∈ lw_all := lw_g (lw_at lw_m3 167 rfl) rfl
theorem q670 : (Jvm.Cond.code ({ cls := "MailRoomsModel", name := "stampAll", desc := "(I)V" } : Jvm.MethodName) prog_9_method_27_code (3 : Nat) (Option.none : Option Jvm.ClassFile.FieldType)) ∈ lw_all := lw_g (lw_at lw_m3 168 rfl) rfl
theorem q671 : (Jvm.Cond.methodLink "MailRoomsModel" (142 : Nat) ({ cls := "MailRoomsModel", name := "stampRow", desc := "(I)V" } : Jvm.MethodName)) ∈ lw_all := lw_g (lw_at lw_m3 169 rfl) rfl
theorem q672 : (Jvm.Cond.privateMethod ({ cls := "MailRoomsModel", name := "stampRow", desc := "(I)V" } : Jvm.MethodName)) ∈ lw_tbl := lw_at lw_m3 170 rfl
theorem q673 : (Jvm.Cond.instanceMethod ({ cls := "MailRoomsModel", name := "stampRow", desc := "(I)V" } : Jvm.MethodName)) ∈ lw_all := lw_g (lw_at lw_m3 171 rfl) rfl
theorem q674 : (Jvm.Cond.code ({ cls := "MailRoomsModel", name := "stampRow", desc := "(I)V" } : Jvm.MethodName) prog_9_method_26_code (3 : Nat) (Option.none : Option Jvm.ClassFile.FieldType)) ∈ lw_all := lw_g (lw_at lw_m3 172 rfl) rfl
theorem q675 : (Jvm.Cond.methodLink "MailRoomsModel" (138 : Nat) ({ cls := "MailRoomsModel", name := "stampLow", desc := "(I)V" } : Jvm.MethodName)) ∈ lw_all := lw_g (lw_at lw_m3 173 rfl) rfl
theorem q676 : (Jvm.Cond.privateMethod ({ cls := "MailRoomsModel", name := "stampLow", desc := "(I)V" } : Jvm.MethodName)) ∈ lw_tbl := lw_at lw_m3 174 rfl
theorem q677 : (Jvm.Cond.instanceMethod ({ cls := "MailRoomsModel", name := "stampLow", desc := "(I)V" } : Jvm.MethodName)) ∈ lw_all := lw_g (lw_at lw_m3 175 rfl) rfl
theorem q678 : (Jvm.Cond.code ({ cls := "MailRoomsModel", name := "stampLow", desc := "(I)V" } : Jvm.MethodName) prog_9_method_25_code (5 : Nat) (Option.none : Option Jvm.ClassFile.FieldType)) ∈ lw_all := lw_g (lw_at lw_m3 176 rfl) rfl
theorem q680 : (Jvm.Cond.instanceMethod ({ cls := "MailRoomsModel", name := "out", desc := "()I" } : Jvm.MethodName)) ∈ lw_all := lw_g (lw_at lw_m3 178 rfl) rfl
theorem q681 : (Jvm.Cond.selects "MailRoomsModel" ({ cls := "MailRoomsModel", name := "out", desc := "()I" } : Jvm.MethodName) ({ cls := "MailRoomsModel", name := "out", desc := "()I" } : Jvm.MethodName)) ∈ lw_all := lw_g (lw_at lw_m3 179 rfl) rfl
theorem q682 : (Jvm.Cond.code ({ cls := "MailRoomsModel", name := "out", desc := "()I" } : Jvm.MethodName) prog_9_method_34_code (1 : Nat) (Option.some Jvm.ClassFile.FieldType.int)) ∈ lw_all := lw_g (lw_at lw_m3 180 rfl) rfl
theorem q684 : (Jvm.Cond.instanceMethod ({ cls := "MailRoomsModel", name := "told", desc := "(III)I" } : Jvm.MethodName)) ∈ lw_all := lw_g (lw_at lw_m3 182 rfl) rfl
theorem q685 : (Jvm.Cond.selects "MailRoomsModel" ({ cls := "MailRoomsModel", name := "told", desc := "(III)I" } : Jvm.MethodName) ({ cls := "MailRoomsModel", name := "told", desc := "(III)I" } : Jvm.MethodName)) ∈ lw_all := lw_g (lw_at lw_m3 183 rfl) rfl
theorem q686 : (Jvm.Cond.code ({ cls := "MailRoomsModel", name := "told", desc := "(III)I" } : Jvm.MethodName) prog_9_method_35_code (5 : Nat) (Option.some Jvm.ClassFile.FieldType.int)) ∈ lw_all := lw_g (lw_at lw_m3 184 rfl) rfl
theorem q688 : (Jvm.Cond.instanceMethod ({ cls := "MailRoomsModel", name := "count", desc := "(I)I" } : Jvm.MethodName)) ∈ lw_all := lw_g (lw_at lw_m3 186 rfl) rfl
theorem q689 : (Jvm.Cond.selects "MailRoomsModel" ({ cls := "MailRoomsModel", name := "count", desc := "(I)I" } : Jvm.MethodName) ({ cls := "MailRoomsModel", name := "count", desc := "(I)I" } : Jvm.MethodName)) ∈ lw_all := lw_g (lw_at lw_m3 187 rfl) rfl
theorem q690 : (Jvm.Cond.code ({ cls := "MailRoomsModel", name := "count", desc := "(I)I" } : Jvm.MethodName) prog_9_method_36_code (2 : Nat) (Option.some Jvm.ClassFile.FieldType.int)) ∈ lw_all := lw_g (lw_at lw_m3 188 rfl) rfl
theorem q692 : (Jvm.Cond.instanceMethod ({ cls := "MailRoomsModel", name := "refused", desc := "()I" } : Jvm.MethodName)) ∈ lw_all := lw_g (lw_at lw_m3 190 rfl) rfl
theorem q693 : (Jvm.Cond.selects "MailRoomsModel" ({ cls := "MailRoomsModel", name := "refused", desc := "()I" } : Jvm.MethodName) ({ cls := "MailRoomsModel", name := "refused", desc := "()I" } : Jvm.MethodName)) ∈ lw_all := lw_g (lw_at lw_m3 191 rfl) rfl
theorem q694 : (Jvm.Cond.code ({ cls := "MailRoomsModel", name := "refused", desc := "()I" } : Jvm.MethodName) prog_9_method_37_code (1 : Nat) (Option.some Jvm.ClassFile.FieldType.int)) ∈ lw_all := lw_g (lw_at lw_m3 192 rfl) rfl
theorem in_X1 : ∀ w ∈ wsX10, w ∈ lw_all := lw_in wsX10 [500, 502, 504, 506, 508, 510, 512, 514, 516, 518, 520, 522, 524, 526, 528, 530, 532, 534, 536, 538, 540, 542, 544, 546, 548, 550, 552] (by decide +kernel) (by decide +kernel)
