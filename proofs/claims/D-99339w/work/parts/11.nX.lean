/-! MarginFolk -/
set_option maxRecDepth 100000
def RX0 : String := "MarginFolk"
def TX0 : u_T := fun k => match k with
  | 0 => ("MarginFolk", "folio", "LMarginFolk$Folio;", false)
  | 1 => ("MarginFolk", "tape", "[B", true)
  | 2 => ("MarginFolk", "taped", "I", false)
  | 3 => ("MarginFolk", "faultKind", "I", false)
  | 4 => ("MarginFolk", "faultPlace", "I", false)
  | 5 => ("MarginFolk", "reader", "LMarginFolk$Reader;", true)
  | 6 => ("MarginFolk", "moment", "LMarginFolk$Moment;", true)
  | 7 => ("MarginFolk", "asked", "LMarginFolk$Moment;", true)
  | 8 => ("MarginFolk", "refused", "[I", true)
  | 9 => ("MarginFolk", "now", "LMarginFolk$State;", true)
  | 10 => ("MarginFolk", "tried", "LMarginFolk$State;", true)
  | 11 => ("MarginFolk", "here", "[[Z", false)
  | 12 => ("MarginFolk", "next", "[[Z", false)
  | 13 => ("MarginFolk", "rowBeing", "[I", true)
  | 14 => ("MarginFolk", "rowCell", "[I", true)
  | 15 => ("MarginFolk", "rows", "I", false)
  | 16 => ("MarginFolk", "there", "[[I", true)
  | 17 => ("MarginFolk", "goers", "[I", true)
  | 18 => ("MarginFolk", "free", "[I", true)
  | 19 => ("MarginFolk", "kept", "[LMarginFolk$State;", true)
  | 20 => ("MarginFolk", "undos", "I", false)
  | 21 => ("MarginFolk", "seeds", "J", false)
  | 22 => ("MarginFolk", "askedBeing", "I", false)
  | 23 => ("MarginFolk", "out", "[B", true)
  | _ => ("MarginFolk", "outs", "I", false)
def tyX0 : Nat → FieldType := fun k => match k with
  | 0 => .object "MarginFolk$Folio"
  | 1 => .array .byte
  | 2 => .int
  | 3 => .int
  | 4 => .int
  | 5 => .object "MarginFolk$Reader"
  | 6 => .object "MarginFolk$Moment"
  | 7 => .object "MarginFolk$Moment"
  | 8 => .array .int
  | 9 => .object "MarginFolk$State"
  | 10 => .object "MarginFolk$State"
  | 11 => .array (.array .boolean)
  | 12 => .array (.array .boolean)
  | 13 => .array .int
  | 14 => .array .int
  | 15 => .int
  | 16 => .array (.array .int)
  | 17 => .array .int
  | 18 => .array .int
  | 19 => .array (.object "MarginFolk$State")
  | 20 => .int
  | 21 => .long
  | 22 => .int
  | 23 => .array .byte
  | _ => .int
abbrev wsX00 : List Cond := u_ws RX0 TX0 25
set_option maxRecDepth 100000 in
theorem nmX0 : ∀ a, a < 25 → ∀ b, b < 25 → a ≠ b → (TX0 a).2.1 ≠ (TX0 b).2.1 := by decide +kernel
set_option maxRecDepth 100000 in
theorem tyX0_ok : ∀ k, k < 25 → parseFieldDescriptor (TX0 k).2.2.1 = some (tyX0 k) := by decide +kernel
abbrev cX0_init : ByteArray := prog_1_method_7_code
def yX0_init : MethodName := ⟨RX0, "<init>", "()V"⟩
def dkwX0_init_9 : List UInt8 := [181, 0, 109, 177]
abbrev dktX0_init_9 : List UInt8 := dkwX0_init_9 ++ []
def dkwX0_init_8 : List UInt8 := [89, 42, 183, 0, 68, 83, 132, 1, 1, 167, 255, 233, 42, 10, 181, 0, 105, 42, 16, 57, 188, 8]
abbrev dktX0_init_8 : List UInt8 := dkwX0_init_8 ++ dktX0_init_9
def dkwX0_init_7 : List UInt8 := [16, 20, 189, 0, 66, 181, 0, 101, 3, 60, 27, 16, 20, 162, 0, 23, 42, 180, 0, 101, 27, 187, 0, 66]
abbrev dktX0_init_7 : List UInt8 := dkwX0_init_7 ++ dktX0_init_8
def dkwX0_init_6 : List UInt8 := [197, 0, 90, 2, 181, 0, 92, 42, 16, 8, 188, 10, 181, 0, 95, 42, 16, 8, 188, 10, 181, 0, 98, 42]
abbrev dktX0_init_6 : List UInt8 := dkwX0_init_6 ++ dktX0_init_7
def dkwX0_init_5 : List UInt8 := [181, 0, 81, 42, 16, 16, 188, 10, 181, 0, 84, 42, 16, 16, 188, 10, 181, 0, 87, 42, 16, 8, 16, 8]
abbrev dktX0_init_5 : List UInt8 := dkwX0_init_5 ++ dktX0_init_6
def dkwX0_init_4 : List UInt8 := [181, 0, 73, 42, 16, 6, 16, 8, 197, 0, 76, 2, 181, 0, 78, 42, 16, 6, 16, 8, 197, 0, 76, 2]
abbrev dktX0_init_4 : List UInt8 := dkwX0_init_4 ++ dktX0_init_5
def dkwX0_init_3 : List UInt8 := [181, 0, 62, 42, 187, 0, 66, 89, 42, 183, 0, 68, 181, 0, 69, 42, 187, 0, 66, 89, 42, 183, 0, 68]
abbrev dktX0_init_3 : List UInt8 := dkwX0_init_3 ++ dktX0_init_4
def dkwX0_init_2 : List UInt8 := [183, 0, 54, 181, 0, 55, 42, 187, 0, 52, 89, 183, 0, 54, 181, 0, 59, 42, 16, 6, 188, 10]
abbrev dktX0_init_2 : List UInt8 := dkwX0_init_2 ++ dktX0_init_3
def dkwX0_init_1 : List UInt8 := [42, 2, 181, 0, 39, 42, 187, 0, 43, 89, 42, 183, 0, 45, 181, 0, 48, 42, 187, 0, 52, 89]
abbrev dktX0_init_1 : List UInt8 := dkwX0_init_1 ++ dktX0_init_2
def dkwX0_init_0 : List UInt8 := [42, 183, 0, 22, 42, 187, 0, 28, 89, 183, 0, 30, 181, 0, 31, 42, 17, 6, 64, 188, 8, 181, 0, 35]
abbrev dktX0_init_0 : List UInt8 := dkwX0_init_0 ++ dktX0_init_1
theorem dksX0_init_0 : cX0_init.data.toList.drop 0 = dktX0_init_0 := by decide +kernel
theorem dksX0_init_1 : cX0_init.data.toList.drop 24 = dktX0_init_1 := dk_seg dksX0_init_0 24 rfl rfl
theorem dksX0_init_2 : cX0_init.data.toList.drop 46 = dktX0_init_2 := dk_seg dksX0_init_1 22 rfl rfl
theorem dksX0_init_3 : cX0_init.data.toList.drop 68 = dktX0_init_3 := dk_seg dksX0_init_2 22 rfl rfl
theorem dksX0_init_4 : cX0_init.data.toList.drop 92 = dktX0_init_4 := dk_seg dksX0_init_3 24 rfl rfl
theorem dksX0_init_5 : cX0_init.data.toList.drop 116 = dktX0_init_5 := dk_seg dksX0_init_4 24 rfl rfl
theorem dksX0_init_6 : cX0_init.data.toList.drop 140 = dktX0_init_6 := dk_seg dksX0_init_5 24 rfl rfl
theorem dksX0_init_7 : cX0_init.data.toList.drop 164 = dktX0_init_7 := dk_seg dksX0_init_6 24 rfl rfl
theorem dksX0_init_8 : cX0_init.data.toList.drop 188 = dktX0_init_8 := dk_seg dksX0_init_7 24 rfl rfl
theorem dksX0_init_9 : cX0_init.data.toList.drop 210 = dktX0_init_9 := dk_seg dksX0_init_8 22 rfl rfl
theorem dX0_init_0 : decode cX0_init 0 = .ok (.aload_n 0, 1) := dk_42 (dk_at dksX0_init_0 0 rfl rfl)
theorem dX0_init_1 : decode cX0_init 1 = .ok (.invokespecial 22, 3) := dk_183 0 22 (dk_at dksX0_init_0 1 rfl rfl)
theorem dX0_init_4 : decode cX0_init 4 = .ok (.aload_n 0, 1) := dk_42 (dk_at dksX0_init_0 4 rfl rfl)
theorem dX0_init_5 : decode cX0_init 5 = .ok (.new 28, 3) := dk_187 0 28 (dk_at dksX0_init_0 5 rfl rfl)
theorem dX0_init_8 : decode cX0_init 8 = .ok (.dup, 1) := dk_89 (dk_at dksX0_init_0 8 rfl rfl)
theorem dX0_init_9 : decode cX0_init 9 = .ok (.invokespecial 30, 3) := dk_183 0 30 (dk_at dksX0_init_0 9 rfl rfl)
theorem dX0_init_12 : decode cX0_init 12 = .ok (.putfield 31, 3) := dk_181 0 31 (dk_at dksX0_init_0 12 rfl rfl)
theorem dX0_init_15 : decode cX0_init 15 = .ok (.aload_n 0, 1) := dk_42 (dk_at dksX0_init_0 15 rfl rfl)
theorem dX0_init_16 : decode cX0_init 16 = .ok (.sipush 1600, 3) := dk_17 6 64 (dk_at dksX0_init_0 16 rfl rfl)
theorem dX0_init_19 : decode cX0_init 19 = .ok (.newarray .byte, 2) := dk_188_8 (dk_at dksX0_init_0 19 rfl rfl)
theorem dX0_init_21 : decode cX0_init 21 = .ok (.putfield 35, 3) := dk_181 0 35 (dk_at dksX0_init_0 21 rfl rfl)
theorem dX0_init_24 : decode cX0_init 24 = .ok (.aload_n 0, 1) := dk_42 (dk_at dksX0_init_1 0 rfl rfl)
theorem dX0_init_25 : decode cX0_init 25 = .ok (.iconst (-1), 1) := dk_2 (dk_at dksX0_init_1 1 rfl rfl)
theorem dX0_init_26 : decode cX0_init 26 = .ok (.putfield 39, 3) := dk_181 0 39 (dk_at dksX0_init_1 2 rfl rfl)
theorem dX0_init_29 : decode cX0_init 29 = .ok (.aload_n 0, 1) := dk_42 (dk_at dksX0_init_1 5 rfl rfl)
theorem dX0_init_30 : decode cX0_init 30 = .ok (.new 43, 3) := dk_187 0 43 (dk_at dksX0_init_1 6 rfl rfl)
theorem dX0_init_33 : decode cX0_init 33 = .ok (.dup, 1) := dk_89 (dk_at dksX0_init_1 9 rfl rfl)
theorem dX0_init_34 : decode cX0_init 34 = .ok (.aload_n 0, 1) := dk_42 (dk_at dksX0_init_1 10 rfl rfl)
theorem dX0_init_35 : decode cX0_init 35 = .ok (.invokespecial 45, 3) := dk_183 0 45 (dk_at dksX0_init_1 11 rfl rfl)
theorem dX0_init_38 : decode cX0_init 38 = .ok (.putfield 48, 3) := dk_181 0 48 (dk_at dksX0_init_1 14 rfl rfl)
theorem dX0_init_41 : decode cX0_init 41 = .ok (.aload_n 0, 1) := dk_42 (dk_at dksX0_init_1 17 rfl rfl)
theorem dX0_init_42 : decode cX0_init 42 = .ok (.new 52, 3) := dk_187 0 52 (dk_at dksX0_init_1 18 rfl rfl)
theorem dX0_init_45 : decode cX0_init 45 = .ok (.dup, 1) := dk_89 (dk_at dksX0_init_1 21 rfl rfl)
theorem dX0_init_46 : decode cX0_init 46 = .ok (.invokespecial 54, 3) := dk_183 0 54 (dk_at dksX0_init_2 0 rfl rfl)
theorem dX0_init_49 : decode cX0_init 49 = .ok (.putfield 55, 3) := dk_181 0 55 (dk_at dksX0_init_2 3 rfl rfl)
theorem dX0_init_52 : decode cX0_init 52 = .ok (.aload_n 0, 1) := dk_42 (dk_at dksX0_init_2 6 rfl rfl)
theorem dX0_init_53 : decode cX0_init 53 = .ok (.new 52, 3) := dk_187 0 52 (dk_at dksX0_init_2 7 rfl rfl)
theorem dX0_init_56 : decode cX0_init 56 = .ok (.dup, 1) := dk_89 (dk_at dksX0_init_2 10 rfl rfl)
theorem dX0_init_57 : decode cX0_init 57 = .ok (.invokespecial 54, 3) := dk_183 0 54 (dk_at dksX0_init_2 11 rfl rfl)
theorem dX0_init_60 : decode cX0_init 60 = .ok (.putfield 59, 3) := dk_181 0 59 (dk_at dksX0_init_2 14 rfl rfl)
theorem dX0_init_63 : decode cX0_init 63 = .ok (.aload_n 0, 1) := dk_42 (dk_at dksX0_init_2 17 rfl rfl)
theorem dX0_init_64 : decode cX0_init 64 = .ok (.bipush 6, 2) := dk_16 6 (dk_at dksX0_init_2 18 rfl rfl)
theorem dX0_init_66 : decode cX0_init 66 = .ok (.newarray .int, 2) := dk_188_10 (dk_at dksX0_init_2 20 rfl rfl)
theorem dX0_init_68 : decode cX0_init 68 = .ok (.putfield 62, 3) := dk_181 0 62 (dk_at dksX0_init_3 0 rfl rfl)
theorem dX0_init_71 : decode cX0_init 71 = .ok (.aload_n 0, 1) := dk_42 (dk_at dksX0_init_3 3 rfl rfl)
theorem dX0_init_72 : decode cX0_init 72 = .ok (.new 66, 3) := dk_187 0 66 (dk_at dksX0_init_3 4 rfl rfl)
theorem dX0_init_75 : decode cX0_init 75 = .ok (.dup, 1) := dk_89 (dk_at dksX0_init_3 7 rfl rfl)
theorem dX0_init_76 : decode cX0_init 76 = .ok (.aload_n 0, 1) := dk_42 (dk_at dksX0_init_3 8 rfl rfl)
theorem dX0_init_77 : decode cX0_init 77 = .ok (.invokespecial 68, 3) := dk_183 0 68 (dk_at dksX0_init_3 9 rfl rfl)
theorem dX0_init_80 : decode cX0_init 80 = .ok (.putfield 69, 3) := dk_181 0 69 (dk_at dksX0_init_3 12 rfl rfl)
theorem dX0_init_83 : decode cX0_init 83 = .ok (.aload_n 0, 1) := dk_42 (dk_at dksX0_init_3 15 rfl rfl)
theorem dX0_init_84 : decode cX0_init 84 = .ok (.new 66, 3) := dk_187 0 66 (dk_at dksX0_init_3 16 rfl rfl)
theorem dX0_init_87 : decode cX0_init 87 = .ok (.dup, 1) := dk_89 (dk_at dksX0_init_3 19 rfl rfl)
theorem dX0_init_88 : decode cX0_init 88 = .ok (.aload_n 0, 1) := dk_42 (dk_at dksX0_init_3 20 rfl rfl)
theorem dX0_init_89 : decode cX0_init 89 = .ok (.invokespecial 68, 3) := dk_183 0 68 (dk_at dksX0_init_3 21 rfl rfl)
theorem dX0_init_92 : decode cX0_init 92 = .ok (.putfield 73, 3) := dk_181 0 73 (dk_at dksX0_init_4 0 rfl rfl)
theorem dX0_init_95 : decode cX0_init 95 = .ok (.aload_n 0, 1) := dk_42 (dk_at dksX0_init_4 3 rfl rfl)
theorem dX0_init_96 : decode cX0_init 96 = .ok (.bipush 6, 2) := dk_16 6 (dk_at dksX0_init_4 4 rfl rfl)
theorem dX0_init_98 : decode cX0_init 98 = .ok (.bipush 8, 2) := dk_16 8 (dk_at dksX0_init_4 6 rfl rfl)
theorem dX0_init_100 : decode cX0_init 100 = .ok (.multianewarray 76 2, 4) := by decide +kernel
theorem dX0_init_104 : decode cX0_init 104 = .ok (.putfield 78, 3) := dk_181 0 78 (dk_at dksX0_init_4 12 rfl rfl)
theorem dX0_init_107 : decode cX0_init 107 = .ok (.aload_n 0, 1) := dk_42 (dk_at dksX0_init_4 15 rfl rfl)
theorem dX0_init_108 : decode cX0_init 108 = .ok (.bipush 6, 2) := dk_16 6 (dk_at dksX0_init_4 16 rfl rfl)
theorem dX0_init_110 : decode cX0_init 110 = .ok (.bipush 8, 2) := dk_16 8 (dk_at dksX0_init_4 18 rfl rfl)
theorem dX0_init_112 : decode cX0_init 112 = .ok (.multianewarray 76 2, 4) := by decide +kernel
theorem dX0_init_116 : decode cX0_init 116 = .ok (.putfield 81, 3) := dk_181 0 81 (dk_at dksX0_init_5 0 rfl rfl)
theorem dX0_init_119 : decode cX0_init 119 = .ok (.aload_n 0, 1) := dk_42 (dk_at dksX0_init_5 3 rfl rfl)
theorem dX0_init_120 : decode cX0_init 120 = .ok (.bipush 16, 2) := dk_16 16 (dk_at dksX0_init_5 4 rfl rfl)
theorem dX0_init_122 : decode cX0_init 122 = .ok (.newarray .int, 2) := dk_188_10 (dk_at dksX0_init_5 6 rfl rfl)
theorem dX0_init_124 : decode cX0_init 124 = .ok (.putfield 84, 3) := dk_181 0 84 (dk_at dksX0_init_5 8 rfl rfl)
theorem dX0_init_127 : decode cX0_init 127 = .ok (.aload_n 0, 1) := dk_42 (dk_at dksX0_init_5 11 rfl rfl)
theorem dX0_init_128 : decode cX0_init 128 = .ok (.bipush 16, 2) := dk_16 16 (dk_at dksX0_init_5 12 rfl rfl)
theorem dX0_init_130 : decode cX0_init 130 = .ok (.newarray .int, 2) := dk_188_10 (dk_at dksX0_init_5 14 rfl rfl)
theorem dX0_init_132 : decode cX0_init 132 = .ok (.putfield 87, 3) := dk_181 0 87 (dk_at dksX0_init_5 16 rfl rfl)
theorem dX0_init_135 : decode cX0_init 135 = .ok (.aload_n 0, 1) := dk_42 (dk_at dksX0_init_5 19 rfl rfl)
theorem dX0_init_136 : decode cX0_init 136 = .ok (.bipush 8, 2) := dk_16 8 (dk_at dksX0_init_5 20 rfl rfl)
theorem dX0_init_138 : decode cX0_init 138 = .ok (.bipush 8, 2) := dk_16 8 (dk_at dksX0_init_5 22 rfl rfl)
theorem dX0_init_140 : decode cX0_init 140 = .ok (.multianewarray 90 2, 4) := by decide +kernel
theorem dX0_init_144 : decode cX0_init 144 = .ok (.putfield 92, 3) := dk_181 0 92 (dk_at dksX0_init_6 4 rfl rfl)
theorem dX0_init_147 : decode cX0_init 147 = .ok (.aload_n 0, 1) := dk_42 (dk_at dksX0_init_6 7 rfl rfl)
theorem dX0_init_148 : decode cX0_init 148 = .ok (.bipush 8, 2) := dk_16 8 (dk_at dksX0_init_6 8 rfl rfl)
theorem dX0_init_150 : decode cX0_init 150 = .ok (.newarray .int, 2) := dk_188_10 (dk_at dksX0_init_6 10 rfl rfl)
theorem dX0_init_152 : decode cX0_init 152 = .ok (.putfield 95, 3) := dk_181 0 95 (dk_at dksX0_init_6 12 rfl rfl)
theorem dX0_init_155 : decode cX0_init 155 = .ok (.aload_n 0, 1) := dk_42 (dk_at dksX0_init_6 15 rfl rfl)
theorem dX0_init_156 : decode cX0_init 156 = .ok (.bipush 8, 2) := dk_16 8 (dk_at dksX0_init_6 16 rfl rfl)
theorem dX0_init_158 : decode cX0_init 158 = .ok (.newarray .int, 2) := dk_188_10 (dk_at dksX0_init_6 18 rfl rfl)
theorem dX0_init_160 : decode cX0_init 160 = .ok (.putfield 98, 3) := dk_181 0 98 (dk_at dksX0_init_6 20 rfl rfl)
theorem dX0_init_163 : decode cX0_init 163 = .ok (.aload_n 0, 1) := dk_42 (dk_at dksX0_init_6 23 rfl rfl)
theorem dX0_init_164 : decode cX0_init 164 = .ok (.bipush 20, 2) := dk_16 20 (dk_at dksX0_init_7 0 rfl rfl)
theorem dX0_init_166 : decode cX0_init 166 = .ok (.anewarray 66, 3) := dk_189 0 66 (dk_at dksX0_init_7 2 rfl rfl)
theorem dX0_init_169 : decode cX0_init 169 = .ok (.putfield 101, 3) := dk_181 0 101 (dk_at dksX0_init_7 5 rfl rfl)
theorem dX0_init_172 : decode cX0_init 172 = .ok (.iconst 0, 1) := dk_3 (dk_at dksX0_init_7 8 rfl rfl)
theorem dX0_init_173 : decode cX0_init 173 = .ok (.istore_n 1, 1) := dk_60 (dk_at dksX0_init_7 9 rfl rfl)
theorem dX0_init_174 : decode cX0_init 174 = .ok (.iload_n 1, 1) := dk_27 (dk_at dksX0_init_7 10 rfl rfl)
theorem dX0_init_175 : decode cX0_init 175 = .ok (.bipush 20, 2) := dk_16 20 (dk_at dksX0_init_7 11 rfl rfl)
theorem dX0_init_177 : decode cX0_init 177 = .ok (.if_icmp .ge 23, 3) := dk_162 0 23 (dk_at dksX0_init_7 13 rfl rfl)
theorem dX0_init_180 : decode cX0_init 180 = .ok (.aload_n 0, 1) := dk_42 (dk_at dksX0_init_7 16 rfl rfl)
theorem dX0_init_181 : decode cX0_init 181 = .ok (.getfield 101, 3) := dk_180 0 101 (dk_at dksX0_init_7 17 rfl rfl)
theorem dX0_init_184 : decode cX0_init 184 = .ok (.iload_n 1, 1) := dk_27 (dk_at dksX0_init_7 20 rfl rfl)
theorem dX0_init_185 : decode cX0_init 185 = .ok (.new 66, 3) := dk_187 0 66 (dk_at dksX0_init_7 21 rfl rfl)
theorem dX0_init_188 : decode cX0_init 188 = .ok (.dup, 1) := dk_89 (dk_at dksX0_init_8 0 rfl rfl)
theorem dX0_init_189 : decode cX0_init 189 = .ok (.aload_n 0, 1) := dk_42 (dk_at dksX0_init_8 1 rfl rfl)
theorem dX0_init_190 : decode cX0_init 190 = .ok (.invokespecial 68, 3) := dk_183 0 68 (dk_at dksX0_init_8 2 rfl rfl)
theorem dX0_init_193 : decode cX0_init 193 = .ok (.aastore, 1) := dk_83 (dk_at dksX0_init_8 5 rfl rfl)
theorem dX0_init_194 : decode cX0_init 194 = .ok (.iinc 1 1, 3) := dk_132 1 1 (dk_at dksX0_init_8 6 rfl rfl)
theorem dX0_init_197 : decode cX0_init 197 = .ok (.goto (-23), 3) := dk_167 255 233 (dk_at dksX0_init_8 9 rfl rfl)
theorem dX0_init_200 : decode cX0_init 200 = .ok (.aload_n 0, 1) := dk_42 (dk_at dksX0_init_8 12 rfl rfl)
theorem dX0_init_201 : decode cX0_init 201 = .ok (.lconst 1, 1) := dk_10 (dk_at dksX0_init_8 13 rfl rfl)
theorem dX0_init_202 : decode cX0_init 202 = .ok (.putfield 105, 3) := dk_181 0 105 (dk_at dksX0_init_8 14 rfl rfl)
theorem dX0_init_205 : decode cX0_init 205 = .ok (.aload_n 0, 1) := dk_42 (dk_at dksX0_init_8 17 rfl rfl)
theorem dX0_init_206 : decode cX0_init 206 = .ok (.bipush 57, 2) := dk_16 57 (dk_at dksX0_init_8 18 rfl rfl)
theorem dX0_init_208 : decode cX0_init 208 = .ok (.newarray .byte, 2) := dk_188_8 (dk_at dksX0_init_8 20 rfl rfl)
theorem dX0_init_210 : decode cX0_init 210 = .ok (.putfield 109, 3) := dk_181 0 109 (dk_at dksX0_init_9 0 rfl rfl)
theorem dX0_init_213 : decode cX0_init 213 = .ok (.return_, 1) := dk_177 (dk_at dksX0_init_9 3 rfl rfl)
abbrev cX0_feed : ByteArray := prog_1_method_10_code
def yX0_feed : MethodName := ⟨RX0, "feed", "(IIIII)I"⟩
def dkwX0_feed_2 : List UInt8 := [180, 0, 112, 172]
abbrev dktX0_feed_2 : List UInt8 := dkwX0_feed_2 ++ []
def dkwX0_feed_1 : List UInt8 := [42, 28, 182, 0, 119, 42, 29, 182, 0, 119, 42, 21, 4, 182, 0, 119, 42, 21, 5, 182, 0, 119, 42]
abbrev dktX0_feed_1 : List UInt8 := dkwX0_feed_1 ++ dktX0_feed_2
def dkwX0_feed_0 : List UInt8 := [42, 180, 0, 112, 16, 20, 96, 17, 6, 64, 164, 0, 9, 42, 3, 182, 0, 115, 172, 42, 27, 182, 0, 119]
abbrev dktX0_feed_0 : List UInt8 := dkwX0_feed_0 ++ dktX0_feed_1
theorem dksX0_feed_0 : cX0_feed.data.toList.drop 0 = dktX0_feed_0 := by decide +kernel
theorem dksX0_feed_1 : cX0_feed.data.toList.drop 24 = dktX0_feed_1 := dk_seg dksX0_feed_0 24 rfl rfl
theorem dksX0_feed_2 : cX0_feed.data.toList.drop 47 = dktX0_feed_2 := dk_seg dksX0_feed_1 23 rfl rfl
theorem dX0_feed_0 : decode cX0_feed 0 = .ok (.aload_n 0, 1) := dk_42 (dk_at dksX0_feed_0 0 rfl rfl)
theorem dX0_feed_1 : decode cX0_feed 1 = .ok (.getfield 112, 3) := dk_180 0 112 (dk_at dksX0_feed_0 1 rfl rfl)
theorem dX0_feed_4 : decode cX0_feed 4 = .ok (.bipush 20, 2) := dk_16 20 (dk_at dksX0_feed_0 4 rfl rfl)
theorem dX0_feed_6 : decode cX0_feed 6 = .ok (.iadd, 1) := dk_96 (dk_at dksX0_feed_0 6 rfl rfl)
theorem dX0_feed_7 : decode cX0_feed 7 = .ok (.sipush 1600, 3) := dk_17 6 64 (dk_at dksX0_feed_0 7 rfl rfl)
theorem dX0_feed_10 : decode cX0_feed 10 = .ok (.if_icmp .le 9, 3) := dk_164 0 9 (dk_at dksX0_feed_0 10 rfl rfl)
theorem dX0_feed_13 : decode cX0_feed 13 = .ok (.aload_n 0, 1) := dk_42 (dk_at dksX0_feed_0 13 rfl rfl)
theorem dX0_feed_14 : decode cX0_feed 14 = .ok (.iconst 0, 1) := dk_3 (dk_at dksX0_feed_0 14 rfl rfl)
theorem dX0_feed_15 : decode cX0_feed 15 = .ok (.invokevirtual 115, 3) := dk_182 0 115 (dk_at dksX0_feed_0 15 rfl rfl)
theorem dX0_feed_18 : decode cX0_feed 18 = .ok (.ireturn, 1) := dk_172 (dk_at dksX0_feed_0 18 rfl rfl)
theorem dX0_feed_19 : decode cX0_feed 19 = .ok (.aload_n 0, 1) := dk_42 (dk_at dksX0_feed_0 19 rfl rfl)
theorem dX0_feed_20 : decode cX0_feed 20 = .ok (.iload_n 1, 1) := dk_27 (dk_at dksX0_feed_0 20 rfl rfl)
theorem dX0_feed_21 : decode cX0_feed 21 = .ok (.invokevirtual 119, 3) := dk_182 0 119 (dk_at dksX0_feed_0 21 rfl rfl)
theorem dX0_feed_24 : decode cX0_feed 24 = .ok (.aload_n 0, 1) := dk_42 (dk_at dksX0_feed_1 0 rfl rfl)
theorem dX0_feed_25 : decode cX0_feed 25 = .ok (.iload_n 2, 1) := dk_28 (dk_at dksX0_feed_1 1 rfl rfl)
theorem dX0_feed_26 : decode cX0_feed 26 = .ok (.invokevirtual 119, 3) := dk_182 0 119 (dk_at dksX0_feed_1 2 rfl rfl)
theorem dX0_feed_29 : decode cX0_feed 29 = .ok (.aload_n 0, 1) := dk_42 (dk_at dksX0_feed_1 5 rfl rfl)
theorem dX0_feed_30 : decode cX0_feed 30 = .ok (.iload_n 3, 1) := dk_29 (dk_at dksX0_feed_1 6 rfl rfl)
theorem dX0_feed_31 : decode cX0_feed 31 = .ok (.invokevirtual 119, 3) := dk_182 0 119 (dk_at dksX0_feed_1 7 rfl rfl)
theorem dX0_feed_34 : decode cX0_feed 34 = .ok (.aload_n 0, 1) := dk_42 (dk_at dksX0_feed_1 10 rfl rfl)
theorem dX0_feed_35 : decode cX0_feed 35 = .ok (.iload 4, 2) := dk_21 4 (dk_at dksX0_feed_1 11 rfl rfl)
theorem dX0_feed_37 : decode cX0_feed 37 = .ok (.invokevirtual 119, 3) := dk_182 0 119 (dk_at dksX0_feed_1 13 rfl rfl)
theorem dX0_feed_40 : decode cX0_feed 40 = .ok (.aload_n 0, 1) := dk_42 (dk_at dksX0_feed_1 16 rfl rfl)
theorem dX0_feed_41 : decode cX0_feed 41 = .ok (.iload 5, 2) := dk_21 5 (dk_at dksX0_feed_1 17 rfl rfl)
theorem dX0_feed_43 : decode cX0_feed 43 = .ok (.invokevirtual 119, 3) := dk_182 0 119 (dk_at dksX0_feed_1 19 rfl rfl)
theorem dX0_feed_46 : decode cX0_feed 46 = .ok (.aload_n 0, 1) := dk_42 (dk_at dksX0_feed_1 22 rfl rfl)
theorem dX0_feed_47 : decode cX0_feed 47 = .ok (.getfield 112, 3) := dk_180 0 112 (dk_at dksX0_feed_2 0 rfl rfl)
theorem dX0_feed_50 : decode cX0_feed 50 = .ok (.ireturn, 1) := dk_172 (dk_at dksX0_feed_2 3 rfl rfl)
abbrev cX0_refuses : ByteArray := prog_1_method_8_code
def yX0_refuses : MethodName := ⟨RX0, "refuses", "(I)I"⟩
def dkwX0_refuses_0 : List UInt8 := [42, 180, 0, 62, 27, 92, 46, 4, 96, 79, 2, 172]
abbrev dktX0_refuses_0 : List UInt8 := dkwX0_refuses_0 ++ []
theorem dksX0_refuses_0 : cX0_refuses.data.toList.drop 0 = dktX0_refuses_0 := by decide +kernel
theorem dX0_refuses_0 : decode cX0_refuses 0 = .ok (.aload_n 0, 1) := dk_42 (dk_at dksX0_refuses_0 0 rfl rfl)
theorem dX0_refuses_1 : decode cX0_refuses 1 = .ok (.getfield 62, 3) := dk_180 0 62 (dk_at dksX0_refuses_0 1 rfl rfl)
theorem dX0_refuses_4 : decode cX0_refuses 4 = .ok (.iload_n 1, 1) := dk_27 (dk_at dksX0_refuses_0 4 rfl rfl)
theorem dX0_refuses_5 : decode cX0_refuses 5 = .ok (.dup2, 1) := dk_92 (dk_at dksX0_refuses_0 5 rfl rfl)
theorem dX0_refuses_6 : decode cX0_refuses 6 = .ok (.iaload, 1) := dk_46 (dk_at dksX0_refuses_0 6 rfl rfl)
theorem dX0_refuses_7 : decode cX0_refuses 7 = .ok (.iconst 1, 1) := dk_4 (dk_at dksX0_refuses_0 7 rfl rfl)
theorem dX0_refuses_8 : decode cX0_refuses 8 = .ok (.iadd, 1) := dk_96 (dk_at dksX0_refuses_0 8 rfl rfl)
theorem dX0_refuses_9 : decode cX0_refuses 9 = .ok (.iastore, 1) := dk_79 (dk_at dksX0_refuses_0 9 rfl rfl)
theorem dX0_refuses_10 : decode cX0_refuses 10 = .ok (.iconst (-1), 1) := dk_2 (dk_at dksX0_refuses_0 10 rfl rfl)
theorem dX0_refuses_11 : decode cX0_refuses 11 = .ok (.ireturn, 1) := dk_172 (dk_at dksX0_refuses_0 11 rfl rfl)
abbrev cX0_put : ByteArray := prog_1_method_9_code
def yX0_put : MethodName := ⟨RX0, "put", "(I)V"⟩
def dkwX0_put_1 : List UInt8 := [122, 145, 84, 132, 2, 248, 167, 255, 229, 177]
abbrev dktX0_put_1 : List UInt8 := dkwX0_put_1 ++ []
def dkwX0_put_0 : List UInt8 := [16, 24, 61, 28, 155, 0, 29, 42, 180, 0, 35, 42, 89, 180, 0, 112, 90, 4, 96, 181, 0, 112, 27, 28]
abbrev dktX0_put_0 : List UInt8 := dkwX0_put_0 ++ dktX0_put_1
theorem dksX0_put_0 : cX0_put.data.toList.drop 0 = dktX0_put_0 := by decide +kernel
theorem dksX0_put_1 : cX0_put.data.toList.drop 24 = dktX0_put_1 := dk_seg dksX0_put_0 24 rfl rfl
theorem dX0_put_0 : decode cX0_put 0 = .ok (.bipush 24, 2) := dk_16 24 (dk_at dksX0_put_0 0 rfl rfl)
theorem dX0_put_2 : decode cX0_put 2 = .ok (.istore_n 2, 1) := dk_61 (dk_at dksX0_put_0 2 rfl rfl)
theorem dX0_put_3 : decode cX0_put 3 = .ok (.iload_n 2, 1) := dk_28 (dk_at dksX0_put_0 3 rfl rfl)
theorem dX0_put_4 : decode cX0_put 4 = .ok (.ifCond .lt 29, 3) := dk_155 0 29 (dk_at dksX0_put_0 4 rfl rfl)
theorem dX0_put_7 : decode cX0_put 7 = .ok (.aload_n 0, 1) := dk_42 (dk_at dksX0_put_0 7 rfl rfl)
theorem dX0_put_8 : decode cX0_put 8 = .ok (.getfield 35, 3) := dk_180 0 35 (dk_at dksX0_put_0 8 rfl rfl)
theorem dX0_put_11 : decode cX0_put 11 = .ok (.aload_n 0, 1) := dk_42 (dk_at dksX0_put_0 11 rfl rfl)
theorem dX0_put_12 : decode cX0_put 12 = .ok (.dup, 1) := dk_89 (dk_at dksX0_put_0 12 rfl rfl)
theorem dX0_put_13 : decode cX0_put 13 = .ok (.getfield 112, 3) := dk_180 0 112 (dk_at dksX0_put_0 13 rfl rfl)
theorem dX0_put_16 : decode cX0_put 16 = .ok (.dup_x1, 1) := dk_90 (dk_at dksX0_put_0 16 rfl rfl)
theorem dX0_put_17 : decode cX0_put 17 = .ok (.iconst 1, 1) := dk_4 (dk_at dksX0_put_0 17 rfl rfl)
theorem dX0_put_18 : decode cX0_put 18 = .ok (.iadd, 1) := dk_96 (dk_at dksX0_put_0 18 rfl rfl)
theorem dX0_put_19 : decode cX0_put 19 = .ok (.putfield 112, 3) := dk_181 0 112 (dk_at dksX0_put_0 19 rfl rfl)
theorem dX0_put_22 : decode cX0_put 22 = .ok (.iload_n 1, 1) := dk_27 (dk_at dksX0_put_0 22 rfl rfl)
theorem dX0_put_23 : decode cX0_put 23 = .ok (.iload_n 2, 1) := dk_28 (dk_at dksX0_put_0 23 rfl rfl)
theorem dX0_put_24 : decode cX0_put 24 = .ok (.ishr, 1) := dk_122 (dk_at dksX0_put_1 0 rfl rfl)
theorem dX0_put_25 : decode cX0_put 25 = .ok (.i2b, 1) := dk_145 (dk_at dksX0_put_1 1 rfl rfl)
theorem dX0_put_26 : decode cX0_put 26 = .ok (.bastore, 1) := dk_84 (dk_at dksX0_put_1 2 rfl rfl)
theorem dX0_put_27 : decode cX0_put 27 = .ok (.iinc 2 (-8), 3) := dk_132 2 248 (dk_at dksX0_put_1 3 rfl rfl)
theorem dX0_put_30 : decode cX0_put 30 = .ok (.goto (-27), 3) := dk_167 255 229 (dk_at dksX0_put_1 6 rfl rfl)
theorem dX0_put_33 : decode cX0_put 33 = .ok (.return_, 1) := dk_177 (dk_at dksX0_put_1 9 rfl rfl)
abbrev cX0_end : ByteArray := prog_1_method_11_code
def yX0_end : MethodName := ⟨RX0, "end", "(I)Z"⟩
def dkwX0_end_1 : List UInt8 := [3, 172, 42, 27, 181, 0, 112, 4, 172]
abbrev dktX0_end_1 : List UInt8 := dkwX0_end_1 ++ []
def dkwX0_end_0 : List UInt8 := [27, 155, 0, 11, 27, 42, 180, 0, 112, 164, 0, 17, 42, 3, 182, 0, 115, 155, 0, 7, 4, 167, 0, 4]
abbrev dktX0_end_0 : List UInt8 := dkwX0_end_0 ++ dktX0_end_1
theorem dksX0_end_0 : cX0_end.data.toList.drop 0 = dktX0_end_0 := by decide +kernel
theorem dksX0_end_1 : cX0_end.data.toList.drop 24 = dktX0_end_1 := dk_seg dksX0_end_0 24 rfl rfl
theorem dX0_end_0 : decode cX0_end 0 = .ok (.iload_n 1, 1) := dk_27 (dk_at dksX0_end_0 0 rfl rfl)
theorem dX0_end_1 : decode cX0_end 1 = .ok (.ifCond .lt 11, 3) := dk_155 0 11 (dk_at dksX0_end_0 1 rfl rfl)
theorem dX0_end_4 : decode cX0_end 4 = .ok (.iload_n 1, 1) := dk_27 (dk_at dksX0_end_0 4 rfl rfl)
theorem dX0_end_5 : decode cX0_end 5 = .ok (.aload_n 0, 1) := dk_42 (dk_at dksX0_end_0 5 rfl rfl)
theorem dX0_end_6 : decode cX0_end 6 = .ok (.getfield 112, 3) := dk_180 0 112 (dk_at dksX0_end_0 6 rfl rfl)
theorem dX0_end_9 : decode cX0_end 9 = .ok (.if_icmp .le 17, 3) := dk_164 0 17 (dk_at dksX0_end_0 9 rfl rfl)
theorem dX0_end_12 : decode cX0_end 12 = .ok (.aload_n 0, 1) := dk_42 (dk_at dksX0_end_0 12 rfl rfl)
theorem dX0_end_13 : decode cX0_end 13 = .ok (.iconst 0, 1) := dk_3 (dk_at dksX0_end_0 13 rfl rfl)
theorem dX0_end_14 : decode cX0_end 14 = .ok (.invokevirtual 115, 3) := dk_182 0 115 (dk_at dksX0_end_0 14 rfl rfl)
theorem dX0_end_17 : decode cX0_end 17 = .ok (.ifCond .lt 7, 3) := dk_155 0 7 (dk_at dksX0_end_0 17 rfl rfl)
theorem dX0_end_20 : decode cX0_end 20 = .ok (.iconst 1, 1) := dk_4 (dk_at dksX0_end_0 20 rfl rfl)
theorem dX0_end_21 : decode cX0_end 21 = .ok (.goto 4, 3) := dk_167 0 4 (dk_at dksX0_end_0 21 rfl rfl)
theorem dX0_end_24 : decode cX0_end 24 = .ok (.iconst 0, 1) := dk_3 (dk_at dksX0_end_1 0 rfl rfl)
theorem dX0_end_25 : decode cX0_end 25 = .ok (.ireturn, 1) := dk_172 (dk_at dksX0_end_1 1 rfl rfl)
theorem dX0_end_26 : decode cX0_end 26 = .ok (.aload_n 0, 1) := dk_42 (dk_at dksX0_end_1 2 rfl rfl)
theorem dX0_end_27 : decode cX0_end 27 = .ok (.iload_n 1, 1) := dk_27 (dk_at dksX0_end_1 3 rfl rfl)
theorem dX0_end_28 : decode cX0_end 28 = .ok (.putfield 112, 3) := dk_181 0 112 (dk_at dksX0_end_1 4 rfl rfl)
theorem dX0_end_31 : decode cX0_end 31 = .ok (.iconst 1, 1) := dk_4 (dk_at dksX0_end_1 7 rfl rfl)
theorem dX0_end_32 : decode cX0_end 32 = .ok (.ireturn, 1) := dk_172 (dk_at dksX0_end_1 8 rfl rfl)
abbrev cX0_folio : ByteArray := prog_1_method_13_code
def yX0_folio : MethodName := ⟨RX0, "folio", "()I"⟩
def dkwX0_folio_3 : List UInt8 := [180, 0, 31, 180, 0, 151, 172]
abbrev dktX0_folio_3 : List UInt8 := dkwX0_folio_3 ++ []
def dkwX0_folio_2 : List UInt8 := [4, 182, 0, 115, 172, 42, 180, 0, 69, 182, 0, 142, 42, 3, 181, 0, 145, 42, 3, 181, 0, 148, 42]
abbrev dktX0_folio_2 : List UInt8 := dkwX0_folio_2 ++ dktX0_folio_3
def dkwX0_folio_1 : List UInt8 := [181, 0, 31, 167, 0, 26, 76, 42, 43, 180, 0, 136, 181, 0, 123, 42, 43, 180, 0, 139, 181, 0, 39, 42]
abbrev dktX0_folio_1 : List UInt8 := dkwX0_folio_1 ++ dktX0_folio_2
def dkwX0_folio_0 : List UInt8 := [42, 3, 181, 0, 123, 42, 2, 181, 0, 39, 42, 42, 180, 0, 48, 42, 182, 0, 126, 182, 0, 130]
abbrev dktX0_folio_0 : List UInt8 := dkwX0_folio_0 ++ dktX0_folio_1
theorem dksX0_folio_0 : cX0_folio.data.toList.drop 0 = dktX0_folio_0 := by decide +kernel
theorem dksX0_folio_1 : cX0_folio.data.toList.drop 22 = dktX0_folio_1 := dk_seg dksX0_folio_0 22 rfl rfl
theorem dksX0_folio_2 : cX0_folio.data.toList.drop 46 = dktX0_folio_2 := dk_seg dksX0_folio_1 24 rfl rfl
theorem dksX0_folio_3 : cX0_folio.data.toList.drop 69 = dktX0_folio_3 := dk_seg dksX0_folio_2 23 rfl rfl
theorem dX0_folio_0 : decode cX0_folio 0 = .ok (.aload_n 0, 1) := dk_42 (dk_at dksX0_folio_0 0 rfl rfl)
theorem dX0_folio_1 : decode cX0_folio 1 = .ok (.iconst 0, 1) := dk_3 (dk_at dksX0_folio_0 1 rfl rfl)
theorem dX0_folio_2 : decode cX0_folio 2 = .ok (.putfield 123, 3) := dk_181 0 123 (dk_at dksX0_folio_0 2 rfl rfl)
theorem dX0_folio_5 : decode cX0_folio 5 = .ok (.aload_n 0, 1) := dk_42 (dk_at dksX0_folio_0 5 rfl rfl)
theorem dX0_folio_6 : decode cX0_folio 6 = .ok (.iconst (-1), 1) := dk_2 (dk_at dksX0_folio_0 6 rfl rfl)
theorem dX0_folio_7 : decode cX0_folio 7 = .ok (.putfield 39, 3) := dk_181 0 39 (dk_at dksX0_folio_0 7 rfl rfl)
theorem dX0_folio_10 : decode cX0_folio 10 = .ok (.aload_n 0, 1) := dk_42 (dk_at dksX0_folio_0 10 rfl rfl)
theorem dX0_folio_11 : decode cX0_folio 11 = .ok (.aload_n 0, 1) := dk_42 (dk_at dksX0_folio_0 11 rfl rfl)
theorem dX0_folio_12 : decode cX0_folio 12 = .ok (.getfield 48, 3) := dk_180 0 48 (dk_at dksX0_folio_0 12 rfl rfl)
theorem dX0_folio_15 : decode cX0_folio 15 = .ok (.aload_n 0, 1) := dk_42 (dk_at dksX0_folio_0 15 rfl rfl)
theorem dX0_folio_16 : decode cX0_folio 16 = .ok (.invokevirtual 126, 3) := dk_182 0 126 (dk_at dksX0_folio_0 16 rfl rfl)
theorem dX0_folio_19 : decode cX0_folio 19 = .ok (.invokevirtual 130, 3) := dk_182 0 130 (dk_at dksX0_folio_0 19 rfl rfl)
theorem dX0_folio_22 : decode cX0_folio 22 = .ok (.putfield 31, 3) := dk_181 0 31 (dk_at dksX0_folio_1 0 rfl rfl)
theorem dX0_folio_25 : decode cX0_folio 25 = .ok (.goto 26, 3) := dk_167 0 26 (dk_at dksX0_folio_1 3 rfl rfl)
theorem dX0_folio_28 : decode cX0_folio 28 = .ok (.astore_n 1, 1) := dk_76 (dk_at dksX0_folio_1 6 rfl rfl)
theorem dX0_folio_29 : decode cX0_folio 29 = .ok (.aload_n 0, 1) := dk_42 (dk_at dksX0_folio_1 7 rfl rfl)
theorem dX0_folio_30 : decode cX0_folio 30 = .ok (.aload_n 1, 1) := dk_43 (dk_at dksX0_folio_1 8 rfl rfl)
theorem dX0_folio_31 : decode cX0_folio 31 = .ok (.getfield 136, 3) := dk_180 0 136 (dk_at dksX0_folio_1 9 rfl rfl)
theorem dX0_folio_34 : decode cX0_folio 34 = .ok (.putfield 123, 3) := dk_181 0 123 (dk_at dksX0_folio_1 12 rfl rfl)
theorem dX0_folio_37 : decode cX0_folio 37 = .ok (.aload_n 0, 1) := dk_42 (dk_at dksX0_folio_1 15 rfl rfl)
theorem dX0_folio_38 : decode cX0_folio 38 = .ok (.aload_n 1, 1) := dk_43 (dk_at dksX0_folio_1 16 rfl rfl)
theorem dX0_folio_39 : decode cX0_folio 39 = .ok (.getfield 139, 3) := dk_180 0 139 (dk_at dksX0_folio_1 17 rfl rfl)
theorem dX0_folio_42 : decode cX0_folio 42 = .ok (.putfield 39, 3) := dk_181 0 39 (dk_at dksX0_folio_1 20 rfl rfl)
theorem dX0_folio_45 : decode cX0_folio 45 = .ok (.aload_n 0, 1) := dk_42 (dk_at dksX0_folio_1 23 rfl rfl)
theorem dX0_folio_46 : decode cX0_folio 46 = .ok (.iconst 1, 1) := dk_4 (dk_at dksX0_folio_2 0 rfl rfl)
theorem dX0_folio_47 : decode cX0_folio 47 = .ok (.invokevirtual 115, 3) := dk_182 0 115 (dk_at dksX0_folio_2 1 rfl rfl)
theorem dX0_folio_50 : decode cX0_folio 50 = .ok (.ireturn, 1) := dk_172 (dk_at dksX0_folio_2 4 rfl rfl)
theorem dX0_folio_51 : decode cX0_folio 51 = .ok (.aload_n 0, 1) := dk_42 (dk_at dksX0_folio_2 5 rfl rfl)
theorem dX0_folio_52 : decode cX0_folio 52 = .ok (.getfield 69, 3) := dk_180 0 69 (dk_at dksX0_folio_2 6 rfl rfl)
theorem dX0_folio_55 : decode cX0_folio 55 = .ok (.invokevirtual 142, 3) := dk_182 0 142 (dk_at dksX0_folio_2 9 rfl rfl)
theorem dX0_folio_58 : decode cX0_folio 58 = .ok (.aload_n 0, 1) := dk_42 (dk_at dksX0_folio_2 12 rfl rfl)
theorem dX0_folio_59 : decode cX0_folio 59 = .ok (.iconst 0, 1) := dk_3 (dk_at dksX0_folio_2 13 rfl rfl)
theorem dX0_folio_60 : decode cX0_folio 60 = .ok (.putfield 145, 3) := dk_181 0 145 (dk_at dksX0_folio_2 14 rfl rfl)
theorem dX0_folio_63 : decode cX0_folio 63 = .ok (.aload_n 0, 1) := dk_42 (dk_at dksX0_folio_2 17 rfl rfl)
theorem dX0_folio_64 : decode cX0_folio 64 = .ok (.iconst 0, 1) := dk_3 (dk_at dksX0_folio_2 18 rfl rfl)
theorem dX0_folio_65 : decode cX0_folio 65 = .ok (.putfield 148, 3) := dk_181 0 148 (dk_at dksX0_folio_2 19 rfl rfl)
theorem dX0_folio_68 : decode cX0_folio 68 = .ok (.aload_n 0, 1) := dk_42 (dk_at dksX0_folio_2 22 rfl rfl)
theorem dX0_folio_69 : decode cX0_folio 69 = .ok (.getfield 31, 3) := dk_180 0 31 (dk_at dksX0_folio_3 0 rfl rfl)
theorem dX0_folio_72 : decode cX0_folio 72 = .ok (.getfield 151, 3) := dk_180 0 151 (dk_at dksX0_folio_3 3 rfl rfl)
theorem dX0_folio_75 : decode cX0_folio 75 = .ok (.ireturn, 1) := dk_172 (dk_at dksX0_folio_3 6 rfl rfl)
abbrev cX0_taken : ByteArray := prog_1_method_12_code
def yX0_taken : MethodName := ⟨RX0, "taken", "()I"⟩
def dkwX0_taken_0 : List UInt8 := [42, 180, 0, 112, 60, 42, 3, 181, 0, 112, 27, 172]
abbrev dktX0_taken_0 : List UInt8 := dkwX0_taken_0 ++ []
theorem dksX0_taken_0 : cX0_taken.data.toList.drop 0 = dktX0_taken_0 := by decide +kernel
theorem dX0_taken_0 : decode cX0_taken 0 = .ok (.aload_n 0, 1) := dk_42 (dk_at dksX0_taken_0 0 rfl rfl)
theorem dX0_taken_1 : decode cX0_taken 1 = .ok (.getfield 112, 3) := dk_180 0 112 (dk_at dksX0_taken_0 1 rfl rfl)
theorem dX0_taken_4 : decode cX0_taken 4 = .ok (.istore_n 1, 1) := dk_60 (dk_at dksX0_taken_0 4 rfl rfl)
theorem dX0_taken_5 : decode cX0_taken 5 = .ok (.aload_n 0, 1) := dk_42 (dk_at dksX0_taken_0 5 rfl rfl)
theorem dX0_taken_6 : decode cX0_taken 6 = .ok (.iconst 0, 1) := dk_3 (dk_at dksX0_taken_0 6 rfl rfl)
theorem dX0_taken_7 : decode cX0_taken 7 = .ok (.putfield 112, 3) := dk_181 0 112 (dk_at dksX0_taken_0 7 rfl rfl)
theorem dX0_taken_10 : decode cX0_taken 10 = .ok (.iload_n 1, 1) := dk_27 (dk_at dksX0_taken_0 10 rfl rfl)
theorem dX0_taken_11 : decode cX0_taken 11 = .ok (.ireturn, 1) := dk_172 (dk_at dksX0_taken_0 11 rfl rfl)
abbrev cX0_isLetter : ByteArray := prog_1_method_4_code
def yX0_isLetter : MethodName := ⟨RX0, "isLetter", "(I)Z"⟩
def dkwX0_isLetter_0 : List UInt8 := [26, 16, 97, 161, 0, 13, 26, 16, 122, 163, 0, 7, 4, 167, 0, 4, 3, 172]
abbrev dktX0_isLetter_0 : List UInt8 := dkwX0_isLetter_0 ++ []
theorem dksX0_isLetter_0 : cX0_isLetter.data.toList.drop 0 = dktX0_isLetter_0 := by decide +kernel
theorem dX0_isLetter_0 : decode cX0_isLetter 0 = .ok (.iload_n 0, 1) := dk_26 (dk_at dksX0_isLetter_0 0 rfl rfl)
theorem dX0_isLetter_1 : decode cX0_isLetter 1 = .ok (.bipush 97, 2) := dk_16 97 (dk_at dksX0_isLetter_0 1 rfl rfl)
theorem dX0_isLetter_3 : decode cX0_isLetter 3 = .ok (.if_icmp .lt 13, 3) := dk_161 0 13 (dk_at dksX0_isLetter_0 3 rfl rfl)
theorem dX0_isLetter_6 : decode cX0_isLetter 6 = .ok (.iload_n 0, 1) := dk_26 (dk_at dksX0_isLetter_0 6 rfl rfl)
theorem dX0_isLetter_7 : decode cX0_isLetter 7 = .ok (.bipush 122, 2) := dk_16 122 (dk_at dksX0_isLetter_0 7 rfl rfl)
theorem dX0_isLetter_9 : decode cX0_isLetter 9 = .ok (.if_icmp .gt 7, 3) := dk_163 0 7 (dk_at dksX0_isLetter_0 9 rfl rfl)
theorem dX0_isLetter_12 : decode cX0_isLetter 12 = .ok (.iconst 1, 1) := dk_4 (dk_at dksX0_isLetter_0 12 rfl rfl)
theorem dX0_isLetter_13 : decode cX0_isLetter 13 = .ok (.goto 4, 3) := dk_167 0 4 (dk_at dksX0_isLetter_0 13 rfl rfl)
theorem dX0_isLetter_16 : decode cX0_isLetter 16 = .ok (.iconst 0, 1) := dk_3 (dk_at dksX0_isLetter_0 16 rfl rfl)
theorem dX0_isLetter_17 : decode cX0_isLetter 17 = .ok (.ireturn, 1) := dk_172 (dk_at dksX0_isLetter_0 17 rfl rfl)
abbrev cX0_isDigit : ByteArray := prog_1_method_5_code
def yX0_isDigit : MethodName := ⟨RX0, "isDigit", "(I)Z"⟩
def dkwX0_isDigit_0 : List UInt8 := [26, 16, 48, 161, 0, 13, 26, 16, 57, 163, 0, 7, 4, 167, 0, 4, 3, 172]
abbrev dktX0_isDigit_0 : List UInt8 := dkwX0_isDigit_0 ++ []
theorem dksX0_isDigit_0 : cX0_isDigit.data.toList.drop 0 = dktX0_isDigit_0 := by decide +kernel
theorem dX0_isDigit_0 : decode cX0_isDigit 0 = .ok (.iload_n 0, 1) := dk_26 (dk_at dksX0_isDigit_0 0 rfl rfl)
theorem dX0_isDigit_1 : decode cX0_isDigit 1 = .ok (.bipush 48, 2) := dk_16 48 (dk_at dksX0_isDigit_0 1 rfl rfl)
theorem dX0_isDigit_3 : decode cX0_isDigit 3 = .ok (.if_icmp .lt 13, 3) := dk_161 0 13 (dk_at dksX0_isDigit_0 3 rfl rfl)
theorem dX0_isDigit_6 : decode cX0_isDigit 6 = .ok (.iload_n 0, 1) := dk_26 (dk_at dksX0_isDigit_0 6 rfl rfl)
theorem dX0_isDigit_7 : decode cX0_isDigit 7 = .ok (.bipush 57, 2) := dk_16 57 (dk_at dksX0_isDigit_0 7 rfl rfl)
theorem dX0_isDigit_9 : decode cX0_isDigit 9 = .ok (.if_icmp .gt 7, 3) := dk_163 0 7 (dk_at dksX0_isDigit_0 9 rfl rfl)
theorem dX0_isDigit_12 : decode cX0_isDigit 12 = .ok (.iconst 1, 1) := dk_4 (dk_at dksX0_isDigit_0 12 rfl rfl)
theorem dX0_isDigit_13 : decode cX0_isDigit 13 = .ok (.goto 4, 3) := dk_167 0 4 (dk_at dksX0_isDigit_0 13 rfl rfl)
theorem dX0_isDigit_16 : decode cX0_isDigit 16 = .ok (.iconst 0, 1) := dk_3 (dk_at dksX0_isDigit_0 16 rfl rfl)
theorem dX0_isDigit_17 : decode cX0_isDigit 17 = .ok (.ireturn, 1) := dk_172 (dk_at dksX0_isDigit_0 17 rfl rfl)
abbrev cX0_is : ByteArray := prog_1_method_1_code
def yX0_is : MethodName := ⟨RX0, "is", "(III)Z"⟩
def dkwX0_is_0 : List UInt8 := [26, 27, 161, 0, 12, 26, 28, 163, 0, 7, 4, 167, 0, 4, 3, 172]
abbrev dktX0_is_0 : List UInt8 := dkwX0_is_0 ++ []
theorem dksX0_is_0 : cX0_is.data.toList.drop 0 = dktX0_is_0 := by decide +kernel
theorem dX0_is_0 : decode cX0_is 0 = .ok (.iload_n 0, 1) := dk_26 (dk_at dksX0_is_0 0 rfl rfl)
theorem dX0_is_1 : decode cX0_is 1 = .ok (.iload_n 1, 1) := dk_27 (dk_at dksX0_is_0 1 rfl rfl)
theorem dX0_is_2 : decode cX0_is 2 = .ok (.if_icmp .lt 12, 3) := dk_161 0 12 (dk_at dksX0_is_0 2 rfl rfl)
theorem dX0_is_5 : decode cX0_is 5 = .ok (.iload_n 0, 1) := dk_26 (dk_at dksX0_is_0 5 rfl rfl)
theorem dX0_is_6 : decode cX0_is 6 = .ok (.iload_n 2, 1) := dk_28 (dk_at dksX0_is_0 6 rfl rfl)
theorem dX0_is_7 : decode cX0_is 7 = .ok (.if_icmp .gt 7, 3) := dk_163 0 7 (dk_at dksX0_is_0 7 rfl rfl)
theorem dX0_is_10 : decode cX0_is 10 = .ok (.iconst 1, 1) := dk_4 (dk_at dksX0_is_0 10 rfl rfl)
theorem dX0_is_11 : decode cX0_is 11 = .ok (.goto 4, 3) := dk_167 0 4 (dk_at dksX0_is_0 11 rfl rfl)
theorem dX0_is_14 : decode cX0_is 14 = .ok (.iconst 0, 1) := dk_3 (dk_at dksX0_is_0 14 rfl rfl)
theorem dX0_is_15 : decode cX0_is 15 = .ok (.ireturn, 1) := dk_172 (dk_at dksX0_is_0 15 rfl rfl)
abbrev cX0_has : ByteArray := prog_1_method_2_code
def yX0_has : MethodName := ⟨RX0, "has", "(II)Z"⟩
def dkwX0_has_0 : List UInt8 := [26, 27, 122, 4, 126, 4, 160, 0, 7, 4, 167, 0, 4, 3, 172]
abbrev dktX0_has_0 : List UInt8 := dkwX0_has_0 ++ []
theorem dksX0_has_0 : cX0_has.data.toList.drop 0 = dktX0_has_0 := by decide +kernel
theorem dX0_has_0 : decode cX0_has 0 = .ok (.iload_n 0, 1) := dk_26 (dk_at dksX0_has_0 0 rfl rfl)
theorem dX0_has_1 : decode cX0_has 1 = .ok (.iload_n 1, 1) := dk_27 (dk_at dksX0_has_0 1 rfl rfl)
theorem dX0_has_2 : decode cX0_has 2 = .ok (.ishr, 1) := dk_122 (dk_at dksX0_has_0 2 rfl rfl)
theorem dX0_has_3 : decode cX0_has 3 = .ok (.iconst 1, 1) := dk_4 (dk_at dksX0_has_0 3 rfl rfl)
theorem dX0_has_4 : decode cX0_has 4 = .ok (.iand, 1) := dk_126 (dk_at dksX0_has_0 4 rfl rfl)
theorem dX0_has_5 : decode cX0_has 5 = .ok (.iconst 1, 1) := dk_4 (dk_at dksX0_has_0 5 rfl rfl)
theorem dX0_has_6 : decode cX0_has 6 = .ok (.if_icmp .ne 7, 3) := dk_160 0 7 (dk_at dksX0_has_0 6 rfl rfl)
theorem dX0_has_9 : decode cX0_has 9 = .ok (.iconst 1, 1) := dk_4 (dk_at dksX0_has_0 9 rfl rfl)
theorem dX0_has_10 : decode cX0_has 10 = .ok (.goto 4, 3) := dk_167 0 4 (dk_at dksX0_has_0 10 rfl rfl)
theorem dX0_has_13 : decode cX0_has 13 = .ok (.iconst 0, 1) := dk_3 (dk_at dksX0_has_0 13 rfl rfl)
theorem dX0_has_14 : decode cX0_has 14 = .ok (.ireturn, 1) := dk_172 (dk_at dksX0_has_0 14 rfl rfl)
abbrev cX0_find : ByteArray := prog_1_method_6_code
def yX0_find : MethodName := ⟨RX0, "find", "(Ljava/lang/String;[Ljava/lang/String;)I"⟩
def dkwX0_find_1 : List UInt8 := [167, 255, 235, 2, 172]
abbrev dktX0_find_1 : List UInt8 := dkwX0_find_1 ++ []
def dkwX0_find_0 : List UInt8 := [3, 61, 28, 43, 190, 162, 0, 21, 43, 28, 50, 42, 182, 0, 16, 153, 0, 5, 28, 172, 132, 2, 1]
abbrev dktX0_find_0 : List UInt8 := dkwX0_find_0 ++ dktX0_find_1
theorem dksX0_find_0 : cX0_find.data.toList.drop 0 = dktX0_find_0 := by decide +kernel
theorem dksX0_find_1 : cX0_find.data.toList.drop 23 = dktX0_find_1 := dk_seg dksX0_find_0 23 rfl rfl
theorem dX0_find_0 : decode cX0_find 0 = .ok (.iconst 0, 1) := dk_3 (dk_at dksX0_find_0 0 rfl rfl)
theorem dX0_find_1 : decode cX0_find 1 = .ok (.istore_n 2, 1) := dk_61 (dk_at dksX0_find_0 1 rfl rfl)
theorem dX0_find_2 : decode cX0_find 2 = .ok (.iload_n 2, 1) := dk_28 (dk_at dksX0_find_0 2 rfl rfl)
theorem dX0_find_3 : decode cX0_find 3 = .ok (.aload_n 1, 1) := dk_43 (dk_at dksX0_find_0 3 rfl rfl)
theorem dX0_find_4 : decode cX0_find 4 = .ok (.arraylength, 1) := dk_190 (dk_at dksX0_find_0 4 rfl rfl)
theorem dX0_find_5 : decode cX0_find 5 = .ok (.if_icmp .ge 21, 3) := dk_162 0 21 (dk_at dksX0_find_0 5 rfl rfl)
theorem dX0_find_8 : decode cX0_find 8 = .ok (.aload_n 1, 1) := dk_43 (dk_at dksX0_find_0 8 rfl rfl)
theorem dX0_find_9 : decode cX0_find 9 = .ok (.iload_n 2, 1) := dk_28 (dk_at dksX0_find_0 9 rfl rfl)
theorem dX0_find_10 : decode cX0_find 10 = .ok (.aaload, 1) := dk_50 (dk_at dksX0_find_0 10 rfl rfl)
theorem dX0_find_11 : decode cX0_find 11 = .ok (.aload_n 0, 1) := dk_42 (dk_at dksX0_find_0 11 rfl rfl)
theorem dX0_find_12 : decode cX0_find 12 = .ok (.invokevirtual 16, 3) := dk_182 0 16 (dk_at dksX0_find_0 12 rfl rfl)
theorem dX0_find_15 : decode cX0_find 15 = .ok (.ifCond .eq 5, 3) := dk_153 0 5 (dk_at dksX0_find_0 15 rfl rfl)
theorem dX0_find_18 : decode cX0_find 18 = .ok (.iload_n 2, 1) := dk_28 (dk_at dksX0_find_0 18 rfl rfl)
theorem dX0_find_19 : decode cX0_find 19 = .ok (.ireturn, 1) := dk_172 (dk_at dksX0_find_0 19 rfl rfl)
theorem dX0_find_20 : decode cX0_find 20 = .ok (.iinc 2 1, 3) := dk_132 2 1 (dk_at dksX0_find_0 20 rfl rfl)
theorem dX0_find_23 : decode cX0_find 23 = .ok (.goto (-21), 3) := dk_167 255 235 (dk_at dksX0_find_1 0 rfl rfl)
theorem dX0_find_26 : decode cX0_find 26 = .ok (.iconst (-1), 1) := dk_2 (dk_at dksX0_find_1 3 rfl rfl)
theorem dX0_find_27 : decode cX0_find 27 = .ok (.ireturn, 1) := dk_172 (dk_at dksX0_find_1 4 rfl rfl)
abbrev cX0_beings : ByteArray := prog_1_method_16_code
def yX0_beings : MethodName := ⟨RX0, "beings", "()I"⟩
def dkwX0_beings_0 : List UInt8 := [42, 180, 0, 31, 180, 0, 157, 185, 0, 161, 1, 0, 172]
abbrev dktX0_beings_0 : List UInt8 := dkwX0_beings_0 ++ []
theorem dksX0_beings_0 : cX0_beings.data.toList.drop 0 = dktX0_beings_0 := by decide +kernel
theorem dX0_beings_0 : decode cX0_beings 0 = .ok (.aload_n 0, 1) := dk_42 (dk_at dksX0_beings_0 0 rfl rfl)
theorem dX0_beings_1 : decode cX0_beings 1 = .ok (.getfield 31, 3) := dk_180 0 31 (dk_at dksX0_beings_0 1 rfl rfl)
theorem dX0_beings_4 : decode cX0_beings 4 = .ok (.getfield 157, 3) := dk_180 0 157 (dk_at dksX0_beings_0 4 rfl rfl)
theorem dX0_beings_7 : decode cX0_beings 7 = .ok (.invokeinterface 161 1, 5) := by decide +kernel
theorem dX0_beings_12 : decode cX0_beings 12 = .ok (.ireturn, 1) := dk_172 (dk_at dksX0_beings_0 12 rfl rfl)
abbrev cX0_beingOf : ByteArray := prog_1_method_19_code
def yX0_beingOf : MethodName := ⟨RX0, "beingOf", "(I)LMarginFolk$Being;"⟩
def dkwX0_beingOf_0 : List UInt8 := [42, 180, 0, 31, 180, 0, 157, 27, 185, 0, 175, 2, 0, 192, 0, 179, 176]
abbrev dktX0_beingOf_0 : List UInt8 := dkwX0_beingOf_0 ++ []
theorem dksX0_beingOf_0 : cX0_beingOf.data.toList.drop 0 = dktX0_beingOf_0 := by decide +kernel
theorem dX0_beingOf_0 : decode cX0_beingOf 0 = .ok (.aload_n 0, 1) := dk_42 (dk_at dksX0_beingOf_0 0 rfl rfl)
theorem dX0_beingOf_1 : decode cX0_beingOf 1 = .ok (.getfield 31, 3) := dk_180 0 31 (dk_at dksX0_beingOf_0 1 rfl rfl)
theorem dX0_beingOf_4 : decode cX0_beingOf 4 = .ok (.getfield 157, 3) := dk_180 0 157 (dk_at dksX0_beingOf_0 4 rfl rfl)
theorem dX0_beingOf_7 : decode cX0_beingOf 7 = .ok (.iload_n 1, 1) := dk_27 (dk_at dksX0_beingOf_0 7 rfl rfl)
theorem dX0_beingOf_8 : decode cX0_beingOf 8 = .ok (.invokeinterface 175 2, 5) := by decide +kernel
theorem dX0_beingOf_13 : decode cX0_beingOf 13 = .ok (.checkcast 179, 3) := dk_192 0 179 (dk_at dksX0_beingOf_0 13 rfl rfl)
theorem dX0_beingOf_16 : decode cX0_beingOf 16 = .ok (.areturn, 1) := dk_176 (dk_at dksX0_beingOf_0 16 rfl rfl)
abbrev cX0_fault : ByteArray := prog_1_method_14_code
def yX0_fault : MethodName := ⟨RX0, "fault", "(I)I"⟩
def dkwX0_fault_1 : List UInt8 := [172]
abbrev dktX0_fault_1 : List UInt8 := dkwX0_fault_1 ++ []
def dkwX0_fault_0 : List UInt8 := [27, 154, 0, 10, 42, 180, 0, 123, 167, 0, 16, 27, 4, 160, 0, 10, 42, 180, 0, 39, 167, 0, 4, 2]
abbrev dktX0_fault_0 : List UInt8 := dkwX0_fault_0 ++ dktX0_fault_1
theorem dksX0_fault_0 : cX0_fault.data.toList.drop 0 = dktX0_fault_0 := by decide +kernel
theorem dksX0_fault_1 : cX0_fault.data.toList.drop 24 = dktX0_fault_1 := dk_seg dksX0_fault_0 24 rfl rfl
theorem dX0_fault_0 : decode cX0_fault 0 = .ok (.iload_n 1, 1) := dk_27 (dk_at dksX0_fault_0 0 rfl rfl)
theorem dX0_fault_1 : decode cX0_fault 1 = .ok (.ifCond .ne 10, 3) := dk_154 0 10 (dk_at dksX0_fault_0 1 rfl rfl)
theorem dX0_fault_4 : decode cX0_fault 4 = .ok (.aload_n 0, 1) := dk_42 (dk_at dksX0_fault_0 4 rfl rfl)
theorem dX0_fault_5 : decode cX0_fault 5 = .ok (.getfield 123, 3) := dk_180 0 123 (dk_at dksX0_fault_0 5 rfl rfl)
theorem dX0_fault_8 : decode cX0_fault 8 = .ok (.goto 16, 3) := dk_167 0 16 (dk_at dksX0_fault_0 8 rfl rfl)
theorem dX0_fault_11 : decode cX0_fault 11 = .ok (.iload_n 1, 1) := dk_27 (dk_at dksX0_fault_0 11 rfl rfl)
theorem dX0_fault_12 : decode cX0_fault 12 = .ok (.iconst 1, 1) := dk_4 (dk_at dksX0_fault_0 12 rfl rfl)
theorem dX0_fault_13 : decode cX0_fault 13 = .ok (.if_icmp .ne 10, 3) := dk_160 0 10 (dk_at dksX0_fault_0 13 rfl rfl)
theorem dX0_fault_16 : decode cX0_fault 16 = .ok (.aload_n 0, 1) := dk_42 (dk_at dksX0_fault_0 16 rfl rfl)
theorem dX0_fault_17 : decode cX0_fault 17 = .ok (.getfield 39, 3) := dk_180 0 39 (dk_at dksX0_fault_0 17 rfl rfl)
theorem dX0_fault_20 : decode cX0_fault 20 = .ok (.goto 4, 3) := dk_167 0 4 (dk_at dksX0_fault_0 20 rfl rfl)
theorem dX0_fault_23 : decode cX0_fault 23 = .ok (.iconst (-1), 1) := dk_2 (dk_at dksX0_fault_0 23 rfl rfl)
theorem dX0_fault_24 : decode cX0_fault 24 = .ok (.ireturn, 1) := dk_172 (dk_at dksX0_fault_1 0 rfl rfl)
abbrev cX0_has_2 : ByteArray := prog_1_method_24_code
def yX0_has_2 : MethodName := ⟨RX0, "has", "(I)I"⟩
def dkwX0_has_2_6 : List UInt8 := [180, 0, 222, 172, 42, 180, 0, 148, 172, 42, 180, 0, 145, 172, 2, 172]
abbrev dktX0_has_2_6 : List UInt8 := dkwX0_has_2_6 ++ []
def dkwX0_has_2_5 : List UInt8 := [42, 180, 0, 69, 180, 0, 213, 182, 0, 216, 172, 42, 180, 0, 69, 182, 0, 219, 172, 42, 180, 0, 69]
abbrev dktX0_has_2_5 : List UInt8 := dkwX0_has_2_5 ++ dktX0_has_2_6
def dkwX0_has_2_4 : List UInt8 := [28, 172, 42, 180, 0, 31, 180, 0, 210, 172, 42, 182, 0, 166, 172, 42, 180, 0, 69, 180, 0, 213, 172, 42]
abbrev dktX0_has_2_4 : List UInt8 := dkwX0_has_2_4 ++ dktX0_has_2_5
def dkwX0_has_2_3 : List UInt8 := [162, 0, 24, 28, 42, 180, 0, 69, 180, 0, 202, 29, 46, 184, 0, 205, 96, 61, 132, 3, 1, 167, 255, 232]
abbrev dktX0_has_2_3 : List UInt8 := dkwX0_has_2_3 ++ dktX0_has_2_4
def dkwX0_has_2_2 : List UInt8 := [42, 180, 0, 31, 180, 0, 154, 172, 42, 180, 0, 31, 180, 0, 172, 172, 3, 61, 3, 62, 29, 16, 6]
abbrev dktX0_has_2_2 : List UInt8 := dkwX0_has_2_2 ++ dktX0_has_2_3
def dkwX0_has_2_1 : List UInt8 := [170, 0, 0, 0, 0, 0, 167, 0, 0, 0, 0, 0, 0, 0, 10, 0, 0, 0, 59, 0, 0, 0, 67, 0, 0, 0, 75, 0, 0, 0, 108, 0, 0, 0, 116, 0, 0, 0, 121, 0, 0, 0, 129, 0, 0, 0, 141, 0, 0, 0, 149, 0, 0, 0, 157, 0, 0, 0, 162]
abbrev dktX0_has_2_1 : List UInt8 := dkwX0_has_2_1 ++ dktX0_has_2_2
def dkwX0_has_2_0 : List UInt8 := [27]
abbrev dktX0_has_2_0 : List UInt8 := dkwX0_has_2_0 ++ dktX0_has_2_1
theorem dksX0_has_2_0 : cX0_has_2.data.toList.drop 0 = dktX0_has_2_0 := by decide +kernel
theorem dksX0_has_2_1 : cX0_has_2.data.toList.drop 1 = dktX0_has_2_1 := dk_seg dksX0_has_2_0 1 rfl rfl
theorem dksX0_has_2_2 : cX0_has_2.data.toList.drop 60 = dktX0_has_2_2 := dk_seg dksX0_has_2_1 59 rfl rfl
theorem dksX0_has_2_3 : cX0_has_2.data.toList.drop 83 = dktX0_has_2_3 := dk_seg dksX0_has_2_2 23 rfl rfl
theorem dksX0_has_2_4 : cX0_has_2.data.toList.drop 107 = dktX0_has_2_4 := dk_seg dksX0_has_2_3 24 rfl rfl
theorem dksX0_has_2_5 : cX0_has_2.data.toList.drop 131 = dktX0_has_2_5 := dk_seg dksX0_has_2_4 24 rfl rfl
theorem dksX0_has_2_6 : cX0_has_2.data.toList.drop 154 = dktX0_has_2_6 := dk_seg dksX0_has_2_5 23 rfl rfl
theorem dX0_has_2_0 : decode cX0_has_2 0 = .ok (.iload_n 1, 1) := dk_27 (dk_at dksX0_has_2_0 0 rfl rfl)
theorem dX0_has_2_1 : decode cX0_has_2 1 = .ok (.tableswitch 167 0 10 #[59, 67, 75, 108, 116, 121, 129, 141, 149, 157, 162], 59) := by decide +kernel
theorem dX0_has_2_60 : decode cX0_has_2 60 = .ok (.aload_n 0, 1) := dk_42 (dk_at dksX0_has_2_2 0 rfl rfl)
theorem dX0_has_2_61 : decode cX0_has_2 61 = .ok (.getfield 31, 3) := dk_180 0 31 (dk_at dksX0_has_2_2 1 rfl rfl)
theorem dX0_has_2_64 : decode cX0_has_2 64 = .ok (.getfield 154, 3) := dk_180 0 154 (dk_at dksX0_has_2_2 4 rfl rfl)
theorem dX0_has_2_67 : decode cX0_has_2 67 = .ok (.ireturn, 1) := dk_172 (dk_at dksX0_has_2_2 7 rfl rfl)
theorem dX0_has_2_68 : decode cX0_has_2 68 = .ok (.aload_n 0, 1) := dk_42 (dk_at dksX0_has_2_2 8 rfl rfl)
theorem dX0_has_2_69 : decode cX0_has_2 69 = .ok (.getfield 31, 3) := dk_180 0 31 (dk_at dksX0_has_2_2 9 rfl rfl)
theorem dX0_has_2_72 : decode cX0_has_2 72 = .ok (.getfield 172, 3) := dk_180 0 172 (dk_at dksX0_has_2_2 12 rfl rfl)
theorem dX0_has_2_75 : decode cX0_has_2 75 = .ok (.ireturn, 1) := dk_172 (dk_at dksX0_has_2_2 15 rfl rfl)
theorem dX0_has_2_76 : decode cX0_has_2 76 = .ok (.iconst 0, 1) := dk_3 (dk_at dksX0_has_2_2 16 rfl rfl)
theorem dX0_has_2_77 : decode cX0_has_2 77 = .ok (.istore_n 2, 1) := dk_61 (dk_at dksX0_has_2_2 17 rfl rfl)
theorem dX0_has_2_78 : decode cX0_has_2 78 = .ok (.iconst 0, 1) := dk_3 (dk_at dksX0_has_2_2 18 rfl rfl)
theorem dX0_has_2_79 : decode cX0_has_2 79 = .ok (.istore_n 3, 1) := dk_62 (dk_at dksX0_has_2_2 19 rfl rfl)
theorem dX0_has_2_80 : decode cX0_has_2 80 = .ok (.iload_n 3, 1) := dk_29 (dk_at dksX0_has_2_2 20 rfl rfl)
theorem dX0_has_2_81 : decode cX0_has_2 81 = .ok (.bipush 6, 2) := dk_16 6 (dk_at dksX0_has_2_2 21 rfl rfl)
theorem dX0_has_2_83 : decode cX0_has_2 83 = .ok (.if_icmp .ge 24, 3) := dk_162 0 24 (dk_at dksX0_has_2_3 0 rfl rfl)
theorem dX0_has_2_86 : decode cX0_has_2 86 = .ok (.iload_n 2, 1) := dk_28 (dk_at dksX0_has_2_3 3 rfl rfl)
theorem dX0_has_2_87 : decode cX0_has_2 87 = .ok (.aload_n 0, 1) := dk_42 (dk_at dksX0_has_2_3 4 rfl rfl)
theorem dX0_has_2_88 : decode cX0_has_2 88 = .ok (.getfield 69, 3) := dk_180 0 69 (dk_at dksX0_has_2_3 5 rfl rfl)
theorem dX0_has_2_91 : decode cX0_has_2 91 = .ok (.getfield 202, 3) := dk_180 0 202 (dk_at dksX0_has_2_3 8 rfl rfl)
theorem dX0_has_2_94 : decode cX0_has_2 94 = .ok (.iload_n 3, 1) := dk_29 (dk_at dksX0_has_2_3 11 rfl rfl)
theorem dX0_has_2_95 : decode cX0_has_2 95 = .ok (.iaload, 1) := dk_46 (dk_at dksX0_has_2_3 12 rfl rfl)
theorem dX0_has_2_96 : decode cX0_has_2 96 = .ok (.invokestatic 205, 3) := dk_184 0 205 (dk_at dksX0_has_2_3 13 rfl rfl)
theorem dX0_has_2_99 : decode cX0_has_2 99 = .ok (.iadd, 1) := dk_96 (dk_at dksX0_has_2_3 16 rfl rfl)
theorem dX0_has_2_100 : decode cX0_has_2 100 = .ok (.istore_n 2, 1) := dk_61 (dk_at dksX0_has_2_3 17 rfl rfl)
theorem dX0_has_2_101 : decode cX0_has_2 101 = .ok (.iinc 3 1, 3) := dk_132 3 1 (dk_at dksX0_has_2_3 18 rfl rfl)
theorem dX0_has_2_104 : decode cX0_has_2 104 = .ok (.goto (-24), 3) := dk_167 255 232 (dk_at dksX0_has_2_3 21 rfl rfl)
theorem dX0_has_2_107 : decode cX0_has_2 107 = .ok (.iload_n 2, 1) := dk_28 (dk_at dksX0_has_2_4 0 rfl rfl)
theorem dX0_has_2_108 : decode cX0_has_2 108 = .ok (.ireturn, 1) := dk_172 (dk_at dksX0_has_2_4 1 rfl rfl)
theorem dX0_has_2_109 : decode cX0_has_2 109 = .ok (.aload_n 0, 1) := dk_42 (dk_at dksX0_has_2_4 2 rfl rfl)
theorem dX0_has_2_110 : decode cX0_has_2 110 = .ok (.getfield 31, 3) := dk_180 0 31 (dk_at dksX0_has_2_4 3 rfl rfl)
theorem dX0_has_2_113 : decode cX0_has_2 113 = .ok (.getfield 210, 3) := dk_180 0 210 (dk_at dksX0_has_2_4 6 rfl rfl)
theorem dX0_has_2_116 : decode cX0_has_2 116 = .ok (.ireturn, 1) := dk_172 (dk_at dksX0_has_2_4 9 rfl rfl)
theorem dX0_has_2_117 : decode cX0_has_2 117 = .ok (.aload_n 0, 1) := dk_42 (dk_at dksX0_has_2_4 10 rfl rfl)
theorem dX0_has_2_118 : decode cX0_has_2 118 = .ok (.invokevirtual 166, 3) := dk_182 0 166 (dk_at dksX0_has_2_4 11 rfl rfl)
theorem dX0_has_2_121 : decode cX0_has_2 121 = .ok (.ireturn, 1) := dk_172 (dk_at dksX0_has_2_4 14 rfl rfl)
theorem dX0_has_2_122 : decode cX0_has_2 122 = .ok (.aload_n 0, 1) := dk_42 (dk_at dksX0_has_2_4 15 rfl rfl)
theorem dX0_has_2_123 : decode cX0_has_2 123 = .ok (.getfield 69, 3) := dk_180 0 69 (dk_at dksX0_has_2_4 16 rfl rfl)
theorem dX0_has_2_126 : decode cX0_has_2 126 = .ok (.getfield 213, 3) := dk_180 0 213 (dk_at dksX0_has_2_4 19 rfl rfl)
theorem dX0_has_2_129 : decode cX0_has_2 129 = .ok (.ireturn, 1) := dk_172 (dk_at dksX0_has_2_4 22 rfl rfl)
theorem dX0_has_2_130 : decode cX0_has_2 130 = .ok (.aload_n 0, 1) := dk_42 (dk_at dksX0_has_2_4 23 rfl rfl)
theorem dX0_has_2_131 : decode cX0_has_2 131 = .ok (.aload_n 0, 1) := dk_42 (dk_at dksX0_has_2_5 0 rfl rfl)
theorem dX0_has_2_132 : decode cX0_has_2 132 = .ok (.getfield 69, 3) := dk_180 0 69 (dk_at dksX0_has_2_5 1 rfl rfl)
theorem dX0_has_2_135 : decode cX0_has_2 135 = .ok (.getfield 213, 3) := dk_180 0 213 (dk_at dksX0_has_2_5 4 rfl rfl)
theorem dX0_has_2_138 : decode cX0_has_2 138 = .ok (.invokevirtual 216, 3) := dk_182 0 216 (dk_at dksX0_has_2_5 7 rfl rfl)
theorem dX0_has_2_141 : decode cX0_has_2 141 = .ok (.ireturn, 1) := dk_172 (dk_at dksX0_has_2_5 10 rfl rfl)
theorem dX0_has_2_142 : decode cX0_has_2 142 = .ok (.aload_n 0, 1) := dk_42 (dk_at dksX0_has_2_5 11 rfl rfl)
theorem dX0_has_2_143 : decode cX0_has_2 143 = .ok (.getfield 69, 3) := dk_180 0 69 (dk_at dksX0_has_2_5 12 rfl rfl)
theorem dX0_has_2_146 : decode cX0_has_2 146 = .ok (.invokevirtual 219, 3) := dk_182 0 219 (dk_at dksX0_has_2_5 15 rfl rfl)
theorem dX0_has_2_149 : decode cX0_has_2 149 = .ok (.ireturn, 1) := dk_172 (dk_at dksX0_has_2_5 18 rfl rfl)
theorem dX0_has_2_150 : decode cX0_has_2 150 = .ok (.aload_n 0, 1) := dk_42 (dk_at dksX0_has_2_5 19 rfl rfl)
theorem dX0_has_2_151 : decode cX0_has_2 151 = .ok (.getfield 69, 3) := dk_180 0 69 (dk_at dksX0_has_2_5 20 rfl rfl)
theorem dX0_has_2_154 : decode cX0_has_2 154 = .ok (.getfield 222, 3) := dk_180 0 222 (dk_at dksX0_has_2_6 0 rfl rfl)
theorem dX0_has_2_157 : decode cX0_has_2 157 = .ok (.ireturn, 1) := dk_172 (dk_at dksX0_has_2_6 3 rfl rfl)
theorem dX0_has_2_158 : decode cX0_has_2 158 = .ok (.aload_n 0, 1) := dk_42 (dk_at dksX0_has_2_6 4 rfl rfl)
theorem dX0_has_2_159 : decode cX0_has_2 159 = .ok (.getfield 148, 3) := dk_180 0 148 (dk_at dksX0_has_2_6 5 rfl rfl)
theorem dX0_has_2_162 : decode cX0_has_2 162 = .ok (.ireturn, 1) := dk_172 (dk_at dksX0_has_2_6 8 rfl rfl)
theorem dX0_has_2_163 : decode cX0_has_2 163 = .ok (.aload_n 0, 1) := dk_42 (dk_at dksX0_has_2_6 9 rfl rfl)
theorem dX0_has_2_164 : decode cX0_has_2 164 = .ok (.getfield 145, 3) := dk_180 0 145 (dk_at dksX0_has_2_6 10 rfl rfl)
theorem dX0_has_2_167 : decode cX0_has_2 167 = .ok (.ireturn, 1) := dk_172 (dk_at dksX0_has_2_6 13 rfl rfl)
theorem dX0_has_2_168 : decode cX0_has_2 168 = .ok (.iconst (-1), 1) := dk_2 (dk_at dksX0_has_2_6 14 rfl rfl)
theorem dX0_has_2_169 : decode cX0_has_2 169 = .ok (.ireturn, 1) := dk_172 (dk_at dksX0_has_2_6 15 rfl rfl)
abbrev cX0_openingOf : ByteArray := prog_1_method_23_code
def yX0_openingOf : MethodName := ⟨RX0, "openingOf", "(I)I"⟩
def dkwX0_openingOf_2 : List UInt8 := [184, 0, 199, 136, 172]
abbrev dktX0_openingOf_2 : List UInt8 := dkwX0_openingOf_2 ++ []
def dkwX0_openingOf_1 : List UInt8 := [180, 0, 31, 180, 0, 185, 42, 180, 0, 55, 182, 0, 193, 42, 180, 0, 31, 180, 0, 154, 133, 10, 97]
abbrev dktX0_openingOf_1 : List UInt8 := dkwX0_openingOf_1 ++ dktX0_openingOf_2
def dkwX0_openingOf_0 : List UInt8 := [42, 180, 0, 31, 180, 0, 185, 199, 0, 5, 3, 172, 42, 180, 0, 55, 180, 0, 189, 3, 27, 133, 80, 42]
abbrev dktX0_openingOf_0 : List UInt8 := dkwX0_openingOf_0 ++ dktX0_openingOf_1
theorem dksX0_openingOf_0 : cX0_openingOf.data.toList.drop 0 = dktX0_openingOf_0 := by decide +kernel
theorem dksX0_openingOf_1 : cX0_openingOf.data.toList.drop 24 = dktX0_openingOf_1 := dk_seg dksX0_openingOf_0 24 rfl rfl
theorem dksX0_openingOf_2 : cX0_openingOf.data.toList.drop 47 = dktX0_openingOf_2 := dk_seg dksX0_openingOf_1 23 rfl rfl
theorem dX0_openingOf_0 : decode cX0_openingOf 0 = .ok (.aload_n 0, 1) := dk_42 (dk_at dksX0_openingOf_0 0 rfl rfl)
theorem dX0_openingOf_1 : decode cX0_openingOf 1 = .ok (.getfield 31, 3) := dk_180 0 31 (dk_at dksX0_openingOf_0 1 rfl rfl)
theorem dX0_openingOf_4 : decode cX0_openingOf 4 = .ok (.getfield 185, 3) := dk_180 0 185 (dk_at dksX0_openingOf_0 4 rfl rfl)
theorem dX0_openingOf_7 : decode cX0_openingOf 7 = .ok (.ifnonnull 5, 3) := dk_199 0 5 (dk_at dksX0_openingOf_0 7 rfl rfl)
theorem dX0_openingOf_10 : decode cX0_openingOf 10 = .ok (.iconst 0, 1) := dk_3 (dk_at dksX0_openingOf_0 10 rfl rfl)
theorem dX0_openingOf_11 : decode cX0_openingOf 11 = .ok (.ireturn, 1) := dk_172 (dk_at dksX0_openingOf_0 11 rfl rfl)
theorem dX0_openingOf_12 : decode cX0_openingOf 12 = .ok (.aload_n 0, 1) := dk_42 (dk_at dksX0_openingOf_0 12 rfl rfl)
theorem dX0_openingOf_13 : decode cX0_openingOf 13 = .ok (.getfield 55, 3) := dk_180 0 55 (dk_at dksX0_openingOf_0 13 rfl rfl)
theorem dX0_openingOf_16 : decode cX0_openingOf 16 = .ok (.getfield 189, 3) := dk_180 0 189 (dk_at dksX0_openingOf_0 16 rfl rfl)
theorem dX0_openingOf_19 : decode cX0_openingOf 19 = .ok (.iconst 0, 1) := dk_3 (dk_at dksX0_openingOf_0 19 rfl rfl)
theorem dX0_openingOf_20 : decode cX0_openingOf 20 = .ok (.iload_n 1, 1) := dk_27 (dk_at dksX0_openingOf_0 20 rfl rfl)
theorem dX0_openingOf_21 : decode cX0_openingOf 21 = .ok (.i2l, 1) := dk_133 (dk_at dksX0_openingOf_0 21 rfl rfl)
theorem dX0_openingOf_22 : decode cX0_openingOf 22 = .ok (.lastore, 1) := dk_80 (dk_at dksX0_openingOf_0 22 rfl rfl)
theorem dX0_openingOf_23 : decode cX0_openingOf 23 = .ok (.aload_n 0, 1) := dk_42 (dk_at dksX0_openingOf_0 23 rfl rfl)
theorem dX0_openingOf_24 : decode cX0_openingOf 24 = .ok (.getfield 31, 3) := dk_180 0 31 (dk_at dksX0_openingOf_1 0 rfl rfl)
theorem dX0_openingOf_27 : decode cX0_openingOf 27 = .ok (.getfield 185, 3) := dk_180 0 185 (dk_at dksX0_openingOf_1 3 rfl rfl)
theorem dX0_openingOf_30 : decode cX0_openingOf 30 = .ok (.aload_n 0, 1) := dk_42 (dk_at dksX0_openingOf_1 6 rfl rfl)
theorem dX0_openingOf_31 : decode cX0_openingOf 31 = .ok (.getfield 55, 3) := dk_180 0 55 (dk_at dksX0_openingOf_1 7 rfl rfl)
theorem dX0_openingOf_34 : decode cX0_openingOf 34 = .ok (.invokevirtual 193, 3) := dk_182 0 193 (dk_at dksX0_openingOf_1 10 rfl rfl)
theorem dX0_openingOf_37 : decode cX0_openingOf 37 = .ok (.aload_n 0, 1) := dk_42 (dk_at dksX0_openingOf_1 13 rfl rfl)
theorem dX0_openingOf_38 : decode cX0_openingOf 38 = .ok (.getfield 31, 3) := dk_180 0 31 (dk_at dksX0_openingOf_1 14 rfl rfl)
theorem dX0_openingOf_41 : decode cX0_openingOf 41 = .ok (.getfield 154, 3) := dk_180 0 154 (dk_at dksX0_openingOf_1 17 rfl rfl)
theorem dX0_openingOf_44 : decode cX0_openingOf 44 = .ok (.i2l, 1) := dk_133 (dk_at dksX0_openingOf_1 20 rfl rfl)
theorem dX0_openingOf_45 : decode cX0_openingOf 45 = .ok (.lconst 1, 1) := dk_10 (dk_at dksX0_openingOf_1 21 rfl rfl)
theorem dX0_openingOf_46 : decode cX0_openingOf 46 = .ok (.ladd, 1) := dk_97 (dk_at dksX0_openingOf_1 22 rfl rfl)
theorem dX0_openingOf_47 : decode cX0_openingOf 47 = .ok (.invokestatic 199, 3) := dk_184 0 199 (dk_at dksX0_openingOf_2 0 rfl rfl)
theorem dX0_openingOf_50 : decode cX0_openingOf 50 = .ok (.l2i, 1) := dk_136 (dk_at dksX0_openingOf_2 3 rfl rfl)
theorem dX0_openingOf_51 : decode cX0_openingOf 51 = .ok (.ireturn, 1) := dk_172 (dk_at dksX0_openingOf_2 4 rfl rfl)
abbrev cX0_held : ByteArray := prog_1_method_3_code
def yX0_held : MethodName := ⟨RX0, "held", "(J)J"⟩
def dkwX0_held_0 : List UInt8 := [20, 0, 3, 20, 0, 5, 30, 184, 0, 7, 184, 0, 13, 173]
abbrev dktX0_held_0 : List UInt8 := dkwX0_held_0 ++ []
theorem dksX0_held_0 : cX0_held.data.toList.drop 0 = dktX0_held_0 := by decide +kernel
theorem dX0_held_0 : decode cX0_held 0 = .ok (.ldc2_w 3, 3) := dk_20 0 3 (dk_at dksX0_held_0 0 rfl rfl)
theorem dX0_held_3 : decode cX0_held 3 = .ok (.ldc2_w 5, 3) := dk_20 0 5 (dk_at dksX0_held_0 3 rfl rfl)
theorem dX0_held_6 : decode cX0_held 6 = .ok (.lload_n 0, 1) := dk_30 (dk_at dksX0_held_0 6 rfl rfl)
theorem dX0_held_7 : decode cX0_held 7 = .ok (.invokestatic 7, 3) := dk_184 0 7 (dk_at dksX0_held_0 7 rfl rfl)
theorem dX0_held_10 : decode cX0_held 10 = .ok (.invokestatic 13, 3) := dk_184 0 13 (dk_at dksX0_held_0 10 rfl rfl)
theorem dX0_held_13 : decode cX0_held 13 = .ok (.lreturn, 1) := dk_173 (dk_at dksX0_held_0 13 rfl rfl)
abbrev cX0_looked : ByteArray := prog_1_method_57_code
def yX0_looked : MethodName := ⟨RX0, "looked", "(IJ)J"⟩
def dkwX0_looked_2 : List UInt8 := [180, 0, 213, 182, 0, 216, 182, 1, 13, 153, 0, 7, 10, 167, 0, 4, 9, 173]
abbrev dktX0_looked_2 : List UInt8 := dkwX0_looked_2 ++ []
def dkwX0_looked_1 : List UInt8 := [180, 1, 102, 133, 148, 153, 0, 34, 42, 180, 0, 69, 42, 180, 1, 102, 32, 136, 42, 42, 180, 0, 69]
abbrev dktX0_looked_1 : List UInt8 := dkwX0_looked_1 ++ dktX0_looked_2
def dkwX0_looked_0 : List UInt8 := [27, 154, 0, 60, 32, 9, 148, 155, 0, 54, 32, 42, 182, 0, 166, 133, 148, 156, 0, 44, 32, 42]
abbrev dktX0_looked_0 : List UInt8 := dkwX0_looked_0 ++ dktX0_looked_1
theorem dksX0_looked_0 : cX0_looked.data.toList.drop 0 = dktX0_looked_0 := by decide +kernel
theorem dksX0_looked_1 : cX0_looked.data.toList.drop 22 = dktX0_looked_1 := dk_seg dksX0_looked_0 22 rfl rfl
theorem dksX0_looked_2 : cX0_looked.data.toList.drop 45 = dktX0_looked_2 := dk_seg dksX0_looked_1 23 rfl rfl
theorem dX0_looked_0 : decode cX0_looked 0 = .ok (.iload_n 1, 1) := dk_27 (dk_at dksX0_looked_0 0 rfl rfl)
theorem dX0_looked_1 : decode cX0_looked 1 = .ok (.ifCond .ne 60, 3) := dk_154 0 60 (dk_at dksX0_looked_0 1 rfl rfl)
theorem dX0_looked_4 : decode cX0_looked 4 = .ok (.lload_n 2, 1) := dk_32 (dk_at dksX0_looked_0 4 rfl rfl)
theorem dX0_looked_5 : decode cX0_looked 5 = .ok (.lconst 0, 1) := dk_9 (dk_at dksX0_looked_0 5 rfl rfl)
theorem dX0_looked_6 : decode cX0_looked 6 = .ok (.lcmp, 1) := dk_148 (dk_at dksX0_looked_0 6 rfl rfl)
theorem dX0_looked_7 : decode cX0_looked 7 = .ok (.ifCond .lt 54, 3) := dk_155 0 54 (dk_at dksX0_looked_0 7 rfl rfl)
theorem dX0_looked_10 : decode cX0_looked 10 = .ok (.lload_n 2, 1) := dk_32 (dk_at dksX0_looked_0 10 rfl rfl)
theorem dX0_looked_11 : decode cX0_looked 11 = .ok (.aload_n 0, 1) := dk_42 (dk_at dksX0_looked_0 11 rfl rfl)
theorem dX0_looked_12 : decode cX0_looked 12 = .ok (.invokevirtual 166, 3) := dk_182 0 166 (dk_at dksX0_looked_0 12 rfl rfl)
theorem dX0_looked_15 : decode cX0_looked 15 = .ok (.i2l, 1) := dk_133 (dk_at dksX0_looked_0 15 rfl rfl)
theorem dX0_looked_16 : decode cX0_looked 16 = .ok (.lcmp, 1) := dk_148 (dk_at dksX0_looked_0 16 rfl rfl)
theorem dX0_looked_17 : decode cX0_looked 17 = .ok (.ifCond .ge 44, 3) := dk_156 0 44 (dk_at dksX0_looked_0 17 rfl rfl)
theorem dX0_looked_20 : decode cX0_looked 20 = .ok (.lload_n 2, 1) := dk_32 (dk_at dksX0_looked_0 20 rfl rfl)
theorem dX0_looked_21 : decode cX0_looked 21 = .ok (.aload_n 0, 1) := dk_42 (dk_at dksX0_looked_0 21 rfl rfl)
theorem dX0_looked_22 : decode cX0_looked 22 = .ok (.getfield 358, 3) := dk_180 1 102 (dk_at dksX0_looked_1 0 rfl rfl)
theorem dX0_looked_25 : decode cX0_looked 25 = .ok (.i2l, 1) := dk_133 (dk_at dksX0_looked_1 3 rfl rfl)
theorem dX0_looked_26 : decode cX0_looked 26 = .ok (.lcmp, 1) := dk_148 (dk_at dksX0_looked_1 4 rfl rfl)
theorem dX0_looked_27 : decode cX0_looked 27 = .ok (.ifCond .eq 34, 3) := dk_153 0 34 (dk_at dksX0_looked_1 5 rfl rfl)
theorem dX0_looked_30 : decode cX0_looked 30 = .ok (.aload_n 0, 1) := dk_42 (dk_at dksX0_looked_1 8 rfl rfl)
theorem dX0_looked_31 : decode cX0_looked 31 = .ok (.getfield 69, 3) := dk_180 0 69 (dk_at dksX0_looked_1 9 rfl rfl)
theorem dX0_looked_34 : decode cX0_looked 34 = .ok (.aload_n 0, 1) := dk_42 (dk_at dksX0_looked_1 12 rfl rfl)
theorem dX0_looked_35 : decode cX0_looked 35 = .ok (.getfield 358, 3) := dk_180 1 102 (dk_at dksX0_looked_1 13 rfl rfl)
theorem dX0_looked_38 : decode cX0_looked 38 = .ok (.lload_n 2, 1) := dk_32 (dk_at dksX0_looked_1 16 rfl rfl)
theorem dX0_looked_39 : decode cX0_looked 39 = .ok (.l2i, 1) := dk_136 (dk_at dksX0_looked_1 17 rfl rfl)
theorem dX0_looked_40 : decode cX0_looked 40 = .ok (.aload_n 0, 1) := dk_42 (dk_at dksX0_looked_1 18 rfl rfl)
theorem dX0_looked_41 : decode cX0_looked 41 = .ok (.aload_n 0, 1) := dk_42 (dk_at dksX0_looked_1 19 rfl rfl)
theorem dX0_looked_42 : decode cX0_looked 42 = .ok (.getfield 69, 3) := dk_180 0 69 (dk_at dksX0_looked_1 20 rfl rfl)
theorem dX0_looked_45 : decode cX0_looked 45 = .ok (.getfield 213, 3) := dk_180 0 213 (dk_at dksX0_looked_2 0 rfl rfl)
theorem dX0_looked_48 : decode cX0_looked 48 = .ok (.invokevirtual 216, 3) := dk_182 0 216 (dk_at dksX0_looked_2 3 rfl rfl)
theorem dX0_looked_51 : decode cX0_looked 51 = .ok (.invokevirtual 269, 3) := dk_182 1 13 (dk_at dksX0_looked_2 6 rfl rfl)
theorem dX0_looked_54 : decode cX0_looked 54 = .ok (.ifCond .eq 7, 3) := dk_153 0 7 (dk_at dksX0_looked_2 9 rfl rfl)
theorem dX0_looked_57 : decode cX0_looked 57 = .ok (.lconst 1, 1) := dk_10 (dk_at dksX0_looked_2 12 rfl rfl)
theorem dX0_looked_58 : decode cX0_looked 58 = .ok (.goto 4, 3) := dk_167 0 4 (dk_at dksX0_looked_2 13 rfl rfl)
theorem dX0_looked_61 : decode cX0_looked 61 = .ok (.lconst 0, 1) := dk_9 (dk_at dksX0_looked_2 16 rfl rfl)
theorem dX0_looked_62 : decode cX0_looked 62 = .ok (.lreturn, 1) := dk_173 (dk_at dksX0_looked_2 17 rfl rfl)
abbrev cX0_liesOn : ByteArray := prog_1_method_22_code
def yX0_liesOn : MethodName := ⟨RX0, "liesOn", "(II)Z"⟩
def dkwX0_liesOn_1 : List UInt8 := [154, 0, 7, 4, 167, 0, 4, 3, 172]
abbrev dktX0_liesOn_1 : List UInt8 := dkwX0_liesOn_1 ++ []
def dkwX0_liesOn_0 : List UInt8 := [27, 155, 0, 28, 27, 4, 96, 42, 180, 0, 31, 180, 0, 154, 162, 0, 15, 27, 28, 184, 0, 181]
abbrev dktX0_liesOn_0 : List UInt8 := dkwX0_liesOn_0 ++ dktX0_liesOn_1
theorem dksX0_liesOn_0 : cX0_liesOn.data.toList.drop 0 = dktX0_liesOn_0 := by decide +kernel
theorem dksX0_liesOn_1 : cX0_liesOn.data.toList.drop 22 = dktX0_liesOn_1 := dk_seg dksX0_liesOn_0 22 rfl rfl
theorem dX0_liesOn_0 : decode cX0_liesOn 0 = .ok (.iload_n 1, 1) := dk_27 (dk_at dksX0_liesOn_0 0 rfl rfl)
theorem dX0_liesOn_1 : decode cX0_liesOn 1 = .ok (.ifCond .lt 28, 3) := dk_155 0 28 (dk_at dksX0_liesOn_0 1 rfl rfl)
theorem dX0_liesOn_4 : decode cX0_liesOn 4 = .ok (.iload_n 1, 1) := dk_27 (dk_at dksX0_liesOn_0 4 rfl rfl)
theorem dX0_liesOn_5 : decode cX0_liesOn 5 = .ok (.iconst 1, 1) := dk_4 (dk_at dksX0_liesOn_0 5 rfl rfl)
theorem dX0_liesOn_6 : decode cX0_liesOn 6 = .ok (.iadd, 1) := dk_96 (dk_at dksX0_liesOn_0 6 rfl rfl)
theorem dX0_liesOn_7 : decode cX0_liesOn 7 = .ok (.aload_n 0, 1) := dk_42 (dk_at dksX0_liesOn_0 7 rfl rfl)
theorem dX0_liesOn_8 : decode cX0_liesOn 8 = .ok (.getfield 31, 3) := dk_180 0 31 (dk_at dksX0_liesOn_0 8 rfl rfl)
theorem dX0_liesOn_11 : decode cX0_liesOn 11 = .ok (.getfield 154, 3) := dk_180 0 154 (dk_at dksX0_liesOn_0 11 rfl rfl)
theorem dX0_liesOn_14 : decode cX0_liesOn 14 = .ok (.if_icmp .ge 15, 3) := dk_162 0 15 (dk_at dksX0_liesOn_0 14 rfl rfl)
theorem dX0_liesOn_17 : decode cX0_liesOn 17 = .ok (.iload_n 1, 1) := dk_27 (dk_at dksX0_liesOn_0 17 rfl rfl)
theorem dX0_liesOn_18 : decode cX0_liesOn 18 = .ok (.iload_n 2, 1) := dk_28 (dk_at dksX0_liesOn_0 18 rfl rfl)
theorem dX0_liesOn_19 : decode cX0_liesOn 19 = .ok (.invokestatic 181, 3) := dk_184 0 181 (dk_at dksX0_liesOn_0 19 rfl rfl)
theorem dX0_liesOn_22 : decode cX0_liesOn 22 = .ok (.ifCond .ne 7, 3) := dk_154 0 7 (dk_at dksX0_liesOn_1 0 rfl rfl)
theorem dX0_liesOn_25 : decode cX0_liesOn 25 = .ok (.iconst 1, 1) := dk_4 (dk_at dksX0_liesOn_1 3 rfl rfl)
theorem dX0_liesOn_26 : decode cX0_liesOn 26 = .ok (.goto 4, 3) := dk_167 0 4 (dk_at dksX0_liesOn_1 4 rfl rfl)
theorem dX0_liesOn_29 : decode cX0_liesOn 29 = .ok (.iconst 0, 1) := dk_3 (dk_at dksX0_liesOn_1 7 rfl rfl)
theorem dX0_liesOn_30 : decode cX0_liesOn 30 = .ok (.ireturn, 1) := dk_172 (dk_at dksX0_liesOn_1 8 rfl rfl)
abbrev cX0_isOpen : ByteArray := prog_1_method_21_code
def yX0_isOpen : MethodName := ⟨RX0, "isOpen", "(II)Z"⟩
def dkwX0_isOpen_0 : List UInt8 := [26, 27, 159, 0, 10, 26, 27, 4, 100, 160, 0, 7, 4, 167, 0, 4, 3, 172]
abbrev dktX0_isOpen_0 : List UInt8 := dkwX0_isOpen_0 ++ []
theorem dksX0_isOpen_0 : cX0_isOpen.data.toList.drop 0 = dktX0_isOpen_0 := by decide +kernel
theorem dX0_isOpen_0 : decode cX0_isOpen 0 = .ok (.iload_n 0, 1) := dk_26 (dk_at dksX0_isOpen_0 0 rfl rfl)
theorem dX0_isOpen_1 : decode cX0_isOpen 1 = .ok (.iload_n 1, 1) := dk_27 (dk_at dksX0_isOpen_0 1 rfl rfl)
theorem dX0_isOpen_2 : decode cX0_isOpen 2 = .ok (.if_icmp .eq 10, 3) := dk_159 0 10 (dk_at dksX0_isOpen_0 2 rfl rfl)
theorem dX0_isOpen_5 : decode cX0_isOpen 5 = .ok (.iload_n 0, 1) := dk_26 (dk_at dksX0_isOpen_0 5 rfl rfl)
theorem dX0_isOpen_6 : decode cX0_isOpen 6 = .ok (.iload_n 1, 1) := dk_27 (dk_at dksX0_isOpen_0 6 rfl rfl)
theorem dX0_isOpen_7 : decode cX0_isOpen 7 = .ok (.iconst 1, 1) := dk_4 (dk_at dksX0_isOpen_0 7 rfl rfl)
theorem dX0_isOpen_8 : decode cX0_isOpen 8 = .ok (.isub, 1) := dk_100 (dk_at dksX0_isOpen_0 8 rfl rfl)
theorem dX0_isOpen_9 : decode cX0_isOpen 9 = .ok (.if_icmp .ne 7, 3) := dk_160 0 7 (dk_at dksX0_isOpen_0 9 rfl rfl)
theorem dX0_isOpen_12 : decode cX0_isOpen 12 = .ok (.iconst 1, 1) := dk_4 (dk_at dksX0_isOpen_0 12 rfl rfl)
theorem dX0_isOpen_13 : decode cX0_isOpen 13 = .ok (.goto 4, 3) := dk_167 0 4 (dk_at dksX0_isOpen_0 13 rfl rfl)
theorem dX0_isOpen_16 : decode cX0_isOpen 16 = .ok (.iconst 0, 1) := dk_3 (dk_at dksX0_isOpen_0 16 rfl rfl)
theorem dX0_isOpen_17 : decode cX0_isOpen 17 = .ok (.ireturn, 1) := dk_172 (dk_at dksX0_isOpen_0 17 rfl rfl)
abbrev cX0_mirrored : ByteArray := prog_1_method_20_code
def yX0_mirrored : MethodName := ⟨RX0, "mirrored", "(I)I"⟩
def dkwX0_mirrored_0 : List UInt8 := [42, 180, 0, 31, 180, 0, 172, 4, 100, 27, 100, 172]
abbrev dktX0_mirrored_0 : List UInt8 := dkwX0_mirrored_0 ++ []
theorem dksX0_mirrored_0 : cX0_mirrored.data.toList.drop 0 = dktX0_mirrored_0 := by decide +kernel
theorem dX0_mirrored_0 : decode cX0_mirrored 0 = .ok (.aload_n 0, 1) := dk_42 (dk_at dksX0_mirrored_0 0 rfl rfl)
theorem dX0_mirrored_1 : decode cX0_mirrored 1 = .ok (.getfield 31, 3) := dk_180 0 31 (dk_at dksX0_mirrored_0 1 rfl rfl)
theorem dX0_mirrored_4 : decode cX0_mirrored 4 = .ok (.getfield 172, 3) := dk_180 0 172 (dk_at dksX0_mirrored_0 4 rfl rfl)
theorem dX0_mirrored_7 : decode cX0_mirrored 7 = .ok (.iconst 1, 1) := dk_4 (dk_at dksX0_mirrored_0 7 rfl rfl)
theorem dX0_mirrored_8 : decode cX0_mirrored 8 = .ok (.isub, 1) := dk_100 (dk_at dksX0_mirrored_0 8 rfl rfl)
theorem dX0_mirrored_9 : decode cX0_mirrored 9 = .ok (.iload_n 1, 1) := dk_27 (dk_at dksX0_mirrored_0 9 rfl rfl)
theorem dX0_mirrored_10 : decode cX0_mirrored 10 = .ok (.isub, 1) := dk_100 (dk_at dksX0_mirrored_0 10 rfl rfl)
theorem dX0_mirrored_11 : decode cX0_mirrored 11 = .ok (.ireturn, 1) := dk_172 (dk_at dksX0_mirrored_0 11 rfl rfl)
abbrev cX0_letter : ByteArray := prog_1_method_25_code
def yX0_letter : MethodName := ⟨RX0, "letter", "(II)I"⟩
def dkwX0_letter_1 : List UInt8 := [182, 0, 233, 167, 0, 4, 2, 172]
abbrev dktX0_letter_1 : List UInt8 := dkwX0_letter_1 ++ []
def dkwX0_letter_0 : List UInt8 := [42, 27, 182, 0, 225, 153, 0, 24, 28, 3, 8, 184, 0, 168, 153, 0, 15, 42, 27, 182, 0, 229, 28]
abbrev dktX0_letter_0 : List UInt8 := dkwX0_letter_0 ++ dktX0_letter_1
theorem dksX0_letter_0 : cX0_letter.data.toList.drop 0 = dktX0_letter_0 := by decide +kernel
theorem dksX0_letter_1 : cX0_letter.data.toList.drop 23 = dktX0_letter_1 := dk_seg dksX0_letter_0 23 rfl rfl
theorem dX0_letter_0 : decode cX0_letter 0 = .ok (.aload_n 0, 1) := dk_42 (dk_at dksX0_letter_0 0 rfl rfl)
theorem dX0_letter_1 : decode cX0_letter 1 = .ok (.iload_n 1, 1) := dk_27 (dk_at dksX0_letter_0 1 rfl rfl)
theorem dX0_letter_2 : decode cX0_letter 2 = .ok (.invokevirtual 225, 3) := dk_182 0 225 (dk_at dksX0_letter_0 2 rfl rfl)
theorem dX0_letter_5 : decode cX0_letter 5 = .ok (.ifCond .eq 24, 3) := dk_153 0 24 (dk_at dksX0_letter_0 5 rfl rfl)
theorem dX0_letter_8 : decode cX0_letter 8 = .ok (.iload_n 2, 1) := dk_28 (dk_at dksX0_letter_0 8 rfl rfl)
theorem dX0_letter_9 : decode cX0_letter 9 = .ok (.iconst 0, 1) := dk_3 (dk_at dksX0_letter_0 9 rfl rfl)
theorem dX0_letter_10 : decode cX0_letter 10 = .ok (.iconst 5, 1) := dk_8 (dk_at dksX0_letter_0 10 rfl rfl)
theorem dX0_letter_11 : decode cX0_letter 11 = .ok (.invokestatic 168, 3) := dk_184 0 168 (dk_at dksX0_letter_0 11 rfl rfl)
theorem dX0_letter_14 : decode cX0_letter 14 = .ok (.ifCond .eq 15, 3) := dk_153 0 15 (dk_at dksX0_letter_0 14 rfl rfl)
theorem dX0_letter_17 : decode cX0_letter 17 = .ok (.aload_n 0, 1) := dk_42 (dk_at dksX0_letter_0 17 rfl rfl)
theorem dX0_letter_18 : decode cX0_letter 18 = .ok (.iload_n 1, 1) := dk_27 (dk_at dksX0_letter_0 18 rfl rfl)
theorem dX0_letter_19 : decode cX0_letter 19 = .ok (.invokevirtual 229, 3) := dk_182 0 229 (dk_at dksX0_letter_0 19 rfl rfl)
theorem dX0_letter_22 : decode cX0_letter 22 = .ok (.iload_n 2, 1) := dk_28 (dk_at dksX0_letter_0 22 rfl rfl)
theorem dX0_letter_23 : decode cX0_letter 23 = .ok (.invokevirtual 233, 3) := dk_182 0 233 (dk_at dksX0_letter_1 0 rfl rfl)
theorem dX0_letter_26 : decode cX0_letter 26 = .ok (.goto 4, 3) := dk_167 0 4 (dk_at dksX0_letter_1 3 rfl rfl)
theorem dX0_letter_29 : decode cX0_letter 29 = .ok (.iconst (-1), 1) := dk_2 (dk_at dksX0_letter_1 6 rfl rfl)
theorem dX0_letter_30 : decode cX0_letter 30 = .ok (.ireturn, 1) := dk_172 (dk_at dksX0_letter_1 7 rfl rfl)
abbrev cX0_isBeing : ByteArray := prog_1_method_17_code
def yX0_isBeing : MethodName := ⟨RX0, "isBeing", "(I)Z"⟩
def dkwX0_isBeing_0 : List UInt8 := [27, 155, 0, 15, 27, 42, 182, 0, 166, 162, 0, 7, 4, 167, 0, 4, 3, 172]
abbrev dktX0_isBeing_0 : List UInt8 := dkwX0_isBeing_0 ++ []
theorem dksX0_isBeing_0 : cX0_isBeing.data.toList.drop 0 = dktX0_isBeing_0 := by decide +kernel
theorem dX0_isBeing_0 : decode cX0_isBeing 0 = .ok (.iload_n 1, 1) := dk_27 (dk_at dksX0_isBeing_0 0 rfl rfl)
theorem dX0_isBeing_1 : decode cX0_isBeing 1 = .ok (.ifCond .lt 15, 3) := dk_155 0 15 (dk_at dksX0_isBeing_0 1 rfl rfl)
theorem dX0_isBeing_4 : decode cX0_isBeing 4 = .ok (.iload_n 1, 1) := dk_27 (dk_at dksX0_isBeing_0 4 rfl rfl)
theorem dX0_isBeing_5 : decode cX0_isBeing 5 = .ok (.aload_n 0, 1) := dk_42 (dk_at dksX0_isBeing_0 5 rfl rfl)
theorem dX0_isBeing_6 : decode cX0_isBeing 6 = .ok (.invokevirtual 166, 3) := dk_182 0 166 (dk_at dksX0_isBeing_0 6 rfl rfl)
theorem dX0_isBeing_9 : decode cX0_isBeing 9 = .ok (.if_icmp .ge 7, 3) := dk_162 0 7 (dk_at dksX0_isBeing_0 9 rfl rfl)
theorem dX0_isBeing_12 : decode cX0_isBeing 12 = .ok (.iconst 1, 1) := dk_4 (dk_at dksX0_isBeing_0 12 rfl rfl)
theorem dX0_isBeing_13 : decode cX0_isBeing 13 = .ok (.goto 4, 3) := dk_167 0 4 (dk_at dksX0_isBeing_0 13 rfl rfl)
theorem dX0_isBeing_16 : decode cX0_isBeing 16 = .ok (.iconst 0, 1) := dk_3 (dk_at dksX0_isBeing_0 16 rfl rfl)
theorem dX0_isBeing_17 : decode cX0_isBeing 17 = .ok (.ireturn, 1) := dk_172 (dk_at dksX0_isBeing_0 17 rfl rfl)
abbrev cX0_being : ByteArray := prog_1_method_26_code
def yX0_being : MethodName := ⟨RX0, "being", "(II)I"⟩
def dkwX0_being_5 : List UInt8 := [184, 0, 181, 153, 0, 7, 4, 167, 0, 4, 3, 172, 2, 172]
abbrev dktX0_being_5 : List UInt8 := dkwX0_being_5 ++ []
def dkwX0_being_4 : List UInt8 := [27, 46, 172, 42, 180, 0, 69, 180, 0, 236, 27, 46, 42, 42, 180, 0, 69, 180, 0, 213, 182, 0, 216]
abbrev dktX0_being_4 : List UInt8 := dkwX0_being_4 ++ dktX0_being_5
def dkwX0_being_3 : List UInt8 := [182, 0, 229, 180, 0, 242, 172, 42, 180, 0, 69, 180, 0, 245, 27, 46, 172, 42, 180, 0, 69, 180, 0, 248]
abbrev dktX0_being_3 : List UInt8 := dkwX0_being_3 ++ dktX0_being_4
def dkwX0_being_2 : List UInt8 := [42, 180, 0, 69, 180, 0, 236, 27, 46, 172, 42, 180, 0, 69, 180, 0, 239, 27, 46, 172, 42, 27]
abbrev dktX0_being_2 : List UInt8 := dkwX0_being_2 ++ dktX0_being_3
def dkwX0_being_1 : List UInt8 := [170, 0, 0, 0, 118, 0, 0, 0, 0, 0, 0, 0, 5, 0, 0, 0, 37, 0, 0, 0, 47, 0, 0, 0, 57, 0, 0, 0, 66, 0, 0, 0, 76, 0, 0, 0, 86]
abbrev dktX0_being_1 : List UInt8 := dkwX0_being_1 ++ dktX0_being_2
def dkwX0_being_0 : List UInt8 := [42, 27, 182, 0, 225, 154, 0, 5, 2, 172, 28]
abbrev dktX0_being_0 : List UInt8 := dkwX0_being_0 ++ dktX0_being_1
theorem dksX0_being_0 : cX0_being.data.toList.drop 0 = dktX0_being_0 := by decide +kernel
theorem dksX0_being_1 : cX0_being.data.toList.drop 11 = dktX0_being_1 := dk_seg dksX0_being_0 11 rfl rfl
theorem dksX0_being_2 : cX0_being.data.toList.drop 48 = dktX0_being_2 := dk_seg dksX0_being_1 37 rfl rfl
theorem dksX0_being_3 : cX0_being.data.toList.drop 70 = dktX0_being_3 := dk_seg dksX0_being_2 22 rfl rfl
theorem dksX0_being_4 : cX0_being.data.toList.drop 94 = dktX0_being_4 := dk_seg dksX0_being_3 24 rfl rfl
theorem dksX0_being_5 : cX0_being.data.toList.drop 117 = dktX0_being_5 := dk_seg dksX0_being_4 23 rfl rfl
theorem dX0_being_0 : decode cX0_being 0 = .ok (.aload_n 0, 1) := dk_42 (dk_at dksX0_being_0 0 rfl rfl)
theorem dX0_being_1 : decode cX0_being 1 = .ok (.iload_n 1, 1) := dk_27 (dk_at dksX0_being_0 1 rfl rfl)
theorem dX0_being_2 : decode cX0_being 2 = .ok (.invokevirtual 225, 3) := dk_182 0 225 (dk_at dksX0_being_0 2 rfl rfl)
theorem dX0_being_5 : decode cX0_being 5 = .ok (.ifCond .ne 5, 3) := dk_154 0 5 (dk_at dksX0_being_0 5 rfl rfl)
theorem dX0_being_8 : decode cX0_being 8 = .ok (.iconst (-1), 1) := dk_2 (dk_at dksX0_being_0 8 rfl rfl)
theorem dX0_being_9 : decode cX0_being 9 = .ok (.ireturn, 1) := dk_172 (dk_at dksX0_being_0 9 rfl rfl)
theorem dX0_being_10 : decode cX0_being 10 = .ok (.iload_n 2, 1) := dk_28 (dk_at dksX0_being_0 10 rfl rfl)
theorem dX0_being_11 : decode cX0_being 11 = .ok (.tableswitch 118 0 5 #[37, 47, 57, 66, 76, 86], 37) := by decide +kernel
theorem dX0_being_48 : decode cX0_being 48 = .ok (.aload_n 0, 1) := dk_42 (dk_at dksX0_being_2 0 rfl rfl)
theorem dX0_being_49 : decode cX0_being 49 = .ok (.getfield 69, 3) := dk_180 0 69 (dk_at dksX0_being_2 1 rfl rfl)
theorem dX0_being_52 : decode cX0_being 52 = .ok (.getfield 236, 3) := dk_180 0 236 (dk_at dksX0_being_2 4 rfl rfl)
theorem dX0_being_55 : decode cX0_being 55 = .ok (.iload_n 1, 1) := dk_27 (dk_at dksX0_being_2 7 rfl rfl)
theorem dX0_being_56 : decode cX0_being 56 = .ok (.iaload, 1) := dk_46 (dk_at dksX0_being_2 8 rfl rfl)
theorem dX0_being_57 : decode cX0_being 57 = .ok (.ireturn, 1) := dk_172 (dk_at dksX0_being_2 9 rfl rfl)
theorem dX0_being_58 : decode cX0_being 58 = .ok (.aload_n 0, 1) := dk_42 (dk_at dksX0_being_2 10 rfl rfl)
theorem dX0_being_59 : decode cX0_being 59 = .ok (.getfield 69, 3) := dk_180 0 69 (dk_at dksX0_being_2 11 rfl rfl)
theorem dX0_being_62 : decode cX0_being 62 = .ok (.getfield 239, 3) := dk_180 0 239 (dk_at dksX0_being_2 14 rfl rfl)
theorem dX0_being_65 : decode cX0_being 65 = .ok (.iload_n 1, 1) := dk_27 (dk_at dksX0_being_2 17 rfl rfl)
theorem dX0_being_66 : decode cX0_being 66 = .ok (.iaload, 1) := dk_46 (dk_at dksX0_being_2 18 rfl rfl)
theorem dX0_being_67 : decode cX0_being 67 = .ok (.ireturn, 1) := dk_172 (dk_at dksX0_being_2 19 rfl rfl)
theorem dX0_being_68 : decode cX0_being 68 = .ok (.aload_n 0, 1) := dk_42 (dk_at dksX0_being_2 20 rfl rfl)
theorem dX0_being_69 : decode cX0_being 69 = .ok (.iload_n 1, 1) := dk_27 (dk_at dksX0_being_2 21 rfl rfl)
theorem dX0_being_70 : decode cX0_being 70 = .ok (.invokevirtual 229, 3) := dk_182 0 229 (dk_at dksX0_being_3 0 rfl rfl)
theorem dX0_being_73 : decode cX0_being 73 = .ok (.getfield 242, 3) := dk_180 0 242 (dk_at dksX0_being_3 3 rfl rfl)
theorem dX0_being_76 : decode cX0_being 76 = .ok (.ireturn, 1) := dk_172 (dk_at dksX0_being_3 6 rfl rfl)
theorem dX0_being_77 : decode cX0_being 77 = .ok (.aload_n 0, 1) := dk_42 (dk_at dksX0_being_3 7 rfl rfl)
theorem dX0_being_78 : decode cX0_being 78 = .ok (.getfield 69, 3) := dk_180 0 69 (dk_at dksX0_being_3 8 rfl rfl)
theorem dX0_being_81 : decode cX0_being 81 = .ok (.getfield 245, 3) := dk_180 0 245 (dk_at dksX0_being_3 11 rfl rfl)
theorem dX0_being_84 : decode cX0_being 84 = .ok (.iload_n 1, 1) := dk_27 (dk_at dksX0_being_3 14 rfl rfl)
theorem dX0_being_85 : decode cX0_being 85 = .ok (.iaload, 1) := dk_46 (dk_at dksX0_being_3 15 rfl rfl)
theorem dX0_being_86 : decode cX0_being 86 = .ok (.ireturn, 1) := dk_172 (dk_at dksX0_being_3 16 rfl rfl)
theorem dX0_being_87 : decode cX0_being 87 = .ok (.aload_n 0, 1) := dk_42 (dk_at dksX0_being_3 17 rfl rfl)
theorem dX0_being_88 : decode cX0_being 88 = .ok (.getfield 69, 3) := dk_180 0 69 (dk_at dksX0_being_3 18 rfl rfl)
theorem dX0_being_91 : decode cX0_being 91 = .ok (.getfield 248, 3) := dk_180 0 248 (dk_at dksX0_being_3 21 rfl rfl)
theorem dX0_being_94 : decode cX0_being 94 = .ok (.iload_n 1, 1) := dk_27 (dk_at dksX0_being_4 0 rfl rfl)
theorem dX0_being_95 : decode cX0_being 95 = .ok (.iaload, 1) := dk_46 (dk_at dksX0_being_4 1 rfl rfl)
theorem dX0_being_96 : decode cX0_being 96 = .ok (.ireturn, 1) := dk_172 (dk_at dksX0_being_4 2 rfl rfl)
theorem dX0_being_97 : decode cX0_being 97 = .ok (.aload_n 0, 1) := dk_42 (dk_at dksX0_being_4 3 rfl rfl)
theorem dX0_being_98 : decode cX0_being 98 = .ok (.getfield 69, 3) := dk_180 0 69 (dk_at dksX0_being_4 4 rfl rfl)
theorem dX0_being_101 : decode cX0_being 101 = .ok (.getfield 236, 3) := dk_180 0 236 (dk_at dksX0_being_4 7 rfl rfl)
theorem dX0_being_104 : decode cX0_being 104 = .ok (.iload_n 1, 1) := dk_27 (dk_at dksX0_being_4 10 rfl rfl)
theorem dX0_being_105 : decode cX0_being 105 = .ok (.iaload, 1) := dk_46 (dk_at dksX0_being_4 11 rfl rfl)
theorem dX0_being_106 : decode cX0_being 106 = .ok (.aload_n 0, 1) := dk_42 (dk_at dksX0_being_4 12 rfl rfl)
theorem dX0_being_107 : decode cX0_being 107 = .ok (.aload_n 0, 1) := dk_42 (dk_at dksX0_being_4 13 rfl rfl)
theorem dX0_being_108 : decode cX0_being 108 = .ok (.getfield 69, 3) := dk_180 0 69 (dk_at dksX0_being_4 14 rfl rfl)
theorem dX0_being_111 : decode cX0_being 111 = .ok (.getfield 213, 3) := dk_180 0 213 (dk_at dksX0_being_4 17 rfl rfl)
theorem dX0_being_114 : decode cX0_being 114 = .ok (.invokevirtual 216, 3) := dk_182 0 216 (dk_at dksX0_being_4 20 rfl rfl)
theorem dX0_being_117 : decode cX0_being 117 = .ok (.invokestatic 181, 3) := dk_184 0 181 (dk_at dksX0_being_5 0 rfl rfl)
theorem dX0_being_120 : decode cX0_being 120 = .ok (.ifCond .eq 7, 3) := dk_153 0 7 (dk_at dksX0_being_5 3 rfl rfl)
theorem dX0_being_123 : decode cX0_being 123 = .ok (.iconst 1, 1) := dk_4 (dk_at dksX0_being_5 6 rfl rfl)
theorem dX0_being_124 : decode cX0_being 124 = .ok (.goto 4, 3) := dk_167 0 4 (dk_at dksX0_being_5 7 rfl rfl)
theorem dX0_being_127 : decode cX0_being 127 = .ok (.iconst 0, 1) := dk_3 (dk_at dksX0_being_5 10 rfl rfl)
theorem dX0_being_128 : decode cX0_being 128 = .ok (.ireturn, 1) := dk_172 (dk_at dksX0_being_5 11 rfl rfl)
theorem dX0_being_129 : decode cX0_being 129 = .ok (.iconst (-1), 1) := dk_2 (dk_at dksX0_being_5 12 rfl rfl)
theorem dX0_being_130 : decode cX0_being 130 = .ok (.ireturn, 1) := dk_172 (dk_at dksX0_being_5 13 rfl rfl)
abbrev cX0_cell : ByteArray := prog_1_method_27_code
def yX0_cell : MethodName := ⟨RX0, "cell", "(III)I"⟩
def dkwX0_cell_5 : List UInt8 := [2, 160, 0, 7, 2, 167, 0, 18, 29, 5, 160, 0, 8, 21, 5, 167, 0, 8, 42, 28, 182, 1, 8, 172]
abbrev dktX0_cell_5 : List UInt8 := dkwX0_cell_5 ++ []
def dkwX0_cell_4 : List UInt8 := [167, 0, 20, 42, 27, 21, 4, 182, 1, 5, 153, 0, 9, 27, 4, 96, 167, 0, 4, 2, 54, 5, 21, 5]
abbrev dktX0_cell_4 : List UInt8 := dkwX0_cell_4 ++ dktX0_cell_5
def dkwX0_cell_3 : List UInt8 := [180, 0, 213, 182, 0, 216, 54, 4, 42, 27, 4, 100, 21, 4, 182, 1, 5, 153, 0, 9, 27, 4, 100]
abbrev dktX0_cell_3 : List UInt8 := dkwX0_cell_3 ++ dktX0_cell_4
def dkwX0_cell_2 : List UInt8 := [167, 0, 16, 3, 167, 0, 12, 42, 180, 0, 69, 27, 28, 182, 1, 1, 172, 42, 42, 180, 0, 69]
abbrev dktX0_cell_2 : List UInt8 := dkwX0_cell_2 ++ dktX0_cell_3
def dkwX0_cell_1 : List UInt8 := [162, 0, 41, 29, 154, 0, 27, 42, 180, 0, 69, 180, 0, 202, 27, 46, 28, 184, 0, 254, 153, 0, 7, 4]
abbrev dktX0_cell_1 : List UInt8 := dkwX0_cell_1 ++ dktX0_cell_2
def dkwX0_cell_0 : List UInt8 := [42, 27, 28, 182, 0, 251, 153, 0, 12, 29, 3, 6, 184, 0, 168, 154, 0, 5, 2, 172, 29, 5]
abbrev dktX0_cell_0 : List UInt8 := dkwX0_cell_0 ++ dktX0_cell_1
theorem dksX0_cell_0 : cX0_cell.data.toList.drop 0 = dktX0_cell_0 := by decide +kernel
theorem dksX0_cell_1 : cX0_cell.data.toList.drop 22 = dktX0_cell_1 := dk_seg dksX0_cell_0 22 rfl rfl
theorem dksX0_cell_2 : cX0_cell.data.toList.drop 46 = dktX0_cell_2 := dk_seg dksX0_cell_1 24 rfl rfl
theorem dksX0_cell_3 : cX0_cell.data.toList.drop 68 = dktX0_cell_3 := dk_seg dksX0_cell_2 22 rfl rfl
theorem dksX0_cell_4 : cX0_cell.data.toList.drop 91 = dktX0_cell_4 := dk_seg dksX0_cell_3 23 rfl rfl
theorem dksX0_cell_5 : cX0_cell.data.toList.drop 115 = dktX0_cell_5 := dk_seg dksX0_cell_4 24 rfl rfl
theorem dX0_cell_0 : decode cX0_cell 0 = .ok (.aload_n 0, 1) := dk_42 (dk_at dksX0_cell_0 0 rfl rfl)
theorem dX0_cell_1 : decode cX0_cell 1 = .ok (.iload_n 1, 1) := dk_27 (dk_at dksX0_cell_0 1 rfl rfl)
theorem dX0_cell_2 : decode cX0_cell 2 = .ok (.iload_n 2, 1) := dk_28 (dk_at dksX0_cell_0 2 rfl rfl)
theorem dX0_cell_3 : decode cX0_cell 3 = .ok (.invokevirtual 251, 3) := dk_182 0 251 (dk_at dksX0_cell_0 3 rfl rfl)
theorem dX0_cell_6 : decode cX0_cell 6 = .ok (.ifCond .eq 12, 3) := dk_153 0 12 (dk_at dksX0_cell_0 6 rfl rfl)
theorem dX0_cell_9 : decode cX0_cell 9 = .ok (.iload_n 3, 1) := dk_29 (dk_at dksX0_cell_0 9 rfl rfl)
theorem dX0_cell_10 : decode cX0_cell 10 = .ok (.iconst 0, 1) := dk_3 (dk_at dksX0_cell_0 10 rfl rfl)
theorem dX0_cell_11 : decode cX0_cell 11 = .ok (.iconst 3, 1) := dk_6 (dk_at dksX0_cell_0 11 rfl rfl)
theorem dX0_cell_12 : decode cX0_cell 12 = .ok (.invokestatic 168, 3) := dk_184 0 168 (dk_at dksX0_cell_0 12 rfl rfl)
theorem dX0_cell_15 : decode cX0_cell 15 = .ok (.ifCond .ne 5, 3) := dk_154 0 5 (dk_at dksX0_cell_0 15 rfl rfl)
theorem dX0_cell_18 : decode cX0_cell 18 = .ok (.iconst (-1), 1) := dk_2 (dk_at dksX0_cell_0 18 rfl rfl)
theorem dX0_cell_19 : decode cX0_cell 19 = .ok (.ireturn, 1) := dk_172 (dk_at dksX0_cell_0 19 rfl rfl)
theorem dX0_cell_20 : decode cX0_cell 20 = .ok (.iload_n 3, 1) := dk_29 (dk_at dksX0_cell_0 20 rfl rfl)
theorem dX0_cell_21 : decode cX0_cell 21 = .ok (.iconst 2, 1) := dk_5 (dk_at dksX0_cell_0 21 rfl rfl)
theorem dX0_cell_22 : decode cX0_cell 22 = .ok (.if_icmp .ge 41, 3) := dk_162 0 41 (dk_at dksX0_cell_1 0 rfl rfl)
theorem dX0_cell_25 : decode cX0_cell 25 = .ok (.iload_n 3, 1) := dk_29 (dk_at dksX0_cell_1 3 rfl rfl)
theorem dX0_cell_26 : decode cX0_cell 26 = .ok (.ifCond .ne 27, 3) := dk_154 0 27 (dk_at dksX0_cell_1 4 rfl rfl)
theorem dX0_cell_29 : decode cX0_cell 29 = .ok (.aload_n 0, 1) := dk_42 (dk_at dksX0_cell_1 7 rfl rfl)
theorem dX0_cell_30 : decode cX0_cell 30 = .ok (.getfield 69, 3) := dk_180 0 69 (dk_at dksX0_cell_1 8 rfl rfl)
theorem dX0_cell_33 : decode cX0_cell 33 = .ok (.getfield 202, 3) := dk_180 0 202 (dk_at dksX0_cell_1 11 rfl rfl)
theorem dX0_cell_36 : decode cX0_cell 36 = .ok (.iload_n 1, 1) := dk_27 (dk_at dksX0_cell_1 14 rfl rfl)
theorem dX0_cell_37 : decode cX0_cell 37 = .ok (.iaload, 1) := dk_46 (dk_at dksX0_cell_1 15 rfl rfl)
theorem dX0_cell_38 : decode cX0_cell 38 = .ok (.iload_n 2, 1) := dk_28 (dk_at dksX0_cell_1 16 rfl rfl)
theorem dX0_cell_39 : decode cX0_cell 39 = .ok (.invokestatic 254, 3) := dk_184 0 254 (dk_at dksX0_cell_1 17 rfl rfl)
theorem dX0_cell_42 : decode cX0_cell 42 = .ok (.ifCond .eq 7, 3) := dk_153 0 7 (dk_at dksX0_cell_1 20 rfl rfl)
theorem dX0_cell_45 : decode cX0_cell 45 = .ok (.iconst 1, 1) := dk_4 (dk_at dksX0_cell_1 23 rfl rfl)
theorem dX0_cell_46 : decode cX0_cell 46 = .ok (.goto 16, 3) := dk_167 0 16 (dk_at dksX0_cell_2 0 rfl rfl)
theorem dX0_cell_49 : decode cX0_cell 49 = .ok (.iconst 0, 1) := dk_3 (dk_at dksX0_cell_2 3 rfl rfl)
theorem dX0_cell_50 : decode cX0_cell 50 = .ok (.goto 12, 3) := dk_167 0 12 (dk_at dksX0_cell_2 4 rfl rfl)
theorem dX0_cell_53 : decode cX0_cell 53 = .ok (.aload_n 0, 1) := dk_42 (dk_at dksX0_cell_2 7 rfl rfl)
theorem dX0_cell_54 : decode cX0_cell 54 = .ok (.getfield 69, 3) := dk_180 0 69 (dk_at dksX0_cell_2 8 rfl rfl)
theorem dX0_cell_57 : decode cX0_cell 57 = .ok (.iload_n 1, 1) := dk_27 (dk_at dksX0_cell_2 11 rfl rfl)
theorem dX0_cell_58 : decode cX0_cell 58 = .ok (.iload_n 2, 1) := dk_28 (dk_at dksX0_cell_2 12 rfl rfl)
theorem dX0_cell_59 : decode cX0_cell 59 = .ok (.invokevirtual 257, 3) := dk_182 1 1 (dk_at dksX0_cell_2 13 rfl rfl)
theorem dX0_cell_62 : decode cX0_cell 62 = .ok (.ireturn, 1) := dk_172 (dk_at dksX0_cell_2 16 rfl rfl)
theorem dX0_cell_63 : decode cX0_cell 63 = .ok (.aload_n 0, 1) := dk_42 (dk_at dksX0_cell_2 17 rfl rfl)
theorem dX0_cell_64 : decode cX0_cell 64 = .ok (.aload_n 0, 1) := dk_42 (dk_at dksX0_cell_2 18 rfl rfl)
theorem dX0_cell_65 : decode cX0_cell 65 = .ok (.getfield 69, 3) := dk_180 0 69 (dk_at dksX0_cell_2 19 rfl rfl)
theorem dX0_cell_68 : decode cX0_cell 68 = .ok (.getfield 213, 3) := dk_180 0 213 (dk_at dksX0_cell_3 0 rfl rfl)
theorem dX0_cell_71 : decode cX0_cell 71 = .ok (.invokevirtual 216, 3) := dk_182 0 216 (dk_at dksX0_cell_3 3 rfl rfl)
theorem dX0_cell_74 : decode cX0_cell 74 = .ok (.istore 4, 2) := dk_54 4 (dk_at dksX0_cell_3 6 rfl rfl)
theorem dX0_cell_76 : decode cX0_cell 76 = .ok (.aload_n 0, 1) := dk_42 (dk_at dksX0_cell_3 8 rfl rfl)
theorem dX0_cell_77 : decode cX0_cell 77 = .ok (.iload_n 1, 1) := dk_27 (dk_at dksX0_cell_3 9 rfl rfl)
theorem dX0_cell_78 : decode cX0_cell 78 = .ok (.iconst 1, 1) := dk_4 (dk_at dksX0_cell_3 10 rfl rfl)
theorem dX0_cell_79 : decode cX0_cell 79 = .ok (.isub, 1) := dk_100 (dk_at dksX0_cell_3 11 rfl rfl)
theorem dX0_cell_80 : decode cX0_cell 80 = .ok (.iload 4, 2) := dk_21 4 (dk_at dksX0_cell_3 12 rfl rfl)
theorem dX0_cell_82 : decode cX0_cell 82 = .ok (.invokevirtual 261, 3) := dk_182 1 5 (dk_at dksX0_cell_3 14 rfl rfl)
theorem dX0_cell_85 : decode cX0_cell 85 = .ok (.ifCond .eq 9, 3) := dk_153 0 9 (dk_at dksX0_cell_3 17 rfl rfl)
theorem dX0_cell_88 : decode cX0_cell 88 = .ok (.iload_n 1, 1) := dk_27 (dk_at dksX0_cell_3 20 rfl rfl)
theorem dX0_cell_89 : decode cX0_cell 89 = .ok (.iconst 1, 1) := dk_4 (dk_at dksX0_cell_3 21 rfl rfl)
theorem dX0_cell_90 : decode cX0_cell 90 = .ok (.isub, 1) := dk_100 (dk_at dksX0_cell_3 22 rfl rfl)
theorem dX0_cell_91 : decode cX0_cell 91 = .ok (.goto 20, 3) := dk_167 0 20 (dk_at dksX0_cell_4 0 rfl rfl)
theorem dX0_cell_94 : decode cX0_cell 94 = .ok (.aload_n 0, 1) := dk_42 (dk_at dksX0_cell_4 3 rfl rfl)
theorem dX0_cell_95 : decode cX0_cell 95 = .ok (.iload_n 1, 1) := dk_27 (dk_at dksX0_cell_4 4 rfl rfl)
theorem dX0_cell_96 : decode cX0_cell 96 = .ok (.iload 4, 2) := dk_21 4 (dk_at dksX0_cell_4 5 rfl rfl)
theorem dX0_cell_98 : decode cX0_cell 98 = .ok (.invokevirtual 261, 3) := dk_182 1 5 (dk_at dksX0_cell_4 7 rfl rfl)
theorem dX0_cell_101 : decode cX0_cell 101 = .ok (.ifCond .eq 9, 3) := dk_153 0 9 (dk_at dksX0_cell_4 10 rfl rfl)
theorem dX0_cell_104 : decode cX0_cell 104 = .ok (.iload_n 1, 1) := dk_27 (dk_at dksX0_cell_4 13 rfl rfl)
theorem dX0_cell_105 : decode cX0_cell 105 = .ok (.iconst 1, 1) := dk_4 (dk_at dksX0_cell_4 14 rfl rfl)
theorem dX0_cell_106 : decode cX0_cell 106 = .ok (.iadd, 1) := dk_96 (dk_at dksX0_cell_4 15 rfl rfl)
theorem dX0_cell_107 : decode cX0_cell 107 = .ok (.goto 4, 3) := dk_167 0 4 (dk_at dksX0_cell_4 16 rfl rfl)
theorem dX0_cell_110 : decode cX0_cell 110 = .ok (.iconst (-1), 1) := dk_2 (dk_at dksX0_cell_4 19 rfl rfl)
theorem dX0_cell_111 : decode cX0_cell 111 = .ok (.istore 5, 2) := dk_54 5 (dk_at dksX0_cell_4 20 rfl rfl)
theorem dX0_cell_113 : decode cX0_cell 113 = .ok (.iload 5, 2) := dk_21 5 (dk_at dksX0_cell_4 22 rfl rfl)
theorem dX0_cell_115 : decode cX0_cell 115 = .ok (.iconst (-1), 1) := dk_2 (dk_at dksX0_cell_5 0 rfl rfl)
theorem dX0_cell_116 : decode cX0_cell 116 = .ok (.if_icmp .ne 7, 3) := dk_160 0 7 (dk_at dksX0_cell_5 1 rfl rfl)
theorem dX0_cell_119 : decode cX0_cell 119 = .ok (.iconst (-1), 1) := dk_2 (dk_at dksX0_cell_5 4 rfl rfl)
theorem dX0_cell_120 : decode cX0_cell 120 = .ok (.goto 18, 3) := dk_167 0 18 (dk_at dksX0_cell_5 5 rfl rfl)
theorem dX0_cell_123 : decode cX0_cell 123 = .ok (.iload_n 3, 1) := dk_29 (dk_at dksX0_cell_5 8 rfl rfl)
theorem dX0_cell_124 : decode cX0_cell 124 = .ok (.iconst 2, 1) := dk_5 (dk_at dksX0_cell_5 9 rfl rfl)
theorem dX0_cell_125 : decode cX0_cell 125 = .ok (.if_icmp .ne 8, 3) := dk_160 0 8 (dk_at dksX0_cell_5 10 rfl rfl)
theorem dX0_cell_128 : decode cX0_cell 128 = .ok (.iload 5, 2) := dk_21 5 (dk_at dksX0_cell_5 13 rfl rfl)
theorem dX0_cell_130 : decode cX0_cell 130 = .ok (.goto 8, 3) := dk_167 0 8 (dk_at dksX0_cell_5 15 rfl rfl)
theorem dX0_cell_133 : decode cX0_cell 133 = .ok (.aload_n 0, 1) := dk_42 (dk_at dksX0_cell_5 18 rfl rfl)
theorem dX0_cell_134 : decode cX0_cell 134 = .ok (.iload_n 2, 1) := dk_28 (dk_at dksX0_cell_5 19 rfl rfl)
theorem dX0_cell_135 : decode cX0_cell 135 = .ok (.invokevirtual 264, 3) := dk_182 1 8 (dk_at dksX0_cell_5 20 rfl rfl)
theorem dX0_cell_138 : decode cX0_cell 138 = .ok (.ireturn, 1) := dk_172 (dk_at dksX0_cell_5 23 rfl rfl)
abbrev cX0_isCell : ByteArray := prog_1_method_18_code
def yX0_isCell : MethodName := ⟨RX0, "isCell", "(II)Z"⟩
def dkwX0_isCell_1 : List UInt8 := [180, 0, 172, 4, 100, 184, 0, 168, 153, 0, 7, 4, 167, 0, 4, 3, 172]
abbrev dktX0_isCell_1 : List UInt8 := dkwX0_isCell_1 ++ []
def dkwX0_isCell_0 : List UInt8 := [27, 3, 42, 180, 0, 31, 180, 0, 154, 4, 100, 184, 0, 168, 153, 0, 24, 28, 3, 42, 180, 0, 31]
abbrev dktX0_isCell_0 : List UInt8 := dkwX0_isCell_0 ++ dktX0_isCell_1
theorem dksX0_isCell_0 : cX0_isCell.data.toList.drop 0 = dktX0_isCell_0 := by decide +kernel
theorem dksX0_isCell_1 : cX0_isCell.data.toList.drop 23 = dktX0_isCell_1 := dk_seg dksX0_isCell_0 23 rfl rfl
theorem dX0_isCell_0 : decode cX0_isCell 0 = .ok (.iload_n 1, 1) := dk_27 (dk_at dksX0_isCell_0 0 rfl rfl)
theorem dX0_isCell_1 : decode cX0_isCell 1 = .ok (.iconst 0, 1) := dk_3 (dk_at dksX0_isCell_0 1 rfl rfl)
theorem dX0_isCell_2 : decode cX0_isCell 2 = .ok (.aload_n 0, 1) := dk_42 (dk_at dksX0_isCell_0 2 rfl rfl)
theorem dX0_isCell_3 : decode cX0_isCell 3 = .ok (.getfield 31, 3) := dk_180 0 31 (dk_at dksX0_isCell_0 3 rfl rfl)
theorem dX0_isCell_6 : decode cX0_isCell 6 = .ok (.getfield 154, 3) := dk_180 0 154 (dk_at dksX0_isCell_0 6 rfl rfl)
theorem dX0_isCell_9 : decode cX0_isCell 9 = .ok (.iconst 1, 1) := dk_4 (dk_at dksX0_isCell_0 9 rfl rfl)
theorem dX0_isCell_10 : decode cX0_isCell 10 = .ok (.isub, 1) := dk_100 (dk_at dksX0_isCell_0 10 rfl rfl)
theorem dX0_isCell_11 : decode cX0_isCell 11 = .ok (.invokestatic 168, 3) := dk_184 0 168 (dk_at dksX0_isCell_0 11 rfl rfl)
theorem dX0_isCell_14 : decode cX0_isCell 14 = .ok (.ifCond .eq 24, 3) := dk_153 0 24 (dk_at dksX0_isCell_0 14 rfl rfl)
theorem dX0_isCell_17 : decode cX0_isCell 17 = .ok (.iload_n 2, 1) := dk_28 (dk_at dksX0_isCell_0 17 rfl rfl)
theorem dX0_isCell_18 : decode cX0_isCell 18 = .ok (.iconst 0, 1) := dk_3 (dk_at dksX0_isCell_0 18 rfl rfl)
theorem dX0_isCell_19 : decode cX0_isCell 19 = .ok (.aload_n 0, 1) := dk_42 (dk_at dksX0_isCell_0 19 rfl rfl)
theorem dX0_isCell_20 : decode cX0_isCell 20 = .ok (.getfield 31, 3) := dk_180 0 31 (dk_at dksX0_isCell_0 20 rfl rfl)
theorem dX0_isCell_23 : decode cX0_isCell 23 = .ok (.getfield 172, 3) := dk_180 0 172 (dk_at dksX0_isCell_1 0 rfl rfl)
theorem dX0_isCell_26 : decode cX0_isCell 26 = .ok (.iconst 1, 1) := dk_4 (dk_at dksX0_isCell_1 3 rfl rfl)
theorem dX0_isCell_27 : decode cX0_isCell 27 = .ok (.isub, 1) := dk_100 (dk_at dksX0_isCell_1 4 rfl rfl)
theorem dX0_isCell_28 : decode cX0_isCell 28 = .ok (.invokestatic 168, 3) := dk_184 0 168 (dk_at dksX0_isCell_1 5 rfl rfl)
theorem dX0_isCell_31 : decode cX0_isCell 31 = .ok (.ifCond .eq 7, 3) := dk_153 0 7 (dk_at dksX0_isCell_1 8 rfl rfl)
theorem dX0_isCell_34 : decode cX0_isCell 34 = .ok (.iconst 1, 1) := dk_4 (dk_at dksX0_isCell_1 11 rfl rfl)
theorem dX0_isCell_35 : decode cX0_isCell 35 = .ok (.goto 4, 3) := dk_167 0 4 (dk_at dksX0_isCell_1 12 rfl rfl)
theorem dX0_isCell_38 : decode cX0_isCell 38 = .ok (.iconst 0, 1) := dk_3 (dk_at dksX0_isCell_1 15 rfl rfl)
theorem dX0_isCell_39 : decode cX0_isCell 39 = .ok (.ireturn, 1) := dk_172 (dk_at dksX0_isCell_1 16 rfl rfl)
abbrev cX0_kept : ByteArray := prog_1_method_28_code
def yX0_kept : MethodName := ⟨RX0, "kept", "(II)I"⟩
def dkwX0_kept_1 : List UInt8 := [153, 0, 17, 42, 180, 0, 69, 180, 1, 11, 27, 50, 28, 46, 167, 0, 4, 2, 172]
abbrev dktX0_kept_1 : List UInt8 := dkwX0_kept_1 ++ []
def dkwX0_kept_0 : List UInt8 := [27, 3, 42, 180, 0, 69, 180, 0, 222, 4, 100, 184, 0, 168, 153, 0, 26, 28, 3, 5, 184, 0, 168]
abbrev dktX0_kept_0 : List UInt8 := dkwX0_kept_0 ++ dktX0_kept_1
theorem dksX0_kept_0 : cX0_kept.data.toList.drop 0 = dktX0_kept_0 := by decide +kernel
theorem dksX0_kept_1 : cX0_kept.data.toList.drop 23 = dktX0_kept_1 := dk_seg dksX0_kept_0 23 rfl rfl
theorem dX0_kept_0 : decode cX0_kept 0 = .ok (.iload_n 1, 1) := dk_27 (dk_at dksX0_kept_0 0 rfl rfl)
theorem dX0_kept_1 : decode cX0_kept 1 = .ok (.iconst 0, 1) := dk_3 (dk_at dksX0_kept_0 1 rfl rfl)
theorem dX0_kept_2 : decode cX0_kept 2 = .ok (.aload_n 0, 1) := dk_42 (dk_at dksX0_kept_0 2 rfl rfl)
theorem dX0_kept_3 : decode cX0_kept 3 = .ok (.getfield 69, 3) := dk_180 0 69 (dk_at dksX0_kept_0 3 rfl rfl)
theorem dX0_kept_6 : decode cX0_kept 6 = .ok (.getfield 222, 3) := dk_180 0 222 (dk_at dksX0_kept_0 6 rfl rfl)
theorem dX0_kept_9 : decode cX0_kept 9 = .ok (.iconst 1, 1) := dk_4 (dk_at dksX0_kept_0 9 rfl rfl)
theorem dX0_kept_10 : decode cX0_kept 10 = .ok (.isub, 1) := dk_100 (dk_at dksX0_kept_0 10 rfl rfl)
theorem dX0_kept_11 : decode cX0_kept 11 = .ok (.invokestatic 168, 3) := dk_184 0 168 (dk_at dksX0_kept_0 11 rfl rfl)
theorem dX0_kept_14 : decode cX0_kept 14 = .ok (.ifCond .eq 26, 3) := dk_153 0 26 (dk_at dksX0_kept_0 14 rfl rfl)
theorem dX0_kept_17 : decode cX0_kept 17 = .ok (.iload_n 2, 1) := dk_28 (dk_at dksX0_kept_0 17 rfl rfl)
theorem dX0_kept_18 : decode cX0_kept 18 = .ok (.iconst 0, 1) := dk_3 (dk_at dksX0_kept_0 18 rfl rfl)
theorem dX0_kept_19 : decode cX0_kept 19 = .ok (.iconst 2, 1) := dk_5 (dk_at dksX0_kept_0 19 rfl rfl)
theorem dX0_kept_20 : decode cX0_kept 20 = .ok (.invokestatic 168, 3) := dk_184 0 168 (dk_at dksX0_kept_0 20 rfl rfl)
theorem dX0_kept_23 : decode cX0_kept 23 = .ok (.ifCond .eq 17, 3) := dk_153 0 17 (dk_at dksX0_kept_1 0 rfl rfl)
theorem dX0_kept_26 : decode cX0_kept 26 = .ok (.aload_n 0, 1) := dk_42 (dk_at dksX0_kept_1 3 rfl rfl)
theorem dX0_kept_27 : decode cX0_kept 27 = .ok (.getfield 69, 3) := dk_180 0 69 (dk_at dksX0_kept_1 4 rfl rfl)
theorem dX0_kept_30 : decode cX0_kept 30 = .ok (.getfield 267, 3) := dk_180 1 11 (dk_at dksX0_kept_1 7 rfl rfl)
theorem dX0_kept_33 : decode cX0_kept 33 = .ok (.iload_n 1, 1) := dk_27 (dk_at dksX0_kept_1 10 rfl rfl)
theorem dX0_kept_34 : decode cX0_kept 34 = .ok (.aaload, 1) := dk_50 (dk_at dksX0_kept_1 11 rfl rfl)
theorem dX0_kept_35 : decode cX0_kept 35 = .ok (.iload_n 2, 1) := dk_28 (dk_at dksX0_kept_1 12 rfl rfl)
theorem dX0_kept_36 : decode cX0_kept 36 = .ok (.iaload, 1) := dk_46 (dk_at dksX0_kept_1 13 rfl rfl)
theorem dX0_kept_37 : decode cX0_kept 37 = .ok (.goto 4, 3) := dk_167 0 4 (dk_at dksX0_kept_1 14 rfl rfl)
theorem dX0_kept_40 : decode cX0_kept 40 = .ok (.iconst (-1), 1) := dk_2 (dk_at dksX0_kept_1 17 rfl rfl)
theorem dX0_kept_41 : decode cX0_kept 41 = .ok (.ireturn, 1) := dk_172 (dk_at dksX0_kept_1 18 rfl rfl)
abbrev cX0_meets : ByteArray := prog_1_method_29_code
def yX0_meets : MethodName := ⟨RX0, "meets", "(II)I"⟩
def dkwX0_meets_2 : List UInt8 := [167, 0, 4, 3, 172]
abbrev dktX0_meets_2 : List UInt8 := dkwX0_meets_2 ++ []
def dkwX0_meets_1 : List UInt8 := [180, 0, 69, 27, 28, 42, 42, 180, 0, 69, 180, 0, 213, 182, 0, 216, 182, 1, 13, 153, 0, 7, 4]
abbrev dktX0_meets_1 : List UInt8 := dkwX0_meets_1 ++ dktX0_meets_2
def dkwX0_meets_0 : List UInt8 := [42, 27, 182, 0, 225, 153, 0, 16, 42, 28, 182, 0, 225, 153, 0, 8, 27, 28, 160, 0, 5, 2, 172, 42]
abbrev dktX0_meets_0 : List UInt8 := dkwX0_meets_0 ++ dktX0_meets_1
theorem dksX0_meets_0 : cX0_meets.data.toList.drop 0 = dktX0_meets_0 := by decide +kernel
theorem dksX0_meets_1 : cX0_meets.data.toList.drop 24 = dktX0_meets_1 := dk_seg dksX0_meets_0 24 rfl rfl
theorem dksX0_meets_2 : cX0_meets.data.toList.drop 47 = dktX0_meets_2 := dk_seg dksX0_meets_1 23 rfl rfl
theorem dX0_meets_0 : decode cX0_meets 0 = .ok (.aload_n 0, 1) := dk_42 (dk_at dksX0_meets_0 0 rfl rfl)
theorem dX0_meets_1 : decode cX0_meets 1 = .ok (.iload_n 1, 1) := dk_27 (dk_at dksX0_meets_0 1 rfl rfl)
theorem dX0_meets_2 : decode cX0_meets 2 = .ok (.invokevirtual 225, 3) := dk_182 0 225 (dk_at dksX0_meets_0 2 rfl rfl)
theorem dX0_meets_5 : decode cX0_meets 5 = .ok (.ifCond .eq 16, 3) := dk_153 0 16 (dk_at dksX0_meets_0 5 rfl rfl)
theorem dX0_meets_8 : decode cX0_meets 8 = .ok (.aload_n 0, 1) := dk_42 (dk_at dksX0_meets_0 8 rfl rfl)
theorem dX0_meets_9 : decode cX0_meets 9 = .ok (.iload_n 2, 1) := dk_28 (dk_at dksX0_meets_0 9 rfl rfl)
theorem dX0_meets_10 : decode cX0_meets 10 = .ok (.invokevirtual 225, 3) := dk_182 0 225 (dk_at dksX0_meets_0 10 rfl rfl)
theorem dX0_meets_13 : decode cX0_meets 13 = .ok (.ifCond .eq 8, 3) := dk_153 0 8 (dk_at dksX0_meets_0 13 rfl rfl)
theorem dX0_meets_16 : decode cX0_meets 16 = .ok (.iload_n 1, 1) := dk_27 (dk_at dksX0_meets_0 16 rfl rfl)
theorem dX0_meets_17 : decode cX0_meets 17 = .ok (.iload_n 2, 1) := dk_28 (dk_at dksX0_meets_0 17 rfl rfl)
theorem dX0_meets_18 : decode cX0_meets 18 = .ok (.if_icmp .ne 5, 3) := dk_160 0 5 (dk_at dksX0_meets_0 18 rfl rfl)
theorem dX0_meets_21 : decode cX0_meets 21 = .ok (.iconst (-1), 1) := dk_2 (dk_at dksX0_meets_0 21 rfl rfl)
theorem dX0_meets_22 : decode cX0_meets 22 = .ok (.ireturn, 1) := dk_172 (dk_at dksX0_meets_0 22 rfl rfl)
theorem dX0_meets_23 : decode cX0_meets 23 = .ok (.aload_n 0, 1) := dk_42 (dk_at dksX0_meets_0 23 rfl rfl)
theorem dX0_meets_24 : decode cX0_meets 24 = .ok (.getfield 69, 3) := dk_180 0 69 (dk_at dksX0_meets_1 0 rfl rfl)
theorem dX0_meets_27 : decode cX0_meets 27 = .ok (.iload_n 1, 1) := dk_27 (dk_at dksX0_meets_1 3 rfl rfl)
theorem dX0_meets_28 : decode cX0_meets 28 = .ok (.iload_n 2, 1) := dk_28 (dk_at dksX0_meets_1 4 rfl rfl)
theorem dX0_meets_29 : decode cX0_meets 29 = .ok (.aload_n 0, 1) := dk_42 (dk_at dksX0_meets_1 5 rfl rfl)
theorem dX0_meets_30 : decode cX0_meets 30 = .ok (.aload_n 0, 1) := dk_42 (dk_at dksX0_meets_1 6 rfl rfl)
theorem dX0_meets_31 : decode cX0_meets 31 = .ok (.getfield 69, 3) := dk_180 0 69 (dk_at dksX0_meets_1 7 rfl rfl)
theorem dX0_meets_34 : decode cX0_meets 34 = .ok (.getfield 213, 3) := dk_180 0 213 (dk_at dksX0_meets_1 10 rfl rfl)
theorem dX0_meets_37 : decode cX0_meets 37 = .ok (.invokevirtual 216, 3) := dk_182 0 216 (dk_at dksX0_meets_1 13 rfl rfl)
theorem dX0_meets_40 : decode cX0_meets 40 = .ok (.invokevirtual 269, 3) := dk_182 1 13 (dk_at dksX0_meets_1 16 rfl rfl)
theorem dX0_meets_43 : decode cX0_meets 43 = .ok (.ifCond .eq 7, 3) := dk_153 0 7 (dk_at dksX0_meets_1 19 rfl rfl)
theorem dX0_meets_46 : decode cX0_meets 46 = .ok (.iconst 1, 1) := dk_4 (dk_at dksX0_meets_1 22 rfl rfl)
theorem dX0_meets_47 : decode cX0_meets 47 = .ok (.goto 4, 3) := dk_167 0 4 (dk_at dksX0_meets_2 0 rfl rfl)
theorem dX0_meets_50 : decode cX0_meets 50 = .ok (.iconst 0, 1) := dk_3 (dk_at dksX0_meets_2 3 rfl rfl)
theorem dX0_meets_51 : decode cX0_meets 51 = .ok (.ireturn, 1) := dk_172 (dk_at dksX0_meets_2 4 rfl rfl)
abbrev cX0_pairs : ByteArray := prog_1_method_30_code
def yX0_pairs : MethodName := ⟨RX0, "pairs", "(I)I"⟩
def dkwX0_pairs_2 : List UInt8 := [182, 1, 20, 172]
abbrev dktX0_pairs_2 : List UInt8 := dkwX0_pairs_2 ++ []
def dkwX0_pairs_1 : List UInt8 := [42, 180, 0, 69, 27, 2, 160, 0, 17, 42, 42, 180, 0, 69, 180, 0, 213, 182, 0, 216, 167, 0, 4, 27]
abbrev dktX0_pairs_1 : List UInt8 := dkwX0_pairs_1 ++ dktX0_pairs_2
def dkwX0_pairs_0 : List UInt8 := [42, 182, 1, 16, 153, 0, 18, 27, 2, 42, 180, 0, 31, 180, 0, 154, 184, 0, 168, 154, 0, 5, 2, 172]
abbrev dktX0_pairs_0 : List UInt8 := dkwX0_pairs_0 ++ dktX0_pairs_1
theorem dksX0_pairs_0 : cX0_pairs.data.toList.drop 0 = dktX0_pairs_0 := by decide +kernel
theorem dksX0_pairs_1 : cX0_pairs.data.toList.drop 24 = dktX0_pairs_1 := dk_seg dksX0_pairs_0 24 rfl rfl
theorem dksX0_pairs_2 : cX0_pairs.data.toList.drop 48 = dktX0_pairs_2 := dk_seg dksX0_pairs_1 24 rfl rfl
theorem dX0_pairs_0 : decode cX0_pairs 0 = .ok (.aload_n 0, 1) := dk_42 (dk_at dksX0_pairs_0 0 rfl rfl)
theorem dX0_pairs_1 : decode cX0_pairs 1 = .ok (.invokevirtual 272, 3) := dk_182 1 16 (dk_at dksX0_pairs_0 1 rfl rfl)
theorem dX0_pairs_4 : decode cX0_pairs 4 = .ok (.ifCond .eq 18, 3) := dk_153 0 18 (dk_at dksX0_pairs_0 4 rfl rfl)
theorem dX0_pairs_7 : decode cX0_pairs 7 = .ok (.iload_n 1, 1) := dk_27 (dk_at dksX0_pairs_0 7 rfl rfl)
theorem dX0_pairs_8 : decode cX0_pairs 8 = .ok (.iconst (-1), 1) := dk_2 (dk_at dksX0_pairs_0 8 rfl rfl)
theorem dX0_pairs_9 : decode cX0_pairs 9 = .ok (.aload_n 0, 1) := dk_42 (dk_at dksX0_pairs_0 9 rfl rfl)
theorem dX0_pairs_10 : decode cX0_pairs 10 = .ok (.getfield 31, 3) := dk_180 0 31 (dk_at dksX0_pairs_0 10 rfl rfl)
theorem dX0_pairs_13 : decode cX0_pairs 13 = .ok (.getfield 154, 3) := dk_180 0 154 (dk_at dksX0_pairs_0 13 rfl rfl)
theorem dX0_pairs_16 : decode cX0_pairs 16 = .ok (.invokestatic 168, 3) := dk_184 0 168 (dk_at dksX0_pairs_0 16 rfl rfl)
theorem dX0_pairs_19 : decode cX0_pairs 19 = .ok (.ifCond .ne 5, 3) := dk_154 0 5 (dk_at dksX0_pairs_0 19 rfl rfl)
theorem dX0_pairs_22 : decode cX0_pairs 22 = .ok (.iconst (-1), 1) := dk_2 (dk_at dksX0_pairs_0 22 rfl rfl)
theorem dX0_pairs_23 : decode cX0_pairs 23 = .ok (.ireturn, 1) := dk_172 (dk_at dksX0_pairs_0 23 rfl rfl)
theorem dX0_pairs_24 : decode cX0_pairs 24 = .ok (.aload_n 0, 1) := dk_42 (dk_at dksX0_pairs_1 0 rfl rfl)
theorem dX0_pairs_25 : decode cX0_pairs 25 = .ok (.getfield 69, 3) := dk_180 0 69 (dk_at dksX0_pairs_1 1 rfl rfl)
theorem dX0_pairs_28 : decode cX0_pairs 28 = .ok (.iload_n 1, 1) := dk_27 (dk_at dksX0_pairs_1 4 rfl rfl)
theorem dX0_pairs_29 : decode cX0_pairs 29 = .ok (.iconst (-1), 1) := dk_2 (dk_at dksX0_pairs_1 5 rfl rfl)
theorem dX0_pairs_30 : decode cX0_pairs 30 = .ok (.if_icmp .ne 17, 3) := dk_160 0 17 (dk_at dksX0_pairs_1 6 rfl rfl)
theorem dX0_pairs_33 : decode cX0_pairs 33 = .ok (.aload_n 0, 1) := dk_42 (dk_at dksX0_pairs_1 9 rfl rfl)
theorem dX0_pairs_34 : decode cX0_pairs 34 = .ok (.aload_n 0, 1) := dk_42 (dk_at dksX0_pairs_1 10 rfl rfl)
theorem dX0_pairs_35 : decode cX0_pairs 35 = .ok (.getfield 69, 3) := dk_180 0 69 (dk_at dksX0_pairs_1 11 rfl rfl)
theorem dX0_pairs_38 : decode cX0_pairs 38 = .ok (.getfield 213, 3) := dk_180 0 213 (dk_at dksX0_pairs_1 14 rfl rfl)
theorem dX0_pairs_41 : decode cX0_pairs 41 = .ok (.invokevirtual 216, 3) := dk_182 0 216 (dk_at dksX0_pairs_1 17 rfl rfl)
theorem dX0_pairs_44 : decode cX0_pairs 44 = .ok (.goto 4, 3) := dk_167 0 4 (dk_at dksX0_pairs_1 20 rfl rfl)
theorem dX0_pairs_47 : decode cX0_pairs 47 = .ok (.iload_n 1, 1) := dk_27 (dk_at dksX0_pairs_1 23 rfl rfl)
theorem dX0_pairs_48 : decode cX0_pairs 48 = .ok (.invokevirtual 276, 3) := dk_182 1 20 (dk_at dksX0_pairs_2 0 rfl rfl)
theorem dX0_pairs_51 : decode cX0_pairs 51 = .ok (.ireturn, 1) := dk_172 (dk_at dksX0_pairs_2 3 rfl rfl)
abbrev cX0_isFolio : ByteArray := prog_1_method_15_code
def yX0_isFolio : MethodName := ⟨RX0, "isFolio", "()Z"⟩
def dkwX0_isFolio_0 : List UInt8 := [42, 180, 0, 31, 180, 0, 154, 158, 0, 7, 4, 167, 0, 4, 3, 172]
abbrev dktX0_isFolio_0 : List UInt8 := dkwX0_isFolio_0 ++ []
theorem dksX0_isFolio_0 : cX0_isFolio.data.toList.drop 0 = dktX0_isFolio_0 := by decide +kernel
theorem dX0_isFolio_0 : decode cX0_isFolio 0 = .ok (.aload_n 0, 1) := dk_42 (dk_at dksX0_isFolio_0 0 rfl rfl)
theorem dX0_isFolio_1 : decode cX0_isFolio 1 = .ok (.getfield 31, 3) := dk_180 0 31 (dk_at dksX0_isFolio_0 1 rfl rfl)
theorem dX0_isFolio_4 : decode cX0_isFolio 4 = .ok (.getfield 154, 3) := dk_180 0 154 (dk_at dksX0_isFolio_0 4 rfl rfl)
theorem dX0_isFolio_7 : decode cX0_isFolio 7 = .ok (.ifCond .le 7, 3) := dk_158 0 7 (dk_at dksX0_isFolio_0 7 rfl rfl)
theorem dX0_isFolio_10 : decode cX0_isFolio 10 = .ok (.iconst 1, 1) := dk_4 (dk_at dksX0_isFolio_0 10 rfl rfl)
theorem dX0_isFolio_11 : decode cX0_isFolio 11 = .ok (.goto 4, 3) := dk_167 0 4 (dk_at dksX0_isFolio_0 11 rfl rfl)
theorem dX0_isFolio_14 : decode cX0_isFolio 14 = .ok (.iconst 0, 1) := dk_3 (dk_at dksX0_isFolio_0 14 rfl rfl)
theorem dX0_isFolio_15 : decode cX0_isFolio 15 = .ok (.ireturn, 1) := dk_172 (dk_at dksX0_isFolio_0 15 rfl rfl)
abbrev cX0_apart : ByteArray := prog_1_method_31_code
def yX0_apart : MethodName := ⟨RX0, "apart", "()I"⟩
def dkwX0_apart_2 : List UInt8 := [167, 255, 221, 27, 172]
abbrev dktX0_apart_2 : List UInt8 := dkwX0_apart_2 ++ []
def dkwX0_apart_1 : List UInt8 := [42, 180, 0, 69, 28, 182, 1, 20, 42, 180, 0, 69, 27, 182, 1, 20, 162, 0, 5, 28, 60, 132, 2, 1]
abbrev dktX0_apart_1 : List UInt8 := dkwX0_apart_1 ++ dktX0_apart_2
def dkwX0_apart_0 : List UInt8 := [42, 182, 1, 16, 154, 0, 5, 2, 172, 3, 60, 4, 61, 28, 42, 180, 0, 31, 180, 0, 154, 163, 0, 30]
abbrev dktX0_apart_0 : List UInt8 := dkwX0_apart_0 ++ dktX0_apart_1
theorem dksX0_apart_0 : cX0_apart.data.toList.drop 0 = dktX0_apart_0 := by decide +kernel
theorem dksX0_apart_1 : cX0_apart.data.toList.drop 24 = dktX0_apart_1 := dk_seg dksX0_apart_0 24 rfl rfl
theorem dksX0_apart_2 : cX0_apart.data.toList.drop 48 = dktX0_apart_2 := dk_seg dksX0_apart_1 24 rfl rfl
theorem dX0_apart_0 : decode cX0_apart 0 = .ok (.aload_n 0, 1) := dk_42 (dk_at dksX0_apart_0 0 rfl rfl)
theorem dX0_apart_1 : decode cX0_apart 1 = .ok (.invokevirtual 272, 3) := dk_182 1 16 (dk_at dksX0_apart_0 1 rfl rfl)
theorem dX0_apart_4 : decode cX0_apart 4 = .ok (.ifCond .ne 5, 3) := dk_154 0 5 (dk_at dksX0_apart_0 4 rfl rfl)
theorem dX0_apart_7 : decode cX0_apart 7 = .ok (.iconst (-1), 1) := dk_2 (dk_at dksX0_apart_0 7 rfl rfl)
theorem dX0_apart_8 : decode cX0_apart 8 = .ok (.ireturn, 1) := dk_172 (dk_at dksX0_apart_0 8 rfl rfl)
theorem dX0_apart_9 : decode cX0_apart 9 = .ok (.iconst 0, 1) := dk_3 (dk_at dksX0_apart_0 9 rfl rfl)
theorem dX0_apart_10 : decode cX0_apart 10 = .ok (.istore_n 1, 1) := dk_60 (dk_at dksX0_apart_0 10 rfl rfl)
theorem dX0_apart_11 : decode cX0_apart 11 = .ok (.iconst 1, 1) := dk_4 (dk_at dksX0_apart_0 11 rfl rfl)
theorem dX0_apart_12 : decode cX0_apart 12 = .ok (.istore_n 2, 1) := dk_61 (dk_at dksX0_apart_0 12 rfl rfl)
theorem dX0_apart_13 : decode cX0_apart 13 = .ok (.iload_n 2, 1) := dk_28 (dk_at dksX0_apart_0 13 rfl rfl)
theorem dX0_apart_14 : decode cX0_apart 14 = .ok (.aload_n 0, 1) := dk_42 (dk_at dksX0_apart_0 14 rfl rfl)
theorem dX0_apart_15 : decode cX0_apart 15 = .ok (.getfield 31, 3) := dk_180 0 31 (dk_at dksX0_apart_0 15 rfl rfl)
theorem dX0_apart_18 : decode cX0_apart 18 = .ok (.getfield 154, 3) := dk_180 0 154 (dk_at dksX0_apart_0 18 rfl rfl)
theorem dX0_apart_21 : decode cX0_apart 21 = .ok (.if_icmp .gt 30, 3) := dk_163 0 30 (dk_at dksX0_apart_0 21 rfl rfl)
theorem dX0_apart_24 : decode cX0_apart 24 = .ok (.aload_n 0, 1) := dk_42 (dk_at dksX0_apart_1 0 rfl rfl)
theorem dX0_apart_25 : decode cX0_apart 25 = .ok (.getfield 69, 3) := dk_180 0 69 (dk_at dksX0_apart_1 1 rfl rfl)
theorem dX0_apart_28 : decode cX0_apart 28 = .ok (.iload_n 2, 1) := dk_28 (dk_at dksX0_apart_1 4 rfl rfl)
theorem dX0_apart_29 : decode cX0_apart 29 = .ok (.invokevirtual 276, 3) := dk_182 1 20 (dk_at dksX0_apart_1 5 rfl rfl)
theorem dX0_apart_32 : decode cX0_apart 32 = .ok (.aload_n 0, 1) := dk_42 (dk_at dksX0_apart_1 8 rfl rfl)
theorem dX0_apart_33 : decode cX0_apart 33 = .ok (.getfield 69, 3) := dk_180 0 69 (dk_at dksX0_apart_1 9 rfl rfl)
theorem dX0_apart_36 : decode cX0_apart 36 = .ok (.iload_n 1, 1) := dk_27 (dk_at dksX0_apart_1 12 rfl rfl)
theorem dX0_apart_37 : decode cX0_apart 37 = .ok (.invokevirtual 276, 3) := dk_182 1 20 (dk_at dksX0_apart_1 13 rfl rfl)
theorem dX0_apart_40 : decode cX0_apart 40 = .ok (.if_icmp .ge 5, 3) := dk_162 0 5 (dk_at dksX0_apart_1 16 rfl rfl)
theorem dX0_apart_43 : decode cX0_apart 43 = .ok (.iload_n 2, 1) := dk_28 (dk_at dksX0_apart_1 19 rfl rfl)
theorem dX0_apart_44 : decode cX0_apart 44 = .ok (.istore_n 1, 1) := dk_60 (dk_at dksX0_apart_1 20 rfl rfl)
theorem dX0_apart_45 : decode cX0_apart 45 = .ok (.iinc 2 1, 3) := dk_132 2 1 (dk_at dksX0_apart_1 21 rfl rfl)
theorem dX0_apart_48 : decode cX0_apart 48 = .ok (.goto (-35), 3) := dk_167 255 221 (dk_at dksX0_apart_2 0 rfl rfl)
theorem dX0_apart_51 : decode cX0_apart 51 = .ok (.iload_n 1, 1) := dk_27 (dk_at dksX0_apart_2 3 rfl rfl)
theorem dX0_apart_52 : decode cX0_apart 52 = .ok (.ireturn, 1) := dk_172 (dk_at dksX0_apart_2 4 rfl rfl)
abbrev cX0_reading : ByteArray := prog_1_method_34_code
def yX0_reading : MethodName := ⟨RX0, "reading", "(II)I"⟩
def dkwX0_reading_7 : List UInt8 := [180, 0, 154, 4, 96, 112, 172]
abbrev dktX0_reading_7 : List UInt8 := dkwX0_reading_7 ++ []
def dkwX0_reading_6 : List UInt8 := [160, 0, 8, 21, 4, 167, 0, 24, 29, 42, 27, 4, 100, 28, 100, 182, 1, 27, 108, 42, 180, 0, 31]
abbrev dktX0_reading_6 : List UInt8 := dkwX0_reading_6 ++ dktX0_reading_7
def dkwX0_reading_5 : List UInt8 := [167, 0, 15, 42, 180, 0, 73, 180, 1, 37, 54, 4, 21, 5, 62, 132, 5, 1, 167, 255, 159, 28, 2]
abbrev dktX0_reading_5 : List UInt8 := dkwX0_reading_5 ++ dktX0_reading_6
def dkwX0_reading_4 : List UInt8 := [4, 96, 112, 182, 1, 34, 132, 6, 1, 167, 255, 217, 42, 180, 0, 73, 180, 1, 37, 21, 4, 161, 0, 6]
abbrev dktX0_reading_4 : List UInt8 := dkwX0_reading_4 ++ dktX0_reading_5
def dkwX0_reading_3 : List UInt8 := [42, 180, 0, 73, 21, 5, 42, 27, 4, 100, 21, 6, 100, 182, 1, 27, 108, 42, 180, 0, 31, 180, 0, 154]
abbrev dktX0_reading_3 : List UInt8 := dkwX0_reading_3 ++ dktX0_reading_4
def dkwX0_reading_2 : List UInt8 := [162, 0, 93, 42, 180, 0, 73, 42, 180, 0, 69, 182, 1, 30, 87, 3, 54, 6, 21, 6, 27, 162, 0, 39]
abbrev dktX0_reading_2 : List UInt8 := dkwX0_reading_2 ++ dktX0_reading_3
def dkwX0_reading_1 : List UInt8 := [154, 0, 5, 2, 172, 3, 62, 19, 1, 26, 54, 4, 3, 54, 5, 21, 5, 42, 27, 182, 1, 27]
abbrev dktX0_reading_1 : List UInt8 := dkwX0_reading_1 ++ dktX0_reading_2
def dkwX0_reading_0 : List UInt8 := [42, 27, 4, 6, 182, 1, 23, 153, 0, 19, 28, 2, 159, 0, 16, 28, 3, 27, 4, 100, 184, 0, 168]
abbrev dktX0_reading_0 : List UInt8 := dkwX0_reading_0 ++ dktX0_reading_1
theorem dksX0_reading_0 : cX0_reading.data.toList.drop 0 = dktX0_reading_0 := by decide +kernel
theorem dksX0_reading_1 : cX0_reading.data.toList.drop 23 = dktX0_reading_1 := dk_seg dksX0_reading_0 23 rfl rfl
theorem dksX0_reading_2 : cX0_reading.data.toList.drop 45 = dktX0_reading_2 := dk_seg dksX0_reading_1 22 rfl rfl
theorem dksX0_reading_3 : cX0_reading.data.toList.drop 69 = dktX0_reading_3 := dk_seg dksX0_reading_2 24 rfl rfl
theorem dksX0_reading_4 : cX0_reading.data.toList.drop 93 = dktX0_reading_4 := dk_seg dksX0_reading_3 24 rfl rfl
theorem dksX0_reading_5 : cX0_reading.data.toList.drop 117 = dktX0_reading_5 := dk_seg dksX0_reading_4 24 rfl rfl
theorem dksX0_reading_6 : cX0_reading.data.toList.drop 140 = dktX0_reading_6 := dk_seg dksX0_reading_5 23 rfl rfl
theorem dksX0_reading_7 : cX0_reading.data.toList.drop 163 = dktX0_reading_7 := dk_seg dksX0_reading_6 23 rfl rfl
theorem dX0_reading_0 : decode cX0_reading 0 = .ok (.aload_n 0, 1) := dk_42 (dk_at dksX0_reading_0 0 rfl rfl)
theorem dX0_reading_1 : decode cX0_reading 1 = .ok (.iload_n 1, 1) := dk_27 (dk_at dksX0_reading_0 1 rfl rfl)
theorem dX0_reading_2 : decode cX0_reading 2 = .ok (.iconst 1, 1) := dk_4 (dk_at dksX0_reading_0 2 rfl rfl)
theorem dX0_reading_3 : decode cX0_reading 3 = .ok (.iconst 3, 1) := dk_6 (dk_at dksX0_reading_0 3 rfl rfl)
theorem dX0_reading_4 : decode cX0_reading 4 = .ok (.invokevirtual 279, 3) := dk_182 1 23 (dk_at dksX0_reading_0 4 rfl rfl)
theorem dX0_reading_7 : decode cX0_reading 7 = .ok (.ifCond .eq 19, 3) := dk_153 0 19 (dk_at dksX0_reading_0 7 rfl rfl)
theorem dX0_reading_10 : decode cX0_reading 10 = .ok (.iload_n 2, 1) := dk_28 (dk_at dksX0_reading_0 10 rfl rfl)
theorem dX0_reading_11 : decode cX0_reading 11 = .ok (.iconst (-1), 1) := dk_2 (dk_at dksX0_reading_0 11 rfl rfl)
theorem dX0_reading_12 : decode cX0_reading 12 = .ok (.if_icmp .eq 16, 3) := dk_159 0 16 (dk_at dksX0_reading_0 12 rfl rfl)
theorem dX0_reading_15 : decode cX0_reading 15 = .ok (.iload_n 2, 1) := dk_28 (dk_at dksX0_reading_0 15 rfl rfl)
theorem dX0_reading_16 : decode cX0_reading 16 = .ok (.iconst 0, 1) := dk_3 (dk_at dksX0_reading_0 16 rfl rfl)
theorem dX0_reading_17 : decode cX0_reading 17 = .ok (.iload_n 1, 1) := dk_27 (dk_at dksX0_reading_0 17 rfl rfl)
theorem dX0_reading_18 : decode cX0_reading 18 = .ok (.iconst 1, 1) := dk_4 (dk_at dksX0_reading_0 18 rfl rfl)
theorem dX0_reading_19 : decode cX0_reading 19 = .ok (.isub, 1) := dk_100 (dk_at dksX0_reading_0 19 rfl rfl)
theorem dX0_reading_20 : decode cX0_reading 20 = .ok (.invokestatic 168, 3) := dk_184 0 168 (dk_at dksX0_reading_0 20 rfl rfl)
theorem dX0_reading_23 : decode cX0_reading 23 = .ok (.ifCond .ne 5, 3) := dk_154 0 5 (dk_at dksX0_reading_1 0 rfl rfl)
theorem dX0_reading_26 : decode cX0_reading 26 = .ok (.iconst (-1), 1) := dk_2 (dk_at dksX0_reading_1 3 rfl rfl)
theorem dX0_reading_27 : decode cX0_reading 27 = .ok (.ireturn, 1) := dk_172 (dk_at dksX0_reading_1 4 rfl rfl)
theorem dX0_reading_28 : decode cX0_reading 28 = .ok (.iconst 0, 1) := dk_3 (dk_at dksX0_reading_1 5 rfl rfl)
theorem dX0_reading_29 : decode cX0_reading 29 = .ok (.istore_n 3, 1) := dk_62 (dk_at dksX0_reading_1 6 rfl rfl)
theorem dX0_reading_30 : decode cX0_reading 30 = .ok (.ldc_w 282, 3) := dk_19 1 26 (dk_at dksX0_reading_1 7 rfl rfl)
theorem dX0_reading_33 : decode cX0_reading 33 = .ok (.istore 4, 2) := dk_54 4 (dk_at dksX0_reading_1 10 rfl rfl)
theorem dX0_reading_35 : decode cX0_reading 35 = .ok (.iconst 0, 1) := dk_3 (dk_at dksX0_reading_1 12 rfl rfl)
theorem dX0_reading_36 : decode cX0_reading 36 = .ok (.istore 5, 2) := dk_54 5 (dk_at dksX0_reading_1 13 rfl rfl)
theorem dX0_reading_38 : decode cX0_reading 38 = .ok (.iload 5, 2) := dk_21 5 (dk_at dksX0_reading_1 15 rfl rfl)
theorem dX0_reading_40 : decode cX0_reading 40 = .ok (.aload_n 0, 1) := dk_42 (dk_at dksX0_reading_1 17 rfl rfl)
theorem dX0_reading_41 : decode cX0_reading 41 = .ok (.iload_n 1, 1) := dk_27 (dk_at dksX0_reading_1 18 rfl rfl)
theorem dX0_reading_42 : decode cX0_reading 42 = .ok (.invokevirtual 283, 3) := dk_182 1 27 (dk_at dksX0_reading_1 19 rfl rfl)
theorem dX0_reading_45 : decode cX0_reading 45 = .ok (.if_icmp .ge 93, 3) := dk_162 0 93 (dk_at dksX0_reading_2 0 rfl rfl)
theorem dX0_reading_48 : decode cX0_reading 48 = .ok (.aload_n 0, 1) := dk_42 (dk_at dksX0_reading_2 3 rfl rfl)
theorem dX0_reading_49 : decode cX0_reading 49 = .ok (.getfield 73, 3) := dk_180 0 73 (dk_at dksX0_reading_2 4 rfl rfl)
theorem dX0_reading_52 : decode cX0_reading 52 = .ok (.aload_n 0, 1) := dk_42 (dk_at dksX0_reading_2 7 rfl rfl)
theorem dX0_reading_53 : decode cX0_reading 53 = .ok (.getfield 69, 3) := dk_180 0 69 (dk_at dksX0_reading_2 8 rfl rfl)
theorem dX0_reading_56 : decode cX0_reading 56 = .ok (.invokevirtual 286, 3) := dk_182 1 30 (dk_at dksX0_reading_2 11 rfl rfl)
theorem dX0_reading_59 : decode cX0_reading 59 = .ok (.pop, 1) := dk_87 (dk_at dksX0_reading_2 14 rfl rfl)
theorem dX0_reading_60 : decode cX0_reading 60 = .ok (.iconst 0, 1) := dk_3 (dk_at dksX0_reading_2 15 rfl rfl)
theorem dX0_reading_61 : decode cX0_reading 61 = .ok (.istore 6, 2) := dk_54 6 (dk_at dksX0_reading_2 16 rfl rfl)
theorem dX0_reading_63 : decode cX0_reading 63 = .ok (.iload 6, 2) := dk_21 6 (dk_at dksX0_reading_2 18 rfl rfl)
theorem dX0_reading_65 : decode cX0_reading 65 = .ok (.iload_n 1, 1) := dk_27 (dk_at dksX0_reading_2 20 rfl rfl)
theorem dX0_reading_66 : decode cX0_reading 66 = .ok (.if_icmp .ge 39, 3) := dk_162 0 39 (dk_at dksX0_reading_2 21 rfl rfl)
theorem dX0_reading_69 : decode cX0_reading 69 = .ok (.aload_n 0, 1) := dk_42 (dk_at dksX0_reading_3 0 rfl rfl)
theorem dX0_reading_70 : decode cX0_reading 70 = .ok (.getfield 73, 3) := dk_180 0 73 (dk_at dksX0_reading_3 1 rfl rfl)
theorem dX0_reading_73 : decode cX0_reading 73 = .ok (.iload 5, 2) := dk_21 5 (dk_at dksX0_reading_3 4 rfl rfl)
theorem dX0_reading_75 : decode cX0_reading 75 = .ok (.aload_n 0, 1) := dk_42 (dk_at dksX0_reading_3 6 rfl rfl)
theorem dX0_reading_76 : decode cX0_reading 76 = .ok (.iload_n 1, 1) := dk_27 (dk_at dksX0_reading_3 7 rfl rfl)
theorem dX0_reading_77 : decode cX0_reading 77 = .ok (.iconst 1, 1) := dk_4 (dk_at dksX0_reading_3 8 rfl rfl)
theorem dX0_reading_78 : decode cX0_reading 78 = .ok (.isub, 1) := dk_100 (dk_at dksX0_reading_3 9 rfl rfl)
theorem dX0_reading_79 : decode cX0_reading 79 = .ok (.iload 6, 2) := dk_21 6 (dk_at dksX0_reading_3 10 rfl rfl)
theorem dX0_reading_81 : decode cX0_reading 81 = .ok (.isub, 1) := dk_100 (dk_at dksX0_reading_3 12 rfl rfl)
theorem dX0_reading_82 : decode cX0_reading 82 = .ok (.invokevirtual 283, 3) := dk_182 1 27 (dk_at dksX0_reading_3 13 rfl rfl)
theorem dX0_reading_85 : decode cX0_reading 85 = .ok (.idiv, 1) := dk_108 (dk_at dksX0_reading_3 16 rfl rfl)
theorem dX0_reading_86 : decode cX0_reading 86 = .ok (.aload_n 0, 1) := dk_42 (dk_at dksX0_reading_3 17 rfl rfl)
theorem dX0_reading_87 : decode cX0_reading 87 = .ok (.getfield 31, 3) := dk_180 0 31 (dk_at dksX0_reading_3 18 rfl rfl)
theorem dX0_reading_90 : decode cX0_reading 90 = .ok (.getfield 154, 3) := dk_180 0 154 (dk_at dksX0_reading_3 21 rfl rfl)
theorem dX0_reading_93 : decode cX0_reading 93 = .ok (.iconst 1, 1) := dk_4 (dk_at dksX0_reading_4 0 rfl rfl)
theorem dX0_reading_94 : decode cX0_reading 94 = .ok (.iadd, 1) := dk_96 (dk_at dksX0_reading_4 1 rfl rfl)
theorem dX0_reading_95 : decode cX0_reading 95 = .ok (.irem, 1) := dk_112 (dk_at dksX0_reading_4 2 rfl rfl)
theorem dX0_reading_96 : decode cX0_reading 96 = .ok (.invokevirtual 290, 3) := dk_182 1 34 (dk_at dksX0_reading_4 3 rfl rfl)
theorem dX0_reading_99 : decode cX0_reading 99 = .ok (.iinc 6 1, 3) := dk_132 6 1 (dk_at dksX0_reading_4 6 rfl rfl)
theorem dX0_reading_102 : decode cX0_reading 102 = .ok (.goto (-39), 3) := dk_167 255 217 (dk_at dksX0_reading_4 9 rfl rfl)
theorem dX0_reading_105 : decode cX0_reading 105 = .ok (.aload_n 0, 1) := dk_42 (dk_at dksX0_reading_4 12 rfl rfl)
theorem dX0_reading_106 : decode cX0_reading 106 = .ok (.getfield 73, 3) := dk_180 0 73 (dk_at dksX0_reading_4 13 rfl rfl)
theorem dX0_reading_109 : decode cX0_reading 109 = .ok (.getfield 293, 3) := dk_180 1 37 (dk_at dksX0_reading_4 16 rfl rfl)
theorem dX0_reading_112 : decode cX0_reading 112 = .ok (.iload 4, 2) := dk_21 4 (dk_at dksX0_reading_4 19 rfl rfl)
theorem dX0_reading_114 : decode cX0_reading 114 = .ok (.if_icmp .lt 6, 3) := dk_161 0 6 (dk_at dksX0_reading_4 21 rfl rfl)
theorem dX0_reading_117 : decode cX0_reading 117 = .ok (.goto 15, 3) := dk_167 0 15 (dk_at dksX0_reading_5 0 rfl rfl)
theorem dX0_reading_120 : decode cX0_reading 120 = .ok (.aload_n 0, 1) := dk_42 (dk_at dksX0_reading_5 3 rfl rfl)
theorem dX0_reading_121 : decode cX0_reading 121 = .ok (.getfield 73, 3) := dk_180 0 73 (dk_at dksX0_reading_5 4 rfl rfl)
theorem dX0_reading_124 : decode cX0_reading 124 = .ok (.getfield 293, 3) := dk_180 1 37 (dk_at dksX0_reading_5 7 rfl rfl)
theorem dX0_reading_127 : decode cX0_reading 127 = .ok (.istore 4, 2) := dk_54 4 (dk_at dksX0_reading_5 10 rfl rfl)
theorem dX0_reading_129 : decode cX0_reading 129 = .ok (.iload 5, 2) := dk_21 5 (dk_at dksX0_reading_5 12 rfl rfl)
theorem dX0_reading_131 : decode cX0_reading 131 = .ok (.istore_n 3, 1) := dk_62 (dk_at dksX0_reading_5 14 rfl rfl)
theorem dX0_reading_132 : decode cX0_reading 132 = .ok (.iinc 5 1, 3) := dk_132 5 1 (dk_at dksX0_reading_5 15 rfl rfl)
theorem dX0_reading_135 : decode cX0_reading 135 = .ok (.goto (-97), 3) := dk_167 255 159 (dk_at dksX0_reading_5 18 rfl rfl)
theorem dX0_reading_138 : decode cX0_reading 138 = .ok (.iload_n 2, 1) := dk_28 (dk_at dksX0_reading_5 21 rfl rfl)
theorem dX0_reading_139 : decode cX0_reading 139 = .ok (.iconst (-1), 1) := dk_2 (dk_at dksX0_reading_5 22 rfl rfl)
theorem dX0_reading_140 : decode cX0_reading 140 = .ok (.if_icmp .ne 8, 3) := dk_160 0 8 (dk_at dksX0_reading_6 0 rfl rfl)
theorem dX0_reading_143 : decode cX0_reading 143 = .ok (.iload 4, 2) := dk_21 4 (dk_at dksX0_reading_6 3 rfl rfl)
theorem dX0_reading_145 : decode cX0_reading 145 = .ok (.goto 24, 3) := dk_167 0 24 (dk_at dksX0_reading_6 5 rfl rfl)
theorem dX0_reading_148 : decode cX0_reading 148 = .ok (.iload_n 3, 1) := dk_29 (dk_at dksX0_reading_6 8 rfl rfl)
theorem dX0_reading_149 : decode cX0_reading 149 = .ok (.aload_n 0, 1) := dk_42 (dk_at dksX0_reading_6 9 rfl rfl)
theorem dX0_reading_150 : decode cX0_reading 150 = .ok (.iload_n 1, 1) := dk_27 (dk_at dksX0_reading_6 10 rfl rfl)
theorem dX0_reading_151 : decode cX0_reading 151 = .ok (.iconst 1, 1) := dk_4 (dk_at dksX0_reading_6 11 rfl rfl)
theorem dX0_reading_152 : decode cX0_reading 152 = .ok (.isub, 1) := dk_100 (dk_at dksX0_reading_6 12 rfl rfl)
theorem dX0_reading_153 : decode cX0_reading 153 = .ok (.iload_n 2, 1) := dk_28 (dk_at dksX0_reading_6 13 rfl rfl)
theorem dX0_reading_154 : decode cX0_reading 154 = .ok (.isub, 1) := dk_100 (dk_at dksX0_reading_6 14 rfl rfl)
theorem dX0_reading_155 : decode cX0_reading 155 = .ok (.invokevirtual 283, 3) := dk_182 1 27 (dk_at dksX0_reading_6 15 rfl rfl)
theorem dX0_reading_158 : decode cX0_reading 158 = .ok (.idiv, 1) := dk_108 (dk_at dksX0_reading_6 18 rfl rfl)
theorem dX0_reading_159 : decode cX0_reading 159 = .ok (.aload_n 0, 1) := dk_42 (dk_at dksX0_reading_6 19 rfl rfl)
theorem dX0_reading_160 : decode cX0_reading 160 = .ok (.getfield 31, 3) := dk_180 0 31 (dk_at dksX0_reading_6 20 rfl rfl)
theorem dX0_reading_163 : decode cX0_reading 163 = .ok (.getfield 154, 3) := dk_180 0 154 (dk_at dksX0_reading_7 0 rfl rfl)
theorem dX0_reading_166 : decode cX0_reading 166 = .ok (.iconst 1, 1) := dk_4 (dk_at dksX0_reading_7 3 rfl rfl)
theorem dX0_reading_167 : decode cX0_reading 167 = .ok (.iadd, 1) := dk_96 (dk_at dksX0_reading_7 4 rfl rfl)
theorem dX0_reading_168 : decode cX0_reading 168 = .ok (.irem, 1) := dk_112 (dk_at dksX0_reading_7 5 rfl rfl)
theorem dX0_reading_169 : decode cX0_reading 169 = .ok (.ireturn, 1) := dk_172 (dk_at dksX0_reading_7 6 rfl rfl)
abbrev cX0_isAhead : ByteArray := prog_1_method_32_code
def yX0_isAhead : MethodName := ⟨RX0, "isAhead", "(III)Z"⟩
def dkwX0_isAhead_1 : List UInt8 := [96, 17, 3, 231, 163, 0, 7, 4, 167, 0, 4, 3, 172]
abbrev dktX0_isAhead_1 : List UInt8 := dkwX0_isAhead_1 ++ []
def dkwX0_isAhead_0 : List UInt8 := [42, 182, 1, 16, 153, 0, 31, 27, 28, 29, 184, 0, 168, 153, 0, 22, 42, 180, 0, 69, 180, 0, 213, 27]
abbrev dktX0_isAhead_0 : List UInt8 := dkwX0_isAhead_0 ++ dktX0_isAhead_1
theorem dksX0_isAhead_0 : cX0_isAhead.data.toList.drop 0 = dktX0_isAhead_0 := by decide +kernel
theorem dksX0_isAhead_1 : cX0_isAhead.data.toList.drop 24 = dktX0_isAhead_1 := dk_seg dksX0_isAhead_0 24 rfl rfl
theorem dX0_isAhead_0 : decode cX0_isAhead 0 = .ok (.aload_n 0, 1) := dk_42 (dk_at dksX0_isAhead_0 0 rfl rfl)
theorem dX0_isAhead_1 : decode cX0_isAhead 1 = .ok (.invokevirtual 272, 3) := dk_182 1 16 (dk_at dksX0_isAhead_0 1 rfl rfl)
theorem dX0_isAhead_4 : decode cX0_isAhead 4 = .ok (.ifCond .eq 31, 3) := dk_153 0 31 (dk_at dksX0_isAhead_0 4 rfl rfl)
theorem dX0_isAhead_7 : decode cX0_isAhead 7 = .ok (.iload_n 1, 1) := dk_27 (dk_at dksX0_isAhead_0 7 rfl rfl)
theorem dX0_isAhead_8 : decode cX0_isAhead 8 = .ok (.iload_n 2, 1) := dk_28 (dk_at dksX0_isAhead_0 8 rfl rfl)
theorem dX0_isAhead_9 : decode cX0_isAhead 9 = .ok (.iload_n 3, 1) := dk_29 (dk_at dksX0_isAhead_0 9 rfl rfl)
theorem dX0_isAhead_10 : decode cX0_isAhead 10 = .ok (.invokestatic 168, 3) := dk_184 0 168 (dk_at dksX0_isAhead_0 10 rfl rfl)
theorem dX0_isAhead_13 : decode cX0_isAhead 13 = .ok (.ifCond .eq 22, 3) := dk_153 0 22 (dk_at dksX0_isAhead_0 13 rfl rfl)
theorem dX0_isAhead_16 : decode cX0_isAhead 16 = .ok (.aload_n 0, 1) := dk_42 (dk_at dksX0_isAhead_0 16 rfl rfl)
theorem dX0_isAhead_17 : decode cX0_isAhead 17 = .ok (.getfield 69, 3) := dk_180 0 69 (dk_at dksX0_isAhead_0 17 rfl rfl)
theorem dX0_isAhead_20 : decode cX0_isAhead 20 = .ok (.getfield 213, 3) := dk_180 0 213 (dk_at dksX0_isAhead_0 20 rfl rfl)
theorem dX0_isAhead_23 : decode cX0_isAhead 23 = .ok (.iload_n 1, 1) := dk_27 (dk_at dksX0_isAhead_0 23 rfl rfl)
theorem dX0_isAhead_24 : decode cX0_isAhead 24 = .ok (.iadd, 1) := dk_96 (dk_at dksX0_isAhead_1 0 rfl rfl)
theorem dX0_isAhead_25 : decode cX0_isAhead 25 = .ok (.sipush 999, 3) := dk_17 3 231 (dk_at dksX0_isAhead_1 1 rfl rfl)
theorem dX0_isAhead_28 : decode cX0_isAhead 28 = .ok (.if_icmp .gt 7, 3) := dk_163 0 7 (dk_at dksX0_isAhead_1 4 rfl rfl)
theorem dX0_isAhead_31 : decode cX0_isAhead 31 = .ok (.iconst 1, 1) := dk_4 (dk_at dksX0_isAhead_1 7 rfl rfl)
theorem dX0_isAhead_32 : decode cX0_isAhead 32 = .ok (.goto 4, 3) := dk_167 0 4 (dk_at dksX0_isAhead_1 8 rfl rfl)
theorem dX0_isAhead_35 : decode cX0_isAhead 35 = .ok (.iconst 0, 1) := dk_3 (dk_at dksX0_isAhead_1 11 rfl rfl)
theorem dX0_isAhead_36 : decode cX0_isAhead 36 = .ok (.ireturn, 1) := dk_172 (dk_at dksX0_isAhead_1 12 rfl rfl)
abbrev cX0_ways : ByteArray := prog_1_method_33_code
def yX0_ways : MethodName := ⟨RX0, "ways", "(I)I"⟩
def dkwX0_ways_1 : List UInt8 := [167, 255, 236, 28, 172]
abbrev dktX0_ways_1 : List UInt8 := dkwX0_ways_1 ++ []
def dkwX0_ways_0 : List UInt8 := [4, 61, 3, 62, 29, 27, 162, 0, 21, 28, 42, 180, 0, 31, 180, 0, 154, 4, 96, 104, 61, 132, 3, 1]
abbrev dktX0_ways_0 : List UInt8 := dkwX0_ways_0 ++ dktX0_ways_1
theorem dksX0_ways_0 : cX0_ways.data.toList.drop 0 = dktX0_ways_0 := by decide +kernel
theorem dksX0_ways_1 : cX0_ways.data.toList.drop 24 = dktX0_ways_1 := dk_seg dksX0_ways_0 24 rfl rfl
theorem dX0_ways_0 : decode cX0_ways 0 = .ok (.iconst 1, 1) := dk_4 (dk_at dksX0_ways_0 0 rfl rfl)
theorem dX0_ways_1 : decode cX0_ways 1 = .ok (.istore_n 2, 1) := dk_61 (dk_at dksX0_ways_0 1 rfl rfl)
theorem dX0_ways_2 : decode cX0_ways 2 = .ok (.iconst 0, 1) := dk_3 (dk_at dksX0_ways_0 2 rfl rfl)
theorem dX0_ways_3 : decode cX0_ways 3 = .ok (.istore_n 3, 1) := dk_62 (dk_at dksX0_ways_0 3 rfl rfl)
theorem dX0_ways_4 : decode cX0_ways 4 = .ok (.iload_n 3, 1) := dk_29 (dk_at dksX0_ways_0 4 rfl rfl)
theorem dX0_ways_5 : decode cX0_ways 5 = .ok (.iload_n 1, 1) := dk_27 (dk_at dksX0_ways_0 5 rfl rfl)
theorem dX0_ways_6 : decode cX0_ways 6 = .ok (.if_icmp .ge 21, 3) := dk_162 0 21 (dk_at dksX0_ways_0 6 rfl rfl)
theorem dX0_ways_9 : decode cX0_ways 9 = .ok (.iload_n 2, 1) := dk_28 (dk_at dksX0_ways_0 9 rfl rfl)
theorem dX0_ways_10 : decode cX0_ways 10 = .ok (.aload_n 0, 1) := dk_42 (dk_at dksX0_ways_0 10 rfl rfl)
theorem dX0_ways_11 : decode cX0_ways 11 = .ok (.getfield 31, 3) := dk_180 0 31 (dk_at dksX0_ways_0 11 rfl rfl)
theorem dX0_ways_14 : decode cX0_ways 14 = .ok (.getfield 154, 3) := dk_180 0 154 (dk_at dksX0_ways_0 14 rfl rfl)
theorem dX0_ways_17 : decode cX0_ways 17 = .ok (.iconst 1, 1) := dk_4 (dk_at dksX0_ways_0 17 rfl rfl)
theorem dX0_ways_18 : decode cX0_ways 18 = .ok (.iadd, 1) := dk_96 (dk_at dksX0_ways_0 18 rfl rfl)
theorem dX0_ways_19 : decode cX0_ways 19 = .ok (.imul, 1) := dk_104 (dk_at dksX0_ways_0 19 rfl rfl)
theorem dX0_ways_20 : decode cX0_ways 20 = .ok (.istore_n 2, 1) := dk_61 (dk_at dksX0_ways_0 20 rfl rfl)
theorem dX0_ways_21 : decode cX0_ways 21 = .ok (.iinc 3 1, 3) := dk_132 3 1 (dk_at dksX0_ways_0 21 rfl rfl)
theorem dX0_ways_24 : decode cX0_ways 24 = .ok (.goto (-20), 3) := dk_167 255 236 (dk_at dksX0_ways_1 0 rfl rfl)
theorem dX0_ways_27 : decode cX0_ways 27 = .ok (.iload_n 2, 1) := dk_28 (dk_at dksX0_ways_1 3 rfl rfl)
theorem dX0_ways_28 : decode cX0_ways 28 = .ok (.ireturn, 1) := dk_172 (dk_at dksX0_ways_1 4 rfl rfl)
abbrev cX0_later : ByteArray := prog_1_method_35_code
def yX0_later : MethodName := ⟨RX0, "later", "(III)I"⟩
def dkwX0_later_3 : List UInt8 := [180, 0, 73, 180, 0, 245, 27, 46, 167, 0, 12, 42, 180, 0, 73, 180, 1, 43, 27, 46, 172]
abbrev dktX0_later_3 : List UInt8 := dkwX0_later_3 ++ []
def dkwX0_later_2 : List UInt8 := [29, 154, 0, 15, 42, 180, 0, 73, 180, 0, 239, 27, 46, 167, 0, 29, 29, 4, 160, 0, 15, 42]
abbrev dktX0_later_2 : List UInt8 := dkwX0_later_2 ++ dktX0_later_3
def dkwX0_later_1 : List UInt8 := [184, 0, 168, 154, 0, 5, 2, 172, 42, 180, 0, 73, 42, 180, 0, 69, 182, 1, 30, 28, 182, 1, 39, 87]
abbrev dktX0_later_1 : List UInt8 := dkwX0_later_1 ++ dktX0_later_2
def dkwX0_later_0 : List UInt8 := [42, 27, 182, 0, 225, 153, 0, 23, 42, 28, 3, 16, 60, 182, 1, 23, 153, 0, 12, 29, 3, 5]
abbrev dktX0_later_0 : List UInt8 := dkwX0_later_0 ++ dktX0_later_1
theorem dksX0_later_0 : cX0_later.data.toList.drop 0 = dktX0_later_0 := by decide +kernel
theorem dksX0_later_1 : cX0_later.data.toList.drop 22 = dktX0_later_1 := dk_seg dksX0_later_0 22 rfl rfl
theorem dksX0_later_2 : cX0_later.data.toList.drop 46 = dktX0_later_2 := dk_seg dksX0_later_1 24 rfl rfl
theorem dksX0_later_3 : cX0_later.data.toList.drop 68 = dktX0_later_3 := dk_seg dksX0_later_2 22 rfl rfl
theorem dX0_later_0 : decode cX0_later 0 = .ok (.aload_n 0, 1) := dk_42 (dk_at dksX0_later_0 0 rfl rfl)
theorem dX0_later_1 : decode cX0_later 1 = .ok (.iload_n 1, 1) := dk_27 (dk_at dksX0_later_0 1 rfl rfl)
theorem dX0_later_2 : decode cX0_later 2 = .ok (.invokevirtual 225, 3) := dk_182 0 225 (dk_at dksX0_later_0 2 rfl rfl)
theorem dX0_later_5 : decode cX0_later 5 = .ok (.ifCond .eq 23, 3) := dk_153 0 23 (dk_at dksX0_later_0 5 rfl rfl)
theorem dX0_later_8 : decode cX0_later 8 = .ok (.aload_n 0, 1) := dk_42 (dk_at dksX0_later_0 8 rfl rfl)
theorem dX0_later_9 : decode cX0_later 9 = .ok (.iload_n 2, 1) := dk_28 (dk_at dksX0_later_0 9 rfl rfl)
theorem dX0_later_10 : decode cX0_later 10 = .ok (.iconst 0, 1) := dk_3 (dk_at dksX0_later_0 10 rfl rfl)
theorem dX0_later_11 : decode cX0_later 11 = .ok (.bipush 60, 2) := dk_16 60 (dk_at dksX0_later_0 11 rfl rfl)
theorem dX0_later_13 : decode cX0_later 13 = .ok (.invokevirtual 279, 3) := dk_182 1 23 (dk_at dksX0_later_0 13 rfl rfl)
theorem dX0_later_16 : decode cX0_later 16 = .ok (.ifCond .eq 12, 3) := dk_153 0 12 (dk_at dksX0_later_0 16 rfl rfl)
theorem dX0_later_19 : decode cX0_later 19 = .ok (.iload_n 3, 1) := dk_29 (dk_at dksX0_later_0 19 rfl rfl)
theorem dX0_later_20 : decode cX0_later 20 = .ok (.iconst 0, 1) := dk_3 (dk_at dksX0_later_0 20 rfl rfl)
theorem dX0_later_21 : decode cX0_later 21 = .ok (.iconst 2, 1) := dk_5 (dk_at dksX0_later_0 21 rfl rfl)
theorem dX0_later_22 : decode cX0_later 22 = .ok (.invokestatic 168, 3) := dk_184 0 168 (dk_at dksX0_later_1 0 rfl rfl)
theorem dX0_later_25 : decode cX0_later 25 = .ok (.ifCond .ne 5, 3) := dk_154 0 5 (dk_at dksX0_later_1 3 rfl rfl)
theorem dX0_later_28 : decode cX0_later 28 = .ok (.iconst (-1), 1) := dk_2 (dk_at dksX0_later_1 6 rfl rfl)
theorem dX0_later_29 : decode cX0_later 29 = .ok (.ireturn, 1) := dk_172 (dk_at dksX0_later_1 7 rfl rfl)
theorem dX0_later_30 : decode cX0_later 30 = .ok (.aload_n 0, 1) := dk_42 (dk_at dksX0_later_1 8 rfl rfl)
theorem dX0_later_31 : decode cX0_later 31 = .ok (.getfield 73, 3) := dk_180 0 73 (dk_at dksX0_later_1 9 rfl rfl)
theorem dX0_later_34 : decode cX0_later 34 = .ok (.aload_n 0, 1) := dk_42 (dk_at dksX0_later_1 12 rfl rfl)
theorem dX0_later_35 : decode cX0_later 35 = .ok (.getfield 69, 3) := dk_180 0 69 (dk_at dksX0_later_1 13 rfl rfl)
theorem dX0_later_38 : decode cX0_later 38 = .ok (.invokevirtual 286, 3) := dk_182 1 30 (dk_at dksX0_later_1 16 rfl rfl)
theorem dX0_later_41 : decode cX0_later 41 = .ok (.iload_n 2, 1) := dk_28 (dk_at dksX0_later_1 19 rfl rfl)
theorem dX0_later_42 : decode cX0_later 42 = .ok (.invokevirtual 295, 3) := dk_182 1 39 (dk_at dksX0_later_1 20 rfl rfl)
theorem dX0_later_45 : decode cX0_later 45 = .ok (.pop, 1) := dk_87 (dk_at dksX0_later_1 23 rfl rfl)
theorem dX0_later_46 : decode cX0_later 46 = .ok (.iload_n 3, 1) := dk_29 (dk_at dksX0_later_2 0 rfl rfl)
theorem dX0_later_47 : decode cX0_later 47 = .ok (.ifCond .ne 15, 3) := dk_154 0 15 (dk_at dksX0_later_2 1 rfl rfl)
theorem dX0_later_50 : decode cX0_later 50 = .ok (.aload_n 0, 1) := dk_42 (dk_at dksX0_later_2 4 rfl rfl)
theorem dX0_later_51 : decode cX0_later 51 = .ok (.getfield 73, 3) := dk_180 0 73 (dk_at dksX0_later_2 5 rfl rfl)
theorem dX0_later_54 : decode cX0_later 54 = .ok (.getfield 239, 3) := dk_180 0 239 (dk_at dksX0_later_2 8 rfl rfl)
theorem dX0_later_57 : decode cX0_later 57 = .ok (.iload_n 1, 1) := dk_27 (dk_at dksX0_later_2 11 rfl rfl)
theorem dX0_later_58 : decode cX0_later 58 = .ok (.iaload, 1) := dk_46 (dk_at dksX0_later_2 12 rfl rfl)
theorem dX0_later_59 : decode cX0_later 59 = .ok (.goto 29, 3) := dk_167 0 29 (dk_at dksX0_later_2 13 rfl rfl)
theorem dX0_later_62 : decode cX0_later 62 = .ok (.iload_n 3, 1) := dk_29 (dk_at dksX0_later_2 16 rfl rfl)
theorem dX0_later_63 : decode cX0_later 63 = .ok (.iconst 1, 1) := dk_4 (dk_at dksX0_later_2 17 rfl rfl)
theorem dX0_later_64 : decode cX0_later 64 = .ok (.if_icmp .ne 15, 3) := dk_160 0 15 (dk_at dksX0_later_2 18 rfl rfl)
theorem dX0_later_67 : decode cX0_later 67 = .ok (.aload_n 0, 1) := dk_42 (dk_at dksX0_later_2 21 rfl rfl)
theorem dX0_later_68 : decode cX0_later 68 = .ok (.getfield 73, 3) := dk_180 0 73 (dk_at dksX0_later_3 0 rfl rfl)
theorem dX0_later_71 : decode cX0_later 71 = .ok (.getfield 245, 3) := dk_180 0 245 (dk_at dksX0_later_3 3 rfl rfl)
theorem dX0_later_74 : decode cX0_later 74 = .ok (.iload_n 1, 1) := dk_27 (dk_at dksX0_later_3 6 rfl rfl)
theorem dX0_later_75 : decode cX0_later 75 = .ok (.iaload, 1) := dk_46 (dk_at dksX0_later_3 7 rfl rfl)
theorem dX0_later_76 : decode cX0_later 76 = .ok (.goto 12, 3) := dk_167 0 12 (dk_at dksX0_later_3 8 rfl rfl)
theorem dX0_later_79 : decode cX0_later 79 = .ok (.aload_n 0, 1) := dk_42 (dk_at dksX0_later_3 11 rfl rfl)
theorem dX0_later_80 : decode cX0_later 80 = .ok (.getfield 73, 3) := dk_180 0 73 (dk_at dksX0_later_3 12 rfl rfl)
theorem dX0_later_83 : decode cX0_later 83 = .ok (.getfield 299, 3) := dk_180 1 43 (dk_at dksX0_later_3 15 rfl rfl)
theorem dX0_later_86 : decode cX0_later 86 = .ok (.iload_n 1, 1) := dk_27 (dk_at dksX0_later_3 18 rfl rfl)
theorem dX0_later_87 : decode cX0_later 87 = .ok (.iaload, 1) := dk_46 (dk_at dksX0_later_3 19 rfl rfl)
theorem dX0_later_88 : decode cX0_later 88 = .ok (.ireturn, 1) := dk_172 (dk_at dksX0_later_3 20 rfl rfl)
abbrev cX0_opening : ByteArray := prog_1_method_36_code
def yX0_opening : MethodName := ⟨RX0, "opening", "(I)I"⟩
def dkwX0_opening_1 : List UInt8 := [167, 0, 4, 2, 172]
abbrev dktX0_opening_1 : List UInt8 := dkwX0_opening_1 ++ []
def dkwX0_opening_0 : List UInt8 := [42, 27, 3, 16, 60, 182, 1, 23, 153, 0, 19, 42, 42, 180, 0, 69, 180, 0, 213, 27, 96, 182, 0, 216]
abbrev dktX0_opening_0 : List UInt8 := dkwX0_opening_0 ++ dktX0_opening_1
theorem dksX0_opening_0 : cX0_opening.data.toList.drop 0 = dktX0_opening_0 := by decide +kernel
theorem dksX0_opening_1 : cX0_opening.data.toList.drop 24 = dktX0_opening_1 := dk_seg dksX0_opening_0 24 rfl rfl
theorem dX0_opening_0 : decode cX0_opening 0 = .ok (.aload_n 0, 1) := dk_42 (dk_at dksX0_opening_0 0 rfl rfl)
theorem dX0_opening_1 : decode cX0_opening 1 = .ok (.iload_n 1, 1) := dk_27 (dk_at dksX0_opening_0 1 rfl rfl)
theorem dX0_opening_2 : decode cX0_opening 2 = .ok (.iconst 0, 1) := dk_3 (dk_at dksX0_opening_0 2 rfl rfl)
theorem dX0_opening_3 : decode cX0_opening 3 = .ok (.bipush 60, 2) := dk_16 60 (dk_at dksX0_opening_0 3 rfl rfl)
theorem dX0_opening_5 : decode cX0_opening 5 = .ok (.invokevirtual 279, 3) := dk_182 1 23 (dk_at dksX0_opening_0 5 rfl rfl)
theorem dX0_opening_8 : decode cX0_opening 8 = .ok (.ifCond .eq 19, 3) := dk_153 0 19 (dk_at dksX0_opening_0 8 rfl rfl)
theorem dX0_opening_11 : decode cX0_opening 11 = .ok (.aload_n 0, 1) := dk_42 (dk_at dksX0_opening_0 11 rfl rfl)
theorem dX0_opening_12 : decode cX0_opening 12 = .ok (.aload_n 0, 1) := dk_42 (dk_at dksX0_opening_0 12 rfl rfl)
theorem dX0_opening_13 : decode cX0_opening 13 = .ok (.getfield 69, 3) := dk_180 0 69 (dk_at dksX0_opening_0 13 rfl rfl)
theorem dX0_opening_16 : decode cX0_opening 16 = .ok (.getfield 213, 3) := dk_180 0 213 (dk_at dksX0_opening_0 16 rfl rfl)
theorem dX0_opening_19 : decode cX0_opening 19 = .ok (.iload_n 1, 1) := dk_27 (dk_at dksX0_opening_0 19 rfl rfl)
theorem dX0_opening_20 : decode cX0_opening 20 = .ok (.iadd, 1) := dk_96 (dk_at dksX0_opening_0 20 rfl rfl)
theorem dX0_opening_21 : decode cX0_opening 21 = .ok (.invokevirtual 216, 3) := dk_182 0 216 (dk_at dksX0_opening_0 21 rfl rfl)
theorem dX0_opening_24 : decode cX0_opening 24 = .ok (.goto 4, 3) := dk_167 0 4 (dk_at dksX0_opening_1 0 rfl rfl)
theorem dX0_opening_27 : decode cX0_opening 27 = .ok (.iconst (-1), 1) := dk_2 (dk_at dksX0_opening_1 3 rfl rfl)
theorem dX0_opening_28 : decode cX0_opening 28 = .ok (.ireturn, 1) := dk_172 (dk_at dksX0_opening_1 4 rfl rfl)
abbrev cX0_way : ByteArray := prog_1_method_39_code
def yX0_way : MethodName := ⟨RX0, "way", "(III)I"⟩
def dkwX0_way_12 : List UInt8 := [181, 0, 78, 42, 25, 6, 181, 0, 81, 132, 4, 1, 167, 255, 70, 2, 172]
abbrev dktX0_way_12 : List UInt8 := dkwX0_way_12 ++ []
def dkwX0_way_11 : List UInt8 := [132, 7, 1, 167, 255, 218, 132, 6, 1, 167, 255, 197, 42, 180, 0, 78, 58, 6, 42, 42, 180, 0, 81]
abbrev dktX0_way_11 : List UInt8 := dkwX0_way_11 ++ dktX0_way_12
def dkwX0_way_10 : List UInt8 := [180, 0, 78, 21, 6, 50, 21, 7, 51, 153, 0, 13, 42, 21, 6, 21, 7, 21, 5, 182, 1, 59]
abbrev dktX0_way_10 : List UInt8 := dkwX0_way_10 ++ dktX0_way_11
def dkwX0_way_9 : List UInt8 := [180, 0, 154, 162, 0, 53, 3, 54, 7, 21, 7, 42, 180, 0, 31, 180, 0, 172, 162, 0, 32, 42]
abbrev dktX0_way_9 : List UInt8 := dkwX0_way_9 ++ dktX0_way_10
def dkwX0_way_8 : List UInt8 := [180, 0, 69, 180, 0, 213, 21, 4, 96, 182, 0, 216, 54, 5, 3, 54, 6, 21, 6, 42, 180, 0, 31]
abbrev dktX0_way_8 : List UInt8 := dkwX0_way_8 ++ dktX0_way_9
def dkwX0_way_7 : List UInt8 := [162, 0, 15, 25, 8, 21, 9, 3, 84, 132, 9, 1, 167, 255, 240, 132, 7, 1, 167, 255, 217, 42, 42]
abbrev dktX0_way_7 : List UInt8 := dkwX0_way_7 ++ dktX0_way_8
def dkwX0_way_6 : List UInt8 := [3, 54, 7, 21, 7, 21, 6, 162, 0, 38, 25, 5, 21, 7, 50, 58, 8, 3, 54, 9, 21, 9, 16, 8]
abbrev dktX0_way_6 : List UInt8 := dkwX0_way_6 ++ dktX0_way_7
def dkwX0_way_5 : List UInt8 := [180, 0, 78, 28, 50, 29, 51, 153, 0, 6, 21, 4, 172, 42, 180, 0, 81, 58, 5, 25, 5, 190, 54, 6]
abbrev dktX0_way_5 : List UInt8 := dkwX0_way_5 ++ dktX0_way_6
def dkwX0_way_4 : List UInt8 := [180, 0, 239, 27, 46, 4, 84, 3, 54, 4, 42, 21, 4, 3, 16, 40, 182, 1, 23, 153, 0, 180, 42]
abbrev dktX0_way_4 : List UInt8 := dkwX0_way_4 ++ dktX0_way_5
def dkwX0_way_3 : List UInt8 := [132, 6, 1, 167, 255, 217, 42, 180, 0, 78, 42, 180, 0, 69, 180, 0, 236, 27, 46, 50, 42, 180, 0, 69]
abbrev dktX0_way_3 : List UInt8 := dkwX0_way_3 ++ dktX0_way_4
def dkwX0_way_2 : List UInt8 := [3, 54, 8, 21, 8, 16, 8, 162, 0, 15, 25, 7, 21, 8, 3, 84, 132, 8, 1, 167, 255, 240]
abbrev dktX0_way_2 : List UInt8 := dkwX0_way_2 ++ dktX0_way_3
def dkwX0_way_1 : List UInt8 := [58, 4, 25, 4, 190, 54, 5, 3, 54, 6, 21, 6, 21, 5, 162, 0, 38, 25, 4, 21, 6, 50, 58, 7]
abbrev dktX0_way_1 : List UInt8 := dkwX0_way_1 ++ dktX0_way_2
def dkwX0_way_0 : List UInt8 := [42, 27, 182, 0, 225, 153, 0, 12, 42, 28, 29, 182, 0, 251, 154, 0, 5, 2, 172, 42, 180, 0, 78]
abbrev dktX0_way_0 : List UInt8 := dkwX0_way_0 ++ dktX0_way_1
theorem dksX0_way_0 : cX0_way.data.toList.drop 0 = dktX0_way_0 := by decide +kernel
theorem dksX0_way_1 : cX0_way.data.toList.drop 23 = dktX0_way_1 := dk_seg dksX0_way_0 23 rfl rfl
theorem dksX0_way_2 : cX0_way.data.toList.drop 47 = dktX0_way_2 := dk_seg dksX0_way_1 24 rfl rfl
theorem dksX0_way_3 : cX0_way.data.toList.drop 69 = dktX0_way_3 := dk_seg dksX0_way_2 22 rfl rfl
theorem dksX0_way_4 : cX0_way.data.toList.drop 93 = dktX0_way_4 := dk_seg dksX0_way_3 24 rfl rfl
theorem dksX0_way_5 : cX0_way.data.toList.drop 116 = dktX0_way_5 := dk_seg dksX0_way_4 23 rfl rfl
theorem dksX0_way_6 : cX0_way.data.toList.drop 140 = dktX0_way_6 := dk_seg dksX0_way_5 24 rfl rfl
theorem dksX0_way_7 : cX0_way.data.toList.drop 164 = dktX0_way_7 := dk_seg dksX0_way_6 24 rfl rfl
theorem dksX0_way_8 : cX0_way.data.toList.drop 187 = dktX0_way_8 := dk_seg dksX0_way_7 23 rfl rfl
theorem dksX0_way_9 : cX0_way.data.toList.drop 210 = dktX0_way_9 := dk_seg dksX0_way_8 23 rfl rfl
theorem dksX0_way_10 : cX0_way.data.toList.drop 232 = dktX0_way_10 := dk_seg dksX0_way_9 22 rfl rfl
theorem dksX0_way_11 : cX0_way.data.toList.drop 254 = dktX0_way_11 := dk_seg dksX0_way_10 22 rfl rfl
theorem dksX0_way_12 : cX0_way.data.toList.drop 277 = dktX0_way_12 := dk_seg dksX0_way_11 23 rfl rfl
theorem dX0_way_0 : decode cX0_way 0 = .ok (.aload_n 0, 1) := dk_42 (dk_at dksX0_way_0 0 rfl rfl)
theorem dX0_way_1 : decode cX0_way 1 = .ok (.iload_n 1, 1) := dk_27 (dk_at dksX0_way_0 1 rfl rfl)
theorem dX0_way_2 : decode cX0_way 2 = .ok (.invokevirtual 225, 3) := dk_182 0 225 (dk_at dksX0_way_0 2 rfl rfl)
theorem dX0_way_5 : decode cX0_way 5 = .ok (.ifCond .eq 12, 3) := dk_153 0 12 (dk_at dksX0_way_0 5 rfl rfl)
theorem dX0_way_8 : decode cX0_way 8 = .ok (.aload_n 0, 1) := dk_42 (dk_at dksX0_way_0 8 rfl rfl)
theorem dX0_way_9 : decode cX0_way 9 = .ok (.iload_n 2, 1) := dk_28 (dk_at dksX0_way_0 9 rfl rfl)
theorem dX0_way_10 : decode cX0_way 10 = .ok (.iload_n 3, 1) := dk_29 (dk_at dksX0_way_0 10 rfl rfl)
theorem dX0_way_11 : decode cX0_way 11 = .ok (.invokevirtual 251, 3) := dk_182 0 251 (dk_at dksX0_way_0 11 rfl rfl)
theorem dX0_way_14 : decode cX0_way 14 = .ok (.ifCond .ne 5, 3) := dk_154 0 5 (dk_at dksX0_way_0 14 rfl rfl)
theorem dX0_way_17 : decode cX0_way 17 = .ok (.iconst (-1), 1) := dk_2 (dk_at dksX0_way_0 17 rfl rfl)
theorem dX0_way_18 : decode cX0_way 18 = .ok (.ireturn, 1) := dk_172 (dk_at dksX0_way_0 18 rfl rfl)
theorem dX0_way_19 : decode cX0_way 19 = .ok (.aload_n 0, 1) := dk_42 (dk_at dksX0_way_0 19 rfl rfl)
theorem dX0_way_20 : decode cX0_way 20 = .ok (.getfield 78, 3) := dk_180 0 78 (dk_at dksX0_way_0 20 rfl rfl)
theorem dX0_way_23 : decode cX0_way 23 = .ok (.astore 4, 2) := dk_58 4 (dk_at dksX0_way_1 0 rfl rfl)
theorem dX0_way_25 : decode cX0_way 25 = .ok (.aload 4, 2) := dk_25 4 (dk_at dksX0_way_1 2 rfl rfl)
theorem dX0_way_27 : decode cX0_way 27 = .ok (.arraylength, 1) := dk_190 (dk_at dksX0_way_1 4 rfl rfl)
theorem dX0_way_28 : decode cX0_way 28 = .ok (.istore 5, 2) := dk_54 5 (dk_at dksX0_way_1 5 rfl rfl)
theorem dX0_way_30 : decode cX0_way 30 = .ok (.iconst 0, 1) := dk_3 (dk_at dksX0_way_1 7 rfl rfl)
theorem dX0_way_31 : decode cX0_way 31 = .ok (.istore 6, 2) := dk_54 6 (dk_at dksX0_way_1 8 rfl rfl)
theorem dX0_way_33 : decode cX0_way 33 = .ok (.iload 6, 2) := dk_21 6 (dk_at dksX0_way_1 10 rfl rfl)
theorem dX0_way_35 : decode cX0_way 35 = .ok (.iload 5, 2) := dk_21 5 (dk_at dksX0_way_1 12 rfl rfl)
theorem dX0_way_37 : decode cX0_way 37 = .ok (.if_icmp .ge 38, 3) := dk_162 0 38 (dk_at dksX0_way_1 14 rfl rfl)
theorem dX0_way_40 : decode cX0_way 40 = .ok (.aload 4, 2) := dk_25 4 (dk_at dksX0_way_1 17 rfl rfl)
theorem dX0_way_42 : decode cX0_way 42 = .ok (.iload 6, 2) := dk_21 6 (dk_at dksX0_way_1 19 rfl rfl)
theorem dX0_way_44 : decode cX0_way 44 = .ok (.aaload, 1) := dk_50 (dk_at dksX0_way_1 21 rfl rfl)
theorem dX0_way_45 : decode cX0_way 45 = .ok (.astore 7, 2) := dk_58 7 (dk_at dksX0_way_1 22 rfl rfl)
theorem dX0_way_47 : decode cX0_way 47 = .ok (.iconst 0, 1) := dk_3 (dk_at dksX0_way_2 0 rfl rfl)
theorem dX0_way_48 : decode cX0_way 48 = .ok (.istore 8, 2) := dk_54 8 (dk_at dksX0_way_2 1 rfl rfl)
theorem dX0_way_50 : decode cX0_way 50 = .ok (.iload 8, 2) := dk_21 8 (dk_at dksX0_way_2 3 rfl rfl)
theorem dX0_way_52 : decode cX0_way 52 = .ok (.bipush 8, 2) := dk_16 8 (dk_at dksX0_way_2 5 rfl rfl)
theorem dX0_way_54 : decode cX0_way 54 = .ok (.if_icmp .ge 15, 3) := dk_162 0 15 (dk_at dksX0_way_2 7 rfl rfl)
theorem dX0_way_57 : decode cX0_way 57 = .ok (.aload 7, 2) := dk_25 7 (dk_at dksX0_way_2 10 rfl rfl)
theorem dX0_way_59 : decode cX0_way 59 = .ok (.iload 8, 2) := dk_21 8 (dk_at dksX0_way_2 12 rfl rfl)
theorem dX0_way_61 : decode cX0_way 61 = .ok (.iconst 0, 1) := dk_3 (dk_at dksX0_way_2 14 rfl rfl)
theorem dX0_way_62 : decode cX0_way 62 = .ok (.bastore, 1) := dk_84 (dk_at dksX0_way_2 15 rfl rfl)
theorem dX0_way_63 : decode cX0_way 63 = .ok (.iinc 8 1, 3) := dk_132 8 1 (dk_at dksX0_way_2 16 rfl rfl)
theorem dX0_way_66 : decode cX0_way 66 = .ok (.goto (-16), 3) := dk_167 255 240 (dk_at dksX0_way_2 19 rfl rfl)
theorem dX0_way_69 : decode cX0_way 69 = .ok (.iinc 6 1, 3) := dk_132 6 1 (dk_at dksX0_way_3 0 rfl rfl)
theorem dX0_way_72 : decode cX0_way 72 = .ok (.goto (-39), 3) := dk_167 255 217 (dk_at dksX0_way_3 3 rfl rfl)
theorem dX0_way_75 : decode cX0_way 75 = .ok (.aload_n 0, 1) := dk_42 (dk_at dksX0_way_3 6 rfl rfl)
theorem dX0_way_76 : decode cX0_way 76 = .ok (.getfield 78, 3) := dk_180 0 78 (dk_at dksX0_way_3 7 rfl rfl)
theorem dX0_way_79 : decode cX0_way 79 = .ok (.aload_n 0, 1) := dk_42 (dk_at dksX0_way_3 10 rfl rfl)
theorem dX0_way_80 : decode cX0_way 80 = .ok (.getfield 69, 3) := dk_180 0 69 (dk_at dksX0_way_3 11 rfl rfl)
theorem dX0_way_83 : decode cX0_way 83 = .ok (.getfield 236, 3) := dk_180 0 236 (dk_at dksX0_way_3 14 rfl rfl)
theorem dX0_way_86 : decode cX0_way 86 = .ok (.iload_n 1, 1) := dk_27 (dk_at dksX0_way_3 17 rfl rfl)
theorem dX0_way_87 : decode cX0_way 87 = .ok (.iaload, 1) := dk_46 (dk_at dksX0_way_3 18 rfl rfl)
theorem dX0_way_88 : decode cX0_way 88 = .ok (.aaload, 1) := dk_50 (dk_at dksX0_way_3 19 rfl rfl)
theorem dX0_way_89 : decode cX0_way 89 = .ok (.aload_n 0, 1) := dk_42 (dk_at dksX0_way_3 20 rfl rfl)
theorem dX0_way_90 : decode cX0_way 90 = .ok (.getfield 69, 3) := dk_180 0 69 (dk_at dksX0_way_3 21 rfl rfl)
theorem dX0_way_93 : decode cX0_way 93 = .ok (.getfield 239, 3) := dk_180 0 239 (dk_at dksX0_way_4 0 rfl rfl)
theorem dX0_way_96 : decode cX0_way 96 = .ok (.iload_n 1, 1) := dk_27 (dk_at dksX0_way_4 3 rfl rfl)
theorem dX0_way_97 : decode cX0_way 97 = .ok (.iaload, 1) := dk_46 (dk_at dksX0_way_4 4 rfl rfl)
theorem dX0_way_98 : decode cX0_way 98 = .ok (.iconst 1, 1) := dk_4 (dk_at dksX0_way_4 5 rfl rfl)
theorem dX0_way_99 : decode cX0_way 99 = .ok (.bastore, 1) := dk_84 (dk_at dksX0_way_4 6 rfl rfl)
theorem dX0_way_100 : decode cX0_way 100 = .ok (.iconst 0, 1) := dk_3 (dk_at dksX0_way_4 7 rfl rfl)
theorem dX0_way_101 : decode cX0_way 101 = .ok (.istore 4, 2) := dk_54 4 (dk_at dksX0_way_4 8 rfl rfl)
theorem dX0_way_103 : decode cX0_way 103 = .ok (.aload_n 0, 1) := dk_42 (dk_at dksX0_way_4 10 rfl rfl)
theorem dX0_way_104 : decode cX0_way 104 = .ok (.iload 4, 2) := dk_21 4 (dk_at dksX0_way_4 11 rfl rfl)
theorem dX0_way_106 : decode cX0_way 106 = .ok (.iconst 0, 1) := dk_3 (dk_at dksX0_way_4 13 rfl rfl)
theorem dX0_way_107 : decode cX0_way 107 = .ok (.bipush 40, 2) := dk_16 40 (dk_at dksX0_way_4 14 rfl rfl)
theorem dX0_way_109 : decode cX0_way 109 = .ok (.invokevirtual 279, 3) := dk_182 1 23 (dk_at dksX0_way_4 16 rfl rfl)
theorem dX0_way_112 : decode cX0_way 112 = .ok (.ifCond .eq 180, 3) := dk_153 0 180 (dk_at dksX0_way_4 19 rfl rfl)
theorem dX0_way_115 : decode cX0_way 115 = .ok (.aload_n 0, 1) := dk_42 (dk_at dksX0_way_4 22 rfl rfl)
theorem dX0_way_116 : decode cX0_way 116 = .ok (.getfield 78, 3) := dk_180 0 78 (dk_at dksX0_way_5 0 rfl rfl)
theorem dX0_way_119 : decode cX0_way 119 = .ok (.iload_n 2, 1) := dk_28 (dk_at dksX0_way_5 3 rfl rfl)
theorem dX0_way_120 : decode cX0_way 120 = .ok (.aaload, 1) := dk_50 (dk_at dksX0_way_5 4 rfl rfl)
theorem dX0_way_121 : decode cX0_way 121 = .ok (.iload_n 3, 1) := dk_29 (dk_at dksX0_way_5 5 rfl rfl)
theorem dX0_way_122 : decode cX0_way 122 = .ok (.baload, 1) := dk_51 (dk_at dksX0_way_5 6 rfl rfl)
theorem dX0_way_123 : decode cX0_way 123 = .ok (.ifCond .eq 6, 3) := dk_153 0 6 (dk_at dksX0_way_5 7 rfl rfl)
theorem dX0_way_126 : decode cX0_way 126 = .ok (.iload 4, 2) := dk_21 4 (dk_at dksX0_way_5 10 rfl rfl)
theorem dX0_way_128 : decode cX0_way 128 = .ok (.ireturn, 1) := dk_172 (dk_at dksX0_way_5 12 rfl rfl)
theorem dX0_way_129 : decode cX0_way 129 = .ok (.aload_n 0, 1) := dk_42 (dk_at dksX0_way_5 13 rfl rfl)
theorem dX0_way_130 : decode cX0_way 130 = .ok (.getfield 81, 3) := dk_180 0 81 (dk_at dksX0_way_5 14 rfl rfl)
theorem dX0_way_133 : decode cX0_way 133 = .ok (.astore 5, 2) := dk_58 5 (dk_at dksX0_way_5 17 rfl rfl)
theorem dX0_way_135 : decode cX0_way 135 = .ok (.aload 5, 2) := dk_25 5 (dk_at dksX0_way_5 19 rfl rfl)
theorem dX0_way_137 : decode cX0_way 137 = .ok (.arraylength, 1) := dk_190 (dk_at dksX0_way_5 21 rfl rfl)
theorem dX0_way_138 : decode cX0_way 138 = .ok (.istore 6, 2) := dk_54 6 (dk_at dksX0_way_5 22 rfl rfl)
theorem dX0_way_140 : decode cX0_way 140 = .ok (.iconst 0, 1) := dk_3 (dk_at dksX0_way_6 0 rfl rfl)
theorem dX0_way_141 : decode cX0_way 141 = .ok (.istore 7, 2) := dk_54 7 (dk_at dksX0_way_6 1 rfl rfl)
theorem dX0_way_143 : decode cX0_way 143 = .ok (.iload 7, 2) := dk_21 7 (dk_at dksX0_way_6 3 rfl rfl)
theorem dX0_way_145 : decode cX0_way 145 = .ok (.iload 6, 2) := dk_21 6 (dk_at dksX0_way_6 5 rfl rfl)
theorem dX0_way_147 : decode cX0_way 147 = .ok (.if_icmp .ge 38, 3) := dk_162 0 38 (dk_at dksX0_way_6 7 rfl rfl)
theorem dX0_way_150 : decode cX0_way 150 = .ok (.aload 5, 2) := dk_25 5 (dk_at dksX0_way_6 10 rfl rfl)
theorem dX0_way_152 : decode cX0_way 152 = .ok (.iload 7, 2) := dk_21 7 (dk_at dksX0_way_6 12 rfl rfl)
theorem dX0_way_154 : decode cX0_way 154 = .ok (.aaload, 1) := dk_50 (dk_at dksX0_way_6 14 rfl rfl)
theorem dX0_way_155 : decode cX0_way 155 = .ok (.astore 8, 2) := dk_58 8 (dk_at dksX0_way_6 15 rfl rfl)
theorem dX0_way_157 : decode cX0_way 157 = .ok (.iconst 0, 1) := dk_3 (dk_at dksX0_way_6 17 rfl rfl)
theorem dX0_way_158 : decode cX0_way 158 = .ok (.istore 9, 2) := dk_54 9 (dk_at dksX0_way_6 18 rfl rfl)
theorem dX0_way_160 : decode cX0_way 160 = .ok (.iload 9, 2) := dk_21 9 (dk_at dksX0_way_6 20 rfl rfl)
theorem dX0_way_162 : decode cX0_way 162 = .ok (.bipush 8, 2) := dk_16 8 (dk_at dksX0_way_6 22 rfl rfl)
theorem dX0_way_164 : decode cX0_way 164 = .ok (.if_icmp .ge 15, 3) := dk_162 0 15 (dk_at dksX0_way_7 0 rfl rfl)
theorem dX0_way_167 : decode cX0_way 167 = .ok (.aload 8, 2) := dk_25 8 (dk_at dksX0_way_7 3 rfl rfl)
theorem dX0_way_169 : decode cX0_way 169 = .ok (.iload 9, 2) := dk_21 9 (dk_at dksX0_way_7 5 rfl rfl)
theorem dX0_way_171 : decode cX0_way 171 = .ok (.iconst 0, 1) := dk_3 (dk_at dksX0_way_7 7 rfl rfl)
theorem dX0_way_172 : decode cX0_way 172 = .ok (.bastore, 1) := dk_84 (dk_at dksX0_way_7 8 rfl rfl)
theorem dX0_way_173 : decode cX0_way 173 = .ok (.iinc 9 1, 3) := dk_132 9 1 (dk_at dksX0_way_7 9 rfl rfl)
theorem dX0_way_176 : decode cX0_way 176 = .ok (.goto (-16), 3) := dk_167 255 240 (dk_at dksX0_way_7 12 rfl rfl)
theorem dX0_way_179 : decode cX0_way 179 = .ok (.iinc 7 1, 3) := dk_132 7 1 (dk_at dksX0_way_7 15 rfl rfl)
theorem dX0_way_182 : decode cX0_way 182 = .ok (.goto (-39), 3) := dk_167 255 217 (dk_at dksX0_way_7 18 rfl rfl)
theorem dX0_way_185 : decode cX0_way 185 = .ok (.aload_n 0, 1) := dk_42 (dk_at dksX0_way_7 21 rfl rfl)
theorem dX0_way_186 : decode cX0_way 186 = .ok (.aload_n 0, 1) := dk_42 (dk_at dksX0_way_7 22 rfl rfl)
theorem dX0_way_187 : decode cX0_way 187 = .ok (.getfield 69, 3) := dk_180 0 69 (dk_at dksX0_way_8 0 rfl rfl)
theorem dX0_way_190 : decode cX0_way 190 = .ok (.getfield 213, 3) := dk_180 0 213 (dk_at dksX0_way_8 3 rfl rfl)
theorem dX0_way_193 : decode cX0_way 193 = .ok (.iload 4, 2) := dk_21 4 (dk_at dksX0_way_8 6 rfl rfl)
theorem dX0_way_195 : decode cX0_way 195 = .ok (.iadd, 1) := dk_96 (dk_at dksX0_way_8 8 rfl rfl)
theorem dX0_way_196 : decode cX0_way 196 = .ok (.invokevirtual 216, 3) := dk_182 0 216 (dk_at dksX0_way_8 9 rfl rfl)
theorem dX0_way_199 : decode cX0_way 199 = .ok (.istore 5, 2) := dk_54 5 (dk_at dksX0_way_8 12 rfl rfl)
theorem dX0_way_201 : decode cX0_way 201 = .ok (.iconst 0, 1) := dk_3 (dk_at dksX0_way_8 14 rfl rfl)
theorem dX0_way_202 : decode cX0_way 202 = .ok (.istore 6, 2) := dk_54 6 (dk_at dksX0_way_8 15 rfl rfl)
theorem dX0_way_204 : decode cX0_way 204 = .ok (.iload 6, 2) := dk_21 6 (dk_at dksX0_way_8 17 rfl rfl)
theorem dX0_way_206 : decode cX0_way 206 = .ok (.aload_n 0, 1) := dk_42 (dk_at dksX0_way_8 19 rfl rfl)
theorem dX0_way_207 : decode cX0_way 207 = .ok (.getfield 31, 3) := dk_180 0 31 (dk_at dksX0_way_8 20 rfl rfl)
theorem dX0_way_210 : decode cX0_way 210 = .ok (.getfield 154, 3) := dk_180 0 154 (dk_at dksX0_way_9 0 rfl rfl)
theorem dX0_way_213 : decode cX0_way 213 = .ok (.if_icmp .ge 53, 3) := dk_162 0 53 (dk_at dksX0_way_9 3 rfl rfl)
theorem dX0_way_216 : decode cX0_way 216 = .ok (.iconst 0, 1) := dk_3 (dk_at dksX0_way_9 6 rfl rfl)
theorem dX0_way_217 : decode cX0_way 217 = .ok (.istore 7, 2) := dk_54 7 (dk_at dksX0_way_9 7 rfl rfl)
theorem dX0_way_219 : decode cX0_way 219 = .ok (.iload 7, 2) := dk_21 7 (dk_at dksX0_way_9 9 rfl rfl)
theorem dX0_way_221 : decode cX0_way 221 = .ok (.aload_n 0, 1) := dk_42 (dk_at dksX0_way_9 11 rfl rfl)
theorem dX0_way_222 : decode cX0_way 222 = .ok (.getfield 31, 3) := dk_180 0 31 (dk_at dksX0_way_9 12 rfl rfl)
theorem dX0_way_225 : decode cX0_way 225 = .ok (.getfield 172, 3) := dk_180 0 172 (dk_at dksX0_way_9 15 rfl rfl)
theorem dX0_way_228 : decode cX0_way 228 = .ok (.if_icmp .ge 32, 3) := dk_162 0 32 (dk_at dksX0_way_9 18 rfl rfl)
theorem dX0_way_231 : decode cX0_way 231 = .ok (.aload_n 0, 1) := dk_42 (dk_at dksX0_way_9 21 rfl rfl)
theorem dX0_way_232 : decode cX0_way 232 = .ok (.getfield 78, 3) := dk_180 0 78 (dk_at dksX0_way_10 0 rfl rfl)
theorem dX0_way_235 : decode cX0_way 235 = .ok (.iload 6, 2) := dk_21 6 (dk_at dksX0_way_10 3 rfl rfl)
theorem dX0_way_237 : decode cX0_way 237 = .ok (.aaload, 1) := dk_50 (dk_at dksX0_way_10 5 rfl rfl)
theorem dX0_way_238 : decode cX0_way 238 = .ok (.iload 7, 2) := dk_21 7 (dk_at dksX0_way_10 6 rfl rfl)
theorem dX0_way_240 : decode cX0_way 240 = .ok (.baload, 1) := dk_51 (dk_at dksX0_way_10 8 rfl rfl)
theorem dX0_way_241 : decode cX0_way 241 = .ok (.ifCond .eq 13, 3) := dk_153 0 13 (dk_at dksX0_way_10 9 rfl rfl)
theorem dX0_way_244 : decode cX0_way 244 = .ok (.aload_n 0, 1) := dk_42 (dk_at dksX0_way_10 12 rfl rfl)
theorem dX0_way_245 : decode cX0_way 245 = .ok (.iload 6, 2) := dk_21 6 (dk_at dksX0_way_10 13 rfl rfl)
theorem dX0_way_247 : decode cX0_way 247 = .ok (.iload 7, 2) := dk_21 7 (dk_at dksX0_way_10 15 rfl rfl)
theorem dX0_way_249 : decode cX0_way 249 = .ok (.iload 5, 2) := dk_21 5 (dk_at dksX0_way_10 17 rfl rfl)
theorem dX0_way_251 : decode cX0_way 251 = .ok (.invokevirtual 315, 3) := dk_182 1 59 (dk_at dksX0_way_10 19 rfl rfl)
theorem dX0_way_254 : decode cX0_way 254 = .ok (.iinc 7 1, 3) := dk_132 7 1 (dk_at dksX0_way_11 0 rfl rfl)
theorem dX0_way_257 : decode cX0_way 257 = .ok (.goto (-38), 3) := dk_167 255 218 (dk_at dksX0_way_11 3 rfl rfl)
theorem dX0_way_260 : decode cX0_way 260 = .ok (.iinc 6 1, 3) := dk_132 6 1 (dk_at dksX0_way_11 6 rfl rfl)
theorem dX0_way_263 : decode cX0_way 263 = .ok (.goto (-59), 3) := dk_167 255 197 (dk_at dksX0_way_11 9 rfl rfl)
theorem dX0_way_266 : decode cX0_way 266 = .ok (.aload_n 0, 1) := dk_42 (dk_at dksX0_way_11 12 rfl rfl)
theorem dX0_way_267 : decode cX0_way 267 = .ok (.getfield 78, 3) := dk_180 0 78 (dk_at dksX0_way_11 13 rfl rfl)
theorem dX0_way_270 : decode cX0_way 270 = .ok (.astore 6, 2) := dk_58 6 (dk_at dksX0_way_11 16 rfl rfl)
theorem dX0_way_272 : decode cX0_way 272 = .ok (.aload_n 0, 1) := dk_42 (dk_at dksX0_way_11 18 rfl rfl)
theorem dX0_way_273 : decode cX0_way 273 = .ok (.aload_n 0, 1) := dk_42 (dk_at dksX0_way_11 19 rfl rfl)
theorem dX0_way_274 : decode cX0_way 274 = .ok (.getfield 81, 3) := dk_180 0 81 (dk_at dksX0_way_11 20 rfl rfl)
theorem dX0_way_277 : decode cX0_way 277 = .ok (.putfield 78, 3) := dk_181 0 78 (dk_at dksX0_way_12 0 rfl rfl)
theorem dX0_way_280 : decode cX0_way 280 = .ok (.aload_n 0, 1) := dk_42 (dk_at dksX0_way_12 3 rfl rfl)
theorem dX0_way_281 : decode cX0_way 281 = .ok (.aload 6, 2) := dk_25 6 (dk_at dksX0_way_12 4 rfl rfl)
theorem dX0_way_283 : decode cX0_way 283 = .ok (.putfield 81, 3) := dk_181 0 81 (dk_at dksX0_way_12 6 rfl rfl)
theorem dX0_way_286 : decode cX0_way 286 = .ok (.iinc 4 1, 3) := dk_132 4 1 (dk_at dksX0_way_12 9 rfl rfl)
theorem dX0_way_289 : decode cX0_way 289 = .ok (.goto (-186), 3) := dk_167 255 70 (dk_at dksX0_way_12 12 rfl rfl)
theorem dX0_way_292 : decode cX0_way 292 = .ok (.iconst (-1), 1) := dk_2 (dk_at dksX0_way_12 15 rfl rfl)
theorem dX0_way_293 : decode cX0_way 293 = .ok (.ireturn, 1) := dk_172 (dk_at dksX0_way_12 16 rfl rfl)
abbrev cX0_goesOn : ByteArray := prog_1_method_38_code
def yX0_goesOn : MethodName := ⟨RX0, "goesOn", "(III)V"⟩
def dkwX0_goesOn_6 : List UInt8 := [42, 42, 180, 0, 31, 180, 1, 53, 21, 4, 46, 28, 182, 1, 46, 132, 4, 1, 167, 255, 166, 177]
abbrev dktX0_goesOn_6 : List UInt8 := dkwX0_goesOn_6 ++ []
def dkwX0_goesOn_5 : List UInt8 := [180, 1, 56, 21, 4, 46, 28, 182, 1, 46, 42, 180, 0, 31, 180, 1, 56, 21, 4, 46, 27, 160, 0, 18]
abbrev dktX0_goesOn_5 : List UInt8 := dkwX0_goesOn_5 ++ dktX0_goesOn_6
def dkwX0_goesOn_4 : List UInt8 := [167, 0, 61, 42, 180, 0, 31, 180, 1, 53, 21, 4, 46, 27, 160, 0, 18, 42, 42, 180, 0, 31]
abbrev dktX0_goesOn_4 : List UInt8 := dkwX0_goesOn_4 ++ dktX0_goesOn_5
def dkwX0_goesOn_3 : List UInt8 := [180, 0, 31, 180, 0, 210, 162, 0, 84, 42, 180, 0, 31, 180, 1, 50, 21, 4, 46, 28, 159, 0, 6]
abbrev dktX0_goesOn_3 : List UInt8 := dkwX0_goesOn_3 ++ dktX0_goesOn_4
def dkwX0_goesOn_2 : List UInt8 := [182, 1, 5, 153, 0, 15, 42, 27, 4, 100, 42, 28, 182, 1, 8, 182, 1, 46, 3, 54, 4, 21, 4, 42]
abbrev dktX0_goesOn_2 : List UInt8 := dkwX0_goesOn_2 ++ dktX0_goesOn_3
def dkwX0_goesOn_1 : List UInt8 := [29, 182, 1, 5, 153, 0, 15, 42, 27, 4, 96, 42, 28, 182, 1, 8, 182, 1, 46, 42, 27, 4, 100, 29]
abbrev dktX0_goesOn_1 : List UInt8 := dkwX0_goesOn_1 ++ dktX0_goesOn_2
def dkwX0_goesOn_0 : List UInt8 := [42, 27, 28, 182, 1, 46, 42, 27, 28, 4, 100, 182, 1, 46, 42, 27, 28, 4, 96, 182, 1, 46, 42, 27]
abbrev dktX0_goesOn_0 : List UInt8 := dkwX0_goesOn_0 ++ dktX0_goesOn_1
theorem dksX0_goesOn_0 : cX0_goesOn.data.toList.drop 0 = dktX0_goesOn_0 := by decide +kernel
theorem dksX0_goesOn_1 : cX0_goesOn.data.toList.drop 24 = dktX0_goesOn_1 := dk_seg dksX0_goesOn_0 24 rfl rfl
theorem dksX0_goesOn_2 : cX0_goesOn.data.toList.drop 48 = dktX0_goesOn_2 := dk_seg dksX0_goesOn_1 24 rfl rfl
theorem dksX0_goesOn_3 : cX0_goesOn.data.toList.drop 72 = dktX0_goesOn_3 := dk_seg dksX0_goesOn_2 24 rfl rfl
theorem dksX0_goesOn_4 : cX0_goesOn.data.toList.drop 95 = dktX0_goesOn_4 := dk_seg dksX0_goesOn_3 23 rfl rfl
theorem dksX0_goesOn_5 : cX0_goesOn.data.toList.drop 117 = dktX0_goesOn_5 := dk_seg dksX0_goesOn_4 22 rfl rfl
theorem dksX0_goesOn_6 : cX0_goesOn.data.toList.drop 141 = dktX0_goesOn_6 := dk_seg dksX0_goesOn_5 24 rfl rfl
theorem dX0_goesOn_0 : decode cX0_goesOn 0 = .ok (.aload_n 0, 1) := dk_42 (dk_at dksX0_goesOn_0 0 rfl rfl)
theorem dX0_goesOn_1 : decode cX0_goesOn 1 = .ok (.iload_n 1, 1) := dk_27 (dk_at dksX0_goesOn_0 1 rfl rfl)
theorem dX0_goesOn_2 : decode cX0_goesOn 2 = .ok (.iload_n 2, 1) := dk_28 (dk_at dksX0_goesOn_0 2 rfl rfl)
theorem dX0_goesOn_3 : decode cX0_goesOn 3 = .ok (.invokevirtual 302, 3) := dk_182 1 46 (dk_at dksX0_goesOn_0 3 rfl rfl)
theorem dX0_goesOn_6 : decode cX0_goesOn 6 = .ok (.aload_n 0, 1) := dk_42 (dk_at dksX0_goesOn_0 6 rfl rfl)
theorem dX0_goesOn_7 : decode cX0_goesOn 7 = .ok (.iload_n 1, 1) := dk_27 (dk_at dksX0_goesOn_0 7 rfl rfl)
theorem dX0_goesOn_8 : decode cX0_goesOn 8 = .ok (.iload_n 2, 1) := dk_28 (dk_at dksX0_goesOn_0 8 rfl rfl)
theorem dX0_goesOn_9 : decode cX0_goesOn 9 = .ok (.iconst 1, 1) := dk_4 (dk_at dksX0_goesOn_0 9 rfl rfl)
theorem dX0_goesOn_10 : decode cX0_goesOn 10 = .ok (.isub, 1) := dk_100 (dk_at dksX0_goesOn_0 10 rfl rfl)
theorem dX0_goesOn_11 : decode cX0_goesOn 11 = .ok (.invokevirtual 302, 3) := dk_182 1 46 (dk_at dksX0_goesOn_0 11 rfl rfl)
theorem dX0_goesOn_14 : decode cX0_goesOn 14 = .ok (.aload_n 0, 1) := dk_42 (dk_at dksX0_goesOn_0 14 rfl rfl)
theorem dX0_goesOn_15 : decode cX0_goesOn 15 = .ok (.iload_n 1, 1) := dk_27 (dk_at dksX0_goesOn_0 15 rfl rfl)
theorem dX0_goesOn_16 : decode cX0_goesOn 16 = .ok (.iload_n 2, 1) := dk_28 (dk_at dksX0_goesOn_0 16 rfl rfl)
theorem dX0_goesOn_17 : decode cX0_goesOn 17 = .ok (.iconst 1, 1) := dk_4 (dk_at dksX0_goesOn_0 17 rfl rfl)
theorem dX0_goesOn_18 : decode cX0_goesOn 18 = .ok (.iadd, 1) := dk_96 (dk_at dksX0_goesOn_0 18 rfl rfl)
theorem dX0_goesOn_19 : decode cX0_goesOn 19 = .ok (.invokevirtual 302, 3) := dk_182 1 46 (dk_at dksX0_goesOn_0 19 rfl rfl)
theorem dX0_goesOn_22 : decode cX0_goesOn 22 = .ok (.aload_n 0, 1) := dk_42 (dk_at dksX0_goesOn_0 22 rfl rfl)
theorem dX0_goesOn_23 : decode cX0_goesOn 23 = .ok (.iload_n 1, 1) := dk_27 (dk_at dksX0_goesOn_0 23 rfl rfl)
theorem dX0_goesOn_24 : decode cX0_goesOn 24 = .ok (.iload_n 3, 1) := dk_29 (dk_at dksX0_goesOn_1 0 rfl rfl)
theorem dX0_goesOn_25 : decode cX0_goesOn 25 = .ok (.invokevirtual 261, 3) := dk_182 1 5 (dk_at dksX0_goesOn_1 1 rfl rfl)
theorem dX0_goesOn_28 : decode cX0_goesOn 28 = .ok (.ifCond .eq 15, 3) := dk_153 0 15 (dk_at dksX0_goesOn_1 4 rfl rfl)
theorem dX0_goesOn_31 : decode cX0_goesOn 31 = .ok (.aload_n 0, 1) := dk_42 (dk_at dksX0_goesOn_1 7 rfl rfl)
theorem dX0_goesOn_32 : decode cX0_goesOn 32 = .ok (.iload_n 1, 1) := dk_27 (dk_at dksX0_goesOn_1 8 rfl rfl)
theorem dX0_goesOn_33 : decode cX0_goesOn 33 = .ok (.iconst 1, 1) := dk_4 (dk_at dksX0_goesOn_1 9 rfl rfl)
theorem dX0_goesOn_34 : decode cX0_goesOn 34 = .ok (.iadd, 1) := dk_96 (dk_at dksX0_goesOn_1 10 rfl rfl)
theorem dX0_goesOn_35 : decode cX0_goesOn 35 = .ok (.aload_n 0, 1) := dk_42 (dk_at dksX0_goesOn_1 11 rfl rfl)
theorem dX0_goesOn_36 : decode cX0_goesOn 36 = .ok (.iload_n 2, 1) := dk_28 (dk_at dksX0_goesOn_1 12 rfl rfl)
theorem dX0_goesOn_37 : decode cX0_goesOn 37 = .ok (.invokevirtual 264, 3) := dk_182 1 8 (dk_at dksX0_goesOn_1 13 rfl rfl)
theorem dX0_goesOn_40 : decode cX0_goesOn 40 = .ok (.invokevirtual 302, 3) := dk_182 1 46 (dk_at dksX0_goesOn_1 16 rfl rfl)
theorem dX0_goesOn_43 : decode cX0_goesOn 43 = .ok (.aload_n 0, 1) := dk_42 (dk_at dksX0_goesOn_1 19 rfl rfl)
theorem dX0_goesOn_44 : decode cX0_goesOn 44 = .ok (.iload_n 1, 1) := dk_27 (dk_at dksX0_goesOn_1 20 rfl rfl)
theorem dX0_goesOn_45 : decode cX0_goesOn 45 = .ok (.iconst 1, 1) := dk_4 (dk_at dksX0_goesOn_1 21 rfl rfl)
theorem dX0_goesOn_46 : decode cX0_goesOn 46 = .ok (.isub, 1) := dk_100 (dk_at dksX0_goesOn_1 22 rfl rfl)
theorem dX0_goesOn_47 : decode cX0_goesOn 47 = .ok (.iload_n 3, 1) := dk_29 (dk_at dksX0_goesOn_1 23 rfl rfl)
theorem dX0_goesOn_48 : decode cX0_goesOn 48 = .ok (.invokevirtual 261, 3) := dk_182 1 5 (dk_at dksX0_goesOn_2 0 rfl rfl)
theorem dX0_goesOn_51 : decode cX0_goesOn 51 = .ok (.ifCond .eq 15, 3) := dk_153 0 15 (dk_at dksX0_goesOn_2 3 rfl rfl)
theorem dX0_goesOn_54 : decode cX0_goesOn 54 = .ok (.aload_n 0, 1) := dk_42 (dk_at dksX0_goesOn_2 6 rfl rfl)
theorem dX0_goesOn_55 : decode cX0_goesOn 55 = .ok (.iload_n 1, 1) := dk_27 (dk_at dksX0_goesOn_2 7 rfl rfl)
theorem dX0_goesOn_56 : decode cX0_goesOn 56 = .ok (.iconst 1, 1) := dk_4 (dk_at dksX0_goesOn_2 8 rfl rfl)
theorem dX0_goesOn_57 : decode cX0_goesOn 57 = .ok (.isub, 1) := dk_100 (dk_at dksX0_goesOn_2 9 rfl rfl)
theorem dX0_goesOn_58 : decode cX0_goesOn 58 = .ok (.aload_n 0, 1) := dk_42 (dk_at dksX0_goesOn_2 10 rfl rfl)
theorem dX0_goesOn_59 : decode cX0_goesOn 59 = .ok (.iload_n 2, 1) := dk_28 (dk_at dksX0_goesOn_2 11 rfl rfl)
theorem dX0_goesOn_60 : decode cX0_goesOn 60 = .ok (.invokevirtual 264, 3) := dk_182 1 8 (dk_at dksX0_goesOn_2 12 rfl rfl)
theorem dX0_goesOn_63 : decode cX0_goesOn 63 = .ok (.invokevirtual 302, 3) := dk_182 1 46 (dk_at dksX0_goesOn_2 15 rfl rfl)
theorem dX0_goesOn_66 : decode cX0_goesOn 66 = .ok (.iconst 0, 1) := dk_3 (dk_at dksX0_goesOn_2 18 rfl rfl)
theorem dX0_goesOn_67 : decode cX0_goesOn 67 = .ok (.istore 4, 2) := dk_54 4 (dk_at dksX0_goesOn_2 19 rfl rfl)
theorem dX0_goesOn_69 : decode cX0_goesOn 69 = .ok (.iload 4, 2) := dk_21 4 (dk_at dksX0_goesOn_2 21 rfl rfl)
theorem dX0_goesOn_71 : decode cX0_goesOn 71 = .ok (.aload_n 0, 1) := dk_42 (dk_at dksX0_goesOn_2 23 rfl rfl)
theorem dX0_goesOn_72 : decode cX0_goesOn 72 = .ok (.getfield 31, 3) := dk_180 0 31 (dk_at dksX0_goesOn_3 0 rfl rfl)
theorem dX0_goesOn_75 : decode cX0_goesOn 75 = .ok (.getfield 210, 3) := dk_180 0 210 (dk_at dksX0_goesOn_3 3 rfl rfl)
theorem dX0_goesOn_78 : decode cX0_goesOn 78 = .ok (.if_icmp .ge 84, 3) := dk_162 0 84 (dk_at dksX0_goesOn_3 6 rfl rfl)
theorem dX0_goesOn_81 : decode cX0_goesOn 81 = .ok (.aload_n 0, 1) := dk_42 (dk_at dksX0_goesOn_3 9 rfl rfl)
theorem dX0_goesOn_82 : decode cX0_goesOn 82 = .ok (.getfield 31, 3) := dk_180 0 31 (dk_at dksX0_goesOn_3 10 rfl rfl)
theorem dX0_goesOn_85 : decode cX0_goesOn 85 = .ok (.getfield 306, 3) := dk_180 1 50 (dk_at dksX0_goesOn_3 13 rfl rfl)
theorem dX0_goesOn_88 : decode cX0_goesOn 88 = .ok (.iload 4, 2) := dk_21 4 (dk_at dksX0_goesOn_3 16 rfl rfl)
theorem dX0_goesOn_90 : decode cX0_goesOn 90 = .ok (.iaload, 1) := dk_46 (dk_at dksX0_goesOn_3 18 rfl rfl)
theorem dX0_goesOn_91 : decode cX0_goesOn 91 = .ok (.iload_n 2, 1) := dk_28 (dk_at dksX0_goesOn_3 19 rfl rfl)
theorem dX0_goesOn_92 : decode cX0_goesOn 92 = .ok (.if_icmp .eq 6, 3) := dk_159 0 6 (dk_at dksX0_goesOn_3 20 rfl rfl)
theorem dX0_goesOn_95 : decode cX0_goesOn 95 = .ok (.goto 61, 3) := dk_167 0 61 (dk_at dksX0_goesOn_4 0 rfl rfl)
theorem dX0_goesOn_98 : decode cX0_goesOn 98 = .ok (.aload_n 0, 1) := dk_42 (dk_at dksX0_goesOn_4 3 rfl rfl)
theorem dX0_goesOn_99 : decode cX0_goesOn 99 = .ok (.getfield 31, 3) := dk_180 0 31 (dk_at dksX0_goesOn_4 4 rfl rfl)
theorem dX0_goesOn_102 : decode cX0_goesOn 102 = .ok (.getfield 309, 3) := dk_180 1 53 (dk_at dksX0_goesOn_4 7 rfl rfl)
theorem dX0_goesOn_105 : decode cX0_goesOn 105 = .ok (.iload 4, 2) := dk_21 4 (dk_at dksX0_goesOn_4 10 rfl rfl)
theorem dX0_goesOn_107 : decode cX0_goesOn 107 = .ok (.iaload, 1) := dk_46 (dk_at dksX0_goesOn_4 12 rfl rfl)
theorem dX0_goesOn_108 : decode cX0_goesOn 108 = .ok (.iload_n 1, 1) := dk_27 (dk_at dksX0_goesOn_4 13 rfl rfl)
theorem dX0_goesOn_109 : decode cX0_goesOn 109 = .ok (.if_icmp .ne 18, 3) := dk_160 0 18 (dk_at dksX0_goesOn_4 14 rfl rfl)
theorem dX0_goesOn_112 : decode cX0_goesOn 112 = .ok (.aload_n 0, 1) := dk_42 (dk_at dksX0_goesOn_4 17 rfl rfl)
theorem dX0_goesOn_113 : decode cX0_goesOn 113 = .ok (.aload_n 0, 1) := dk_42 (dk_at dksX0_goesOn_4 18 rfl rfl)
theorem dX0_goesOn_114 : decode cX0_goesOn 114 = .ok (.getfield 31, 3) := dk_180 0 31 (dk_at dksX0_goesOn_4 19 rfl rfl)
theorem dX0_goesOn_117 : decode cX0_goesOn 117 = .ok (.getfield 312, 3) := dk_180 1 56 (dk_at dksX0_goesOn_5 0 rfl rfl)
theorem dX0_goesOn_120 : decode cX0_goesOn 120 = .ok (.iload 4, 2) := dk_21 4 (dk_at dksX0_goesOn_5 3 rfl rfl)
theorem dX0_goesOn_122 : decode cX0_goesOn 122 = .ok (.iaload, 1) := dk_46 (dk_at dksX0_goesOn_5 5 rfl rfl)
theorem dX0_goesOn_123 : decode cX0_goesOn 123 = .ok (.iload_n 2, 1) := dk_28 (dk_at dksX0_goesOn_5 6 rfl rfl)
theorem dX0_goesOn_124 : decode cX0_goesOn 124 = .ok (.invokevirtual 302, 3) := dk_182 1 46 (dk_at dksX0_goesOn_5 7 rfl rfl)
theorem dX0_goesOn_127 : decode cX0_goesOn 127 = .ok (.aload_n 0, 1) := dk_42 (dk_at dksX0_goesOn_5 10 rfl rfl)
theorem dX0_goesOn_128 : decode cX0_goesOn 128 = .ok (.getfield 31, 3) := dk_180 0 31 (dk_at dksX0_goesOn_5 11 rfl rfl)
theorem dX0_goesOn_131 : decode cX0_goesOn 131 = .ok (.getfield 312, 3) := dk_180 1 56 (dk_at dksX0_goesOn_5 14 rfl rfl)
theorem dX0_goesOn_134 : decode cX0_goesOn 134 = .ok (.iload 4, 2) := dk_21 4 (dk_at dksX0_goesOn_5 17 rfl rfl)
theorem dX0_goesOn_136 : decode cX0_goesOn 136 = .ok (.iaload, 1) := dk_46 (dk_at dksX0_goesOn_5 19 rfl rfl)
theorem dX0_goesOn_137 : decode cX0_goesOn 137 = .ok (.iload_n 1, 1) := dk_27 (dk_at dksX0_goesOn_5 20 rfl rfl)
theorem dX0_goesOn_138 : decode cX0_goesOn 138 = .ok (.if_icmp .ne 18, 3) := dk_160 0 18 (dk_at dksX0_goesOn_5 21 rfl rfl)
theorem dX0_goesOn_141 : decode cX0_goesOn 141 = .ok (.aload_n 0, 1) := dk_42 (dk_at dksX0_goesOn_6 0 rfl rfl)
theorem dX0_goesOn_142 : decode cX0_goesOn 142 = .ok (.aload_n 0, 1) := dk_42 (dk_at dksX0_goesOn_6 1 rfl rfl)
theorem dX0_goesOn_143 : decode cX0_goesOn 143 = .ok (.getfield 31, 3) := dk_180 0 31 (dk_at dksX0_goesOn_6 2 rfl rfl)
theorem dX0_goesOn_146 : decode cX0_goesOn 146 = .ok (.getfield 309, 3) := dk_180 1 53 (dk_at dksX0_goesOn_6 5 rfl rfl)
theorem dX0_goesOn_149 : decode cX0_goesOn 149 = .ok (.iload 4, 2) := dk_21 4 (dk_at dksX0_goesOn_6 8 rfl rfl)
theorem dX0_goesOn_151 : decode cX0_goesOn 151 = .ok (.iaload, 1) := dk_46 (dk_at dksX0_goesOn_6 10 rfl rfl)
theorem dX0_goesOn_152 : decode cX0_goesOn 152 = .ok (.iload_n 2, 1) := dk_28 (dk_at dksX0_goesOn_6 11 rfl rfl)
theorem dX0_goesOn_153 : decode cX0_goesOn 153 = .ok (.invokevirtual 302, 3) := dk_182 1 46 (dk_at dksX0_goesOn_6 12 rfl rfl)
theorem dX0_goesOn_156 : decode cX0_goesOn 156 = .ok (.iinc 4 1, 3) := dk_132 4 1 (dk_at dksX0_goesOn_6 15 rfl rfl)
theorem dX0_goesOn_159 : decode cX0_goesOn 159 = .ok (.goto (-90), 3) := dk_167 255 166 (dk_at dksX0_goesOn_6 18 rfl rfl)
theorem dX0_goesOn_162 : decode cX0_goesOn 162 = .ok (.return_, 1) := dk_177 (dk_at dksX0_goesOn_6 21 rfl rfl)
abbrev cX0_comes : ByteArray := prog_1_method_37_code
def yX0_comes : MethodName := ⟨RX0, "comes", "(II)V"⟩
def dkwX0_comes_1 : List UInt8 := [154, 0, 12, 42, 180, 0, 81, 27, 50, 28, 4, 84, 177]
abbrev dktX0_comes_1 : List UInt8 := dkwX0_comes_1 ++ []
def dkwX0_comes_0 : List UInt8 := [42, 27, 28, 182, 0, 251, 153, 0, 28, 42, 180, 0, 69, 180, 0, 202, 27, 46, 28, 184, 0, 254]
abbrev dktX0_comes_0 : List UInt8 := dkwX0_comes_0 ++ dktX0_comes_1
theorem dksX0_comes_0 : cX0_comes.data.toList.drop 0 = dktX0_comes_0 := by decide +kernel
theorem dksX0_comes_1 : cX0_comes.data.toList.drop 22 = dktX0_comes_1 := dk_seg dksX0_comes_0 22 rfl rfl
theorem dX0_comes_0 : decode cX0_comes 0 = .ok (.aload_n 0, 1) := dk_42 (dk_at dksX0_comes_0 0 rfl rfl)
theorem dX0_comes_1 : decode cX0_comes 1 = .ok (.iload_n 1, 1) := dk_27 (dk_at dksX0_comes_0 1 rfl rfl)
theorem dX0_comes_2 : decode cX0_comes 2 = .ok (.iload_n 2, 1) := dk_28 (dk_at dksX0_comes_0 2 rfl rfl)
theorem dX0_comes_3 : decode cX0_comes 3 = .ok (.invokevirtual 251, 3) := dk_182 0 251 (dk_at dksX0_comes_0 3 rfl rfl)
theorem dX0_comes_6 : decode cX0_comes 6 = .ok (.ifCond .eq 28, 3) := dk_153 0 28 (dk_at dksX0_comes_0 6 rfl rfl)
theorem dX0_comes_9 : decode cX0_comes 9 = .ok (.aload_n 0, 1) := dk_42 (dk_at dksX0_comes_0 9 rfl rfl)
theorem dX0_comes_10 : decode cX0_comes 10 = .ok (.getfield 69, 3) := dk_180 0 69 (dk_at dksX0_comes_0 10 rfl rfl)
theorem dX0_comes_13 : decode cX0_comes 13 = .ok (.getfield 202, 3) := dk_180 0 202 (dk_at dksX0_comes_0 13 rfl rfl)
theorem dX0_comes_16 : decode cX0_comes 16 = .ok (.iload_n 1, 1) := dk_27 (dk_at dksX0_comes_0 16 rfl rfl)
theorem dX0_comes_17 : decode cX0_comes 17 = .ok (.iaload, 1) := dk_46 (dk_at dksX0_comes_0 17 rfl rfl)
theorem dX0_comes_18 : decode cX0_comes 18 = .ok (.iload_n 2, 1) := dk_28 (dk_at dksX0_comes_0 18 rfl rfl)
theorem dX0_comes_19 : decode cX0_comes 19 = .ok (.invokestatic 254, 3) := dk_184 0 254 (dk_at dksX0_comes_0 19 rfl rfl)
theorem dX0_comes_22 : decode cX0_comes 22 = .ok (.ifCond .ne 12, 3) := dk_154 0 12 (dk_at dksX0_comes_1 0 rfl rfl)
theorem dX0_comes_25 : decode cX0_comes 25 = .ok (.aload_n 0, 1) := dk_42 (dk_at dksX0_comes_1 3 rfl rfl)
theorem dX0_comes_26 : decode cX0_comes 26 = .ok (.getfield 81, 3) := dk_180 0 81 (dk_at dksX0_comes_1 4 rfl rfl)
theorem dX0_comes_29 : decode cX0_comes 29 = .ok (.iload_n 1, 1) := dk_27 (dk_at dksX0_comes_1 7 rfl rfl)
theorem dX0_comes_30 : decode cX0_comes 30 = .ok (.aaload, 1) := dk_50 (dk_at dksX0_comes_1 8 rfl rfl)
theorem dX0_comes_31 : decode cX0_comes 31 = .ok (.iload_n 2, 1) := dk_28 (dk_at dksX0_comes_1 9 rfl rfl)
theorem dX0_comes_32 : decode cX0_comes 32 = .ok (.iconst 1, 1) := dk_4 (dk_at dksX0_comes_1 10 rfl rfl)
theorem dX0_comes_33 : decode cX0_comes 33 = .ok (.bastore, 1) := dk_84 (dk_at dksX0_comes_1 11 rfl rfl)
theorem dX0_comes_34 : decode cX0_comes 34 = .ok (.return_, 1) := dk_177 (dk_at dksX0_comes_1 12 rfl rfl)
abbrev cX0_see : ByteArray := prog_1_method_42_code
def yX0_see : MethodName := ⟨RX0, "see", "()I"⟩
def dkwX0_see_6 : List UInt8 := [167, 255, 217, 42, 180, 0, 148, 172]
abbrev dktX0_see_6 : List UInt8 := dkwX0_see_6 ++ []
def dkwX0_see_5 : List UInt8 := [182, 1, 63, 79, 42, 180, 0, 87, 29, 42, 5, 29, 104, 4, 96, 182, 1, 63, 79, 132, 3, 1]
abbrev dktX0_see_5 : List UInt8 := dkwX0_see_5 ++ dktX0_see_6
def dkwX0_see_4 : List UInt8 := [108, 181, 0, 148, 3, 62, 29, 42, 180, 0, 148, 162, 0, 37, 42, 180, 0, 84, 29, 42, 5, 29, 104]
abbrev dktX0_see_4 : List UInt8 := dkwX0_see_4 ++ dktX0_see_5
def dkwX0_see_3 : List UInt8 := [167, 0, 4, 3, 61, 132, 3, 2, 167, 255, 209, 28, 154, 0, 9, 42, 4, 182, 0, 115, 172, 42, 27, 5]
abbrev dktX0_see_3 : List UInt8 := dkwX0_see_3 ++ dktX0_see_4
def dkwX0_see_2 : List UInt8 := [182, 0, 225, 153, 0, 24, 42, 29, 4, 96, 182, 1, 63, 42, 180, 0, 31, 180, 0, 172, 162, 0, 7, 4]
abbrev dktX0_see_2 : List UInt8 := dkwX0_see_2 ++ dktX0_see_3
def dkwX0_see_1 : List UInt8 := [167, 0, 4, 3, 61, 3, 62, 29, 27, 162, 0, 48, 28, 153, 0, 44, 42, 42, 29, 182, 1, 63]
abbrev dktX0_see_1 : List UInt8 := dkwX0_see_1 ++ dktX0_see_2
def dkwX0_see_0 : List UInt8 := [42, 182, 0, 126, 60, 27, 158, 0, 19, 27, 5, 112, 154, 0, 13, 27, 16, 32, 163, 0, 7, 4]
abbrev dktX0_see_0 : List UInt8 := dkwX0_see_0 ++ dktX0_see_1
theorem dksX0_see_0 : cX0_see.data.toList.drop 0 = dktX0_see_0 := by decide +kernel
theorem dksX0_see_1 : cX0_see.data.toList.drop 22 = dktX0_see_1 := dk_seg dksX0_see_0 22 rfl rfl
theorem dksX0_see_2 : cX0_see.data.toList.drop 44 = dktX0_see_2 := dk_seg dksX0_see_1 22 rfl rfl
theorem dksX0_see_3 : cX0_see.data.toList.drop 68 = dktX0_see_3 := dk_seg dksX0_see_2 24 rfl rfl
theorem dksX0_see_4 : cX0_see.data.toList.drop 92 = dktX0_see_4 := dk_seg dksX0_see_3 24 rfl rfl
theorem dksX0_see_5 : cX0_see.data.toList.drop 115 = dktX0_see_5 := dk_seg dksX0_see_4 23 rfl rfl
theorem dksX0_see_6 : cX0_see.data.toList.drop 137 = dktX0_see_6 := dk_seg dksX0_see_5 22 rfl rfl
theorem dX0_see_0 : decode cX0_see 0 = .ok (.aload_n 0, 1) := dk_42 (dk_at dksX0_see_0 0 rfl rfl)
theorem dX0_see_1 : decode cX0_see 1 = .ok (.invokevirtual 126, 3) := dk_182 0 126 (dk_at dksX0_see_0 1 rfl rfl)
theorem dX0_see_4 : decode cX0_see 4 = .ok (.istore_n 1, 1) := dk_60 (dk_at dksX0_see_0 4 rfl rfl)
theorem dX0_see_5 : decode cX0_see 5 = .ok (.iload_n 1, 1) := dk_27 (dk_at dksX0_see_0 5 rfl rfl)
theorem dX0_see_6 : decode cX0_see 6 = .ok (.ifCond .le 19, 3) := dk_158 0 19 (dk_at dksX0_see_0 6 rfl rfl)
theorem dX0_see_9 : decode cX0_see 9 = .ok (.iload_n 1, 1) := dk_27 (dk_at dksX0_see_0 9 rfl rfl)
theorem dX0_see_10 : decode cX0_see 10 = .ok (.iconst 2, 1) := dk_5 (dk_at dksX0_see_0 10 rfl rfl)
theorem dX0_see_11 : decode cX0_see 11 = .ok (.irem, 1) := dk_112 (dk_at dksX0_see_0 11 rfl rfl)
theorem dX0_see_12 : decode cX0_see 12 = .ok (.ifCond .ne 13, 3) := dk_154 0 13 (dk_at dksX0_see_0 12 rfl rfl)
theorem dX0_see_15 : decode cX0_see 15 = .ok (.iload_n 1, 1) := dk_27 (dk_at dksX0_see_0 15 rfl rfl)
theorem dX0_see_16 : decode cX0_see 16 = .ok (.bipush 32, 2) := dk_16 32 (dk_at dksX0_see_0 16 rfl rfl)
theorem dX0_see_18 : decode cX0_see 18 = .ok (.if_icmp .gt 7, 3) := dk_163 0 7 (dk_at dksX0_see_0 18 rfl rfl)
theorem dX0_see_21 : decode cX0_see 21 = .ok (.iconst 1, 1) := dk_4 (dk_at dksX0_see_0 21 rfl rfl)
theorem dX0_see_22 : decode cX0_see 22 = .ok (.goto 4, 3) := dk_167 0 4 (dk_at dksX0_see_1 0 rfl rfl)
theorem dX0_see_25 : decode cX0_see 25 = .ok (.iconst 0, 1) := dk_3 (dk_at dksX0_see_1 3 rfl rfl)
theorem dX0_see_26 : decode cX0_see 26 = .ok (.istore_n 2, 1) := dk_61 (dk_at dksX0_see_1 4 rfl rfl)
theorem dX0_see_27 : decode cX0_see 27 = .ok (.iconst 0, 1) := dk_3 (dk_at dksX0_see_1 5 rfl rfl)
theorem dX0_see_28 : decode cX0_see 28 = .ok (.istore_n 3, 1) := dk_62 (dk_at dksX0_see_1 6 rfl rfl)
theorem dX0_see_29 : decode cX0_see 29 = .ok (.iload_n 3, 1) := dk_29 (dk_at dksX0_see_1 7 rfl rfl)
theorem dX0_see_30 : decode cX0_see 30 = .ok (.iload_n 1, 1) := dk_27 (dk_at dksX0_see_1 8 rfl rfl)
theorem dX0_see_31 : decode cX0_see 31 = .ok (.if_icmp .ge 48, 3) := dk_162 0 48 (dk_at dksX0_see_1 9 rfl rfl)
theorem dX0_see_34 : decode cX0_see 34 = .ok (.iload_n 2, 1) := dk_28 (dk_at dksX0_see_1 12 rfl rfl)
theorem dX0_see_35 : decode cX0_see 35 = .ok (.ifCond .eq 44, 3) := dk_153 0 44 (dk_at dksX0_see_1 13 rfl rfl)
theorem dX0_see_38 : decode cX0_see 38 = .ok (.aload_n 0, 1) := dk_42 (dk_at dksX0_see_1 16 rfl rfl)
theorem dX0_see_39 : decode cX0_see 39 = .ok (.aload_n 0, 1) := dk_42 (dk_at dksX0_see_1 17 rfl rfl)
theorem dX0_see_40 : decode cX0_see 40 = .ok (.iload_n 3, 1) := dk_29 (dk_at dksX0_see_1 18 rfl rfl)
theorem dX0_see_41 : decode cX0_see 41 = .ok (.invokevirtual 319, 3) := dk_182 1 63 (dk_at dksX0_see_1 19 rfl rfl)
theorem dX0_see_44 : decode cX0_see 44 = .ok (.invokevirtual 225, 3) := dk_182 0 225 (dk_at dksX0_see_2 0 rfl rfl)
theorem dX0_see_47 : decode cX0_see 47 = .ok (.ifCond .eq 24, 3) := dk_153 0 24 (dk_at dksX0_see_2 3 rfl rfl)
theorem dX0_see_50 : decode cX0_see 50 = .ok (.aload_n 0, 1) := dk_42 (dk_at dksX0_see_2 6 rfl rfl)
theorem dX0_see_51 : decode cX0_see 51 = .ok (.iload_n 3, 1) := dk_29 (dk_at dksX0_see_2 7 rfl rfl)
theorem dX0_see_52 : decode cX0_see 52 = .ok (.iconst 1, 1) := dk_4 (dk_at dksX0_see_2 8 rfl rfl)
theorem dX0_see_53 : decode cX0_see 53 = .ok (.iadd, 1) := dk_96 (dk_at dksX0_see_2 9 rfl rfl)
theorem dX0_see_54 : decode cX0_see 54 = .ok (.invokevirtual 319, 3) := dk_182 1 63 (dk_at dksX0_see_2 10 rfl rfl)
theorem dX0_see_57 : decode cX0_see 57 = .ok (.aload_n 0, 1) := dk_42 (dk_at dksX0_see_2 13 rfl rfl)
theorem dX0_see_58 : decode cX0_see 58 = .ok (.getfield 31, 3) := dk_180 0 31 (dk_at dksX0_see_2 14 rfl rfl)
theorem dX0_see_61 : decode cX0_see 61 = .ok (.getfield 172, 3) := dk_180 0 172 (dk_at dksX0_see_2 17 rfl rfl)
theorem dX0_see_64 : decode cX0_see 64 = .ok (.if_icmp .ge 7, 3) := dk_162 0 7 (dk_at dksX0_see_2 20 rfl rfl)
theorem dX0_see_67 : decode cX0_see 67 = .ok (.iconst 1, 1) := dk_4 (dk_at dksX0_see_2 23 rfl rfl)
theorem dX0_see_68 : decode cX0_see 68 = .ok (.goto 4, 3) := dk_167 0 4 (dk_at dksX0_see_3 0 rfl rfl)
theorem dX0_see_71 : decode cX0_see 71 = .ok (.iconst 0, 1) := dk_3 (dk_at dksX0_see_3 3 rfl rfl)
theorem dX0_see_72 : decode cX0_see 72 = .ok (.istore_n 2, 1) := dk_61 (dk_at dksX0_see_3 4 rfl rfl)
theorem dX0_see_73 : decode cX0_see 73 = .ok (.iinc 3 2, 3) := dk_132 3 2 (dk_at dksX0_see_3 5 rfl rfl)
theorem dX0_see_76 : decode cX0_see 76 = .ok (.goto (-47), 3) := dk_167 255 209 (dk_at dksX0_see_3 8 rfl rfl)
theorem dX0_see_79 : decode cX0_see 79 = .ok (.iload_n 2, 1) := dk_28 (dk_at dksX0_see_3 11 rfl rfl)
theorem dX0_see_80 : decode cX0_see 80 = .ok (.ifCond .ne 9, 3) := dk_154 0 9 (dk_at dksX0_see_3 12 rfl rfl)
theorem dX0_see_83 : decode cX0_see 83 = .ok (.aload_n 0, 1) := dk_42 (dk_at dksX0_see_3 15 rfl rfl)
theorem dX0_see_84 : decode cX0_see 84 = .ok (.iconst 1, 1) := dk_4 (dk_at dksX0_see_3 16 rfl rfl)
theorem dX0_see_85 : decode cX0_see 85 = .ok (.invokevirtual 115, 3) := dk_182 0 115 (dk_at dksX0_see_3 17 rfl rfl)
theorem dX0_see_88 : decode cX0_see 88 = .ok (.ireturn, 1) := dk_172 (dk_at dksX0_see_3 20 rfl rfl)
theorem dX0_see_89 : decode cX0_see 89 = .ok (.aload_n 0, 1) := dk_42 (dk_at dksX0_see_3 21 rfl rfl)
theorem dX0_see_90 : decode cX0_see 90 = .ok (.iload_n 1, 1) := dk_27 (dk_at dksX0_see_3 22 rfl rfl)
theorem dX0_see_91 : decode cX0_see 91 = .ok (.iconst 2, 1) := dk_5 (dk_at dksX0_see_3 23 rfl rfl)
theorem dX0_see_92 : decode cX0_see 92 = .ok (.idiv, 1) := dk_108 (dk_at dksX0_see_4 0 rfl rfl)
theorem dX0_see_93 : decode cX0_see 93 = .ok (.putfield 148, 3) := dk_181 0 148 (dk_at dksX0_see_4 1 rfl rfl)
theorem dX0_see_96 : decode cX0_see 96 = .ok (.iconst 0, 1) := dk_3 (dk_at dksX0_see_4 4 rfl rfl)
theorem dX0_see_97 : decode cX0_see 97 = .ok (.istore_n 3, 1) := dk_62 (dk_at dksX0_see_4 5 rfl rfl)
theorem dX0_see_98 : decode cX0_see 98 = .ok (.iload_n 3, 1) := dk_29 (dk_at dksX0_see_4 6 rfl rfl)
theorem dX0_see_99 : decode cX0_see 99 = .ok (.aload_n 0, 1) := dk_42 (dk_at dksX0_see_4 7 rfl rfl)
theorem dX0_see_100 : decode cX0_see 100 = .ok (.getfield 148, 3) := dk_180 0 148 (dk_at dksX0_see_4 8 rfl rfl)
theorem dX0_see_103 : decode cX0_see 103 = .ok (.if_icmp .ge 37, 3) := dk_162 0 37 (dk_at dksX0_see_4 11 rfl rfl)
theorem dX0_see_106 : decode cX0_see 106 = .ok (.aload_n 0, 1) := dk_42 (dk_at dksX0_see_4 14 rfl rfl)
theorem dX0_see_107 : decode cX0_see 107 = .ok (.getfield 84, 3) := dk_180 0 84 (dk_at dksX0_see_4 15 rfl rfl)
theorem dX0_see_110 : decode cX0_see 110 = .ok (.iload_n 3, 1) := dk_29 (dk_at dksX0_see_4 18 rfl rfl)
theorem dX0_see_111 : decode cX0_see 111 = .ok (.aload_n 0, 1) := dk_42 (dk_at dksX0_see_4 19 rfl rfl)
theorem dX0_see_112 : decode cX0_see 112 = .ok (.iconst 2, 1) := dk_5 (dk_at dksX0_see_4 20 rfl rfl)
theorem dX0_see_113 : decode cX0_see 113 = .ok (.iload_n 3, 1) := dk_29 (dk_at dksX0_see_4 21 rfl rfl)
theorem dX0_see_114 : decode cX0_see 114 = .ok (.imul, 1) := dk_104 (dk_at dksX0_see_4 22 rfl rfl)
theorem dX0_see_115 : decode cX0_see 115 = .ok (.invokevirtual 319, 3) := dk_182 1 63 (dk_at dksX0_see_5 0 rfl rfl)
theorem dX0_see_118 : decode cX0_see 118 = .ok (.iastore, 1) := dk_79 (dk_at dksX0_see_5 3 rfl rfl)
theorem dX0_see_119 : decode cX0_see 119 = .ok (.aload_n 0, 1) := dk_42 (dk_at dksX0_see_5 4 rfl rfl)
theorem dX0_see_120 : decode cX0_see 120 = .ok (.getfield 87, 3) := dk_180 0 87 (dk_at dksX0_see_5 5 rfl rfl)
theorem dX0_see_123 : decode cX0_see 123 = .ok (.iload_n 3, 1) := dk_29 (dk_at dksX0_see_5 8 rfl rfl)
theorem dX0_see_124 : decode cX0_see 124 = .ok (.aload_n 0, 1) := dk_42 (dk_at dksX0_see_5 9 rfl rfl)
theorem dX0_see_125 : decode cX0_see 125 = .ok (.iconst 2, 1) := dk_5 (dk_at dksX0_see_5 10 rfl rfl)
theorem dX0_see_126 : decode cX0_see 126 = .ok (.iload_n 3, 1) := dk_29 (dk_at dksX0_see_5 11 rfl rfl)
theorem dX0_see_127 : decode cX0_see 127 = .ok (.imul, 1) := dk_104 (dk_at dksX0_see_5 12 rfl rfl)
theorem dX0_see_128 : decode cX0_see 128 = .ok (.iconst 1, 1) := dk_4 (dk_at dksX0_see_5 13 rfl rfl)
theorem dX0_see_129 : decode cX0_see 129 = .ok (.iadd, 1) := dk_96 (dk_at dksX0_see_5 14 rfl rfl)
theorem dX0_see_130 : decode cX0_see 130 = .ok (.invokevirtual 319, 3) := dk_182 1 63 (dk_at dksX0_see_5 15 rfl rfl)
theorem dX0_see_133 : decode cX0_see 133 = .ok (.iastore, 1) := dk_79 (dk_at dksX0_see_5 18 rfl rfl)
theorem dX0_see_134 : decode cX0_see 134 = .ok (.iinc 3 1, 3) := dk_132 3 1 (dk_at dksX0_see_5 19 rfl rfl)
theorem dX0_see_137 : decode cX0_see 137 = .ok (.goto (-39), 3) := dk_167 255 217 (dk_at dksX0_see_6 0 rfl rfl)
theorem dX0_see_140 : decode cX0_see 140 = .ok (.aload_n 0, 1) := dk_42 (dk_at dksX0_see_6 3 rfl rfl)
theorem dX0_see_141 : decode cX0_see 141 = .ok (.getfield 148, 3) := dk_180 0 148 (dk_at dksX0_see_6 4 rfl rfl)
theorem dX0_see_144 : decode cX0_see 144 = .ok (.ireturn, 1) := dk_172 (dk_at dksX0_see_6 7 rfl rfl)
abbrev cX0_byteAt : ByteArray := prog_1_method_40_code
def yX0_byteAt : MethodName := ⟨RX0, "byteAt", "(I)I"⟩
def dkwX0_byteAt_0 : List UInt8 := [42, 180, 0, 35, 27, 51, 17, 0, 255, 126, 172]
abbrev dktX0_byteAt_0 : List UInt8 := dkwX0_byteAt_0 ++ []
theorem dksX0_byteAt_0 : cX0_byteAt.data.toList.drop 0 = dktX0_byteAt_0 := by decide +kernel
theorem dX0_byteAt_0 : decode cX0_byteAt 0 = .ok (.aload_n 0, 1) := dk_42 (dk_at dksX0_byteAt_0 0 rfl rfl)
theorem dX0_byteAt_1 : decode cX0_byteAt 1 = .ok (.getfield 35, 3) := dk_180 0 35 (dk_at dksX0_byteAt_0 1 rfl rfl)
theorem dX0_byteAt_4 : decode cX0_byteAt 4 = .ok (.iload_n 1, 1) := dk_27 (dk_at dksX0_byteAt_0 4 rfl rfl)
theorem dX0_byteAt_5 : decode cX0_byteAt 5 = .ok (.baload, 1) := dk_51 (dk_at dksX0_byteAt_0 5 rfl rfl)
theorem dX0_byteAt_6 : decode cX0_byteAt 6 = .ok (.sipush 255, 3) := dk_17 0 255 (dk_at dksX0_byteAt_0 6 rfl rfl)
theorem dX0_byteAt_9 : decode cX0_byteAt 9 = .ok (.iand, 1) := dk_126 (dk_at dksX0_byteAt_0 9 rfl rfl)
theorem dX0_byteAt_10 : decode cX0_byteAt 10 = .ok (.ireturn, 1) := dk_172 (dk_at dksX0_byteAt_0 10 rfl rfl)
abbrev cX0_lay : ByteArray := prog_1_method_45_code
def yX0_lay : MethodName := ⟨RX0, "lay", "(I)I"⟩
def dkwX0_lay_1 : List UInt8 := [154, 0, 13, 42, 182, 1, 69, 184, 0, 205, 167, 0, 7, 42, 182, 1, 69, 172]
abbrev dktX0_lay_1 : List UInt8 := dkwX0_lay_1 ++ []
def dkwX0_lay_0 : List UInt8 := [42, 4, 4, 4, 182, 1, 23, 153, 0, 12, 27, 3, 4, 184, 0, 168, 154, 0, 5, 2, 172, 27]
abbrev dktX0_lay_0 : List UInt8 := dkwX0_lay_0 ++ dktX0_lay_1
theorem dksX0_lay_0 : cX0_lay.data.toList.drop 0 = dktX0_lay_0 := by decide +kernel
theorem dksX0_lay_1 : cX0_lay.data.toList.drop 22 = dktX0_lay_1 := dk_seg dksX0_lay_0 22 rfl rfl
theorem dX0_lay_0 : decode cX0_lay 0 = .ok (.aload_n 0, 1) := dk_42 (dk_at dksX0_lay_0 0 rfl rfl)
theorem dX0_lay_1 : decode cX0_lay 1 = .ok (.iconst 1, 1) := dk_4 (dk_at dksX0_lay_0 1 rfl rfl)
theorem dX0_lay_2 : decode cX0_lay 2 = .ok (.iconst 1, 1) := dk_4 (dk_at dksX0_lay_0 2 rfl rfl)
theorem dX0_lay_3 : decode cX0_lay 3 = .ok (.iconst 1, 1) := dk_4 (dk_at dksX0_lay_0 3 rfl rfl)
theorem dX0_lay_4 : decode cX0_lay 4 = .ok (.invokevirtual 279, 3) := dk_182 1 23 (dk_at dksX0_lay_0 4 rfl rfl)
theorem dX0_lay_7 : decode cX0_lay 7 = .ok (.ifCond .eq 12, 3) := dk_153 0 12 (dk_at dksX0_lay_0 7 rfl rfl)
theorem dX0_lay_10 : decode cX0_lay 10 = .ok (.iload_n 1, 1) := dk_27 (dk_at dksX0_lay_0 10 rfl rfl)
theorem dX0_lay_11 : decode cX0_lay 11 = .ok (.iconst 0, 1) := dk_3 (dk_at dksX0_lay_0 11 rfl rfl)
theorem dX0_lay_12 : decode cX0_lay 12 = .ok (.iconst 1, 1) := dk_4 (dk_at dksX0_lay_0 12 rfl rfl)
theorem dX0_lay_13 : decode cX0_lay 13 = .ok (.invokestatic 168, 3) := dk_184 0 168 (dk_at dksX0_lay_0 13 rfl rfl)
theorem dX0_lay_16 : decode cX0_lay 16 = .ok (.ifCond .ne 5, 3) := dk_154 0 5 (dk_at dksX0_lay_0 16 rfl rfl)
theorem dX0_lay_19 : decode cX0_lay 19 = .ok (.iconst (-1), 1) := dk_2 (dk_at dksX0_lay_0 19 rfl rfl)
theorem dX0_lay_20 : decode cX0_lay 20 = .ok (.ireturn, 1) := dk_172 (dk_at dksX0_lay_0 20 rfl rfl)
theorem dX0_lay_21 : decode cX0_lay 21 = .ok (.iload_n 1, 1) := dk_27 (dk_at dksX0_lay_0 21 rfl rfl)
theorem dX0_lay_22 : decode cX0_lay 22 = .ok (.ifCond .ne 13, 3) := dk_154 0 13 (dk_at dksX0_lay_1 0 rfl rfl)
theorem dX0_lay_25 : decode cX0_lay 25 = .ok (.aload_n 0, 1) := dk_42 (dk_at dksX0_lay_1 3 rfl rfl)
theorem dX0_lay_26 : decode cX0_lay 26 = .ok (.invokevirtual 325, 3) := dk_182 1 69 (dk_at dksX0_lay_1 4 rfl rfl)
theorem dX0_lay_29 : decode cX0_lay 29 = .ok (.invokestatic 205, 3) := dk_184 0 205 (dk_at dksX0_lay_1 7 rfl rfl)
theorem dX0_lay_32 : decode cX0_lay 32 = .ok (.goto 7, 3) := dk_167 0 7 (dk_at dksX0_lay_1 10 rfl rfl)
theorem dX0_lay_35 : decode cX0_lay 35 = .ok (.aload_n 0, 1) := dk_42 (dk_at dksX0_lay_1 13 rfl rfl)
theorem dX0_lay_36 : decode cX0_lay 36 = .ok (.invokevirtual 325, 3) := dk_182 1 69 (dk_at dksX0_lay_1 14 rfl rfl)
theorem dX0_lay_39 : decode cX0_lay 39 = .ok (.ireturn, 1) := dk_172 (dk_at dksX0_lay_1 17 rfl rfl)
abbrev cX0_openings : ByteArray := prog_1_method_44_code
def yX0_openings : MethodName := ⟨RX0, "openings", "()I"⟩
def dkwX0_openings_1 : List UInt8 := [4, 28, 120, 167, 0, 4, 3, 128, 60, 132, 2, 1, 167, 255, 224, 27, 172]
abbrev dktX0_openings_1 : List UInt8 := dkwX0_openings_1 ++ []
def dkwX0_openings_0 : List UInt8 := [3, 60, 3, 61, 28, 42, 180, 0, 31, 180, 0, 154, 163, 0, 27, 27, 42, 28, 182, 1, 66, 153, 0, 9]
abbrev dktX0_openings_0 : List UInt8 := dkwX0_openings_0 ++ dktX0_openings_1
theorem dksX0_openings_0 : cX0_openings.data.toList.drop 0 = dktX0_openings_0 := by decide +kernel
theorem dksX0_openings_1 : cX0_openings.data.toList.drop 24 = dktX0_openings_1 := dk_seg dksX0_openings_0 24 rfl rfl
theorem dX0_openings_0 : decode cX0_openings 0 = .ok (.iconst 0, 1) := dk_3 (dk_at dksX0_openings_0 0 rfl rfl)
theorem dX0_openings_1 : decode cX0_openings 1 = .ok (.istore_n 1, 1) := dk_60 (dk_at dksX0_openings_0 1 rfl rfl)
theorem dX0_openings_2 : decode cX0_openings 2 = .ok (.iconst 0, 1) := dk_3 (dk_at dksX0_openings_0 2 rfl rfl)
theorem dX0_openings_3 : decode cX0_openings 3 = .ok (.istore_n 2, 1) := dk_61 (dk_at dksX0_openings_0 3 rfl rfl)
theorem dX0_openings_4 : decode cX0_openings 4 = .ok (.iload_n 2, 1) := dk_28 (dk_at dksX0_openings_0 4 rfl rfl)
theorem dX0_openings_5 : decode cX0_openings 5 = .ok (.aload_n 0, 1) := dk_42 (dk_at dksX0_openings_0 5 rfl rfl)
theorem dX0_openings_6 : decode cX0_openings 6 = .ok (.getfield 31, 3) := dk_180 0 31 (dk_at dksX0_openings_0 6 rfl rfl)
theorem dX0_openings_9 : decode cX0_openings 9 = .ok (.getfield 154, 3) := dk_180 0 154 (dk_at dksX0_openings_0 9 rfl rfl)
theorem dX0_openings_12 : decode cX0_openings 12 = .ok (.if_icmp .gt 27, 3) := dk_163 0 27 (dk_at dksX0_openings_0 12 rfl rfl)
theorem dX0_openings_15 : decode cX0_openings 15 = .ok (.iload_n 1, 1) := dk_27 (dk_at dksX0_openings_0 15 rfl rfl)
theorem dX0_openings_16 : decode cX0_openings 16 = .ok (.aload_n 0, 1) := dk_42 (dk_at dksX0_openings_0 16 rfl rfl)
theorem dX0_openings_17 : decode cX0_openings 17 = .ok (.iload_n 2, 1) := dk_28 (dk_at dksX0_openings_0 17 rfl rfl)
theorem dX0_openings_18 : decode cX0_openings 18 = .ok (.invokevirtual 322, 3) := dk_182 1 66 (dk_at dksX0_openings_0 18 rfl rfl)
theorem dX0_openings_21 : decode cX0_openings 21 = .ok (.ifCond .eq 9, 3) := dk_153 0 9 (dk_at dksX0_openings_0 21 rfl rfl)
theorem dX0_openings_24 : decode cX0_openings 24 = .ok (.iconst 1, 1) := dk_4 (dk_at dksX0_openings_1 0 rfl rfl)
theorem dX0_openings_25 : decode cX0_openings 25 = .ok (.iload_n 2, 1) := dk_28 (dk_at dksX0_openings_1 1 rfl rfl)
theorem dX0_openings_26 : decode cX0_openings 26 = .ok (.ishl, 1) := dk_120 (dk_at dksX0_openings_1 2 rfl rfl)
theorem dX0_openings_27 : decode cX0_openings 27 = .ok (.goto 4, 3) := dk_167 0 4 (dk_at dksX0_openings_1 3 rfl rfl)
theorem dX0_openings_30 : decode cX0_openings 30 = .ok (.iconst 0, 1) := dk_3 (dk_at dksX0_openings_1 6 rfl rfl)
theorem dX0_openings_31 : decode cX0_openings 31 = .ok (.ior, 1) := dk_128 (dk_at dksX0_openings_1 7 rfl rfl)
theorem dX0_openings_32 : decode cX0_openings 32 = .ok (.istore_n 1, 1) := dk_60 (dk_at dksX0_openings_1 8 rfl rfl)
theorem dX0_openings_33 : decode cX0_openings 33 = .ok (.iinc 2 1, 3) := dk_132 2 1 (dk_at dksX0_openings_1 9 rfl rfl)
theorem dX0_openings_36 : decode cX0_openings 36 = .ok (.goto (-32), 3) := dk_167 255 224 (dk_at dksX0_openings_1 12 rfl rfl)
theorem dX0_openings_39 : decode cX0_openings 39 = .ok (.iload_n 1, 1) := dk_27 (dk_at dksX0_openings_1 15 rfl rfl)
theorem dX0_openings_40 : decode cX0_openings 40 = .ok (.ireturn, 1) := dk_172 (dk_at dksX0_openings_1 16 rfl rfl)
abbrev cX0_canLie : ByteArray := prog_1_method_43_code
def yX0_canLie : MethodName := ⟨RX0, "canLie", "(I)Z"⟩
def dkwX0_canLie_2 : List UInt8 := [159, 0, 5, 3, 172, 132, 2, 1, 167, 255, 220, 4, 172]
abbrev dktX0_canLie_2 : List UInt8 := dkwX0_canLie_2 ++ []
def dkwX0_canLie_1 : List UInt8 := [162, 0, 34, 42, 180, 0, 73, 180, 0, 239, 42, 180, 0, 84, 28, 46, 46, 42, 180, 0, 87, 28, 46]
abbrev dktX0_canLie_1 : List UInt8 := dkwX0_canLie_1 ++ dktX0_canLie_2
def dkwX0_canLie_0 : List UInt8 := [42, 180, 0, 73, 42, 180, 0, 69, 182, 1, 30, 27, 182, 1, 34, 3, 61, 28, 42, 180, 0, 148]
abbrev dktX0_canLie_0 : List UInt8 := dkwX0_canLie_0 ++ dktX0_canLie_1
theorem dksX0_canLie_0 : cX0_canLie.data.toList.drop 0 = dktX0_canLie_0 := by decide +kernel
theorem dksX0_canLie_1 : cX0_canLie.data.toList.drop 22 = dktX0_canLie_1 := dk_seg dksX0_canLie_0 22 rfl rfl
theorem dksX0_canLie_2 : cX0_canLie.data.toList.drop 45 = dktX0_canLie_2 := dk_seg dksX0_canLie_1 23 rfl rfl
theorem dX0_canLie_0 : decode cX0_canLie 0 = .ok (.aload_n 0, 1) := dk_42 (dk_at dksX0_canLie_0 0 rfl rfl)
theorem dX0_canLie_1 : decode cX0_canLie 1 = .ok (.getfield 73, 3) := dk_180 0 73 (dk_at dksX0_canLie_0 1 rfl rfl)
theorem dX0_canLie_4 : decode cX0_canLie 4 = .ok (.aload_n 0, 1) := dk_42 (dk_at dksX0_canLie_0 4 rfl rfl)
theorem dX0_canLie_5 : decode cX0_canLie 5 = .ok (.getfield 69, 3) := dk_180 0 69 (dk_at dksX0_canLie_0 5 rfl rfl)
theorem dX0_canLie_8 : decode cX0_canLie 8 = .ok (.invokevirtual 286, 3) := dk_182 1 30 (dk_at dksX0_canLie_0 8 rfl rfl)
theorem dX0_canLie_11 : decode cX0_canLie 11 = .ok (.iload_n 1, 1) := dk_27 (dk_at dksX0_canLie_0 11 rfl rfl)
theorem dX0_canLie_12 : decode cX0_canLie 12 = .ok (.invokevirtual 290, 3) := dk_182 1 34 (dk_at dksX0_canLie_0 12 rfl rfl)
theorem dX0_canLie_15 : decode cX0_canLie 15 = .ok (.iconst 0, 1) := dk_3 (dk_at dksX0_canLie_0 15 rfl rfl)
theorem dX0_canLie_16 : decode cX0_canLie 16 = .ok (.istore_n 2, 1) := dk_61 (dk_at dksX0_canLie_0 16 rfl rfl)
theorem dX0_canLie_17 : decode cX0_canLie 17 = .ok (.iload_n 2, 1) := dk_28 (dk_at dksX0_canLie_0 17 rfl rfl)
theorem dX0_canLie_18 : decode cX0_canLie 18 = .ok (.aload_n 0, 1) := dk_42 (dk_at dksX0_canLie_0 18 rfl rfl)
theorem dX0_canLie_19 : decode cX0_canLie 19 = .ok (.getfield 148, 3) := dk_180 0 148 (dk_at dksX0_canLie_0 19 rfl rfl)
theorem dX0_canLie_22 : decode cX0_canLie 22 = .ok (.if_icmp .ge 34, 3) := dk_162 0 34 (dk_at dksX0_canLie_1 0 rfl rfl)
theorem dX0_canLie_25 : decode cX0_canLie 25 = .ok (.aload_n 0, 1) := dk_42 (dk_at dksX0_canLie_1 3 rfl rfl)
theorem dX0_canLie_26 : decode cX0_canLie 26 = .ok (.getfield 73, 3) := dk_180 0 73 (dk_at dksX0_canLie_1 4 rfl rfl)
theorem dX0_canLie_29 : decode cX0_canLie 29 = .ok (.getfield 239, 3) := dk_180 0 239 (dk_at dksX0_canLie_1 7 rfl rfl)
theorem dX0_canLie_32 : decode cX0_canLie 32 = .ok (.aload_n 0, 1) := dk_42 (dk_at dksX0_canLie_1 10 rfl rfl)
theorem dX0_canLie_33 : decode cX0_canLie 33 = .ok (.getfield 84, 3) := dk_180 0 84 (dk_at dksX0_canLie_1 11 rfl rfl)
theorem dX0_canLie_36 : decode cX0_canLie 36 = .ok (.iload_n 2, 1) := dk_28 (dk_at dksX0_canLie_1 14 rfl rfl)
theorem dX0_canLie_37 : decode cX0_canLie 37 = .ok (.iaload, 1) := dk_46 (dk_at dksX0_canLie_1 15 rfl rfl)
theorem dX0_canLie_38 : decode cX0_canLie 38 = .ok (.iaload, 1) := dk_46 (dk_at dksX0_canLie_1 16 rfl rfl)
theorem dX0_canLie_39 : decode cX0_canLie 39 = .ok (.aload_n 0, 1) := dk_42 (dk_at dksX0_canLie_1 17 rfl rfl)
theorem dX0_canLie_40 : decode cX0_canLie 40 = .ok (.getfield 87, 3) := dk_180 0 87 (dk_at dksX0_canLie_1 18 rfl rfl)
theorem dX0_canLie_43 : decode cX0_canLie 43 = .ok (.iload_n 2, 1) := dk_28 (dk_at dksX0_canLie_1 21 rfl rfl)
theorem dX0_canLie_44 : decode cX0_canLie 44 = .ok (.iaload, 1) := dk_46 (dk_at dksX0_canLie_1 22 rfl rfl)
theorem dX0_canLie_45 : decode cX0_canLie 45 = .ok (.if_icmp .eq 5, 3) := dk_159 0 5 (dk_at dksX0_canLie_2 0 rfl rfl)
theorem dX0_canLie_48 : decode cX0_canLie 48 = .ok (.iconst 0, 1) := dk_3 (dk_at dksX0_canLie_2 3 rfl rfl)
theorem dX0_canLie_49 : decode cX0_canLie 49 = .ok (.ireturn, 1) := dk_172 (dk_at dksX0_canLie_2 4 rfl rfl)
theorem dX0_canLie_50 : decode cX0_canLie 50 = .ok (.iinc 2 1, 3) := dk_132 2 1 (dk_at dksX0_canLie_2 5 rfl rfl)
theorem dX0_canLie_53 : decode cX0_canLie 53 = .ok (.goto (-36), 3) := dk_167 255 220 (dk_at dksX0_canLie_2 8 rfl rfl)
theorem dX0_canLie_56 : decode cX0_canLie 56 = .ok (.iconst 1, 1) := dk_4 (dk_at dksX0_canLie_2 11 rfl rfl)
theorem dX0_canLie_57 : decode cX0_canLie 57 = .ok (.ireturn, 1) := dk_172 (dk_at dksX0_canLie_2 12 rfl rfl)
abbrev cX0_after : ByteArray := prog_1_method_46_code
def yX0_after : MethodName := ⟨RX0, "after", "(I)I"⟩
def dkwX0_after_10 : List UInt8 := [2, 159, 0, 7, 27, 154, 0, 7, 29, 167, 0, 5, 21, 4, 172]
abbrev dktX0_after_10 : List UInt8 := dkwX0_after_10 ++ []
def dkwX0_after_9 : List UInt8 := [21, 6, 21, 4, 161, 0, 6, 167, 0, 10, 21, 6, 54, 4, 21, 5, 62, 132, 5, 1, 167, 255, 187, 29]
abbrev dktX0_after_9 : List UInt8 := dkwX0_after_9 ++ dktX0_after_10
def dkwX0_after_8 : List UInt8 := [21, 6, 42, 180, 0, 92, 21, 5, 50, 21, 7, 46, 184, 1, 72, 54, 6, 132, 7, 1, 167, 255, 229]
abbrev dktX0_after_8 : List UInt8 := dkwX0_after_8 ++ dktX0_after_9
def dkwX0_after_7 : List UInt8 := [182, 0, 166, 162, 0, 66, 28, 158, 0, 62, 3, 54, 6, 3, 54, 7, 21, 7, 16, 8, 162, 0, 26]
abbrev dktX0_after_7 : List UInt8 := dkwX0_after_7 ++ dktX0_after_8
def dkwX0_after_6 : List UInt8 := [167, 255, 222, 132, 3, 1, 167, 255, 188, 2, 62, 19, 1, 26, 54, 4, 3, 54, 5, 21, 5, 42]
abbrev dktX0_after_6 : List UInt8 := dkwX0_after_6 ++ dktX0_after_7
def dkwX0_after_5 : List UInt8 := [180, 0, 92, 21, 4, 50, 42, 180, 0, 73, 180, 0, 239, 21, 4, 46, 92, 46, 4, 96, 79, 132, 4, 1]
abbrev dktX0_after_5 : List UInt8 := dkwX0_after_5 ++ dktX0_after_6
def dkwX0_after_4 : List UInt8 := [154, 0, 6, 167, 0, 46, 132, 2, 1, 3, 54, 4, 21, 4, 42, 182, 0, 166, 162, 0, 31, 42]
abbrev dktX0_after_4 : List UInt8 := dkwX0_after_4 ++ dktX0_after_5
def dkwX0_after_3 : List UInt8 := [167, 255, 219, 3, 61, 3, 62, 29, 42, 180, 0, 31, 180, 0, 154, 163, 0, 63, 42, 29, 182, 1, 66]
abbrev dktX0_after_3 : List UInt8 := dkwX0_after_3 ++ dktX0_after_4
def dkwX0_after_2 : List UInt8 := [54, 6, 21, 6, 16, 8, 162, 0, 15, 25, 5, 21, 6, 3, 79, 132, 6, 1, 167, 255, 240, 132, 4, 1]
abbrev dktX0_after_2 : List UInt8 := dkwX0_after_2 ++ dktX0_after_3
def dkwX0_after_1 : List UInt8 := [180, 0, 92, 77, 44, 190, 62, 3, 54, 4, 21, 4, 29, 162, 0, 37, 44, 21, 4, 50, 58, 5, 3]
abbrev dktX0_after_1 : List UInt8 := dkwX0_after_1 ++ dktX0_after_2
def dkwX0_after_0 : List UInt8 := [42, 4, 4, 4, 182, 1, 23, 153, 0, 12, 27, 3, 4, 184, 0, 168, 154, 0, 5, 2, 172, 42]
abbrev dktX0_after_0 : List UInt8 := dkwX0_after_0 ++ dktX0_after_1
theorem dksX0_after_0 : cX0_after.data.toList.drop 0 = dktX0_after_0 := by decide +kernel
theorem dksX0_after_1 : cX0_after.data.toList.drop 22 = dktX0_after_1 := dk_seg dksX0_after_0 22 rfl rfl
theorem dksX0_after_2 : cX0_after.data.toList.drop 45 = dktX0_after_2 := dk_seg dksX0_after_1 23 rfl rfl
theorem dksX0_after_3 : cX0_after.data.toList.drop 69 = dktX0_after_3 := dk_seg dksX0_after_2 24 rfl rfl
theorem dksX0_after_4 : cX0_after.data.toList.drop 92 = dktX0_after_4 := dk_seg dksX0_after_3 23 rfl rfl
theorem dksX0_after_5 : cX0_after.data.toList.drop 114 = dktX0_after_5 := dk_seg dksX0_after_4 22 rfl rfl
theorem dksX0_after_6 : cX0_after.data.toList.drop 138 = dktX0_after_6 := dk_seg dksX0_after_5 24 rfl rfl
theorem dksX0_after_7 : cX0_after.data.toList.drop 160 = dktX0_after_7 := dk_seg dksX0_after_6 22 rfl rfl
theorem dksX0_after_8 : cX0_after.data.toList.drop 183 = dktX0_after_8 := dk_seg dksX0_after_7 23 rfl rfl
theorem dksX0_after_9 : cX0_after.data.toList.drop 206 = dktX0_after_9 := dk_seg dksX0_after_8 23 rfl rfl
theorem dksX0_after_10 : cX0_after.data.toList.drop 230 = dktX0_after_10 := dk_seg dksX0_after_9 24 rfl rfl
theorem dX0_after_0 : decode cX0_after 0 = .ok (.aload_n 0, 1) := dk_42 (dk_at dksX0_after_0 0 rfl rfl)
theorem dX0_after_1 : decode cX0_after 1 = .ok (.iconst 1, 1) := dk_4 (dk_at dksX0_after_0 1 rfl rfl)
theorem dX0_after_2 : decode cX0_after 2 = .ok (.iconst 1, 1) := dk_4 (dk_at dksX0_after_0 2 rfl rfl)
theorem dX0_after_3 : decode cX0_after 3 = .ok (.iconst 1, 1) := dk_4 (dk_at dksX0_after_0 3 rfl rfl)
theorem dX0_after_4 : decode cX0_after 4 = .ok (.invokevirtual 279, 3) := dk_182 1 23 (dk_at dksX0_after_0 4 rfl rfl)
theorem dX0_after_7 : decode cX0_after 7 = .ok (.ifCond .eq 12, 3) := dk_153 0 12 (dk_at dksX0_after_0 7 rfl rfl)
theorem dX0_after_10 : decode cX0_after 10 = .ok (.iload_n 1, 1) := dk_27 (dk_at dksX0_after_0 10 rfl rfl)
theorem dX0_after_11 : decode cX0_after 11 = .ok (.iconst 0, 1) := dk_3 (dk_at dksX0_after_0 11 rfl rfl)
theorem dX0_after_12 : decode cX0_after 12 = .ok (.iconst 1, 1) := dk_4 (dk_at dksX0_after_0 12 rfl rfl)
theorem dX0_after_13 : decode cX0_after 13 = .ok (.invokestatic 168, 3) := dk_184 0 168 (dk_at dksX0_after_0 13 rfl rfl)
theorem dX0_after_16 : decode cX0_after 16 = .ok (.ifCond .ne 5, 3) := dk_154 0 5 (dk_at dksX0_after_0 16 rfl rfl)
theorem dX0_after_19 : decode cX0_after 19 = .ok (.iconst (-1), 1) := dk_2 (dk_at dksX0_after_0 19 rfl rfl)
theorem dX0_after_20 : decode cX0_after 20 = .ok (.ireturn, 1) := dk_172 (dk_at dksX0_after_0 20 rfl rfl)
theorem dX0_after_21 : decode cX0_after 21 = .ok (.aload_n 0, 1) := dk_42 (dk_at dksX0_after_0 21 rfl rfl)
theorem dX0_after_22 : decode cX0_after 22 = .ok (.getfield 92, 3) := dk_180 0 92 (dk_at dksX0_after_1 0 rfl rfl)
theorem dX0_after_25 : decode cX0_after 25 = .ok (.astore_n 2, 1) := dk_77 (dk_at dksX0_after_1 3 rfl rfl)
theorem dX0_after_26 : decode cX0_after 26 = .ok (.aload_n 2, 1) := dk_44 (dk_at dksX0_after_1 4 rfl rfl)
theorem dX0_after_27 : decode cX0_after 27 = .ok (.arraylength, 1) := dk_190 (dk_at dksX0_after_1 5 rfl rfl)
theorem dX0_after_28 : decode cX0_after 28 = .ok (.istore_n 3, 1) := dk_62 (dk_at dksX0_after_1 6 rfl rfl)
theorem dX0_after_29 : decode cX0_after 29 = .ok (.iconst 0, 1) := dk_3 (dk_at dksX0_after_1 7 rfl rfl)
theorem dX0_after_30 : decode cX0_after 30 = .ok (.istore 4, 2) := dk_54 4 (dk_at dksX0_after_1 8 rfl rfl)
theorem dX0_after_32 : decode cX0_after 32 = .ok (.iload 4, 2) := dk_21 4 (dk_at dksX0_after_1 10 rfl rfl)
theorem dX0_after_34 : decode cX0_after 34 = .ok (.iload_n 3, 1) := dk_29 (dk_at dksX0_after_1 12 rfl rfl)
theorem dX0_after_35 : decode cX0_after 35 = .ok (.if_icmp .ge 37, 3) := dk_162 0 37 (dk_at dksX0_after_1 13 rfl rfl)
theorem dX0_after_38 : decode cX0_after 38 = .ok (.aload_n 2, 1) := dk_44 (dk_at dksX0_after_1 16 rfl rfl)
theorem dX0_after_39 : decode cX0_after 39 = .ok (.iload 4, 2) := dk_21 4 (dk_at dksX0_after_1 17 rfl rfl)
theorem dX0_after_41 : decode cX0_after 41 = .ok (.aaload, 1) := dk_50 (dk_at dksX0_after_1 19 rfl rfl)
theorem dX0_after_42 : decode cX0_after 42 = .ok (.astore 5, 2) := dk_58 5 (dk_at dksX0_after_1 20 rfl rfl)
theorem dX0_after_44 : decode cX0_after 44 = .ok (.iconst 0, 1) := dk_3 (dk_at dksX0_after_1 22 rfl rfl)
theorem dX0_after_45 : decode cX0_after 45 = .ok (.istore 6, 2) := dk_54 6 (dk_at dksX0_after_2 0 rfl rfl)
theorem dX0_after_47 : decode cX0_after 47 = .ok (.iload 6, 2) := dk_21 6 (dk_at dksX0_after_2 2 rfl rfl)
theorem dX0_after_49 : decode cX0_after 49 = .ok (.bipush 8, 2) := dk_16 8 (dk_at dksX0_after_2 4 rfl rfl)
theorem dX0_after_51 : decode cX0_after 51 = .ok (.if_icmp .ge 15, 3) := dk_162 0 15 (dk_at dksX0_after_2 6 rfl rfl)
theorem dX0_after_54 : decode cX0_after 54 = .ok (.aload 5, 2) := dk_25 5 (dk_at dksX0_after_2 9 rfl rfl)
theorem dX0_after_56 : decode cX0_after 56 = .ok (.iload 6, 2) := dk_21 6 (dk_at dksX0_after_2 11 rfl rfl)
theorem dX0_after_58 : decode cX0_after 58 = .ok (.iconst 0, 1) := dk_3 (dk_at dksX0_after_2 13 rfl rfl)
theorem dX0_after_59 : decode cX0_after 59 = .ok (.iastore, 1) := dk_79 (dk_at dksX0_after_2 14 rfl rfl)
theorem dX0_after_60 : decode cX0_after 60 = .ok (.iinc 6 1, 3) := dk_132 6 1 (dk_at dksX0_after_2 15 rfl rfl)
theorem dX0_after_63 : decode cX0_after 63 = .ok (.goto (-16), 3) := dk_167 255 240 (dk_at dksX0_after_2 18 rfl rfl)
theorem dX0_after_66 : decode cX0_after 66 = .ok (.iinc 4 1, 3) := dk_132 4 1 (dk_at dksX0_after_2 21 rfl rfl)
theorem dX0_after_69 : decode cX0_after 69 = .ok (.goto (-37), 3) := dk_167 255 219 (dk_at dksX0_after_3 0 rfl rfl)
theorem dX0_after_72 : decode cX0_after 72 = .ok (.iconst 0, 1) := dk_3 (dk_at dksX0_after_3 3 rfl rfl)
theorem dX0_after_73 : decode cX0_after 73 = .ok (.istore_n 2, 1) := dk_61 (dk_at dksX0_after_3 4 rfl rfl)
theorem dX0_after_74 : decode cX0_after 74 = .ok (.iconst 0, 1) := dk_3 (dk_at dksX0_after_3 5 rfl rfl)
theorem dX0_after_75 : decode cX0_after 75 = .ok (.istore_n 3, 1) := dk_62 (dk_at dksX0_after_3 6 rfl rfl)
theorem dX0_after_76 : decode cX0_after 76 = .ok (.iload_n 3, 1) := dk_29 (dk_at dksX0_after_3 7 rfl rfl)
theorem dX0_after_77 : decode cX0_after 77 = .ok (.aload_n 0, 1) := dk_42 (dk_at dksX0_after_3 8 rfl rfl)
theorem dX0_after_78 : decode cX0_after 78 = .ok (.getfield 31, 3) := dk_180 0 31 (dk_at dksX0_after_3 9 rfl rfl)
theorem dX0_after_81 : decode cX0_after 81 = .ok (.getfield 154, 3) := dk_180 0 154 (dk_at dksX0_after_3 12 rfl rfl)
theorem dX0_after_84 : decode cX0_after 84 = .ok (.if_icmp .gt 63, 3) := dk_163 0 63 (dk_at dksX0_after_3 15 rfl rfl)
theorem dX0_after_87 : decode cX0_after 87 = .ok (.aload_n 0, 1) := dk_42 (dk_at dksX0_after_3 18 rfl rfl)
theorem dX0_after_88 : decode cX0_after 88 = .ok (.iload_n 3, 1) := dk_29 (dk_at dksX0_after_3 19 rfl rfl)
theorem dX0_after_89 : decode cX0_after 89 = .ok (.invokevirtual 322, 3) := dk_182 1 66 (dk_at dksX0_after_3 20 rfl rfl)
theorem dX0_after_92 : decode cX0_after 92 = .ok (.ifCond .ne 6, 3) := dk_154 0 6 (dk_at dksX0_after_4 0 rfl rfl)
theorem dX0_after_95 : decode cX0_after 95 = .ok (.goto 46, 3) := dk_167 0 46 (dk_at dksX0_after_4 3 rfl rfl)
theorem dX0_after_98 : decode cX0_after 98 = .ok (.iinc 2 1, 3) := dk_132 2 1 (dk_at dksX0_after_4 6 rfl rfl)
theorem dX0_after_101 : decode cX0_after 101 = .ok (.iconst 0, 1) := dk_3 (dk_at dksX0_after_4 9 rfl rfl)
theorem dX0_after_102 : decode cX0_after 102 = .ok (.istore 4, 2) := dk_54 4 (dk_at dksX0_after_4 10 rfl rfl)
theorem dX0_after_104 : decode cX0_after 104 = .ok (.iload 4, 2) := dk_21 4 (dk_at dksX0_after_4 12 rfl rfl)
theorem dX0_after_106 : decode cX0_after 106 = .ok (.aload_n 0, 1) := dk_42 (dk_at dksX0_after_4 14 rfl rfl)
theorem dX0_after_107 : decode cX0_after 107 = .ok (.invokevirtual 166, 3) := dk_182 0 166 (dk_at dksX0_after_4 15 rfl rfl)
theorem dX0_after_110 : decode cX0_after 110 = .ok (.if_icmp .ge 31, 3) := dk_162 0 31 (dk_at dksX0_after_4 18 rfl rfl)
theorem dX0_after_113 : decode cX0_after 113 = .ok (.aload_n 0, 1) := dk_42 (dk_at dksX0_after_4 21 rfl rfl)
theorem dX0_after_114 : decode cX0_after 114 = .ok (.getfield 92, 3) := dk_180 0 92 (dk_at dksX0_after_5 0 rfl rfl)
theorem dX0_after_117 : decode cX0_after 117 = .ok (.iload 4, 2) := dk_21 4 (dk_at dksX0_after_5 3 rfl rfl)
theorem dX0_after_119 : decode cX0_after 119 = .ok (.aaload, 1) := dk_50 (dk_at dksX0_after_5 5 rfl rfl)
theorem dX0_after_120 : decode cX0_after 120 = .ok (.aload_n 0, 1) := dk_42 (dk_at dksX0_after_5 6 rfl rfl)
theorem dX0_after_121 : decode cX0_after 121 = .ok (.getfield 73, 3) := dk_180 0 73 (dk_at dksX0_after_5 7 rfl rfl)
theorem dX0_after_124 : decode cX0_after 124 = .ok (.getfield 239, 3) := dk_180 0 239 (dk_at dksX0_after_5 10 rfl rfl)
theorem dX0_after_127 : decode cX0_after 127 = .ok (.iload 4, 2) := dk_21 4 (dk_at dksX0_after_5 13 rfl rfl)
theorem dX0_after_129 : decode cX0_after 129 = .ok (.iaload, 1) := dk_46 (dk_at dksX0_after_5 15 rfl rfl)
theorem dX0_after_130 : decode cX0_after 130 = .ok (.dup2, 1) := dk_92 (dk_at dksX0_after_5 16 rfl rfl)
theorem dX0_after_131 : decode cX0_after 131 = .ok (.iaload, 1) := dk_46 (dk_at dksX0_after_5 17 rfl rfl)
theorem dX0_after_132 : decode cX0_after 132 = .ok (.iconst 1, 1) := dk_4 (dk_at dksX0_after_5 18 rfl rfl)
theorem dX0_after_133 : decode cX0_after 133 = .ok (.iadd, 1) := dk_96 (dk_at dksX0_after_5 19 rfl rfl)
theorem dX0_after_134 : decode cX0_after 134 = .ok (.iastore, 1) := dk_79 (dk_at dksX0_after_5 20 rfl rfl)
theorem dX0_after_135 : decode cX0_after 135 = .ok (.iinc 4 1, 3) := dk_132 4 1 (dk_at dksX0_after_5 21 rfl rfl)
theorem dX0_after_138 : decode cX0_after 138 = .ok (.goto (-34), 3) := dk_167 255 222 (dk_at dksX0_after_6 0 rfl rfl)
theorem dX0_after_141 : decode cX0_after 141 = .ok (.iinc 3 1, 3) := dk_132 3 1 (dk_at dksX0_after_6 3 rfl rfl)
theorem dX0_after_144 : decode cX0_after 144 = .ok (.goto (-68), 3) := dk_167 255 188 (dk_at dksX0_after_6 6 rfl rfl)
theorem dX0_after_147 : decode cX0_after 147 = .ok (.iconst (-1), 1) := dk_2 (dk_at dksX0_after_6 9 rfl rfl)
theorem dX0_after_148 : decode cX0_after 148 = .ok (.istore_n 3, 1) := dk_62 (dk_at dksX0_after_6 10 rfl rfl)
theorem dX0_after_149 : decode cX0_after 149 = .ok (.ldc_w 282, 3) := dk_19 1 26 (dk_at dksX0_after_6 11 rfl rfl)
theorem dX0_after_152 : decode cX0_after 152 = .ok (.istore 4, 2) := dk_54 4 (dk_at dksX0_after_6 14 rfl rfl)
theorem dX0_after_154 : decode cX0_after 154 = .ok (.iconst 0, 1) := dk_3 (dk_at dksX0_after_6 16 rfl rfl)
theorem dX0_after_155 : decode cX0_after 155 = .ok (.istore 5, 2) := dk_54 5 (dk_at dksX0_after_6 17 rfl rfl)
theorem dX0_after_157 : decode cX0_after 157 = .ok (.iload 5, 2) := dk_21 5 (dk_at dksX0_after_6 19 rfl rfl)
theorem dX0_after_159 : decode cX0_after 159 = .ok (.aload_n 0, 1) := dk_42 (dk_at dksX0_after_6 21 rfl rfl)
theorem dX0_after_160 : decode cX0_after 160 = .ok (.invokevirtual 166, 3) := dk_182 0 166 (dk_at dksX0_after_7 0 rfl rfl)
theorem dX0_after_163 : decode cX0_after 163 = .ok (.if_icmp .ge 66, 3) := dk_162 0 66 (dk_at dksX0_after_7 3 rfl rfl)
theorem dX0_after_166 : decode cX0_after 166 = .ok (.iload_n 2, 1) := dk_28 (dk_at dksX0_after_7 6 rfl rfl)
theorem dX0_after_167 : decode cX0_after 167 = .ok (.ifCond .le 62, 3) := dk_158 0 62 (dk_at dksX0_after_7 7 rfl rfl)
theorem dX0_after_170 : decode cX0_after 170 = .ok (.iconst 0, 1) := dk_3 (dk_at dksX0_after_7 10 rfl rfl)
theorem dX0_after_171 : decode cX0_after 171 = .ok (.istore 6, 2) := dk_54 6 (dk_at dksX0_after_7 11 rfl rfl)
theorem dX0_after_173 : decode cX0_after 173 = .ok (.iconst 0, 1) := dk_3 (dk_at dksX0_after_7 13 rfl rfl)
theorem dX0_after_174 : decode cX0_after 174 = .ok (.istore 7, 2) := dk_54 7 (dk_at dksX0_after_7 14 rfl rfl)
theorem dX0_after_176 : decode cX0_after 176 = .ok (.iload 7, 2) := dk_21 7 (dk_at dksX0_after_7 16 rfl rfl)
theorem dX0_after_178 : decode cX0_after 178 = .ok (.bipush 8, 2) := dk_16 8 (dk_at dksX0_after_7 18 rfl rfl)
theorem dX0_after_180 : decode cX0_after 180 = .ok (.if_icmp .ge 26, 3) := dk_162 0 26 (dk_at dksX0_after_7 20 rfl rfl)
theorem dX0_after_183 : decode cX0_after 183 = .ok (.iload 6, 2) := dk_21 6 (dk_at dksX0_after_8 0 rfl rfl)
theorem dX0_after_185 : decode cX0_after 185 = .ok (.aload_n 0, 1) := dk_42 (dk_at dksX0_after_8 2 rfl rfl)
theorem dX0_after_186 : decode cX0_after 186 = .ok (.getfield 92, 3) := dk_180 0 92 (dk_at dksX0_after_8 3 rfl rfl)
theorem dX0_after_189 : decode cX0_after 189 = .ok (.iload 5, 2) := dk_21 5 (dk_at dksX0_after_8 6 rfl rfl)
theorem dX0_after_191 : decode cX0_after 191 = .ok (.aaload, 1) := dk_50 (dk_at dksX0_after_8 8 rfl rfl)
theorem dX0_after_192 : decode cX0_after 192 = .ok (.iload 7, 2) := dk_21 7 (dk_at dksX0_after_8 9 rfl rfl)
theorem dX0_after_194 : decode cX0_after 194 = .ok (.iaload, 1) := dk_46 (dk_at dksX0_after_8 11 rfl rfl)
theorem dX0_after_195 : decode cX0_after 195 = .ok (.invokestatic 328, 3) := dk_184 1 72 (dk_at dksX0_after_8 12 rfl rfl)
theorem dX0_after_198 : decode cX0_after 198 = .ok (.istore 6, 2) := dk_54 6 (dk_at dksX0_after_8 15 rfl rfl)
theorem dX0_after_200 : decode cX0_after 200 = .ok (.iinc 7 1, 3) := dk_132 7 1 (dk_at dksX0_after_8 17 rfl rfl)
theorem dX0_after_203 : decode cX0_after 203 = .ok (.goto (-27), 3) := dk_167 255 229 (dk_at dksX0_after_8 20 rfl rfl)
theorem dX0_after_206 : decode cX0_after 206 = .ok (.iload 6, 2) := dk_21 6 (dk_at dksX0_after_9 0 rfl rfl)
theorem dX0_after_208 : decode cX0_after 208 = .ok (.iload 4, 2) := dk_21 4 (dk_at dksX0_after_9 2 rfl rfl)
theorem dX0_after_210 : decode cX0_after 210 = .ok (.if_icmp .lt 6, 3) := dk_161 0 6 (dk_at dksX0_after_9 4 rfl rfl)
theorem dX0_after_213 : decode cX0_after 213 = .ok (.goto 10, 3) := dk_167 0 10 (dk_at dksX0_after_9 7 rfl rfl)
theorem dX0_after_216 : decode cX0_after 216 = .ok (.iload 6, 2) := dk_21 6 (dk_at dksX0_after_9 10 rfl rfl)
theorem dX0_after_218 : decode cX0_after 218 = .ok (.istore 4, 2) := dk_54 4 (dk_at dksX0_after_9 12 rfl rfl)
theorem dX0_after_220 : decode cX0_after 220 = .ok (.iload 5, 2) := dk_21 5 (dk_at dksX0_after_9 14 rfl rfl)
theorem dX0_after_222 : decode cX0_after 222 = .ok (.istore_n 3, 1) := dk_62 (dk_at dksX0_after_9 16 rfl rfl)
theorem dX0_after_223 : decode cX0_after 223 = .ok (.iinc 5 1, 3) := dk_132 5 1 (dk_at dksX0_after_9 17 rfl rfl)
theorem dX0_after_226 : decode cX0_after 226 = .ok (.goto (-69), 3) := dk_167 255 187 (dk_at dksX0_after_9 20 rfl rfl)
theorem dX0_after_229 : decode cX0_after 229 = .ok (.iload_n 3, 1) := dk_29 (dk_at dksX0_after_9 23 rfl rfl)
theorem dX0_after_230 : decode cX0_after 230 = .ok (.iconst (-1), 1) := dk_2 (dk_at dksX0_after_10 0 rfl rfl)
theorem dX0_after_231 : decode cX0_after 231 = .ok (.if_icmp .eq 7, 3) := dk_159 0 7 (dk_at dksX0_after_10 1 rfl rfl)
theorem dX0_after_234 : decode cX0_after 234 = .ok (.iload_n 1, 1) := dk_27 (dk_at dksX0_after_10 4 rfl rfl)
theorem dX0_after_235 : decode cX0_after 235 = .ok (.ifCond .ne 7, 3) := dk_154 0 7 (dk_at dksX0_after_10 5 rfl rfl)
theorem dX0_after_238 : decode cX0_after 238 = .ok (.iload_n 3, 1) := dk_29 (dk_at dksX0_after_10 8 rfl rfl)
theorem dX0_after_239 : decode cX0_after 239 = .ok (.goto 5, 3) := dk_167 0 5 (dk_at dksX0_after_10 9 rfl rfl)
theorem dX0_after_242 : decode cX0_after 242 = .ok (.iload 4, 2) := dk_21 4 (dk_at dksX0_after_10 12 rfl rfl)
theorem dX0_after_244 : decode cX0_after 244 = .ok (.ireturn, 1) := dk_172 (dk_at dksX0_after_10 14 rfl rfl)
abbrev cX0_trim : ByteArray := prog_1_method_48_code
def yX0_trim : MethodName := ⟨RX0, "trim", "(II)I"⟩
def dkwX0_trim_6 : List UInt8 := [167, 255, 160, 29, 21, 4, 164, 0, 7, 2, 167, 0, 12, 42, 3, 29, 3, 21, 4, 182, 1, 74, 172]
abbrev dktX0_trim_6 : List UInt8 := dkwX0_trim_6 ++ []
def dkwX0_trim_5 : List UInt8 := [21, 5, 182, 1, 80, 153, 0, 15, 42, 180, 0, 98, 21, 4, 132, 4, 1, 21, 5, 79, 132, 5, 1]
abbrev dktX0_trim_5 : List UInt8 := dkwX0_trim_5 ++ dktX0_trim_6
def dkwX0_trim_4 : List UInt8 := [159, 0, 14, 42, 180, 0, 95, 29, 132, 3, 1, 21, 5, 79, 21, 6, 154, 0, 28, 42, 180, 0, 69, 27]
abbrev dktX0_trim_4 : List UInt8 := dkwX0_trim_4 ++ dktX0_trim_5
def dkwX0_trim_3 : List UInt8 := [167, 0, 4, 3, 54, 6, 21, 6, 153, 0, 28, 42, 180, 0, 69, 27, 21, 5, 182, 1, 1, 2]
abbrev dktX0_trim_3 : List UInt8 := dkwX0_trim_3 ++ dktX0_trim_4
def dkwX0_trim_2 : List UInt8 := [180, 0, 31, 180, 0, 172, 162, 0, 90, 21, 5, 42, 180, 0, 31, 180, 0, 172, 28, 100, 161, 0, 7, 4]
abbrev dktX0_trim_2 : List UInt8 := dkwX0_trim_2 ++ dktX0_trim_3
def dkwX0_trim_1 : List UInt8 := [180, 0, 172, 4, 100, 184, 0, 168, 154, 0, 5, 2, 172, 3, 62, 3, 54, 4, 3, 54, 5, 21, 5, 42]
abbrev dktX0_trim_1 : List UInt8 := dkwX0_trim_1 ++ dktX0_trim_2
def dkwX0_trim_0 : List UInt8 := [27, 3, 42, 180, 0, 31, 180, 0, 154, 4, 100, 184, 0, 168, 153, 0, 20, 28, 4, 42, 180, 0, 31]
abbrev dktX0_trim_0 : List UInt8 := dkwX0_trim_0 ++ dktX0_trim_1
theorem dksX0_trim_0 : cX0_trim.data.toList.drop 0 = dktX0_trim_0 := by decide +kernel
theorem dksX0_trim_1 : cX0_trim.data.toList.drop 23 = dktX0_trim_1 := dk_seg dksX0_trim_0 23 rfl rfl
theorem dksX0_trim_2 : cX0_trim.data.toList.drop 47 = dktX0_trim_2 := dk_seg dksX0_trim_1 24 rfl rfl
theorem dksX0_trim_3 : cX0_trim.data.toList.drop 71 = dktX0_trim_3 := dk_seg dksX0_trim_2 24 rfl rfl
theorem dksX0_trim_4 : cX0_trim.data.toList.drop 93 = dktX0_trim_4 := dk_seg dksX0_trim_3 22 rfl rfl
theorem dksX0_trim_5 : cX0_trim.data.toList.drop 117 = dktX0_trim_5 := dk_seg dksX0_trim_4 24 rfl rfl
theorem dksX0_trim_6 : cX0_trim.data.toList.drop 140 = dktX0_trim_6 := dk_seg dksX0_trim_5 23 rfl rfl
theorem dX0_trim_0 : decode cX0_trim 0 = .ok (.iload_n 1, 1) := dk_27 (dk_at dksX0_trim_0 0 rfl rfl)
theorem dX0_trim_1 : decode cX0_trim 1 = .ok (.iconst 0, 1) := dk_3 (dk_at dksX0_trim_0 1 rfl rfl)
theorem dX0_trim_2 : decode cX0_trim 2 = .ok (.aload_n 0, 1) := dk_42 (dk_at dksX0_trim_0 2 rfl rfl)
theorem dX0_trim_3 : decode cX0_trim 3 = .ok (.getfield 31, 3) := dk_180 0 31 (dk_at dksX0_trim_0 3 rfl rfl)
theorem dX0_trim_6 : decode cX0_trim 6 = .ok (.getfield 154, 3) := dk_180 0 154 (dk_at dksX0_trim_0 6 rfl rfl)
theorem dX0_trim_9 : decode cX0_trim 9 = .ok (.iconst 1, 1) := dk_4 (dk_at dksX0_trim_0 9 rfl rfl)
theorem dX0_trim_10 : decode cX0_trim 10 = .ok (.isub, 1) := dk_100 (dk_at dksX0_trim_0 10 rfl rfl)
theorem dX0_trim_11 : decode cX0_trim 11 = .ok (.invokestatic 168, 3) := dk_184 0 168 (dk_at dksX0_trim_0 11 rfl rfl)
theorem dX0_trim_14 : decode cX0_trim 14 = .ok (.ifCond .eq 20, 3) := dk_153 0 20 (dk_at dksX0_trim_0 14 rfl rfl)
theorem dX0_trim_17 : decode cX0_trim 17 = .ok (.iload_n 2, 1) := dk_28 (dk_at dksX0_trim_0 17 rfl rfl)
theorem dX0_trim_18 : decode cX0_trim 18 = .ok (.iconst 1, 1) := dk_4 (dk_at dksX0_trim_0 18 rfl rfl)
theorem dX0_trim_19 : decode cX0_trim 19 = .ok (.aload_n 0, 1) := dk_42 (dk_at dksX0_trim_0 19 rfl rfl)
theorem dX0_trim_20 : decode cX0_trim 20 = .ok (.getfield 31, 3) := dk_180 0 31 (dk_at dksX0_trim_0 20 rfl rfl)
theorem dX0_trim_23 : decode cX0_trim 23 = .ok (.getfield 172, 3) := dk_180 0 172 (dk_at dksX0_trim_1 0 rfl rfl)
theorem dX0_trim_26 : decode cX0_trim 26 = .ok (.iconst 1, 1) := dk_4 (dk_at dksX0_trim_1 3 rfl rfl)
theorem dX0_trim_27 : decode cX0_trim 27 = .ok (.isub, 1) := dk_100 (dk_at dksX0_trim_1 4 rfl rfl)
theorem dX0_trim_28 : decode cX0_trim 28 = .ok (.invokestatic 168, 3) := dk_184 0 168 (dk_at dksX0_trim_1 5 rfl rfl)
theorem dX0_trim_31 : decode cX0_trim 31 = .ok (.ifCond .ne 5, 3) := dk_154 0 5 (dk_at dksX0_trim_1 8 rfl rfl)
theorem dX0_trim_34 : decode cX0_trim 34 = .ok (.iconst (-1), 1) := dk_2 (dk_at dksX0_trim_1 11 rfl rfl)
theorem dX0_trim_35 : decode cX0_trim 35 = .ok (.ireturn, 1) := dk_172 (dk_at dksX0_trim_1 12 rfl rfl)
theorem dX0_trim_36 : decode cX0_trim 36 = .ok (.iconst 0, 1) := dk_3 (dk_at dksX0_trim_1 13 rfl rfl)
theorem dX0_trim_37 : decode cX0_trim 37 = .ok (.istore_n 3, 1) := dk_62 (dk_at dksX0_trim_1 14 rfl rfl)
theorem dX0_trim_38 : decode cX0_trim 38 = .ok (.iconst 0, 1) := dk_3 (dk_at dksX0_trim_1 15 rfl rfl)
theorem dX0_trim_39 : decode cX0_trim 39 = .ok (.istore 4, 2) := dk_54 4 (dk_at dksX0_trim_1 16 rfl rfl)
theorem dX0_trim_41 : decode cX0_trim 41 = .ok (.iconst 0, 1) := dk_3 (dk_at dksX0_trim_1 18 rfl rfl)
theorem dX0_trim_42 : decode cX0_trim 42 = .ok (.istore 5, 2) := dk_54 5 (dk_at dksX0_trim_1 19 rfl rfl)
theorem dX0_trim_44 : decode cX0_trim 44 = .ok (.iload 5, 2) := dk_21 5 (dk_at dksX0_trim_1 21 rfl rfl)
theorem dX0_trim_46 : decode cX0_trim 46 = .ok (.aload_n 0, 1) := dk_42 (dk_at dksX0_trim_1 23 rfl rfl)
theorem dX0_trim_47 : decode cX0_trim 47 = .ok (.getfield 31, 3) := dk_180 0 31 (dk_at dksX0_trim_2 0 rfl rfl)
theorem dX0_trim_50 : decode cX0_trim 50 = .ok (.getfield 172, 3) := dk_180 0 172 (dk_at dksX0_trim_2 3 rfl rfl)
theorem dX0_trim_53 : decode cX0_trim 53 = .ok (.if_icmp .ge 90, 3) := dk_162 0 90 (dk_at dksX0_trim_2 6 rfl rfl)
theorem dX0_trim_56 : decode cX0_trim 56 = .ok (.iload 5, 2) := dk_21 5 (dk_at dksX0_trim_2 9 rfl rfl)
theorem dX0_trim_58 : decode cX0_trim 58 = .ok (.aload_n 0, 1) := dk_42 (dk_at dksX0_trim_2 11 rfl rfl)
theorem dX0_trim_59 : decode cX0_trim 59 = .ok (.getfield 31, 3) := dk_180 0 31 (dk_at dksX0_trim_2 12 rfl rfl)
theorem dX0_trim_62 : decode cX0_trim 62 = .ok (.getfield 172, 3) := dk_180 0 172 (dk_at dksX0_trim_2 15 rfl rfl)
theorem dX0_trim_65 : decode cX0_trim 65 = .ok (.iload_n 2, 1) := dk_28 (dk_at dksX0_trim_2 18 rfl rfl)
theorem dX0_trim_66 : decode cX0_trim 66 = .ok (.isub, 1) := dk_100 (dk_at dksX0_trim_2 19 rfl rfl)
theorem dX0_trim_67 : decode cX0_trim 67 = .ok (.if_icmp .lt 7, 3) := dk_161 0 7 (dk_at dksX0_trim_2 20 rfl rfl)
theorem dX0_trim_70 : decode cX0_trim 70 = .ok (.iconst 1, 1) := dk_4 (dk_at dksX0_trim_2 23 rfl rfl)
theorem dX0_trim_71 : decode cX0_trim 71 = .ok (.goto 4, 3) := dk_167 0 4 (dk_at dksX0_trim_3 0 rfl rfl)
theorem dX0_trim_74 : decode cX0_trim 74 = .ok (.iconst 0, 1) := dk_3 (dk_at dksX0_trim_3 3 rfl rfl)
theorem dX0_trim_75 : decode cX0_trim 75 = .ok (.istore 6, 2) := dk_54 6 (dk_at dksX0_trim_3 4 rfl rfl)
theorem dX0_trim_77 : decode cX0_trim 77 = .ok (.iload 6, 2) := dk_21 6 (dk_at dksX0_trim_3 6 rfl rfl)
theorem dX0_trim_79 : decode cX0_trim 79 = .ok (.ifCond .eq 28, 3) := dk_153 0 28 (dk_at dksX0_trim_3 8 rfl rfl)
theorem dX0_trim_82 : decode cX0_trim 82 = .ok (.aload_n 0, 1) := dk_42 (dk_at dksX0_trim_3 11 rfl rfl)
theorem dX0_trim_83 : decode cX0_trim 83 = .ok (.getfield 69, 3) := dk_180 0 69 (dk_at dksX0_trim_3 12 rfl rfl)
theorem dX0_trim_86 : decode cX0_trim 86 = .ok (.iload_n 1, 1) := dk_27 (dk_at dksX0_trim_3 15 rfl rfl)
theorem dX0_trim_87 : decode cX0_trim 87 = .ok (.iload 5, 2) := dk_21 5 (dk_at dksX0_trim_3 16 rfl rfl)
theorem dX0_trim_89 : decode cX0_trim 89 = .ok (.invokevirtual 257, 3) := dk_182 1 1 (dk_at dksX0_trim_3 18 rfl rfl)
theorem dX0_trim_92 : decode cX0_trim 92 = .ok (.iconst (-1), 1) := dk_2 (dk_at dksX0_trim_3 21 rfl rfl)
theorem dX0_trim_93 : decode cX0_trim 93 = .ok (.if_icmp .eq 14, 3) := dk_159 0 14 (dk_at dksX0_trim_4 0 rfl rfl)
theorem dX0_trim_96 : decode cX0_trim 96 = .ok (.aload_n 0, 1) := dk_42 (dk_at dksX0_trim_4 3 rfl rfl)
theorem dX0_trim_97 : decode cX0_trim 97 = .ok (.getfield 95, 3) := dk_180 0 95 (dk_at dksX0_trim_4 4 rfl rfl)
theorem dX0_trim_100 : decode cX0_trim 100 = .ok (.iload_n 3, 1) := dk_29 (dk_at dksX0_trim_4 7 rfl rfl)
theorem dX0_trim_101 : decode cX0_trim 101 = .ok (.iinc 3 1, 3) := dk_132 3 1 (dk_at dksX0_trim_4 8 rfl rfl)
theorem dX0_trim_104 : decode cX0_trim 104 = .ok (.iload 5, 2) := dk_21 5 (dk_at dksX0_trim_4 11 rfl rfl)
theorem dX0_trim_106 : decode cX0_trim 106 = .ok (.iastore, 1) := dk_79 (dk_at dksX0_trim_4 13 rfl rfl)
theorem dX0_trim_107 : decode cX0_trim 107 = .ok (.iload 6, 2) := dk_21 6 (dk_at dksX0_trim_4 14 rfl rfl)
theorem dX0_trim_109 : decode cX0_trim 109 = .ok (.ifCond .ne 28, 3) := dk_154 0 28 (dk_at dksX0_trim_4 16 rfl rfl)
theorem dX0_trim_112 : decode cX0_trim 112 = .ok (.aload_n 0, 1) := dk_42 (dk_at dksX0_trim_4 19 rfl rfl)
theorem dX0_trim_113 : decode cX0_trim 113 = .ok (.getfield 69, 3) := dk_180 0 69 (dk_at dksX0_trim_4 20 rfl rfl)
theorem dX0_trim_116 : decode cX0_trim 116 = .ok (.iload_n 1, 1) := dk_27 (dk_at dksX0_trim_4 23 rfl rfl)
theorem dX0_trim_117 : decode cX0_trim 117 = .ok (.iload 5, 2) := dk_21 5 (dk_at dksX0_trim_5 0 rfl rfl)
theorem dX0_trim_119 : decode cX0_trim 119 = .ok (.invokevirtual 336, 3) := dk_182 1 80 (dk_at dksX0_trim_5 2 rfl rfl)
theorem dX0_trim_122 : decode cX0_trim 122 = .ok (.ifCond .eq 15, 3) := dk_153 0 15 (dk_at dksX0_trim_5 5 rfl rfl)
theorem dX0_trim_125 : decode cX0_trim 125 = .ok (.aload_n 0, 1) := dk_42 (dk_at dksX0_trim_5 8 rfl rfl)
theorem dX0_trim_126 : decode cX0_trim 126 = .ok (.getfield 98, 3) := dk_180 0 98 (dk_at dksX0_trim_5 9 rfl rfl)
theorem dX0_trim_129 : decode cX0_trim 129 = .ok (.iload 4, 2) := dk_21 4 (dk_at dksX0_trim_5 12 rfl rfl)
theorem dX0_trim_131 : decode cX0_trim 131 = .ok (.iinc 4 1, 3) := dk_132 4 1 (dk_at dksX0_trim_5 14 rfl rfl)
theorem dX0_trim_134 : decode cX0_trim 134 = .ok (.iload 5, 2) := dk_21 5 (dk_at dksX0_trim_5 17 rfl rfl)
theorem dX0_trim_136 : decode cX0_trim 136 = .ok (.iastore, 1) := dk_79 (dk_at dksX0_trim_5 19 rfl rfl)
theorem dX0_trim_137 : decode cX0_trim 137 = .ok (.iinc 5 1, 3) := dk_132 5 1 (dk_at dksX0_trim_5 20 rfl rfl)
theorem dX0_trim_140 : decode cX0_trim 140 = .ok (.goto (-96), 3) := dk_167 255 160 (dk_at dksX0_trim_6 0 rfl rfl)
theorem dX0_trim_143 : decode cX0_trim 143 = .ok (.iload_n 3, 1) := dk_29 (dk_at dksX0_trim_6 3 rfl rfl)
theorem dX0_trim_144 : decode cX0_trim 144 = .ok (.iload 4, 2) := dk_21 4 (dk_at dksX0_trim_6 4 rfl rfl)
theorem dX0_trim_146 : decode cX0_trim 146 = .ok (.if_icmp .le 7, 3) := dk_164 0 7 (dk_at dksX0_trim_6 6 rfl rfl)
theorem dX0_trim_149 : decode cX0_trim 149 = .ok (.iconst (-1), 1) := dk_2 (dk_at dksX0_trim_6 9 rfl rfl)
theorem dX0_trim_150 : decode cX0_trim 150 = .ok (.goto 12, 3) := dk_167 0 12 (dk_at dksX0_trim_6 10 rfl rfl)
theorem dX0_trim_153 : decode cX0_trim 153 = .ok (.aload_n 0, 1) := dk_42 (dk_at dksX0_trim_6 13 rfl rfl)
theorem dX0_trim_154 : decode cX0_trim 154 = .ok (.iconst 0, 1) := dk_3 (dk_at dksX0_trim_6 14 rfl rfl)
theorem dX0_trim_155 : decode cX0_trim 155 = .ok (.iload_n 3, 1) := dk_29 (dk_at dksX0_trim_6 15 rfl rfl)
theorem dX0_trim_156 : decode cX0_trim 156 = .ok (.iconst 0, 1) := dk_3 (dk_at dksX0_trim_6 16 rfl rfl)
theorem dX0_trim_157 : decode cX0_trim 157 = .ok (.iload 4, 2) := dk_21 4 (dk_at dksX0_trim_6 17 rfl rfl)
theorem dX0_trim_159 : decode cX0_trim 159 = .ok (.invokevirtual 330, 3) := dk_182 1 74 (dk_at dksX0_trim_6 19 rfl rfl)
theorem dX0_trim_162 : decode cX0_trim 162 = .ok (.ireturn, 1) := dk_172 (dk_at dksX0_trim_6 22 rfl rfl)
abbrev cX0_fewest : ByteArray := prog_1_method_47_code
def yX0_fewest : MethodName := ⟨RX0, "fewest", "(IIII)I"⟩
def dkwX0_fewest_2 : List UInt8 := [21, 6, 4, 96, 21, 4, 182, 1, 74, 96, 184, 1, 78, 54, 5, 132, 6, 1, 167, 255, 206, 21, 5, 172]
abbrev dktX0_fewest_2 : List UInt8 := dkwX0_fewest_2 ++ []
def dkwX0_fewest_1 : List UInt8 := [163, 0, 45, 21, 5, 42, 180, 0, 95, 27, 46, 42, 180, 0, 98, 21, 6, 46, 100, 42, 27, 4, 96, 28]
abbrev dktX0_fewest_1 : List UInt8 := dkwX0_fewest_1 ++ dktX0_fewest_2
def dkwX0_fewest_0 : List UInt8 := [27, 28, 160, 0, 5, 3, 172, 19, 1, 26, 54, 5, 29, 54, 6, 21, 6, 21, 4, 28, 27, 100, 100]
abbrev dktX0_fewest_0 : List UInt8 := dkwX0_fewest_0 ++ dktX0_fewest_1
theorem dksX0_fewest_0 : cX0_fewest.data.toList.drop 0 = dktX0_fewest_0 := by decide +kernel
theorem dksX0_fewest_1 : cX0_fewest.data.toList.drop 23 = dktX0_fewest_1 := dk_seg dksX0_fewest_0 23 rfl rfl
theorem dksX0_fewest_2 : cX0_fewest.data.toList.drop 47 = dktX0_fewest_2 := dk_seg dksX0_fewest_1 24 rfl rfl
theorem dX0_fewest_0 : decode cX0_fewest 0 = .ok (.iload_n 1, 1) := dk_27 (dk_at dksX0_fewest_0 0 rfl rfl)
theorem dX0_fewest_1 : decode cX0_fewest 1 = .ok (.iload_n 2, 1) := dk_28 (dk_at dksX0_fewest_0 1 rfl rfl)
theorem dX0_fewest_2 : decode cX0_fewest 2 = .ok (.if_icmp .ne 5, 3) := dk_160 0 5 (dk_at dksX0_fewest_0 2 rfl rfl)
theorem dX0_fewest_5 : decode cX0_fewest 5 = .ok (.iconst 0, 1) := dk_3 (dk_at dksX0_fewest_0 5 rfl rfl)
theorem dX0_fewest_6 : decode cX0_fewest 6 = .ok (.ireturn, 1) := dk_172 (dk_at dksX0_fewest_0 6 rfl rfl)
theorem dX0_fewest_7 : decode cX0_fewest 7 = .ok (.ldc_w 282, 3) := dk_19 1 26 (dk_at dksX0_fewest_0 7 rfl rfl)
theorem dX0_fewest_10 : decode cX0_fewest 10 = .ok (.istore 5, 2) := dk_54 5 (dk_at dksX0_fewest_0 10 rfl rfl)
theorem dX0_fewest_12 : decode cX0_fewest 12 = .ok (.iload_n 3, 1) := dk_29 (dk_at dksX0_fewest_0 12 rfl rfl)
theorem dX0_fewest_13 : decode cX0_fewest 13 = .ok (.istore 6, 2) := dk_54 6 (dk_at dksX0_fewest_0 13 rfl rfl)
theorem dX0_fewest_15 : decode cX0_fewest 15 = .ok (.iload 6, 2) := dk_21 6 (dk_at dksX0_fewest_0 15 rfl rfl)
theorem dX0_fewest_17 : decode cX0_fewest 17 = .ok (.iload 4, 2) := dk_21 4 (dk_at dksX0_fewest_0 17 rfl rfl)
theorem dX0_fewest_19 : decode cX0_fewest 19 = .ok (.iload_n 2, 1) := dk_28 (dk_at dksX0_fewest_0 19 rfl rfl)
theorem dX0_fewest_20 : decode cX0_fewest 20 = .ok (.iload_n 1, 1) := dk_27 (dk_at dksX0_fewest_0 20 rfl rfl)
theorem dX0_fewest_21 : decode cX0_fewest 21 = .ok (.isub, 1) := dk_100 (dk_at dksX0_fewest_0 21 rfl rfl)
theorem dX0_fewest_22 : decode cX0_fewest 22 = .ok (.isub, 1) := dk_100 (dk_at dksX0_fewest_0 22 rfl rfl)
theorem dX0_fewest_23 : decode cX0_fewest 23 = .ok (.if_icmp .gt 45, 3) := dk_163 0 45 (dk_at dksX0_fewest_1 0 rfl rfl)
theorem dX0_fewest_26 : decode cX0_fewest 26 = .ok (.iload 5, 2) := dk_21 5 (dk_at dksX0_fewest_1 3 rfl rfl)
theorem dX0_fewest_28 : decode cX0_fewest 28 = .ok (.aload_n 0, 1) := dk_42 (dk_at dksX0_fewest_1 5 rfl rfl)
theorem dX0_fewest_29 : decode cX0_fewest 29 = .ok (.getfield 95, 3) := dk_180 0 95 (dk_at dksX0_fewest_1 6 rfl rfl)
theorem dX0_fewest_32 : decode cX0_fewest 32 = .ok (.iload_n 1, 1) := dk_27 (dk_at dksX0_fewest_1 9 rfl rfl)
theorem dX0_fewest_33 : decode cX0_fewest 33 = .ok (.iaload, 1) := dk_46 (dk_at dksX0_fewest_1 10 rfl rfl)
theorem dX0_fewest_34 : decode cX0_fewest 34 = .ok (.aload_n 0, 1) := dk_42 (dk_at dksX0_fewest_1 11 rfl rfl)
theorem dX0_fewest_35 : decode cX0_fewest 35 = .ok (.getfield 98, 3) := dk_180 0 98 (dk_at dksX0_fewest_1 12 rfl rfl)
theorem dX0_fewest_38 : decode cX0_fewest 38 = .ok (.iload 6, 2) := dk_21 6 (dk_at dksX0_fewest_1 15 rfl rfl)
theorem dX0_fewest_40 : decode cX0_fewest 40 = .ok (.iaload, 1) := dk_46 (dk_at dksX0_fewest_1 17 rfl rfl)
theorem dX0_fewest_41 : decode cX0_fewest 41 = .ok (.isub, 1) := dk_100 (dk_at dksX0_fewest_1 18 rfl rfl)
theorem dX0_fewest_42 : decode cX0_fewest 42 = .ok (.aload_n 0, 1) := dk_42 (dk_at dksX0_fewest_1 19 rfl rfl)
theorem dX0_fewest_43 : decode cX0_fewest 43 = .ok (.iload_n 1, 1) := dk_27 (dk_at dksX0_fewest_1 20 rfl rfl)
theorem dX0_fewest_44 : decode cX0_fewest 44 = .ok (.iconst 1, 1) := dk_4 (dk_at dksX0_fewest_1 21 rfl rfl)
theorem dX0_fewest_45 : decode cX0_fewest 45 = .ok (.iadd, 1) := dk_96 (dk_at dksX0_fewest_1 22 rfl rfl)
theorem dX0_fewest_46 : decode cX0_fewest 46 = .ok (.iload_n 2, 1) := dk_28 (dk_at dksX0_fewest_1 23 rfl rfl)
theorem dX0_fewest_47 : decode cX0_fewest 47 = .ok (.iload 6, 2) := dk_21 6 (dk_at dksX0_fewest_2 0 rfl rfl)
theorem dX0_fewest_49 : decode cX0_fewest 49 = .ok (.iconst 1, 1) := dk_4 (dk_at dksX0_fewest_2 2 rfl rfl)
theorem dX0_fewest_50 : decode cX0_fewest 50 = .ok (.iadd, 1) := dk_96 (dk_at dksX0_fewest_2 3 rfl rfl)
theorem dX0_fewest_51 : decode cX0_fewest 51 = .ok (.iload 4, 2) := dk_21 4 (dk_at dksX0_fewest_2 4 rfl rfl)
theorem dX0_fewest_53 : decode cX0_fewest 53 = .ok (.invokevirtual 330, 3) := dk_182 1 74 (dk_at dksX0_fewest_2 6 rfl rfl)
theorem dX0_fewest_56 : decode cX0_fewest 56 = .ok (.iadd, 1) := dk_96 (dk_at dksX0_fewest_2 9 rfl rfl)
theorem dX0_fewest_57 : decode cX0_fewest 57 = .ok (.invokestatic 334, 3) := dk_184 1 78 (dk_at dksX0_fewest_2 10 rfl rfl)
theorem dX0_fewest_60 : decode cX0_fewest 60 = .ok (.istore 5, 2) := dk_54 5 (dk_at dksX0_fewest_2 13 rfl rfl)
theorem dX0_fewest_62 : decode cX0_fewest 62 = .ok (.iinc 6 1, 3) := dk_132 6 1 (dk_at dksX0_fewest_2 15 rfl rfl)
theorem dX0_fewest_65 : decode cX0_fewest 65 = .ok (.goto (-50), 3) := dk_167 255 206 (dk_at dksX0_fewest_2 18 rfl rfl)
theorem dX0_fewest_68 : decode cX0_fewest 68 = .ok (.iload 5, 2) := dk_21 5 (dk_at dksX0_fewest_2 21 rfl rfl)
theorem dX0_fewest_70 : decode cX0_fewest 70 = .ok (.ireturn, 1) := dk_172 (dk_at dksX0_fewest_2 23 rfl rfl)
abbrev cX0_undo : ByteArray := prog_1_method_50_code
def yX0_undo : MethodName := ⟨RX0, "undo", "()Z"⟩
def dkwX0_undo_2 : List UInt8 := [87, 4, 172]
abbrev dktX0_undo_2 : List UInt8 := dkwX0_undo_2 ++ []
def dkwX0_undo_1 : List UInt8 := [180, 0, 145, 4, 100, 181, 0, 145, 42, 180, 0, 69, 42, 180, 0, 101, 42, 180, 0, 145, 50, 182, 1, 30]
abbrev dktX0_undo_1 : List UInt8 := dkwX0_undo_1 ++ dktX0_undo_2
def dkwX0_undo_0 : List UInt8 := [42, 180, 0, 145, 154, 0, 17, 42, 7, 182, 0, 115, 155, 0, 7, 4, 167, 0, 4, 3, 172, 42, 89]
abbrev dktX0_undo_0 : List UInt8 := dkwX0_undo_0 ++ dktX0_undo_1
theorem dksX0_undo_0 : cX0_undo.data.toList.drop 0 = dktX0_undo_0 := by decide +kernel
theorem dksX0_undo_1 : cX0_undo.data.toList.drop 23 = dktX0_undo_1 := dk_seg dksX0_undo_0 23 rfl rfl
theorem dksX0_undo_2 : cX0_undo.data.toList.drop 47 = dktX0_undo_2 := dk_seg dksX0_undo_1 24 rfl rfl
theorem dX0_undo_0 : decode cX0_undo 0 = .ok (.aload_n 0, 1) := dk_42 (dk_at dksX0_undo_0 0 rfl rfl)
theorem dX0_undo_1 : decode cX0_undo 1 = .ok (.getfield 145, 3) := dk_180 0 145 (dk_at dksX0_undo_0 1 rfl rfl)
theorem dX0_undo_4 : decode cX0_undo 4 = .ok (.ifCond .ne 17, 3) := dk_154 0 17 (dk_at dksX0_undo_0 4 rfl rfl)
theorem dX0_undo_7 : decode cX0_undo 7 = .ok (.aload_n 0, 1) := dk_42 (dk_at dksX0_undo_0 7 rfl rfl)
theorem dX0_undo_8 : decode cX0_undo 8 = .ok (.iconst 4, 1) := dk_7 (dk_at dksX0_undo_0 8 rfl rfl)
theorem dX0_undo_9 : decode cX0_undo 9 = .ok (.invokevirtual 115, 3) := dk_182 0 115 (dk_at dksX0_undo_0 9 rfl rfl)
theorem dX0_undo_12 : decode cX0_undo 12 = .ok (.ifCond .lt 7, 3) := dk_155 0 7 (dk_at dksX0_undo_0 12 rfl rfl)
theorem dX0_undo_15 : decode cX0_undo 15 = .ok (.iconst 1, 1) := dk_4 (dk_at dksX0_undo_0 15 rfl rfl)
theorem dX0_undo_16 : decode cX0_undo 16 = .ok (.goto 4, 3) := dk_167 0 4 (dk_at dksX0_undo_0 16 rfl rfl)
theorem dX0_undo_19 : decode cX0_undo 19 = .ok (.iconst 0, 1) := dk_3 (dk_at dksX0_undo_0 19 rfl rfl)
theorem dX0_undo_20 : decode cX0_undo 20 = .ok (.ireturn, 1) := dk_172 (dk_at dksX0_undo_0 20 rfl rfl)
theorem dX0_undo_21 : decode cX0_undo 21 = .ok (.aload_n 0, 1) := dk_42 (dk_at dksX0_undo_0 21 rfl rfl)
theorem dX0_undo_22 : decode cX0_undo 22 = .ok (.dup, 1) := dk_89 (dk_at dksX0_undo_0 22 rfl rfl)
theorem dX0_undo_23 : decode cX0_undo 23 = .ok (.getfield 145, 3) := dk_180 0 145 (dk_at dksX0_undo_1 0 rfl rfl)
theorem dX0_undo_26 : decode cX0_undo 26 = .ok (.iconst 1, 1) := dk_4 (dk_at dksX0_undo_1 3 rfl rfl)
theorem dX0_undo_27 : decode cX0_undo 27 = .ok (.isub, 1) := dk_100 (dk_at dksX0_undo_1 4 rfl rfl)
theorem dX0_undo_28 : decode cX0_undo 28 = .ok (.putfield 145, 3) := dk_181 0 145 (dk_at dksX0_undo_1 5 rfl rfl)
theorem dX0_undo_31 : decode cX0_undo 31 = .ok (.aload_n 0, 1) := dk_42 (dk_at dksX0_undo_1 8 rfl rfl)
theorem dX0_undo_32 : decode cX0_undo 32 = .ok (.getfield 69, 3) := dk_180 0 69 (dk_at dksX0_undo_1 9 rfl rfl)
theorem dX0_undo_35 : decode cX0_undo 35 = .ok (.aload_n 0, 1) := dk_42 (dk_at dksX0_undo_1 12 rfl rfl)
theorem dX0_undo_36 : decode cX0_undo 36 = .ok (.getfield 101, 3) := dk_180 0 101 (dk_at dksX0_undo_1 13 rfl rfl)
theorem dX0_undo_39 : decode cX0_undo 39 = .ok (.aload_n 0, 1) := dk_42 (dk_at dksX0_undo_1 16 rfl rfl)
theorem dX0_undo_40 : decode cX0_undo 40 = .ok (.getfield 145, 3) := dk_180 0 145 (dk_at dksX0_undo_1 17 rfl rfl)
theorem dX0_undo_43 : decode cX0_undo 43 = .ok (.aaload, 1) := dk_50 (dk_at dksX0_undo_1 20 rfl rfl)
theorem dX0_undo_44 : decode cX0_undo 44 = .ok (.invokevirtual 286, 3) := dk_182 1 30 (dk_at dksX0_undo_1 21 rfl rfl)
theorem dX0_undo_47 : decode cX0_undo 47 = .ok (.pop, 1) := dk_87 (dk_at dksX0_undo_2 0 rfl rfl)
theorem dX0_undo_48 : decode cX0_undo 48 = .ok (.iconst 1, 1) := dk_4 (dk_at dksX0_undo_2 1 rfl rfl)
theorem dX0_undo_49 : decode cX0_undo 49 = .ok (.ireturn, 1) := dk_172 (dk_at dksX0_undo_2 2 rfl rfl)
abbrev cX0_go : ByteArray := prog_1_method_51_code
def yX0_go : MethodName := ⟨RX0, "go", "(III)Z"⟩
def dkwX0_go_2 : List UInt8 := [42, 180, 0, 69, 180, 0, 236, 27, 28, 79, 42, 180, 0, 69, 180, 0, 239, 27, 29, 79, 4, 172]
abbrev dktX0_go_2 : List UInt8 := dkwX0_go_2 ++ []
def dkwX0_go_1 : List UInt8 := [182, 1, 80, 154, 0, 17, 42, 5, 182, 0, 115, 155, 0, 7, 4, 167, 0, 4, 3, 172, 42, 182, 1, 83]
abbrev dktX0_go_1 : List UInt8 := dkwX0_go_1 ++ dktX0_go_2
def dkwX0_go_0 : List UInt8 := [42, 27, 182, 0, 225, 153, 0, 24, 42, 28, 29, 182, 0, 251, 153, 0, 15, 42, 180, 0, 69, 28, 29]
abbrev dktX0_go_0 : List UInt8 := dkwX0_go_0 ++ dktX0_go_1
theorem dksX0_go_0 : cX0_go.data.toList.drop 0 = dktX0_go_0 := by decide +kernel
theorem dksX0_go_1 : cX0_go.data.toList.drop 23 = dktX0_go_1 := dk_seg dksX0_go_0 23 rfl rfl
theorem dksX0_go_2 : cX0_go.data.toList.drop 47 = dktX0_go_2 := dk_seg dksX0_go_1 24 rfl rfl
theorem dX0_go_0 : decode cX0_go 0 = .ok (.aload_n 0, 1) := dk_42 (dk_at dksX0_go_0 0 rfl rfl)
theorem dX0_go_1 : decode cX0_go 1 = .ok (.iload_n 1, 1) := dk_27 (dk_at dksX0_go_0 1 rfl rfl)
theorem dX0_go_2 : decode cX0_go 2 = .ok (.invokevirtual 225, 3) := dk_182 0 225 (dk_at dksX0_go_0 2 rfl rfl)
theorem dX0_go_5 : decode cX0_go 5 = .ok (.ifCond .eq 24, 3) := dk_153 0 24 (dk_at dksX0_go_0 5 rfl rfl)
theorem dX0_go_8 : decode cX0_go 8 = .ok (.aload_n 0, 1) := dk_42 (dk_at dksX0_go_0 8 rfl rfl)
theorem dX0_go_9 : decode cX0_go 9 = .ok (.iload_n 2, 1) := dk_28 (dk_at dksX0_go_0 9 rfl rfl)
theorem dX0_go_10 : decode cX0_go 10 = .ok (.iload_n 3, 1) := dk_29 (dk_at dksX0_go_0 10 rfl rfl)
theorem dX0_go_11 : decode cX0_go 11 = .ok (.invokevirtual 251, 3) := dk_182 0 251 (dk_at dksX0_go_0 11 rfl rfl)
theorem dX0_go_14 : decode cX0_go 14 = .ok (.ifCond .eq 15, 3) := dk_153 0 15 (dk_at dksX0_go_0 14 rfl rfl)
theorem dX0_go_17 : decode cX0_go 17 = .ok (.aload_n 0, 1) := dk_42 (dk_at dksX0_go_0 17 rfl rfl)
theorem dX0_go_18 : decode cX0_go 18 = .ok (.getfield 69, 3) := dk_180 0 69 (dk_at dksX0_go_0 18 rfl rfl)
theorem dX0_go_21 : decode cX0_go 21 = .ok (.iload_n 2, 1) := dk_28 (dk_at dksX0_go_0 21 rfl rfl)
theorem dX0_go_22 : decode cX0_go 22 = .ok (.iload_n 3, 1) := dk_29 (dk_at dksX0_go_0 22 rfl rfl)
theorem dX0_go_23 : decode cX0_go 23 = .ok (.invokevirtual 336, 3) := dk_182 1 80 (dk_at dksX0_go_1 0 rfl rfl)
theorem dX0_go_26 : decode cX0_go 26 = .ok (.ifCond .ne 17, 3) := dk_154 0 17 (dk_at dksX0_go_1 3 rfl rfl)
theorem dX0_go_29 : decode cX0_go 29 = .ok (.aload_n 0, 1) := dk_42 (dk_at dksX0_go_1 6 rfl rfl)
theorem dX0_go_30 : decode cX0_go 30 = .ok (.iconst 2, 1) := dk_5 (dk_at dksX0_go_1 7 rfl rfl)
theorem dX0_go_31 : decode cX0_go 31 = .ok (.invokevirtual 115, 3) := dk_182 0 115 (dk_at dksX0_go_1 8 rfl rfl)
theorem dX0_go_34 : decode cX0_go 34 = .ok (.ifCond .lt 7, 3) := dk_155 0 7 (dk_at dksX0_go_1 11 rfl rfl)
theorem dX0_go_37 : decode cX0_go 37 = .ok (.iconst 1, 1) := dk_4 (dk_at dksX0_go_1 14 rfl rfl)
theorem dX0_go_38 : decode cX0_go 38 = .ok (.goto 4, 3) := dk_167 0 4 (dk_at dksX0_go_1 15 rfl rfl)
theorem dX0_go_41 : decode cX0_go 41 = .ok (.iconst 0, 1) := dk_3 (dk_at dksX0_go_1 18 rfl rfl)
theorem dX0_go_42 : decode cX0_go 42 = .ok (.ireturn, 1) := dk_172 (dk_at dksX0_go_1 19 rfl rfl)
theorem dX0_go_43 : decode cX0_go 43 = .ok (.aload_n 0, 1) := dk_42 (dk_at dksX0_go_1 20 rfl rfl)
theorem dX0_go_44 : decode cX0_go 44 = .ok (.invokevirtual 339, 3) := dk_182 1 83 (dk_at dksX0_go_1 21 rfl rfl)
theorem dX0_go_47 : decode cX0_go 47 = .ok (.aload_n 0, 1) := dk_42 (dk_at dksX0_go_2 0 rfl rfl)
theorem dX0_go_48 : decode cX0_go 48 = .ok (.getfield 69, 3) := dk_180 0 69 (dk_at dksX0_go_2 1 rfl rfl)
theorem dX0_go_51 : decode cX0_go 51 = .ok (.getfield 236, 3) := dk_180 0 236 (dk_at dksX0_go_2 4 rfl rfl)
theorem dX0_go_54 : decode cX0_go 54 = .ok (.iload_n 1, 1) := dk_27 (dk_at dksX0_go_2 7 rfl rfl)
theorem dX0_go_55 : decode cX0_go 55 = .ok (.iload_n 2, 1) := dk_28 (dk_at dksX0_go_2 8 rfl rfl)
theorem dX0_go_56 : decode cX0_go 56 = .ok (.iastore, 1) := dk_79 (dk_at dksX0_go_2 9 rfl rfl)
theorem dX0_go_57 : decode cX0_go 57 = .ok (.aload_n 0, 1) := dk_42 (dk_at dksX0_go_2 10 rfl rfl)
theorem dX0_go_58 : decode cX0_go 58 = .ok (.getfield 69, 3) := dk_180 0 69 (dk_at dksX0_go_2 11 rfl rfl)
theorem dX0_go_61 : decode cX0_go 61 = .ok (.getfield 239, 3) := dk_180 0 239 (dk_at dksX0_go_2 14 rfl rfl)
theorem dX0_go_64 : decode cX0_go 64 = .ok (.iload_n 1, 1) := dk_27 (dk_at dksX0_go_2 17 rfl rfl)
theorem dX0_go_65 : decode cX0_go 65 = .ok (.iload_n 3, 1) := dk_29 (dk_at dksX0_go_2 18 rfl rfl)
theorem dX0_go_66 : decode cX0_go 66 = .ok (.iastore, 1) := dk_79 (dk_at dksX0_go_2 19 rfl rfl)
theorem dX0_go_67 : decode cX0_go 67 = .ok (.iconst 1, 1) := dk_4 (dk_at dksX0_go_2 20 rfl rfl)
theorem dX0_go_68 : decode cX0_go 68 = .ok (.ireturn, 1) := dk_172 (dk_at dksX0_go_2 21 rfl rfl)
abbrev cX0_keeps : ByteArray := prog_1_method_49_code
def yX0_keeps : MethodName := ⟨RX0, "keeps", "()V"⟩
def dkwX0_keeps_3 : List UInt8 := [180, 0, 69, 182, 1, 30, 87, 42, 89, 180, 0, 145, 4, 96, 181, 0, 145, 177]
abbrev dktX0_keeps_3 : List UInt8 := dkwX0_keeps_3 ++ []
def dkwX0_keeps_2 : List UInt8 := [16, 19, 43, 83, 42, 89, 180, 0, 145, 4, 100, 181, 0, 145, 42, 180, 0, 101, 42, 180, 0, 145, 50, 42]
abbrev dktX0_keeps_2 : List UInt8 := dkwX0_keeps_2 ++ dktX0_keeps_3
def dkwX0_keeps_1 : List UInt8 := [42, 180, 0, 101, 28, 4, 100, 42, 180, 0, 101, 28, 50, 83, 132, 2, 1, 167, 255, 233, 42, 180, 0, 101]
abbrev dktX0_keeps_1 : List UInt8 := dkwX0_keeps_1 ++ dktX0_keeps_2
def dkwX0_keeps_0 : List UInt8 := [42, 180, 0, 145, 16, 20, 160, 0, 56, 42, 180, 0, 101, 3, 50, 76, 4, 61, 28, 16, 20, 162, 0, 23]
abbrev dktX0_keeps_0 : List UInt8 := dkwX0_keeps_0 ++ dktX0_keeps_1
theorem dksX0_keeps_0 : cX0_keeps.data.toList.drop 0 = dktX0_keeps_0 := by decide +kernel
theorem dksX0_keeps_1 : cX0_keeps.data.toList.drop 24 = dktX0_keeps_1 := dk_seg dksX0_keeps_0 24 rfl rfl
theorem dksX0_keeps_2 : cX0_keeps.data.toList.drop 48 = dktX0_keeps_2 := dk_seg dksX0_keeps_1 24 rfl rfl
theorem dksX0_keeps_3 : cX0_keeps.data.toList.drop 72 = dktX0_keeps_3 := dk_seg dksX0_keeps_2 24 rfl rfl
theorem dX0_keeps_0 : decode cX0_keeps 0 = .ok (.aload_n 0, 1) := dk_42 (dk_at dksX0_keeps_0 0 rfl rfl)
theorem dX0_keeps_1 : decode cX0_keeps 1 = .ok (.getfield 145, 3) := dk_180 0 145 (dk_at dksX0_keeps_0 1 rfl rfl)
theorem dX0_keeps_4 : decode cX0_keeps 4 = .ok (.bipush 20, 2) := dk_16 20 (dk_at dksX0_keeps_0 4 rfl rfl)
theorem dX0_keeps_6 : decode cX0_keeps 6 = .ok (.if_icmp .ne 56, 3) := dk_160 0 56 (dk_at dksX0_keeps_0 6 rfl rfl)
theorem dX0_keeps_9 : decode cX0_keeps 9 = .ok (.aload_n 0, 1) := dk_42 (dk_at dksX0_keeps_0 9 rfl rfl)
theorem dX0_keeps_10 : decode cX0_keeps 10 = .ok (.getfield 101, 3) := dk_180 0 101 (dk_at dksX0_keeps_0 10 rfl rfl)
theorem dX0_keeps_13 : decode cX0_keeps 13 = .ok (.iconst 0, 1) := dk_3 (dk_at dksX0_keeps_0 13 rfl rfl)
theorem dX0_keeps_14 : decode cX0_keeps 14 = .ok (.aaload, 1) := dk_50 (dk_at dksX0_keeps_0 14 rfl rfl)
theorem dX0_keeps_15 : decode cX0_keeps 15 = .ok (.astore_n 1, 1) := dk_76 (dk_at dksX0_keeps_0 15 rfl rfl)
theorem dX0_keeps_16 : decode cX0_keeps 16 = .ok (.iconst 1, 1) := dk_4 (dk_at dksX0_keeps_0 16 rfl rfl)
theorem dX0_keeps_17 : decode cX0_keeps 17 = .ok (.istore_n 2, 1) := dk_61 (dk_at dksX0_keeps_0 17 rfl rfl)
theorem dX0_keeps_18 : decode cX0_keeps 18 = .ok (.iload_n 2, 1) := dk_28 (dk_at dksX0_keeps_0 18 rfl rfl)
theorem dX0_keeps_19 : decode cX0_keeps 19 = .ok (.bipush 20, 2) := dk_16 20 (dk_at dksX0_keeps_0 19 rfl rfl)
theorem dX0_keeps_21 : decode cX0_keeps 21 = .ok (.if_icmp .ge 23, 3) := dk_162 0 23 (dk_at dksX0_keeps_0 21 rfl rfl)
theorem dX0_keeps_24 : decode cX0_keeps 24 = .ok (.aload_n 0, 1) := dk_42 (dk_at dksX0_keeps_1 0 rfl rfl)
theorem dX0_keeps_25 : decode cX0_keeps 25 = .ok (.getfield 101, 3) := dk_180 0 101 (dk_at dksX0_keeps_1 1 rfl rfl)
theorem dX0_keeps_28 : decode cX0_keeps 28 = .ok (.iload_n 2, 1) := dk_28 (dk_at dksX0_keeps_1 4 rfl rfl)
theorem dX0_keeps_29 : decode cX0_keeps 29 = .ok (.iconst 1, 1) := dk_4 (dk_at dksX0_keeps_1 5 rfl rfl)
theorem dX0_keeps_30 : decode cX0_keeps 30 = .ok (.isub, 1) := dk_100 (dk_at dksX0_keeps_1 6 rfl rfl)
theorem dX0_keeps_31 : decode cX0_keeps 31 = .ok (.aload_n 0, 1) := dk_42 (dk_at dksX0_keeps_1 7 rfl rfl)
theorem dX0_keeps_32 : decode cX0_keeps 32 = .ok (.getfield 101, 3) := dk_180 0 101 (dk_at dksX0_keeps_1 8 rfl rfl)
theorem dX0_keeps_35 : decode cX0_keeps 35 = .ok (.iload_n 2, 1) := dk_28 (dk_at dksX0_keeps_1 11 rfl rfl)
theorem dX0_keeps_36 : decode cX0_keeps 36 = .ok (.aaload, 1) := dk_50 (dk_at dksX0_keeps_1 12 rfl rfl)
theorem dX0_keeps_37 : decode cX0_keeps 37 = .ok (.aastore, 1) := dk_83 (dk_at dksX0_keeps_1 13 rfl rfl)
theorem dX0_keeps_38 : decode cX0_keeps 38 = .ok (.iinc 2 1, 3) := dk_132 2 1 (dk_at dksX0_keeps_1 14 rfl rfl)
theorem dX0_keeps_41 : decode cX0_keeps 41 = .ok (.goto (-23), 3) := dk_167 255 233 (dk_at dksX0_keeps_1 17 rfl rfl)
theorem dX0_keeps_44 : decode cX0_keeps 44 = .ok (.aload_n 0, 1) := dk_42 (dk_at dksX0_keeps_1 20 rfl rfl)
theorem dX0_keeps_45 : decode cX0_keeps 45 = .ok (.getfield 101, 3) := dk_180 0 101 (dk_at dksX0_keeps_1 21 rfl rfl)
theorem dX0_keeps_48 : decode cX0_keeps 48 = .ok (.bipush 19, 2) := dk_16 19 (dk_at dksX0_keeps_2 0 rfl rfl)
theorem dX0_keeps_50 : decode cX0_keeps 50 = .ok (.aload_n 1, 1) := dk_43 (dk_at dksX0_keeps_2 2 rfl rfl)
theorem dX0_keeps_51 : decode cX0_keeps 51 = .ok (.aastore, 1) := dk_83 (dk_at dksX0_keeps_2 3 rfl rfl)
theorem dX0_keeps_52 : decode cX0_keeps 52 = .ok (.aload_n 0, 1) := dk_42 (dk_at dksX0_keeps_2 4 rfl rfl)
theorem dX0_keeps_53 : decode cX0_keeps 53 = .ok (.dup, 1) := dk_89 (dk_at dksX0_keeps_2 5 rfl rfl)
theorem dX0_keeps_54 : decode cX0_keeps 54 = .ok (.getfield 145, 3) := dk_180 0 145 (dk_at dksX0_keeps_2 6 rfl rfl)
theorem dX0_keeps_57 : decode cX0_keeps 57 = .ok (.iconst 1, 1) := dk_4 (dk_at dksX0_keeps_2 9 rfl rfl)
theorem dX0_keeps_58 : decode cX0_keeps 58 = .ok (.isub, 1) := dk_100 (dk_at dksX0_keeps_2 10 rfl rfl)
theorem dX0_keeps_59 : decode cX0_keeps 59 = .ok (.putfield 145, 3) := dk_181 0 145 (dk_at dksX0_keeps_2 11 rfl rfl)
theorem dX0_keeps_62 : decode cX0_keeps 62 = .ok (.aload_n 0, 1) := dk_42 (dk_at dksX0_keeps_2 14 rfl rfl)
theorem dX0_keeps_63 : decode cX0_keeps 63 = .ok (.getfield 101, 3) := dk_180 0 101 (dk_at dksX0_keeps_2 15 rfl rfl)
theorem dX0_keeps_66 : decode cX0_keeps 66 = .ok (.aload_n 0, 1) := dk_42 (dk_at dksX0_keeps_2 18 rfl rfl)
theorem dX0_keeps_67 : decode cX0_keeps 67 = .ok (.getfield 145, 3) := dk_180 0 145 (dk_at dksX0_keeps_2 19 rfl rfl)
theorem dX0_keeps_70 : decode cX0_keeps 70 = .ok (.aaload, 1) := dk_50 (dk_at dksX0_keeps_2 22 rfl rfl)
theorem dX0_keeps_71 : decode cX0_keeps 71 = .ok (.aload_n 0, 1) := dk_42 (dk_at dksX0_keeps_2 23 rfl rfl)
theorem dX0_keeps_72 : decode cX0_keeps 72 = .ok (.getfield 69, 3) := dk_180 0 69 (dk_at dksX0_keeps_3 0 rfl rfl)
theorem dX0_keeps_75 : decode cX0_keeps 75 = .ok (.invokevirtual 286, 3) := dk_182 1 30 (dk_at dksX0_keeps_3 3 rfl rfl)
theorem dX0_keeps_78 : decode cX0_keeps 78 = .ok (.pop, 1) := dk_87 (dk_at dksX0_keeps_3 6 rfl rfl)
theorem dX0_keeps_79 : decode cX0_keeps 79 = .ok (.aload_n 0, 1) := dk_42 (dk_at dksX0_keeps_3 7 rfl rfl)
theorem dX0_keeps_80 : decode cX0_keeps 80 = .ok (.dup, 1) := dk_89 (dk_at dksX0_keeps_3 8 rfl rfl)
theorem dX0_keeps_81 : decode cX0_keeps 81 = .ok (.getfield 145, 3) := dk_180 0 145 (dk_at dksX0_keeps_3 9 rfl rfl)
theorem dX0_keeps_84 : decode cX0_keeps 84 = .ok (.iconst 1, 1) := dk_4 (dk_at dksX0_keeps_3 12 rfl rfl)
theorem dX0_keeps_85 : decode cX0_keeps 85 = .ok (.iadd, 1) := dk_96 (dk_at dksX0_keeps_3 13 rfl rfl)
theorem dX0_keeps_86 : decode cX0_keeps 86 = .ok (.putfield 145, 3) := dk_181 0 145 (dk_at dksX0_keeps_3 14 rfl rfl)
theorem dX0_keeps_89 : decode cX0_keeps 89 = .ok (.return_, 1) := dk_177 (dk_at dksX0_keeps_3 17 rfl rfl)
abbrev cX0_gloss : ByteArray := prog_1_method_52_code
def yX0_gloss : MethodName := ⟨RX0, "gloss", "(II)I"⟩
def dkwX0_gloss_4 : List UInt8 := [2, 159, 0, 14, 42, 180, 0, 69, 180, 0, 239, 29, 21, 4, 79, 21, 4, 172]
abbrev dktX0_gloss_4 : List UInt8 := dkwX0_gloss_4 ++ []
def dkwX0_gloss_3 : List UInt8 := [182, 0, 115, 172, 42, 182, 1, 83, 42, 180, 0, 69, 180, 0, 202, 27, 92, 46, 4, 28, 120, 128, 79, 29]
abbrev dktX0_gloss_3 : List UInt8 := dkwX0_gloss_3 ++ dktX0_gloss_4
def dkwX0_gloss_2 : List UInt8 := [16, 100, 167, 0, 12, 42, 180, 0, 69, 27, 28, 182, 1, 85, 54, 4, 21, 4, 2, 160, 0, 9, 42, 5]
abbrev dktX0_gloss_2 : List UInt8 := dkwX0_gloss_2 ++ dktX0_gloss_3
def dkwX0_gloss_1 : List UInt8 := [153, 0, 9, 42, 5, 182, 0, 115, 172, 42, 180, 0, 69, 27, 28, 182, 1, 1, 62, 29, 2, 160, 0, 8]
abbrev dktX0_gloss_1 : List UInt8 := dkwX0_gloss_1 ++ dktX0_gloss_2
def dkwX0_gloss_0 : List UInt8 := [42, 27, 28, 182, 0, 251, 153, 0, 19, 42, 180, 0, 69, 180, 0, 202, 27, 46, 28, 184, 0, 254]
abbrev dktX0_gloss_0 : List UInt8 := dkwX0_gloss_0 ++ dktX0_gloss_1
theorem dksX0_gloss_0 : cX0_gloss.data.toList.drop 0 = dktX0_gloss_0 := by decide +kernel
theorem dksX0_gloss_1 : cX0_gloss.data.toList.drop 22 = dktX0_gloss_1 := dk_seg dksX0_gloss_0 22 rfl rfl
theorem dksX0_gloss_2 : cX0_gloss.data.toList.drop 46 = dktX0_gloss_2 := dk_seg dksX0_gloss_1 24 rfl rfl
theorem dksX0_gloss_3 : cX0_gloss.data.toList.drop 70 = dktX0_gloss_3 := dk_seg dksX0_gloss_2 24 rfl rfl
theorem dksX0_gloss_4 : cX0_gloss.data.toList.drop 94 = dktX0_gloss_4 := dk_seg dksX0_gloss_3 24 rfl rfl
theorem dX0_gloss_0 : decode cX0_gloss 0 = .ok (.aload_n 0, 1) := dk_42 (dk_at dksX0_gloss_0 0 rfl rfl)
theorem dX0_gloss_1 : decode cX0_gloss 1 = .ok (.iload_n 1, 1) := dk_27 (dk_at dksX0_gloss_0 1 rfl rfl)
theorem dX0_gloss_2 : decode cX0_gloss 2 = .ok (.iload_n 2, 1) := dk_28 (dk_at dksX0_gloss_0 2 rfl rfl)
theorem dX0_gloss_3 : decode cX0_gloss 3 = .ok (.invokevirtual 251, 3) := dk_182 0 251 (dk_at dksX0_gloss_0 3 rfl rfl)
theorem dX0_gloss_6 : decode cX0_gloss 6 = .ok (.ifCond .eq 19, 3) := dk_153 0 19 (dk_at dksX0_gloss_0 6 rfl rfl)
theorem dX0_gloss_9 : decode cX0_gloss 9 = .ok (.aload_n 0, 1) := dk_42 (dk_at dksX0_gloss_0 9 rfl rfl)
theorem dX0_gloss_10 : decode cX0_gloss 10 = .ok (.getfield 69, 3) := dk_180 0 69 (dk_at dksX0_gloss_0 10 rfl rfl)
theorem dX0_gloss_13 : decode cX0_gloss 13 = .ok (.getfield 202, 3) := dk_180 0 202 (dk_at dksX0_gloss_0 13 rfl rfl)
theorem dX0_gloss_16 : decode cX0_gloss 16 = .ok (.iload_n 1, 1) := dk_27 (dk_at dksX0_gloss_0 16 rfl rfl)
theorem dX0_gloss_17 : decode cX0_gloss 17 = .ok (.iaload, 1) := dk_46 (dk_at dksX0_gloss_0 17 rfl rfl)
theorem dX0_gloss_18 : decode cX0_gloss 18 = .ok (.iload_n 2, 1) := dk_28 (dk_at dksX0_gloss_0 18 rfl rfl)
theorem dX0_gloss_19 : decode cX0_gloss 19 = .ok (.invokestatic 254, 3) := dk_184 0 254 (dk_at dksX0_gloss_0 19 rfl rfl)
theorem dX0_gloss_22 : decode cX0_gloss 22 = .ok (.ifCond .eq 9, 3) := dk_153 0 9 (dk_at dksX0_gloss_1 0 rfl rfl)
theorem dX0_gloss_25 : decode cX0_gloss 25 = .ok (.aload_n 0, 1) := dk_42 (dk_at dksX0_gloss_1 3 rfl rfl)
theorem dX0_gloss_26 : decode cX0_gloss 26 = .ok (.iconst 2, 1) := dk_5 (dk_at dksX0_gloss_1 4 rfl rfl)
theorem dX0_gloss_27 : decode cX0_gloss 27 = .ok (.invokevirtual 115, 3) := dk_182 0 115 (dk_at dksX0_gloss_1 5 rfl rfl)
theorem dX0_gloss_30 : decode cX0_gloss 30 = .ok (.ireturn, 1) := dk_172 (dk_at dksX0_gloss_1 8 rfl rfl)
theorem dX0_gloss_31 : decode cX0_gloss 31 = .ok (.aload_n 0, 1) := dk_42 (dk_at dksX0_gloss_1 9 rfl rfl)
theorem dX0_gloss_32 : decode cX0_gloss 32 = .ok (.getfield 69, 3) := dk_180 0 69 (dk_at dksX0_gloss_1 10 rfl rfl)
theorem dX0_gloss_35 : decode cX0_gloss 35 = .ok (.iload_n 1, 1) := dk_27 (dk_at dksX0_gloss_1 13 rfl rfl)
theorem dX0_gloss_36 : decode cX0_gloss 36 = .ok (.iload_n 2, 1) := dk_28 (dk_at dksX0_gloss_1 14 rfl rfl)
theorem dX0_gloss_37 : decode cX0_gloss 37 = .ok (.invokevirtual 257, 3) := dk_182 1 1 (dk_at dksX0_gloss_1 15 rfl rfl)
theorem dX0_gloss_40 : decode cX0_gloss 40 = .ok (.istore_n 3, 1) := dk_62 (dk_at dksX0_gloss_1 18 rfl rfl)
theorem dX0_gloss_41 : decode cX0_gloss 41 = .ok (.iload_n 3, 1) := dk_29 (dk_at dksX0_gloss_1 19 rfl rfl)
theorem dX0_gloss_42 : decode cX0_gloss 42 = .ok (.iconst (-1), 1) := dk_2 (dk_at dksX0_gloss_1 20 rfl rfl)
theorem dX0_gloss_43 : decode cX0_gloss 43 = .ok (.if_icmp .ne 8, 3) := dk_160 0 8 (dk_at dksX0_gloss_1 21 rfl rfl)
theorem dX0_gloss_46 : decode cX0_gloss 46 = .ok (.bipush 100, 2) := dk_16 100 (dk_at dksX0_gloss_2 0 rfl rfl)
theorem dX0_gloss_48 : decode cX0_gloss 48 = .ok (.goto 12, 3) := dk_167 0 12 (dk_at dksX0_gloss_2 2 rfl rfl)
theorem dX0_gloss_51 : decode cX0_gloss 51 = .ok (.aload_n 0, 1) := dk_42 (dk_at dksX0_gloss_2 5 rfl rfl)
theorem dX0_gloss_52 : decode cX0_gloss 52 = .ok (.getfield 69, 3) := dk_180 0 69 (dk_at dksX0_gloss_2 6 rfl rfl)
theorem dX0_gloss_55 : decode cX0_gloss 55 = .ok (.iload_n 1, 1) := dk_27 (dk_at dksX0_gloss_2 9 rfl rfl)
theorem dX0_gloss_56 : decode cX0_gloss 56 = .ok (.iload_n 2, 1) := dk_28 (dk_at dksX0_gloss_2 10 rfl rfl)
theorem dX0_gloss_57 : decode cX0_gloss 57 = .ok (.invokevirtual 341, 3) := dk_182 1 85 (dk_at dksX0_gloss_2 11 rfl rfl)
theorem dX0_gloss_60 : decode cX0_gloss 60 = .ok (.istore 4, 2) := dk_54 4 (dk_at dksX0_gloss_2 14 rfl rfl)
theorem dX0_gloss_62 : decode cX0_gloss 62 = .ok (.iload 4, 2) := dk_21 4 (dk_at dksX0_gloss_2 16 rfl rfl)
theorem dX0_gloss_64 : decode cX0_gloss 64 = .ok (.iconst (-1), 1) := dk_2 (dk_at dksX0_gloss_2 18 rfl rfl)
theorem dX0_gloss_65 : decode cX0_gloss 65 = .ok (.if_icmp .ne 9, 3) := dk_160 0 9 (dk_at dksX0_gloss_2 19 rfl rfl)
theorem dX0_gloss_68 : decode cX0_gloss 68 = .ok (.aload_n 0, 1) := dk_42 (dk_at dksX0_gloss_2 22 rfl rfl)
theorem dX0_gloss_69 : decode cX0_gloss 69 = .ok (.iconst 2, 1) := dk_5 (dk_at dksX0_gloss_2 23 rfl rfl)
theorem dX0_gloss_70 : decode cX0_gloss 70 = .ok (.invokevirtual 115, 3) := dk_182 0 115 (dk_at dksX0_gloss_3 0 rfl rfl)
theorem dX0_gloss_73 : decode cX0_gloss 73 = .ok (.ireturn, 1) := dk_172 (dk_at dksX0_gloss_3 3 rfl rfl)
theorem dX0_gloss_74 : decode cX0_gloss 74 = .ok (.aload_n 0, 1) := dk_42 (dk_at dksX0_gloss_3 4 rfl rfl)
theorem dX0_gloss_75 : decode cX0_gloss 75 = .ok (.invokevirtual 339, 3) := dk_182 1 83 (dk_at dksX0_gloss_3 5 rfl rfl)
theorem dX0_gloss_78 : decode cX0_gloss 78 = .ok (.aload_n 0, 1) := dk_42 (dk_at dksX0_gloss_3 8 rfl rfl)
theorem dX0_gloss_79 : decode cX0_gloss 79 = .ok (.getfield 69, 3) := dk_180 0 69 (dk_at dksX0_gloss_3 9 rfl rfl)
theorem dX0_gloss_82 : decode cX0_gloss 82 = .ok (.getfield 202, 3) := dk_180 0 202 (dk_at dksX0_gloss_3 12 rfl rfl)
theorem dX0_gloss_85 : decode cX0_gloss 85 = .ok (.iload_n 1, 1) := dk_27 (dk_at dksX0_gloss_3 15 rfl rfl)
theorem dX0_gloss_86 : decode cX0_gloss 86 = .ok (.dup2, 1) := dk_92 (dk_at dksX0_gloss_3 16 rfl rfl)
theorem dX0_gloss_87 : decode cX0_gloss 87 = .ok (.iaload, 1) := dk_46 (dk_at dksX0_gloss_3 17 rfl rfl)
theorem dX0_gloss_88 : decode cX0_gloss 88 = .ok (.iconst 1, 1) := dk_4 (dk_at dksX0_gloss_3 18 rfl rfl)
theorem dX0_gloss_89 : decode cX0_gloss 89 = .ok (.iload_n 2, 1) := dk_28 (dk_at dksX0_gloss_3 19 rfl rfl)
theorem dX0_gloss_90 : decode cX0_gloss 90 = .ok (.ishl, 1) := dk_120 (dk_at dksX0_gloss_3 20 rfl rfl)
theorem dX0_gloss_91 : decode cX0_gloss 91 = .ok (.ior, 1) := dk_128 (dk_at dksX0_gloss_3 21 rfl rfl)
theorem dX0_gloss_92 : decode cX0_gloss 92 = .ok (.iastore, 1) := dk_79 (dk_at dksX0_gloss_3 22 rfl rfl)
theorem dX0_gloss_93 : decode cX0_gloss 93 = .ok (.iload_n 3, 1) := dk_29 (dk_at dksX0_gloss_3 23 rfl rfl)
theorem dX0_gloss_94 : decode cX0_gloss 94 = .ok (.iconst (-1), 1) := dk_2 (dk_at dksX0_gloss_4 0 rfl rfl)
theorem dX0_gloss_95 : decode cX0_gloss 95 = .ok (.if_icmp .eq 14, 3) := dk_159 0 14 (dk_at dksX0_gloss_4 1 rfl rfl)
theorem dX0_gloss_98 : decode cX0_gloss 98 = .ok (.aload_n 0, 1) := dk_42 (dk_at dksX0_gloss_4 4 rfl rfl)
theorem dX0_gloss_99 : decode cX0_gloss 99 = .ok (.getfield 69, 3) := dk_180 0 69 (dk_at dksX0_gloss_4 5 rfl rfl)
theorem dX0_gloss_102 : decode cX0_gloss 102 = .ok (.getfield 239, 3) := dk_180 0 239 (dk_at dksX0_gloss_4 8 rfl rfl)
theorem dX0_gloss_105 : decode cX0_gloss 105 = .ok (.iload_n 3, 1) := dk_29 (dk_at dksX0_gloss_4 11 rfl rfl)
theorem dX0_gloss_106 : decode cX0_gloss 106 = .ok (.iload 4, 2) := dk_21 4 (dk_at dksX0_gloss_4 12 rfl rfl)
theorem dX0_gloss_108 : decode cX0_gloss 108 = .ok (.iastore, 1) := dk_79 (dk_at dksX0_gloss_4 14 rfl rfl)
theorem dX0_gloss_109 : decode cX0_gloss 109 = .ok (.iload 4, 2) := dk_21 4 (dk_at dksX0_gloss_4 15 rfl rfl)
theorem dX0_gloss_111 : decode cX0_gloss 111 = .ok (.ireturn, 1) := dk_172 (dk_at dksX0_gloss_4 17 rfl rfl)
abbrev cX0_days : ByteArray := prog_1_method_53_code
def yX0_days : MethodName := ⟨RX0, "days", "(I)I"⟩
def dkwX0_days_1 : List UInt8 := [180, 0, 69, 3, 181, 1, 37, 42, 180, 0, 69, 27, 182, 1, 39, 180, 1, 37, 172]
abbrev dktX0_days_1 : List UInt8 := dkwX0_days_1 ++ []
def dkwX0_days_0 : List UInt8 := [42, 27, 4, 16, 100, 182, 1, 23, 154, 0, 9, 42, 6, 182, 0, 115, 172, 42, 182, 1, 83, 42]
abbrev dktX0_days_0 : List UInt8 := dkwX0_days_0 ++ dktX0_days_1
theorem dksX0_days_0 : cX0_days.data.toList.drop 0 = dktX0_days_0 := by decide +kernel
theorem dksX0_days_1 : cX0_days.data.toList.drop 22 = dktX0_days_1 := dk_seg dksX0_days_0 22 rfl rfl
theorem dX0_days_0 : decode cX0_days 0 = .ok (.aload_n 0, 1) := dk_42 (dk_at dksX0_days_0 0 rfl rfl)
theorem dX0_days_1 : decode cX0_days 1 = .ok (.iload_n 1, 1) := dk_27 (dk_at dksX0_days_0 1 rfl rfl)
theorem dX0_days_2 : decode cX0_days 2 = .ok (.iconst 1, 1) := dk_4 (dk_at dksX0_days_0 2 rfl rfl)
theorem dX0_days_3 : decode cX0_days 3 = .ok (.bipush 100, 2) := dk_16 100 (dk_at dksX0_days_0 3 rfl rfl)
theorem dX0_days_5 : decode cX0_days 5 = .ok (.invokevirtual 279, 3) := dk_182 1 23 (dk_at dksX0_days_0 5 rfl rfl)
theorem dX0_days_8 : decode cX0_days 8 = .ok (.ifCond .ne 9, 3) := dk_154 0 9 (dk_at dksX0_days_0 8 rfl rfl)
theorem dX0_days_11 : decode cX0_days 11 = .ok (.aload_n 0, 1) := dk_42 (dk_at dksX0_days_0 11 rfl rfl)
theorem dX0_days_12 : decode cX0_days 12 = .ok (.iconst 3, 1) := dk_6 (dk_at dksX0_days_0 12 rfl rfl)
theorem dX0_days_13 : decode cX0_days 13 = .ok (.invokevirtual 115, 3) := dk_182 0 115 (dk_at dksX0_days_0 13 rfl rfl)
theorem dX0_days_16 : decode cX0_days 16 = .ok (.ireturn, 1) := dk_172 (dk_at dksX0_days_0 16 rfl rfl)
theorem dX0_days_17 : decode cX0_days 17 = .ok (.aload_n 0, 1) := dk_42 (dk_at dksX0_days_0 17 rfl rfl)
theorem dX0_days_18 : decode cX0_days 18 = .ok (.invokevirtual 339, 3) := dk_182 1 83 (dk_at dksX0_days_0 18 rfl rfl)
theorem dX0_days_21 : decode cX0_days 21 = .ok (.aload_n 0, 1) := dk_42 (dk_at dksX0_days_0 21 rfl rfl)
theorem dX0_days_22 : decode cX0_days 22 = .ok (.getfield 69, 3) := dk_180 0 69 (dk_at dksX0_days_1 0 rfl rfl)
theorem dX0_days_25 : decode cX0_days 25 = .ok (.iconst 0, 1) := dk_3 (dk_at dksX0_days_1 3 rfl rfl)
theorem dX0_days_26 : decode cX0_days 26 = .ok (.putfield 293, 3) := dk_181 1 37 (dk_at dksX0_days_1 4 rfl rfl)
theorem dX0_days_29 : decode cX0_days 29 = .ok (.aload_n 0, 1) := dk_42 (dk_at dksX0_days_1 7 rfl rfl)
theorem dX0_days_30 : decode cX0_days 30 = .ok (.getfield 69, 3) := dk_180 0 69 (dk_at dksX0_days_1 8 rfl rfl)
theorem dX0_days_33 : decode cX0_days 33 = .ok (.iload_n 1, 1) := dk_27 (dk_at dksX0_days_1 11 rfl rfl)
theorem dX0_days_34 : decode cX0_days 34 = .ok (.invokevirtual 295, 3) := dk_182 1 39 (dk_at dksX0_days_1 12 rfl rfl)
theorem dX0_days_37 : decode cX0_days 37 = .ok (.getfield 293, 3) := dk_180 1 37 (dk_at dksX0_days_1 15 rfl rfl)
theorem dX0_days_40 : decode cX0_days 40 = .ok (.ireturn, 1) := dk_172 (dk_at dksX0_days_1 18 rfl rfl)
abbrev cX0_chance : ByteArray := prog_1_method_55_code
def yX0_chance : MethodName := ⟨RX0, "chance", "(I)I"⟩
def dkwX0_chance_3 : List UInt8 := [108, 79, 132, 2, 1, 42, 180, 0, 69, 4, 182, 1, 39, 87, 132, 3, 1, 167, 255, 193, 28, 172]
abbrev dktX0_chance_3 : List UInt8 := dkwX0_chance_3 ++ []
def dkwX0_chance_2 : List UInt8 := [182, 0, 166, 158, 0, 26, 42, 180, 0, 69, 180, 0, 245, 42, 42, 182, 0, 166, 182, 1, 96, 92, 46, 5]
abbrev dktX0_chance_2 : List UInt8 := dkwX0_chance_2 ++ dktX0_chance_3
def dkwX0_chance_1 : List UInt8 := [62, 29, 27, 162, 0, 64, 42, 16, 100, 182, 1, 96, 42, 180, 0, 31, 180, 1, 99, 162, 0, 33, 42]
abbrev dktX0_chance_1 : List UInt8 := dkwX0_chance_1 ++ dktX0_chance_2
def dkwX0_chance_0 : List UInt8 := [42, 27, 4, 16, 100, 182, 1, 23, 154, 0, 9, 42, 6, 182, 0, 115, 172, 42, 182, 1, 83, 3, 61, 3]
abbrev dktX0_chance_0 : List UInt8 := dkwX0_chance_0 ++ dktX0_chance_1
theorem dksX0_chance_0 : cX0_chance.data.toList.drop 0 = dktX0_chance_0 := by decide +kernel
theorem dksX0_chance_1 : cX0_chance.data.toList.drop 24 = dktX0_chance_1 := dk_seg dksX0_chance_0 24 rfl rfl
theorem dksX0_chance_2 : cX0_chance.data.toList.drop 47 = dktX0_chance_2 := dk_seg dksX0_chance_1 23 rfl rfl
theorem dksX0_chance_3 : cX0_chance.data.toList.drop 71 = dktX0_chance_3 := dk_seg dksX0_chance_2 24 rfl rfl
theorem dX0_chance_0 : decode cX0_chance 0 = .ok (.aload_n 0, 1) := dk_42 (dk_at dksX0_chance_0 0 rfl rfl)
theorem dX0_chance_1 : decode cX0_chance 1 = .ok (.iload_n 1, 1) := dk_27 (dk_at dksX0_chance_0 1 rfl rfl)
theorem dX0_chance_2 : decode cX0_chance 2 = .ok (.iconst 1, 1) := dk_4 (dk_at dksX0_chance_0 2 rfl rfl)
theorem dX0_chance_3 : decode cX0_chance 3 = .ok (.bipush 100, 2) := dk_16 100 (dk_at dksX0_chance_0 3 rfl rfl)
theorem dX0_chance_5 : decode cX0_chance 5 = .ok (.invokevirtual 279, 3) := dk_182 1 23 (dk_at dksX0_chance_0 5 rfl rfl)
theorem dX0_chance_8 : decode cX0_chance 8 = .ok (.ifCond .ne 9, 3) := dk_154 0 9 (dk_at dksX0_chance_0 8 rfl rfl)
theorem dX0_chance_11 : decode cX0_chance 11 = .ok (.aload_n 0, 1) := dk_42 (dk_at dksX0_chance_0 11 rfl rfl)
theorem dX0_chance_12 : decode cX0_chance 12 = .ok (.iconst 3, 1) := dk_6 (dk_at dksX0_chance_0 12 rfl rfl)
theorem dX0_chance_13 : decode cX0_chance 13 = .ok (.invokevirtual 115, 3) := dk_182 0 115 (dk_at dksX0_chance_0 13 rfl rfl)
theorem dX0_chance_16 : decode cX0_chance 16 = .ok (.ireturn, 1) := dk_172 (dk_at dksX0_chance_0 16 rfl rfl)
theorem dX0_chance_17 : decode cX0_chance 17 = .ok (.aload_n 0, 1) := dk_42 (dk_at dksX0_chance_0 17 rfl rfl)
theorem dX0_chance_18 : decode cX0_chance 18 = .ok (.invokevirtual 339, 3) := dk_182 1 83 (dk_at dksX0_chance_0 18 rfl rfl)
theorem dX0_chance_21 : decode cX0_chance 21 = .ok (.iconst 0, 1) := dk_3 (dk_at dksX0_chance_0 21 rfl rfl)
theorem dX0_chance_22 : decode cX0_chance 22 = .ok (.istore_n 2, 1) := dk_61 (dk_at dksX0_chance_0 22 rfl rfl)
theorem dX0_chance_23 : decode cX0_chance 23 = .ok (.iconst 0, 1) := dk_3 (dk_at dksX0_chance_0 23 rfl rfl)
theorem dX0_chance_24 : decode cX0_chance 24 = .ok (.istore_n 3, 1) := dk_62 (dk_at dksX0_chance_1 0 rfl rfl)
theorem dX0_chance_25 : decode cX0_chance 25 = .ok (.iload_n 3, 1) := dk_29 (dk_at dksX0_chance_1 1 rfl rfl)
theorem dX0_chance_26 : decode cX0_chance 26 = .ok (.iload_n 1, 1) := dk_27 (dk_at dksX0_chance_1 2 rfl rfl)
theorem dX0_chance_27 : decode cX0_chance 27 = .ok (.if_icmp .ge 64, 3) := dk_162 0 64 (dk_at dksX0_chance_1 3 rfl rfl)
theorem dX0_chance_30 : decode cX0_chance 30 = .ok (.aload_n 0, 1) := dk_42 (dk_at dksX0_chance_1 6 rfl rfl)
theorem dX0_chance_31 : decode cX0_chance 31 = .ok (.bipush 100, 2) := dk_16 100 (dk_at dksX0_chance_1 7 rfl rfl)
theorem dX0_chance_33 : decode cX0_chance 33 = .ok (.invokevirtual 352, 3) := dk_182 1 96 (dk_at dksX0_chance_1 9 rfl rfl)
theorem dX0_chance_36 : decode cX0_chance 36 = .ok (.aload_n 0, 1) := dk_42 (dk_at dksX0_chance_1 12 rfl rfl)
theorem dX0_chance_37 : decode cX0_chance 37 = .ok (.getfield 31, 3) := dk_180 0 31 (dk_at dksX0_chance_1 13 rfl rfl)
theorem dX0_chance_40 : decode cX0_chance 40 = .ok (.getfield 355, 3) := dk_180 1 99 (dk_at dksX0_chance_1 16 rfl rfl)
theorem dX0_chance_43 : decode cX0_chance 43 = .ok (.if_icmp .ge 33, 3) := dk_162 0 33 (dk_at dksX0_chance_1 19 rfl rfl)
theorem dX0_chance_46 : decode cX0_chance 46 = .ok (.aload_n 0, 1) := dk_42 (dk_at dksX0_chance_1 22 rfl rfl)
theorem dX0_chance_47 : decode cX0_chance 47 = .ok (.invokevirtual 166, 3) := dk_182 0 166 (dk_at dksX0_chance_2 0 rfl rfl)
theorem dX0_chance_50 : decode cX0_chance 50 = .ok (.ifCond .le 26, 3) := dk_158 0 26 (dk_at dksX0_chance_2 3 rfl rfl)
theorem dX0_chance_53 : decode cX0_chance 53 = .ok (.aload_n 0, 1) := dk_42 (dk_at dksX0_chance_2 6 rfl rfl)
theorem dX0_chance_54 : decode cX0_chance 54 = .ok (.getfield 69, 3) := dk_180 0 69 (dk_at dksX0_chance_2 7 rfl rfl)
theorem dX0_chance_57 : decode cX0_chance 57 = .ok (.getfield 245, 3) := dk_180 0 245 (dk_at dksX0_chance_2 10 rfl rfl)
theorem dX0_chance_60 : decode cX0_chance 60 = .ok (.aload_n 0, 1) := dk_42 (dk_at dksX0_chance_2 13 rfl rfl)
theorem dX0_chance_61 : decode cX0_chance 61 = .ok (.aload_n 0, 1) := dk_42 (dk_at dksX0_chance_2 14 rfl rfl)
theorem dX0_chance_62 : decode cX0_chance 62 = .ok (.invokevirtual 166, 3) := dk_182 0 166 (dk_at dksX0_chance_2 15 rfl rfl)
theorem dX0_chance_65 : decode cX0_chance 65 = .ok (.invokevirtual 352, 3) := dk_182 1 96 (dk_at dksX0_chance_2 18 rfl rfl)
theorem dX0_chance_68 : decode cX0_chance 68 = .ok (.dup2, 1) := dk_92 (dk_at dksX0_chance_2 21 rfl rfl)
theorem dX0_chance_69 : decode cX0_chance 69 = .ok (.iaload, 1) := dk_46 (dk_at dksX0_chance_2 22 rfl rfl)
theorem dX0_chance_70 : decode cX0_chance 70 = .ok (.iconst 2, 1) := dk_5 (dk_at dksX0_chance_2 23 rfl rfl)
theorem dX0_chance_71 : decode cX0_chance 71 = .ok (.idiv, 1) := dk_108 (dk_at dksX0_chance_3 0 rfl rfl)
theorem dX0_chance_72 : decode cX0_chance 72 = .ok (.iastore, 1) := dk_79 (dk_at dksX0_chance_3 1 rfl rfl)
theorem dX0_chance_73 : decode cX0_chance 73 = .ok (.iinc 2 1, 3) := dk_132 2 1 (dk_at dksX0_chance_3 2 rfl rfl)
theorem dX0_chance_76 : decode cX0_chance 76 = .ok (.aload_n 0, 1) := dk_42 (dk_at dksX0_chance_3 5 rfl rfl)
theorem dX0_chance_77 : decode cX0_chance 77 = .ok (.getfield 69, 3) := dk_180 0 69 (dk_at dksX0_chance_3 6 rfl rfl)
theorem dX0_chance_80 : decode cX0_chance 80 = .ok (.iconst 1, 1) := dk_4 (dk_at dksX0_chance_3 9 rfl rfl)
theorem dX0_chance_81 : decode cX0_chance 81 = .ok (.invokevirtual 295, 3) := dk_182 1 39 (dk_at dksX0_chance_3 10 rfl rfl)
theorem dX0_chance_84 : decode cX0_chance 84 = .ok (.pop, 1) := dk_87 (dk_at dksX0_chance_3 13 rfl rfl)
theorem dX0_chance_85 : decode cX0_chance 85 = .ok (.iinc 3 1, 3) := dk_132 3 1 (dk_at dksX0_chance_3 14 rfl rfl)
theorem dX0_chance_88 : decode cX0_chance 88 = .ok (.goto (-63), 3) := dk_167 255 193 (dk_at dksX0_chance_3 17 rfl rfl)
theorem dX0_chance_91 : decode cX0_chance 91 = .ok (.iload_n 2, 1) := dk_28 (dk_at dksX0_chance_3 20 rfl rfl)
theorem dX0_chance_92 : decode cX0_chance 92 = .ok (.ireturn, 1) := dk_172 (dk_at dksX0_chance_3 21 rfl rfl)
abbrev cX0_draw : ByteArray := prog_1_method_54_code
def yX0_draw : MethodName := ⟨RX0, "draw", "(I)I"⟩
def dkwX0_draw_1 : List UInt8 := [20, 1, 94, 109, 27, 133, 113, 136, 172]
abbrev dktX0_draw_1 : List UInt8 := dkwX0_draw_1 ++ []
def dkwX0_draw_0 : List UInt8 := [42, 20, 1, 88, 42, 180, 0, 105, 105, 20, 1, 90, 97, 20, 1, 92, 113, 181, 0, 105, 42, 180, 0, 105]
abbrev dktX0_draw_0 : List UInt8 := dkwX0_draw_0 ++ dktX0_draw_1
theorem dksX0_draw_0 : cX0_draw.data.toList.drop 0 = dktX0_draw_0 := by decide +kernel
theorem dksX0_draw_1 : cX0_draw.data.toList.drop 24 = dktX0_draw_1 := dk_seg dksX0_draw_0 24 rfl rfl
theorem dX0_draw_0 : decode cX0_draw 0 = .ok (.aload_n 0, 1) := dk_42 (dk_at dksX0_draw_0 0 rfl rfl)
theorem dX0_draw_1 : decode cX0_draw 1 = .ok (.ldc2_w 344, 3) := dk_20 1 88 (dk_at dksX0_draw_0 1 rfl rfl)
theorem dX0_draw_4 : decode cX0_draw 4 = .ok (.aload_n 0, 1) := dk_42 (dk_at dksX0_draw_0 4 rfl rfl)
theorem dX0_draw_5 : decode cX0_draw 5 = .ok (.getfield 105, 3) := dk_180 0 105 (dk_at dksX0_draw_0 5 rfl rfl)
theorem dX0_draw_8 : decode cX0_draw 8 = .ok (.lmul, 1) := dk_105 (dk_at dksX0_draw_0 8 rfl rfl)
theorem dX0_draw_9 : decode cX0_draw 9 = .ok (.ldc2_w 346, 3) := dk_20 1 90 (dk_at dksX0_draw_0 9 rfl rfl)
theorem dX0_draw_12 : decode cX0_draw 12 = .ok (.ladd, 1) := dk_97 (dk_at dksX0_draw_0 12 rfl rfl)
theorem dX0_draw_13 : decode cX0_draw 13 = .ok (.ldc2_w 348, 3) := dk_20 1 92 (dk_at dksX0_draw_0 13 rfl rfl)
theorem dX0_draw_16 : decode cX0_draw 16 = .ok (.lrem, 1) := dk_113 (dk_at dksX0_draw_0 16 rfl rfl)
theorem dX0_draw_17 : decode cX0_draw 17 = .ok (.putfield 105, 3) := dk_181 0 105 (dk_at dksX0_draw_0 17 rfl rfl)
theorem dX0_draw_20 : decode cX0_draw 20 = .ok (.aload_n 0, 1) := dk_42 (dk_at dksX0_draw_0 20 rfl rfl)
theorem dX0_draw_21 : decode cX0_draw 21 = .ok (.getfield 105, 3) := dk_180 0 105 (dk_at dksX0_draw_0 21 rfl rfl)
theorem dX0_draw_24 : decode cX0_draw 24 = .ok (.ldc2_w 350, 3) := dk_20 1 94 (dk_at dksX0_draw_1 0 rfl rfl)
theorem dX0_draw_27 : decode cX0_draw 27 = .ok (.ldiv, 1) := dk_109 (dk_at dksX0_draw_1 3 rfl rfl)
theorem dX0_draw_28 : decode cX0_draw 28 = .ok (.iload_n 1, 1) := dk_27 (dk_at dksX0_draw_1 4 rfl rfl)
theorem dX0_draw_29 : decode cX0_draw 29 = .ok (.i2l, 1) := dk_133 (dk_at dksX0_draw_1 5 rfl rfl)
theorem dX0_draw_30 : decode cX0_draw 30 = .ok (.lrem, 1) := dk_113 (dk_at dksX0_draw_1 6 rfl rfl)
theorem dX0_draw_31 : decode cX0_draw 31 = .ok (.l2i, 1) := dk_136 (dk_at dksX0_draw_1 7 rfl rfl)
theorem dX0_draw_32 : decode cX0_draw 32 = .ok (.ireturn, 1) := dk_172 (dk_at dksX0_draw_1 8 rfl rfl)
abbrev cX0_seed : ByteArray := prog_1_method_56_code
def yX0_seed : MethodName := ⟨RX0, "seed", "(I)Z"⟩
def dkwX0_seed_1 : List UInt8 := [4, 172]
abbrev dktX0_seed_1 : List UInt8 := dkwX0_seed_1 ++ []
def dkwX0_seed_0 : List UInt8 := [27, 156, 0, 17, 42, 8, 182, 0, 115, 155, 0, 7, 4, 167, 0, 4, 3, 172, 42, 27, 133, 181, 0, 105]
abbrev dktX0_seed_0 : List UInt8 := dkwX0_seed_0 ++ dktX0_seed_1
theorem dksX0_seed_0 : cX0_seed.data.toList.drop 0 = dktX0_seed_0 := by decide +kernel
theorem dksX0_seed_1 : cX0_seed.data.toList.drop 24 = dktX0_seed_1 := dk_seg dksX0_seed_0 24 rfl rfl
theorem dX0_seed_0 : decode cX0_seed 0 = .ok (.iload_n 1, 1) := dk_27 (dk_at dksX0_seed_0 0 rfl rfl)
theorem dX0_seed_1 : decode cX0_seed 1 = .ok (.ifCond .ge 17, 3) := dk_156 0 17 (dk_at dksX0_seed_0 1 rfl rfl)
theorem dX0_seed_4 : decode cX0_seed 4 = .ok (.aload_n 0, 1) := dk_42 (dk_at dksX0_seed_0 4 rfl rfl)
theorem dX0_seed_5 : decode cX0_seed 5 = .ok (.iconst 5, 1) := dk_8 (dk_at dksX0_seed_0 5 rfl rfl)
theorem dX0_seed_6 : decode cX0_seed 6 = .ok (.invokevirtual 115, 3) := dk_182 0 115 (dk_at dksX0_seed_0 6 rfl rfl)
theorem dX0_seed_9 : decode cX0_seed 9 = .ok (.ifCond .lt 7, 3) := dk_155 0 7 (dk_at dksX0_seed_0 9 rfl rfl)
theorem dX0_seed_12 : decode cX0_seed 12 = .ok (.iconst 1, 1) := dk_4 (dk_at dksX0_seed_0 12 rfl rfl)
theorem dX0_seed_13 : decode cX0_seed 13 = .ok (.goto 4, 3) := dk_167 0 4 (dk_at dksX0_seed_0 13 rfl rfl)
theorem dX0_seed_16 : decode cX0_seed 16 = .ok (.iconst 0, 1) := dk_3 (dk_at dksX0_seed_0 16 rfl rfl)
theorem dX0_seed_17 : decode cX0_seed 17 = .ok (.ireturn, 1) := dk_172 (dk_at dksX0_seed_0 17 rfl rfl)
theorem dX0_seed_18 : decode cX0_seed 18 = .ok (.aload_n 0, 1) := dk_42 (dk_at dksX0_seed_0 18 rfl rfl)
theorem dX0_seed_19 : decode cX0_seed 19 = .ok (.iload_n 1, 1) := dk_27 (dk_at dksX0_seed_0 19 rfl rfl)
theorem dX0_seed_20 : decode cX0_seed 20 = .ok (.i2l, 1) := dk_133 (dk_at dksX0_seed_0 20 rfl rfl)
theorem dX0_seed_21 : decode cX0_seed 21 = .ok (.putfield 105, 3) := dk_181 0 105 (dk_at dksX0_seed_0 21 rfl rfl)
theorem dX0_seed_24 : decode cX0_seed 24 = .ok (.iconst 1, 1) := dk_4 (dk_at dksX0_seed_1 0 rfl rfl)
theorem dX0_seed_25 : decode cX0_seed 25 = .ok (.ireturn, 1) := dk_172 (dk_at dksX0_seed_1 1 rfl rfl)
abbrev cX0_ask : ByteArray := prog_1_method_58_code
def yX0_ask : MethodName := ⟨RX0, "ask", "()J"⟩
def dkwX0_ask_12 : List UInt8 := [96, 181, 1, 102, 167, 255, 48, 44, 182, 1, 117, 173]
abbrev dktX0_ask_12 : List UInt8 := dkwX0_ask_12 ++ []
def dkwX0_ask_11 : List UInt8 := [180, 1, 102, 46, 133, 80, 44, 42, 180, 1, 102, 42, 180, 0, 59, 182, 1, 111, 42, 89, 180, 1, 102, 4]
abbrev dktX0_ask_11 : List UInt8 := dkwX0_ask_11 ++ dktX0_ask_12
def dkwX0_ask_10 : List UInt8 := [180, 1, 102, 133, 80, 42, 180, 0, 59, 180, 0, 189, 16, 8, 42, 180, 0, 69, 180, 0, 248, 42]
abbrev dktX0_ask_10 : List UInt8 := dkwX0_ask_10 ++ dktX0_ask_11
def dkwX0_ask_9 : List UInt8 := [184, 0, 181, 153, 0, 7, 10, 167, 0, 4, 9, 80, 42, 180, 0, 59, 180, 0, 189, 16, 7, 42]
abbrev dktX0_ask_9 : List UInt8 := dkwX0_ask_9 ++ dktX0_ask_10
def dkwX0_ask_8 : List UInt8 := [46, 133, 80, 42, 180, 0, 59, 180, 0, 189, 8, 42, 180, 0, 69, 180, 0, 236, 42, 180, 1, 102, 46, 29]
abbrev dktX0_ask_8 : List UInt8 := dkwX0_ask_8 ++ dktX0_ask_9
def dkwX0_ask_7 : List UInt8 := [180, 0, 242, 133, 80, 42, 180, 0, 59, 180, 0, 189, 7, 42, 180, 0, 69, 180, 0, 245, 42, 180, 1, 102]
abbrev dktX0_ask_7 : List UInt8 := dkwX0_ask_7 ++ dktX0_ask_8
def dkwX0_ask_6 : List UInt8 := [180, 1, 102, 46, 133, 80, 42, 180, 0, 59, 180, 0, 189, 6, 42, 42, 180, 1, 102, 182, 0, 229]
abbrev dktX0_ask_6 : List UInt8 := dkwX0_ask_6 ++ dktX0_ask_7
def dkwX0_ask_5 : List UInt8 := [42, 180, 1, 102, 46, 133, 80, 42, 180, 0, 59, 180, 0, 189, 5, 42, 180, 0, 69, 180, 0, 239, 42]
abbrev dktX0_ask_5 : List UInt8 := dkwX0_ask_5 ++ dktX0_ask_6
def dkwX0_ask_4 : List UInt8 := [42, 180, 0, 69, 180, 0, 213, 133, 80, 42, 180, 0, 59, 180, 0, 189, 4, 42, 180, 0, 69, 180, 0, 236]
abbrev dktX0_ask_4 : List UInt8 := dkwX0_ask_4 ++ dktX0_ask_5
def dkwX0_ask_3 : List UInt8 := [42, 3, 181, 1, 102, 42, 180, 1, 102, 42, 182, 0, 166, 162, 0, 203, 42, 180, 0, 59, 180, 0, 189, 3]
abbrev dktX0_ask_3 : List UInt8 := dkwX0_ask_3 ++ dktX0_ask_4
def dkwX0_ask_2 : List UInt8 := [42, 45, 180, 0, 139, 181, 0, 39, 20, 1, 105, 173, 42, 42, 180, 0, 69, 180, 0, 213, 182, 0, 216, 62]
abbrev dktX0_ask_2 : List UInt8 := dkwX0_ask_2 ++ dktX0_ask_3
def dkwX0_ask_1 : List UInt8 := [181, 0, 39, 42, 180, 0, 48, 27, 182, 1, 107, 77, 167, 0, 24, 78, 42, 45, 180, 0, 136, 181, 0, 123]
abbrev dktX0_ask_1 : List UInt8 := dkwX0_ask_1 ++ dktX0_ask_2
def dkwX0_ask_0 : List UInt8 := [42, 182, 0, 126, 60, 42, 182, 1, 16, 154, 0, 7, 20, 1, 105, 173, 42, 3, 181, 0, 123, 42, 2]
abbrev dktX0_ask_0 : List UInt8 := dkwX0_ask_0 ++ dktX0_ask_1
theorem dksX0_ask_0 : cX0_ask.data.toList.drop 0 = dktX0_ask_0 := by decide +kernel
theorem dksX0_ask_1 : cX0_ask.data.toList.drop 23 = dktX0_ask_1 := dk_seg dksX0_ask_0 23 rfl rfl
theorem dksX0_ask_2 : cX0_ask.data.toList.drop 47 = dktX0_ask_2 := dk_seg dksX0_ask_1 24 rfl rfl
theorem dksX0_ask_3 : cX0_ask.data.toList.drop 71 = dktX0_ask_3 := dk_seg dksX0_ask_2 24 rfl rfl
theorem dksX0_ask_4 : cX0_ask.data.toList.drop 95 = dktX0_ask_4 := dk_seg dksX0_ask_3 24 rfl rfl
theorem dksX0_ask_5 : cX0_ask.data.toList.drop 119 = dktX0_ask_5 := dk_seg dksX0_ask_4 24 rfl rfl
theorem dksX0_ask_6 : cX0_ask.data.toList.drop 142 = dktX0_ask_6 := dk_seg dksX0_ask_5 23 rfl rfl
theorem dksX0_ask_7 : cX0_ask.data.toList.drop 164 = dktX0_ask_7 := dk_seg dksX0_ask_6 22 rfl rfl
theorem dksX0_ask_8 : cX0_ask.data.toList.drop 188 = dktX0_ask_8 := dk_seg dksX0_ask_7 24 rfl rfl
theorem dksX0_ask_9 : cX0_ask.data.toList.drop 212 = dktX0_ask_9 := dk_seg dksX0_ask_8 24 rfl rfl
theorem dksX0_ask_10 : cX0_ask.data.toList.drop 234 = dktX0_ask_10 := dk_seg dksX0_ask_9 22 rfl rfl
theorem dksX0_ask_11 : cX0_ask.data.toList.drop 256 = dktX0_ask_11 := dk_seg dksX0_ask_10 22 rfl rfl
theorem dksX0_ask_12 : cX0_ask.data.toList.drop 280 = dktX0_ask_12 := dk_seg dksX0_ask_11 24 rfl rfl
theorem dX0_ask_0 : decode cX0_ask 0 = .ok (.aload_n 0, 1) := dk_42 (dk_at dksX0_ask_0 0 rfl rfl)
theorem dX0_ask_1 : decode cX0_ask 1 = .ok (.invokevirtual 126, 3) := dk_182 0 126 (dk_at dksX0_ask_0 1 rfl rfl)
theorem dX0_ask_4 : decode cX0_ask 4 = .ok (.istore_n 1, 1) := dk_60 (dk_at dksX0_ask_0 4 rfl rfl)
theorem dX0_ask_5 : decode cX0_ask 5 = .ok (.aload_n 0, 1) := dk_42 (dk_at dksX0_ask_0 5 rfl rfl)
theorem dX0_ask_6 : decode cX0_ask 6 = .ok (.invokevirtual 272, 3) := dk_182 1 16 (dk_at dksX0_ask_0 6 rfl rfl)
theorem dX0_ask_9 : decode cX0_ask 9 = .ok (.ifCond .ne 7, 3) := dk_154 0 7 (dk_at dksX0_ask_0 9 rfl rfl)
theorem dX0_ask_12 : decode cX0_ask 12 = .ok (.ldc2_w 361, 3) := dk_20 1 105 (dk_at dksX0_ask_0 12 rfl rfl)
theorem dX0_ask_15 : decode cX0_ask 15 = .ok (.lreturn, 1) := dk_173 (dk_at dksX0_ask_0 15 rfl rfl)
theorem dX0_ask_16 : decode cX0_ask 16 = .ok (.aload_n 0, 1) := dk_42 (dk_at dksX0_ask_0 16 rfl rfl)
theorem dX0_ask_17 : decode cX0_ask 17 = .ok (.iconst 0, 1) := dk_3 (dk_at dksX0_ask_0 17 rfl rfl)
theorem dX0_ask_18 : decode cX0_ask 18 = .ok (.putfield 123, 3) := dk_181 0 123 (dk_at dksX0_ask_0 18 rfl rfl)
theorem dX0_ask_21 : decode cX0_ask 21 = .ok (.aload_n 0, 1) := dk_42 (dk_at dksX0_ask_0 21 rfl rfl)
theorem dX0_ask_22 : decode cX0_ask 22 = .ok (.iconst (-1), 1) := dk_2 (dk_at dksX0_ask_0 22 rfl rfl)
theorem dX0_ask_23 : decode cX0_ask 23 = .ok (.putfield 39, 3) := dk_181 0 39 (dk_at dksX0_ask_1 0 rfl rfl)
theorem dX0_ask_26 : decode cX0_ask 26 = .ok (.aload_n 0, 1) := dk_42 (dk_at dksX0_ask_1 3 rfl rfl)
theorem dX0_ask_27 : decode cX0_ask 27 = .ok (.getfield 48, 3) := dk_180 0 48 (dk_at dksX0_ask_1 4 rfl rfl)
theorem dX0_ask_30 : decode cX0_ask 30 = .ok (.iload_n 1, 1) := dk_27 (dk_at dksX0_ask_1 7 rfl rfl)
theorem dX0_ask_31 : decode cX0_ask 31 = .ok (.invokevirtual 363, 3) := dk_182 1 107 (dk_at dksX0_ask_1 8 rfl rfl)
theorem dX0_ask_34 : decode cX0_ask 34 = .ok (.astore_n 2, 1) := dk_77 (dk_at dksX0_ask_1 11 rfl rfl)
theorem dX0_ask_35 : decode cX0_ask 35 = .ok (.goto 24, 3) := dk_167 0 24 (dk_at dksX0_ask_1 12 rfl rfl)
theorem dX0_ask_38 : decode cX0_ask 38 = .ok (.astore_n 3, 1) := dk_78 (dk_at dksX0_ask_1 15 rfl rfl)
theorem dX0_ask_39 : decode cX0_ask 39 = .ok (.aload_n 0, 1) := dk_42 (dk_at dksX0_ask_1 16 rfl rfl)
theorem dX0_ask_40 : decode cX0_ask 40 = .ok (.aload_n 3, 1) := dk_45 (dk_at dksX0_ask_1 17 rfl rfl)
theorem dX0_ask_41 : decode cX0_ask 41 = .ok (.getfield 136, 3) := dk_180 0 136 (dk_at dksX0_ask_1 18 rfl rfl)
theorem dX0_ask_44 : decode cX0_ask 44 = .ok (.putfield 123, 3) := dk_181 0 123 (dk_at dksX0_ask_1 21 rfl rfl)
theorem dX0_ask_47 : decode cX0_ask 47 = .ok (.aload_n 0, 1) := dk_42 (dk_at dksX0_ask_2 0 rfl rfl)
theorem dX0_ask_48 : decode cX0_ask 48 = .ok (.aload_n 3, 1) := dk_45 (dk_at dksX0_ask_2 1 rfl rfl)
theorem dX0_ask_49 : decode cX0_ask 49 = .ok (.getfield 139, 3) := dk_180 0 139 (dk_at dksX0_ask_2 2 rfl rfl)
theorem dX0_ask_52 : decode cX0_ask 52 = .ok (.putfield 39, 3) := dk_181 0 39 (dk_at dksX0_ask_2 5 rfl rfl)
theorem dX0_ask_55 : decode cX0_ask 55 = .ok (.ldc2_w 361, 3) := dk_20 1 105 (dk_at dksX0_ask_2 8 rfl rfl)
theorem dX0_ask_58 : decode cX0_ask 58 = .ok (.lreturn, 1) := dk_173 (dk_at dksX0_ask_2 11 rfl rfl)
theorem dX0_ask_59 : decode cX0_ask 59 = .ok (.aload_n 0, 1) := dk_42 (dk_at dksX0_ask_2 12 rfl rfl)
theorem dX0_ask_60 : decode cX0_ask 60 = .ok (.aload_n 0, 1) := dk_42 (dk_at dksX0_ask_2 13 rfl rfl)
theorem dX0_ask_61 : decode cX0_ask 61 = .ok (.getfield 69, 3) := dk_180 0 69 (dk_at dksX0_ask_2 14 rfl rfl)
theorem dX0_ask_64 : decode cX0_ask 64 = .ok (.getfield 213, 3) := dk_180 0 213 (dk_at dksX0_ask_2 17 rfl rfl)
theorem dX0_ask_67 : decode cX0_ask 67 = .ok (.invokevirtual 216, 3) := dk_182 0 216 (dk_at dksX0_ask_2 20 rfl rfl)
theorem dX0_ask_70 : decode cX0_ask 70 = .ok (.istore_n 3, 1) := dk_62 (dk_at dksX0_ask_2 23 rfl rfl)
theorem dX0_ask_71 : decode cX0_ask 71 = .ok (.aload_n 0, 1) := dk_42 (dk_at dksX0_ask_3 0 rfl rfl)
theorem dX0_ask_72 : decode cX0_ask 72 = .ok (.iconst 0, 1) := dk_3 (dk_at dksX0_ask_3 1 rfl rfl)
theorem dX0_ask_73 : decode cX0_ask 73 = .ok (.putfield 358, 3) := dk_181 1 102 (dk_at dksX0_ask_3 2 rfl rfl)
theorem dX0_ask_76 : decode cX0_ask 76 = .ok (.aload_n 0, 1) := dk_42 (dk_at dksX0_ask_3 5 rfl rfl)
theorem dX0_ask_77 : decode cX0_ask 77 = .ok (.getfield 358, 3) := dk_180 1 102 (dk_at dksX0_ask_3 6 rfl rfl)
theorem dX0_ask_80 : decode cX0_ask 80 = .ok (.aload_n 0, 1) := dk_42 (dk_at dksX0_ask_3 9 rfl rfl)
theorem dX0_ask_81 : decode cX0_ask 81 = .ok (.invokevirtual 166, 3) := dk_182 0 166 (dk_at dksX0_ask_3 10 rfl rfl)
theorem dX0_ask_84 : decode cX0_ask 84 = .ok (.if_icmp .ge 203, 3) := dk_162 0 203 (dk_at dksX0_ask_3 13 rfl rfl)
theorem dX0_ask_87 : decode cX0_ask 87 = .ok (.aload_n 0, 1) := dk_42 (dk_at dksX0_ask_3 16 rfl rfl)
theorem dX0_ask_88 : decode cX0_ask 88 = .ok (.getfield 59, 3) := dk_180 0 59 (dk_at dksX0_ask_3 17 rfl rfl)
theorem dX0_ask_91 : decode cX0_ask 91 = .ok (.getfield 189, 3) := dk_180 0 189 (dk_at dksX0_ask_3 20 rfl rfl)
theorem dX0_ask_94 : decode cX0_ask 94 = .ok (.iconst 0, 1) := dk_3 (dk_at dksX0_ask_3 23 rfl rfl)
theorem dX0_ask_95 : decode cX0_ask 95 = .ok (.aload_n 0, 1) := dk_42 (dk_at dksX0_ask_4 0 rfl rfl)
theorem dX0_ask_96 : decode cX0_ask 96 = .ok (.getfield 69, 3) := dk_180 0 69 (dk_at dksX0_ask_4 1 rfl rfl)
theorem dX0_ask_99 : decode cX0_ask 99 = .ok (.getfield 213, 3) := dk_180 0 213 (dk_at dksX0_ask_4 4 rfl rfl)
theorem dX0_ask_102 : decode cX0_ask 102 = .ok (.i2l, 1) := dk_133 (dk_at dksX0_ask_4 7 rfl rfl)
theorem dX0_ask_103 : decode cX0_ask 103 = .ok (.lastore, 1) := dk_80 (dk_at dksX0_ask_4 8 rfl rfl)
theorem dX0_ask_104 : decode cX0_ask 104 = .ok (.aload_n 0, 1) := dk_42 (dk_at dksX0_ask_4 9 rfl rfl)
theorem dX0_ask_105 : decode cX0_ask 105 = .ok (.getfield 59, 3) := dk_180 0 59 (dk_at dksX0_ask_4 10 rfl rfl)
theorem dX0_ask_108 : decode cX0_ask 108 = .ok (.getfield 189, 3) := dk_180 0 189 (dk_at dksX0_ask_4 13 rfl rfl)
theorem dX0_ask_111 : decode cX0_ask 111 = .ok (.iconst 1, 1) := dk_4 (dk_at dksX0_ask_4 16 rfl rfl)
theorem dX0_ask_112 : decode cX0_ask 112 = .ok (.aload_n 0, 1) := dk_42 (dk_at dksX0_ask_4 17 rfl rfl)
theorem dX0_ask_113 : decode cX0_ask 113 = .ok (.getfield 69, 3) := dk_180 0 69 (dk_at dksX0_ask_4 18 rfl rfl)
theorem dX0_ask_116 : decode cX0_ask 116 = .ok (.getfield 236, 3) := dk_180 0 236 (dk_at dksX0_ask_4 21 rfl rfl)
theorem dX0_ask_119 : decode cX0_ask 119 = .ok (.aload_n 0, 1) := dk_42 (dk_at dksX0_ask_5 0 rfl rfl)
theorem dX0_ask_120 : decode cX0_ask 120 = .ok (.getfield 358, 3) := dk_180 1 102 (dk_at dksX0_ask_5 1 rfl rfl)
theorem dX0_ask_123 : decode cX0_ask 123 = .ok (.iaload, 1) := dk_46 (dk_at dksX0_ask_5 4 rfl rfl)
theorem dX0_ask_124 : decode cX0_ask 124 = .ok (.i2l, 1) := dk_133 (dk_at dksX0_ask_5 5 rfl rfl)
theorem dX0_ask_125 : decode cX0_ask 125 = .ok (.lastore, 1) := dk_80 (dk_at dksX0_ask_5 6 rfl rfl)
theorem dX0_ask_126 : decode cX0_ask 126 = .ok (.aload_n 0, 1) := dk_42 (dk_at dksX0_ask_5 7 rfl rfl)
theorem dX0_ask_127 : decode cX0_ask 127 = .ok (.getfield 59, 3) := dk_180 0 59 (dk_at dksX0_ask_5 8 rfl rfl)
theorem dX0_ask_130 : decode cX0_ask 130 = .ok (.getfield 189, 3) := dk_180 0 189 (dk_at dksX0_ask_5 11 rfl rfl)
theorem dX0_ask_133 : decode cX0_ask 133 = .ok (.iconst 2, 1) := dk_5 (dk_at dksX0_ask_5 14 rfl rfl)
theorem dX0_ask_134 : decode cX0_ask 134 = .ok (.aload_n 0, 1) := dk_42 (dk_at dksX0_ask_5 15 rfl rfl)
theorem dX0_ask_135 : decode cX0_ask 135 = .ok (.getfield 69, 3) := dk_180 0 69 (dk_at dksX0_ask_5 16 rfl rfl)
theorem dX0_ask_138 : decode cX0_ask 138 = .ok (.getfield 239, 3) := dk_180 0 239 (dk_at dksX0_ask_5 19 rfl rfl)
theorem dX0_ask_141 : decode cX0_ask 141 = .ok (.aload_n 0, 1) := dk_42 (dk_at dksX0_ask_5 22 rfl rfl)
theorem dX0_ask_142 : decode cX0_ask 142 = .ok (.getfield 358, 3) := dk_180 1 102 (dk_at dksX0_ask_6 0 rfl rfl)
theorem dX0_ask_145 : decode cX0_ask 145 = .ok (.iaload, 1) := dk_46 (dk_at dksX0_ask_6 3 rfl rfl)
theorem dX0_ask_146 : decode cX0_ask 146 = .ok (.i2l, 1) := dk_133 (dk_at dksX0_ask_6 4 rfl rfl)
theorem dX0_ask_147 : decode cX0_ask 147 = .ok (.lastore, 1) := dk_80 (dk_at dksX0_ask_6 5 rfl rfl)
theorem dX0_ask_148 : decode cX0_ask 148 = .ok (.aload_n 0, 1) := dk_42 (dk_at dksX0_ask_6 6 rfl rfl)
theorem dX0_ask_149 : decode cX0_ask 149 = .ok (.getfield 59, 3) := dk_180 0 59 (dk_at dksX0_ask_6 7 rfl rfl)
theorem dX0_ask_152 : decode cX0_ask 152 = .ok (.getfield 189, 3) := dk_180 0 189 (dk_at dksX0_ask_6 10 rfl rfl)
theorem dX0_ask_155 : decode cX0_ask 155 = .ok (.iconst 3, 1) := dk_6 (dk_at dksX0_ask_6 13 rfl rfl)
theorem dX0_ask_156 : decode cX0_ask 156 = .ok (.aload_n 0, 1) := dk_42 (dk_at dksX0_ask_6 14 rfl rfl)
theorem dX0_ask_157 : decode cX0_ask 157 = .ok (.aload_n 0, 1) := dk_42 (dk_at dksX0_ask_6 15 rfl rfl)
theorem dX0_ask_158 : decode cX0_ask 158 = .ok (.getfield 358, 3) := dk_180 1 102 (dk_at dksX0_ask_6 16 rfl rfl)
theorem dX0_ask_161 : decode cX0_ask 161 = .ok (.invokevirtual 229, 3) := dk_182 0 229 (dk_at dksX0_ask_6 19 rfl rfl)
theorem dX0_ask_164 : decode cX0_ask 164 = .ok (.getfield 242, 3) := dk_180 0 242 (dk_at dksX0_ask_7 0 rfl rfl)
theorem dX0_ask_167 : decode cX0_ask 167 = .ok (.i2l, 1) := dk_133 (dk_at dksX0_ask_7 3 rfl rfl)
theorem dX0_ask_168 : decode cX0_ask 168 = .ok (.lastore, 1) := dk_80 (dk_at dksX0_ask_7 4 rfl rfl)
theorem dX0_ask_169 : decode cX0_ask 169 = .ok (.aload_n 0, 1) := dk_42 (dk_at dksX0_ask_7 5 rfl rfl)
theorem dX0_ask_170 : decode cX0_ask 170 = .ok (.getfield 59, 3) := dk_180 0 59 (dk_at dksX0_ask_7 6 rfl rfl)
theorem dX0_ask_173 : decode cX0_ask 173 = .ok (.getfield 189, 3) := dk_180 0 189 (dk_at dksX0_ask_7 9 rfl rfl)
theorem dX0_ask_176 : decode cX0_ask 176 = .ok (.iconst 4, 1) := dk_7 (dk_at dksX0_ask_7 12 rfl rfl)
theorem dX0_ask_177 : decode cX0_ask 177 = .ok (.aload_n 0, 1) := dk_42 (dk_at dksX0_ask_7 13 rfl rfl)
theorem dX0_ask_178 : decode cX0_ask 178 = .ok (.getfield 69, 3) := dk_180 0 69 (dk_at dksX0_ask_7 14 rfl rfl)
theorem dX0_ask_181 : decode cX0_ask 181 = .ok (.getfield 245, 3) := dk_180 0 245 (dk_at dksX0_ask_7 17 rfl rfl)
theorem dX0_ask_184 : decode cX0_ask 184 = .ok (.aload_n 0, 1) := dk_42 (dk_at dksX0_ask_7 20 rfl rfl)
theorem dX0_ask_185 : decode cX0_ask 185 = .ok (.getfield 358, 3) := dk_180 1 102 (dk_at dksX0_ask_7 21 rfl rfl)
theorem dX0_ask_188 : decode cX0_ask 188 = .ok (.iaload, 1) := dk_46 (dk_at dksX0_ask_8 0 rfl rfl)
theorem dX0_ask_189 : decode cX0_ask 189 = .ok (.i2l, 1) := dk_133 (dk_at dksX0_ask_8 1 rfl rfl)
theorem dX0_ask_190 : decode cX0_ask 190 = .ok (.lastore, 1) := dk_80 (dk_at dksX0_ask_8 2 rfl rfl)
theorem dX0_ask_191 : decode cX0_ask 191 = .ok (.aload_n 0, 1) := dk_42 (dk_at dksX0_ask_8 3 rfl rfl)
theorem dX0_ask_192 : decode cX0_ask 192 = .ok (.getfield 59, 3) := dk_180 0 59 (dk_at dksX0_ask_8 4 rfl rfl)
theorem dX0_ask_195 : decode cX0_ask 195 = .ok (.getfield 189, 3) := dk_180 0 189 (dk_at dksX0_ask_8 7 rfl rfl)
theorem dX0_ask_198 : decode cX0_ask 198 = .ok (.iconst 5, 1) := dk_8 (dk_at dksX0_ask_8 10 rfl rfl)
theorem dX0_ask_199 : decode cX0_ask 199 = .ok (.aload_n 0, 1) := dk_42 (dk_at dksX0_ask_8 11 rfl rfl)
theorem dX0_ask_200 : decode cX0_ask 200 = .ok (.getfield 69, 3) := dk_180 0 69 (dk_at dksX0_ask_8 12 rfl rfl)
theorem dX0_ask_203 : decode cX0_ask 203 = .ok (.getfield 236, 3) := dk_180 0 236 (dk_at dksX0_ask_8 15 rfl rfl)
theorem dX0_ask_206 : decode cX0_ask 206 = .ok (.aload_n 0, 1) := dk_42 (dk_at dksX0_ask_8 18 rfl rfl)
theorem dX0_ask_207 : decode cX0_ask 207 = .ok (.getfield 358, 3) := dk_180 1 102 (dk_at dksX0_ask_8 19 rfl rfl)
theorem dX0_ask_210 : decode cX0_ask 210 = .ok (.iaload, 1) := dk_46 (dk_at dksX0_ask_8 22 rfl rfl)
theorem dX0_ask_211 : decode cX0_ask 211 = .ok (.iload_n 3, 1) := dk_29 (dk_at dksX0_ask_8 23 rfl rfl)
theorem dX0_ask_212 : decode cX0_ask 212 = .ok (.invokestatic 181, 3) := dk_184 0 181 (dk_at dksX0_ask_9 0 rfl rfl)
theorem dX0_ask_215 : decode cX0_ask 215 = .ok (.ifCond .eq 7, 3) := dk_153 0 7 (dk_at dksX0_ask_9 3 rfl rfl)
theorem dX0_ask_218 : decode cX0_ask 218 = .ok (.lconst 1, 1) := dk_10 (dk_at dksX0_ask_9 6 rfl rfl)
theorem dX0_ask_219 : decode cX0_ask 219 = .ok (.goto 4, 3) := dk_167 0 4 (dk_at dksX0_ask_9 7 rfl rfl)
theorem dX0_ask_222 : decode cX0_ask 222 = .ok (.lconst 0, 1) := dk_9 (dk_at dksX0_ask_9 10 rfl rfl)
theorem dX0_ask_223 : decode cX0_ask 223 = .ok (.lastore, 1) := dk_80 (dk_at dksX0_ask_9 11 rfl rfl)
theorem dX0_ask_224 : decode cX0_ask 224 = .ok (.aload_n 0, 1) := dk_42 (dk_at dksX0_ask_9 12 rfl rfl)
theorem dX0_ask_225 : decode cX0_ask 225 = .ok (.getfield 59, 3) := dk_180 0 59 (dk_at dksX0_ask_9 13 rfl rfl)
theorem dX0_ask_228 : decode cX0_ask 228 = .ok (.getfield 189, 3) := dk_180 0 189 (dk_at dksX0_ask_9 16 rfl rfl)
theorem dX0_ask_231 : decode cX0_ask 231 = .ok (.bipush 7, 2) := dk_16 7 (dk_at dksX0_ask_9 19 rfl rfl)
theorem dX0_ask_233 : decode cX0_ask 233 = .ok (.aload_n 0, 1) := dk_42 (dk_at dksX0_ask_9 21 rfl rfl)
theorem dX0_ask_234 : decode cX0_ask 234 = .ok (.getfield 358, 3) := dk_180 1 102 (dk_at dksX0_ask_10 0 rfl rfl)
theorem dX0_ask_237 : decode cX0_ask 237 = .ok (.i2l, 1) := dk_133 (dk_at dksX0_ask_10 3 rfl rfl)
theorem dX0_ask_238 : decode cX0_ask 238 = .ok (.lastore, 1) := dk_80 (dk_at dksX0_ask_10 4 rfl rfl)
theorem dX0_ask_239 : decode cX0_ask 239 = .ok (.aload_n 0, 1) := dk_42 (dk_at dksX0_ask_10 5 rfl rfl)
theorem dX0_ask_240 : decode cX0_ask 240 = .ok (.getfield 59, 3) := dk_180 0 59 (dk_at dksX0_ask_10 6 rfl rfl)
theorem dX0_ask_243 : decode cX0_ask 243 = .ok (.getfield 189, 3) := dk_180 0 189 (dk_at dksX0_ask_10 9 rfl rfl)
theorem dX0_ask_246 : decode cX0_ask 246 = .ok (.bipush 8, 2) := dk_16 8 (dk_at dksX0_ask_10 12 rfl rfl)
theorem dX0_ask_248 : decode cX0_ask 248 = .ok (.aload_n 0, 1) := dk_42 (dk_at dksX0_ask_10 14 rfl rfl)
theorem dX0_ask_249 : decode cX0_ask 249 = .ok (.getfield 69, 3) := dk_180 0 69 (dk_at dksX0_ask_10 15 rfl rfl)
theorem dX0_ask_252 : decode cX0_ask 252 = .ok (.getfield 248, 3) := dk_180 0 248 (dk_at dksX0_ask_10 18 rfl rfl)
theorem dX0_ask_255 : decode cX0_ask 255 = .ok (.aload_n 0, 1) := dk_42 (dk_at dksX0_ask_10 21 rfl rfl)
theorem dX0_ask_256 : decode cX0_ask 256 = .ok (.getfield 358, 3) := dk_180 1 102 (dk_at dksX0_ask_11 0 rfl rfl)
theorem dX0_ask_259 : decode cX0_ask 259 = .ok (.iaload, 1) := dk_46 (dk_at dksX0_ask_11 3 rfl rfl)
theorem dX0_ask_260 : decode cX0_ask 260 = .ok (.i2l, 1) := dk_133 (dk_at dksX0_ask_11 4 rfl rfl)
theorem dX0_ask_261 : decode cX0_ask 261 = .ok (.lastore, 1) := dk_80 (dk_at dksX0_ask_11 5 rfl rfl)
theorem dX0_ask_262 : decode cX0_ask 262 = .ok (.aload_n 2, 1) := dk_44 (dk_at dksX0_ask_11 6 rfl rfl)
theorem dX0_ask_263 : decode cX0_ask 263 = .ok (.aload_n 0, 1) := dk_42 (dk_at dksX0_ask_11 7 rfl rfl)
theorem dX0_ask_264 : decode cX0_ask 264 = .ok (.getfield 358, 3) := dk_180 1 102 (dk_at dksX0_ask_11 8 rfl rfl)
theorem dX0_ask_267 : decode cX0_ask 267 = .ok (.aload_n 0, 1) := dk_42 (dk_at dksX0_ask_11 11 rfl rfl)
theorem dX0_ask_268 : decode cX0_ask 268 = .ok (.getfield 59, 3) := dk_180 0 59 (dk_at dksX0_ask_11 12 rfl rfl)
theorem dX0_ask_271 : decode cX0_ask 271 = .ok (.invokevirtual 367, 3) := dk_182 1 111 (dk_at dksX0_ask_11 15 rfl rfl)
theorem dX0_ask_274 : decode cX0_ask 274 = .ok (.aload_n 0, 1) := dk_42 (dk_at dksX0_ask_11 18 rfl rfl)
theorem dX0_ask_275 : decode cX0_ask 275 = .ok (.dup, 1) := dk_89 (dk_at dksX0_ask_11 19 rfl rfl)
theorem dX0_ask_276 : decode cX0_ask 276 = .ok (.getfield 358, 3) := dk_180 1 102 (dk_at dksX0_ask_11 20 rfl rfl)
theorem dX0_ask_279 : decode cX0_ask 279 = .ok (.iconst 1, 1) := dk_4 (dk_at dksX0_ask_11 23 rfl rfl)
theorem dX0_ask_280 : decode cX0_ask 280 = .ok (.iadd, 1) := dk_96 (dk_at dksX0_ask_12 0 rfl rfl)
theorem dX0_ask_281 : decode cX0_ask 281 = .ok (.putfield 358, 3) := dk_181 1 102 (dk_at dksX0_ask_12 1 rfl rfl)
theorem dX0_ask_284 : decode cX0_ask 284 = .ok (.goto (-208), 3) := dk_167 255 48 (dk_at dksX0_ask_12 4 rfl rfl)
theorem dX0_ask_287 : decode cX0_ask 287 = .ok (.aload_n 2, 1) := dk_44 (dk_at dksX0_ask_12 7 rfl rfl)
theorem dX0_ask_288 : decode cX0_ask 288 = .ok (.invokevirtual 373, 3) := dk_182 1 117 (dk_at dksX0_ask_12 8 rfl rfl)
theorem dX0_ask_291 : decode cX0_ask 291 = .ok (.lreturn, 1) := dk_173 (dk_at dksX0_ask_12 11 rfl rfl)
abbrev cX0_image : ByteArray := prog_1_method_61_code
def yX0_image : MethodName := ⟨RX0, "image", "()I"⟩
def dkwX0_image_6 : List UInt8 := [180, 1, 121, 172]
abbrev dktX0_image_6 : List UInt8 := dkwX0_image_6 ++ []
def dkwX0_image_5 : List UInt8 := [132, 1, 1, 167, 255, 189, 42, 42, 180, 0, 109, 42, 180, 1, 121, 184, 1, 127, 4, 182, 1, 124, 42]
abbrev dktX0_image_5 : List UInt8 := dkwX0_image_5 ++ dktX0_image_6
def dkwX0_image_4 : List UInt8 := [180, 0, 245, 27, 46, 5, 182, 1, 124, 42, 42, 180, 0, 69, 180, 0, 248, 27, 46, 5, 182, 1, 124]
abbrev dktX0_image_4 : List UInt8 := dkwX0_image_4 ++ dktX0_image_5
def dkwX0_image_3 : List UInt8 := [182, 1, 124, 42, 42, 180, 0, 69, 180, 0, 239, 27, 46, 4, 182, 1, 124, 42, 42, 180, 0, 69]
abbrev dktX0_image_3 : List UInt8 := dkwX0_image_3 ++ dktX0_image_4
def dkwX0_image_2 : List UInt8 := [167, 255, 228, 3, 60, 27, 42, 182, 0, 166, 162, 0, 65, 42, 42, 180, 0, 69, 180, 0, 236, 27, 46, 4]
abbrev dktX0_image_2 : List UInt8 := dkwX0_image_2 ++ dktX0_image_3
def dkwX0_image_1 : List UInt8 := [180, 0, 154, 162, 0, 23, 42, 42, 180, 0, 69, 180, 0, 202, 27, 46, 4, 182, 1, 124, 132, 1, 1]
abbrev dktX0_image_1 : List UInt8 := dkwX0_image_1 ++ dktX0_image_2
def dkwX0_image_0 : List UInt8 := [42, 3, 181, 1, 121, 42, 42, 180, 0, 69, 180, 0, 213, 5, 182, 1, 124, 3, 60, 27, 42, 180, 0, 31]
abbrev dktX0_image_0 : List UInt8 := dkwX0_image_0 ++ dktX0_image_1
theorem dksX0_image_0 : cX0_image.data.toList.drop 0 = dktX0_image_0 := by decide +kernel
theorem dksX0_image_1 : cX0_image.data.toList.drop 24 = dktX0_image_1 := dk_seg dksX0_image_0 24 rfl rfl
theorem dksX0_image_2 : cX0_image.data.toList.drop 47 = dktX0_image_2 := dk_seg dksX0_image_1 23 rfl rfl
theorem dksX0_image_3 : cX0_image.data.toList.drop 71 = dktX0_image_3 := dk_seg dksX0_image_2 24 rfl rfl
theorem dksX0_image_4 : cX0_image.data.toList.drop 93 = dktX0_image_4 := dk_seg dksX0_image_3 22 rfl rfl
theorem dksX0_image_5 : cX0_image.data.toList.drop 116 = dktX0_image_5 := dk_seg dksX0_image_4 23 rfl rfl
theorem dksX0_image_6 : cX0_image.data.toList.drop 139 = dktX0_image_6 := dk_seg dksX0_image_5 23 rfl rfl
theorem dX0_image_0 : decode cX0_image 0 = .ok (.aload_n 0, 1) := dk_42 (dk_at dksX0_image_0 0 rfl rfl)
theorem dX0_image_1 : decode cX0_image 1 = .ok (.iconst 0, 1) := dk_3 (dk_at dksX0_image_0 1 rfl rfl)
theorem dX0_image_2 : decode cX0_image 2 = .ok (.putfield 377, 3) := dk_181 1 121 (dk_at dksX0_image_0 2 rfl rfl)
theorem dX0_image_5 : decode cX0_image 5 = .ok (.aload_n 0, 1) := dk_42 (dk_at dksX0_image_0 5 rfl rfl)
theorem dX0_image_6 : decode cX0_image 6 = .ok (.aload_n 0, 1) := dk_42 (dk_at dksX0_image_0 6 rfl rfl)
theorem dX0_image_7 : decode cX0_image 7 = .ok (.getfield 69, 3) := dk_180 0 69 (dk_at dksX0_image_0 7 rfl rfl)
theorem dX0_image_10 : decode cX0_image 10 = .ok (.getfield 213, 3) := dk_180 0 213 (dk_at dksX0_image_0 10 rfl rfl)
theorem dX0_image_13 : decode cX0_image 13 = .ok (.iconst 2, 1) := dk_5 (dk_at dksX0_image_0 13 rfl rfl)
theorem dX0_image_14 : decode cX0_image 14 = .ok (.invokevirtual 380, 3) := dk_182 1 124 (dk_at dksX0_image_0 14 rfl rfl)
theorem dX0_image_17 : decode cX0_image 17 = .ok (.iconst 0, 1) := dk_3 (dk_at dksX0_image_0 17 rfl rfl)
theorem dX0_image_18 : decode cX0_image 18 = .ok (.istore_n 1, 1) := dk_60 (dk_at dksX0_image_0 18 rfl rfl)
theorem dX0_image_19 : decode cX0_image 19 = .ok (.iload_n 1, 1) := dk_27 (dk_at dksX0_image_0 19 rfl rfl)
theorem dX0_image_20 : decode cX0_image 20 = .ok (.aload_n 0, 1) := dk_42 (dk_at dksX0_image_0 20 rfl rfl)
theorem dX0_image_21 : decode cX0_image 21 = .ok (.getfield 31, 3) := dk_180 0 31 (dk_at dksX0_image_0 21 rfl rfl)
theorem dX0_image_24 : decode cX0_image 24 = .ok (.getfield 154, 3) := dk_180 0 154 (dk_at dksX0_image_1 0 rfl rfl)
theorem dX0_image_27 : decode cX0_image 27 = .ok (.if_icmp .ge 23, 3) := dk_162 0 23 (dk_at dksX0_image_1 3 rfl rfl)
theorem dX0_image_30 : decode cX0_image 30 = .ok (.aload_n 0, 1) := dk_42 (dk_at dksX0_image_1 6 rfl rfl)
theorem dX0_image_31 : decode cX0_image 31 = .ok (.aload_n 0, 1) := dk_42 (dk_at dksX0_image_1 7 rfl rfl)
theorem dX0_image_32 : decode cX0_image 32 = .ok (.getfield 69, 3) := dk_180 0 69 (dk_at dksX0_image_1 8 rfl rfl)
theorem dX0_image_35 : decode cX0_image 35 = .ok (.getfield 202, 3) := dk_180 0 202 (dk_at dksX0_image_1 11 rfl rfl)
theorem dX0_image_38 : decode cX0_image 38 = .ok (.iload_n 1, 1) := dk_27 (dk_at dksX0_image_1 14 rfl rfl)
theorem dX0_image_39 : decode cX0_image 39 = .ok (.iaload, 1) := dk_46 (dk_at dksX0_image_1 15 rfl rfl)
theorem dX0_image_40 : decode cX0_image 40 = .ok (.iconst 1, 1) := dk_4 (dk_at dksX0_image_1 16 rfl rfl)
theorem dX0_image_41 : decode cX0_image 41 = .ok (.invokevirtual 380, 3) := dk_182 1 124 (dk_at dksX0_image_1 17 rfl rfl)
theorem dX0_image_44 : decode cX0_image 44 = .ok (.iinc 1 1, 3) := dk_132 1 1 (dk_at dksX0_image_1 20 rfl rfl)
theorem dX0_image_47 : decode cX0_image 47 = .ok (.goto (-28), 3) := dk_167 255 228 (dk_at dksX0_image_2 0 rfl rfl)
theorem dX0_image_50 : decode cX0_image 50 = .ok (.iconst 0, 1) := dk_3 (dk_at dksX0_image_2 3 rfl rfl)
theorem dX0_image_51 : decode cX0_image 51 = .ok (.istore_n 1, 1) := dk_60 (dk_at dksX0_image_2 4 rfl rfl)
theorem dX0_image_52 : decode cX0_image 52 = .ok (.iload_n 1, 1) := dk_27 (dk_at dksX0_image_2 5 rfl rfl)
theorem dX0_image_53 : decode cX0_image 53 = .ok (.aload_n 0, 1) := dk_42 (dk_at dksX0_image_2 6 rfl rfl)
theorem dX0_image_54 : decode cX0_image 54 = .ok (.invokevirtual 166, 3) := dk_182 0 166 (dk_at dksX0_image_2 7 rfl rfl)
theorem dX0_image_57 : decode cX0_image 57 = .ok (.if_icmp .ge 65, 3) := dk_162 0 65 (dk_at dksX0_image_2 10 rfl rfl)
theorem dX0_image_60 : decode cX0_image 60 = .ok (.aload_n 0, 1) := dk_42 (dk_at dksX0_image_2 13 rfl rfl)
theorem dX0_image_61 : decode cX0_image 61 = .ok (.aload_n 0, 1) := dk_42 (dk_at dksX0_image_2 14 rfl rfl)
theorem dX0_image_62 : decode cX0_image 62 = .ok (.getfield 69, 3) := dk_180 0 69 (dk_at dksX0_image_2 15 rfl rfl)
theorem dX0_image_65 : decode cX0_image 65 = .ok (.getfield 236, 3) := dk_180 0 236 (dk_at dksX0_image_2 18 rfl rfl)
theorem dX0_image_68 : decode cX0_image 68 = .ok (.iload_n 1, 1) := dk_27 (dk_at dksX0_image_2 21 rfl rfl)
theorem dX0_image_69 : decode cX0_image 69 = .ok (.iaload, 1) := dk_46 (dk_at dksX0_image_2 22 rfl rfl)
theorem dX0_image_70 : decode cX0_image 70 = .ok (.iconst 1, 1) := dk_4 (dk_at dksX0_image_2 23 rfl rfl)
theorem dX0_image_71 : decode cX0_image 71 = .ok (.invokevirtual 380, 3) := dk_182 1 124 (dk_at dksX0_image_3 0 rfl rfl)
theorem dX0_image_74 : decode cX0_image 74 = .ok (.aload_n 0, 1) := dk_42 (dk_at dksX0_image_3 3 rfl rfl)
theorem dX0_image_75 : decode cX0_image 75 = .ok (.aload_n 0, 1) := dk_42 (dk_at dksX0_image_3 4 rfl rfl)
theorem dX0_image_76 : decode cX0_image 76 = .ok (.getfield 69, 3) := dk_180 0 69 (dk_at dksX0_image_3 5 rfl rfl)
theorem dX0_image_79 : decode cX0_image 79 = .ok (.getfield 239, 3) := dk_180 0 239 (dk_at dksX0_image_3 8 rfl rfl)
theorem dX0_image_82 : decode cX0_image 82 = .ok (.iload_n 1, 1) := dk_27 (dk_at dksX0_image_3 11 rfl rfl)
theorem dX0_image_83 : decode cX0_image 83 = .ok (.iaload, 1) := dk_46 (dk_at dksX0_image_3 12 rfl rfl)
theorem dX0_image_84 : decode cX0_image 84 = .ok (.iconst 1, 1) := dk_4 (dk_at dksX0_image_3 13 rfl rfl)
theorem dX0_image_85 : decode cX0_image 85 = .ok (.invokevirtual 380, 3) := dk_182 1 124 (dk_at dksX0_image_3 14 rfl rfl)
theorem dX0_image_88 : decode cX0_image 88 = .ok (.aload_n 0, 1) := dk_42 (dk_at dksX0_image_3 17 rfl rfl)
theorem dX0_image_89 : decode cX0_image 89 = .ok (.aload_n 0, 1) := dk_42 (dk_at dksX0_image_3 18 rfl rfl)
theorem dX0_image_90 : decode cX0_image 90 = .ok (.getfield 69, 3) := dk_180 0 69 (dk_at dksX0_image_3 19 rfl rfl)
theorem dX0_image_93 : decode cX0_image 93 = .ok (.getfield 245, 3) := dk_180 0 245 (dk_at dksX0_image_4 0 rfl rfl)
theorem dX0_image_96 : decode cX0_image 96 = .ok (.iload_n 1, 1) := dk_27 (dk_at dksX0_image_4 3 rfl rfl)
theorem dX0_image_97 : decode cX0_image 97 = .ok (.iaload, 1) := dk_46 (dk_at dksX0_image_4 4 rfl rfl)
theorem dX0_image_98 : decode cX0_image 98 = .ok (.iconst 2, 1) := dk_5 (dk_at dksX0_image_4 5 rfl rfl)
theorem dX0_image_99 : decode cX0_image 99 = .ok (.invokevirtual 380, 3) := dk_182 1 124 (dk_at dksX0_image_4 6 rfl rfl)
theorem dX0_image_102 : decode cX0_image 102 = .ok (.aload_n 0, 1) := dk_42 (dk_at dksX0_image_4 9 rfl rfl)
theorem dX0_image_103 : decode cX0_image 103 = .ok (.aload_n 0, 1) := dk_42 (dk_at dksX0_image_4 10 rfl rfl)
theorem dX0_image_104 : decode cX0_image 104 = .ok (.getfield 69, 3) := dk_180 0 69 (dk_at dksX0_image_4 11 rfl rfl)
theorem dX0_image_107 : decode cX0_image 107 = .ok (.getfield 248, 3) := dk_180 0 248 (dk_at dksX0_image_4 14 rfl rfl)
theorem dX0_image_110 : decode cX0_image 110 = .ok (.iload_n 1, 1) := dk_27 (dk_at dksX0_image_4 17 rfl rfl)
theorem dX0_image_111 : decode cX0_image 111 = .ok (.iaload, 1) := dk_46 (dk_at dksX0_image_4 18 rfl rfl)
theorem dX0_image_112 : decode cX0_image 112 = .ok (.iconst 2, 1) := dk_5 (dk_at dksX0_image_4 19 rfl rfl)
theorem dX0_image_113 : decode cX0_image 113 = .ok (.invokevirtual 380, 3) := dk_182 1 124 (dk_at dksX0_image_4 20 rfl rfl)
theorem dX0_image_116 : decode cX0_image 116 = .ok (.iinc 1 1, 3) := dk_132 1 1 (dk_at dksX0_image_5 0 rfl rfl)
theorem dX0_image_119 : decode cX0_image 119 = .ok (.goto (-67), 3) := dk_167 255 189 (dk_at dksX0_image_5 3 rfl rfl)
theorem dX0_image_122 : decode cX0_image 122 = .ok (.aload_n 0, 1) := dk_42 (dk_at dksX0_image_5 6 rfl rfl)
theorem dX0_image_123 : decode cX0_image 123 = .ok (.aload_n 0, 1) := dk_42 (dk_at dksX0_image_5 7 rfl rfl)
theorem dX0_image_124 : decode cX0_image 124 = .ok (.getfield 109, 3) := dk_180 0 109 (dk_at dksX0_image_5 8 rfl rfl)
theorem dX0_image_127 : decode cX0_image 127 = .ok (.aload_n 0, 1) := dk_42 (dk_at dksX0_image_5 11 rfl rfl)
theorem dX0_image_128 : decode cX0_image 128 = .ok (.getfield 377, 3) := dk_180 1 121 (dk_at dksX0_image_5 12 rfl rfl)
theorem dX0_image_131 : decode cX0_image 131 = .ok (.invokestatic 383, 3) := dk_184 1 127 (dk_at dksX0_image_5 15 rfl rfl)
theorem dX0_image_134 : decode cX0_image 134 = .ok (.iconst 1, 1) := dk_4 (dk_at dksX0_image_5 18 rfl rfl)
theorem dX0_image_135 : decode cX0_image 135 = .ok (.invokevirtual 380, 3) := dk_182 1 124 (dk_at dksX0_image_5 19 rfl rfl)
theorem dX0_image_138 : decode cX0_image 138 = .ok (.aload_n 0, 1) := dk_42 (dk_at dksX0_image_5 22 rfl rfl)
theorem dX0_image_139 : decode cX0_image 139 = .ok (.getfield 377, 3) := dk_180 1 121 (dk_at dksX0_image_6 0 rfl rfl)
theorem dX0_image_142 : decode cX0_image 142 = .ok (.ireturn, 1) := dk_172 (dk_at dksX0_image_6 3 rfl rfl)
abbrev cX0_writes : ByteArray := prog_1_method_59_code
def yX0_writes : MethodName := ⟨RX0, "writes", "(II)V"⟩
def dkwX0_writes_1 : List UInt8 := [181, 1, 121, 27, 29, 122, 145, 84, 132, 3, 248, 167, 255, 229, 177]
abbrev dktX0_writes_1 : List UInt8 := dkwX0_writes_1 ++ []
def dkwX0_writes_0 : List UInt8 := [16, 8, 28, 104, 16, 8, 100, 62, 29, 155, 0, 29, 42, 180, 0, 109, 42, 89, 180, 1, 121, 90, 4, 96]
abbrev dktX0_writes_0 : List UInt8 := dkwX0_writes_0 ++ dktX0_writes_1
theorem dksX0_writes_0 : cX0_writes.data.toList.drop 0 = dktX0_writes_0 := by decide +kernel
theorem dksX0_writes_1 : cX0_writes.data.toList.drop 24 = dktX0_writes_1 := dk_seg dksX0_writes_0 24 rfl rfl
theorem dX0_writes_0 : decode cX0_writes 0 = .ok (.bipush 8, 2) := dk_16 8 (dk_at dksX0_writes_0 0 rfl rfl)
theorem dX0_writes_2 : decode cX0_writes 2 = .ok (.iload_n 2, 1) := dk_28 (dk_at dksX0_writes_0 2 rfl rfl)
theorem dX0_writes_3 : decode cX0_writes 3 = .ok (.imul, 1) := dk_104 (dk_at dksX0_writes_0 3 rfl rfl)
theorem dX0_writes_4 : decode cX0_writes 4 = .ok (.bipush 8, 2) := dk_16 8 (dk_at dksX0_writes_0 4 rfl rfl)
theorem dX0_writes_6 : decode cX0_writes 6 = .ok (.isub, 1) := dk_100 (dk_at dksX0_writes_0 6 rfl rfl)
theorem dX0_writes_7 : decode cX0_writes 7 = .ok (.istore_n 3, 1) := dk_62 (dk_at dksX0_writes_0 7 rfl rfl)
theorem dX0_writes_8 : decode cX0_writes 8 = .ok (.iload_n 3, 1) := dk_29 (dk_at dksX0_writes_0 8 rfl rfl)
theorem dX0_writes_9 : decode cX0_writes 9 = .ok (.ifCond .lt 29, 3) := dk_155 0 29 (dk_at dksX0_writes_0 9 rfl rfl)
theorem dX0_writes_12 : decode cX0_writes 12 = .ok (.aload_n 0, 1) := dk_42 (dk_at dksX0_writes_0 12 rfl rfl)
theorem dX0_writes_13 : decode cX0_writes 13 = .ok (.getfield 109, 3) := dk_180 0 109 (dk_at dksX0_writes_0 13 rfl rfl)
theorem dX0_writes_16 : decode cX0_writes 16 = .ok (.aload_n 0, 1) := dk_42 (dk_at dksX0_writes_0 16 rfl rfl)
theorem dX0_writes_17 : decode cX0_writes 17 = .ok (.dup, 1) := dk_89 (dk_at dksX0_writes_0 17 rfl rfl)
theorem dX0_writes_18 : decode cX0_writes 18 = .ok (.getfield 377, 3) := dk_180 1 121 (dk_at dksX0_writes_0 18 rfl rfl)
theorem dX0_writes_21 : decode cX0_writes 21 = .ok (.dup_x1, 1) := dk_90 (dk_at dksX0_writes_0 21 rfl rfl)
theorem dX0_writes_22 : decode cX0_writes 22 = .ok (.iconst 1, 1) := dk_4 (dk_at dksX0_writes_0 22 rfl rfl)
theorem dX0_writes_23 : decode cX0_writes 23 = .ok (.iadd, 1) := dk_96 (dk_at dksX0_writes_0 23 rfl rfl)
theorem dX0_writes_24 : decode cX0_writes 24 = .ok (.putfield 377, 3) := dk_181 1 121 (dk_at dksX0_writes_1 0 rfl rfl)
theorem dX0_writes_27 : decode cX0_writes 27 = .ok (.iload_n 1, 1) := dk_27 (dk_at dksX0_writes_1 3 rfl rfl)
theorem dX0_writes_28 : decode cX0_writes 28 = .ok (.iload_n 3, 1) := dk_29 (dk_at dksX0_writes_1 4 rfl rfl)
theorem dX0_writes_29 : decode cX0_writes 29 = .ok (.ishr, 1) := dk_122 (dk_at dksX0_writes_1 5 rfl rfl)
theorem dX0_writes_30 : decode cX0_writes 30 = .ok (.i2b, 1) := dk_145 (dk_at dksX0_writes_1 6 rfl rfl)
theorem dX0_writes_31 : decode cX0_writes 31 = .ok (.bastore, 1) := dk_84 (dk_at dksX0_writes_1 7 rfl rfl)
theorem dX0_writes_32 : decode cX0_writes 32 = .ok (.iinc 3 (-8), 3) := dk_132 3 248 (dk_at dksX0_writes_1 8 rfl rfl)
theorem dX0_writes_35 : decode cX0_writes 35 = .ok (.goto (-27), 3) := dk_167 255 229 (dk_at dksX0_writes_1 11 rfl rfl)
theorem dX0_writes_38 : decode cX0_writes 38 = .ok (.return_, 1) := dk_177 (dk_at dksX0_writes_1 14 rfl rfl)
abbrev cX0_check : ByteArray := prog_1_method_60_code
def yX0_check : MethodName := ⟨RX0, "check", "([BI)I"⟩
def dkwX0_check_1 : List UInt8 := [112, 61, 132, 3, 1, 167, 255, 232, 28, 172]
abbrev dktX0_check_1 : List UInt8 := dkwX0_check_1 ++ []
def dkwX0_check_0 : List UInt8 := [16, 83, 61, 3, 62, 29, 27, 162, 0, 25, 6, 28, 104, 42, 29, 51, 17, 0, 255, 126, 96, 17, 0, 251]
abbrev dktX0_check_0 : List UInt8 := dkwX0_check_0 ++ dktX0_check_1
theorem dksX0_check_0 : cX0_check.data.toList.drop 0 = dktX0_check_0 := by decide +kernel
theorem dksX0_check_1 : cX0_check.data.toList.drop 24 = dktX0_check_1 := dk_seg dksX0_check_0 24 rfl rfl
theorem dX0_check_0 : decode cX0_check 0 = .ok (.bipush 83, 2) := dk_16 83 (dk_at dksX0_check_0 0 rfl rfl)
theorem dX0_check_2 : decode cX0_check 2 = .ok (.istore_n 2, 1) := dk_61 (dk_at dksX0_check_0 2 rfl rfl)
theorem dX0_check_3 : decode cX0_check 3 = .ok (.iconst 0, 1) := dk_3 (dk_at dksX0_check_0 3 rfl rfl)
theorem dX0_check_4 : decode cX0_check 4 = .ok (.istore_n 3, 1) := dk_62 (dk_at dksX0_check_0 4 rfl rfl)
theorem dX0_check_5 : decode cX0_check 5 = .ok (.iload_n 3, 1) := dk_29 (dk_at dksX0_check_0 5 rfl rfl)
theorem dX0_check_6 : decode cX0_check 6 = .ok (.iload_n 1, 1) := dk_27 (dk_at dksX0_check_0 6 rfl rfl)
theorem dX0_check_7 : decode cX0_check 7 = .ok (.if_icmp .ge 25, 3) := dk_162 0 25 (dk_at dksX0_check_0 7 rfl rfl)
theorem dX0_check_10 : decode cX0_check 10 = .ok (.iconst 3, 1) := dk_6 (dk_at dksX0_check_0 10 rfl rfl)
theorem dX0_check_11 : decode cX0_check 11 = .ok (.iload_n 2, 1) := dk_28 (dk_at dksX0_check_0 11 rfl rfl)
theorem dX0_check_12 : decode cX0_check 12 = .ok (.imul, 1) := dk_104 (dk_at dksX0_check_0 12 rfl rfl)
theorem dX0_check_13 : decode cX0_check 13 = .ok (.aload_n 0, 1) := dk_42 (dk_at dksX0_check_0 13 rfl rfl)
theorem dX0_check_14 : decode cX0_check 14 = .ok (.iload_n 3, 1) := dk_29 (dk_at dksX0_check_0 14 rfl rfl)
theorem dX0_check_15 : decode cX0_check 15 = .ok (.baload, 1) := dk_51 (dk_at dksX0_check_0 15 rfl rfl)
theorem dX0_check_16 : decode cX0_check 16 = .ok (.sipush 255, 3) := dk_17 0 255 (dk_at dksX0_check_0 16 rfl rfl)
theorem dX0_check_19 : decode cX0_check 19 = .ok (.iand, 1) := dk_126 (dk_at dksX0_check_0 19 rfl rfl)
theorem dX0_check_20 : decode cX0_check 20 = .ok (.iadd, 1) := dk_96 (dk_at dksX0_check_0 20 rfl rfl)
theorem dX0_check_21 : decode cX0_check 21 = .ok (.sipush 251, 3) := dk_17 0 251 (dk_at dksX0_check_0 21 rfl rfl)
theorem dX0_check_24 : decode cX0_check 24 = .ok (.irem, 1) := dk_112 (dk_at dksX0_check_1 0 rfl rfl)
theorem dX0_check_25 : decode cX0_check 25 = .ok (.istore_n 2, 1) := dk_61 (dk_at dksX0_check_1 1 rfl rfl)
theorem dX0_check_26 : decode cX0_check 26 = .ok (.iinc 3 1, 3) := dk_132 3 1 (dk_at dksX0_check_1 2 rfl rfl)
theorem dX0_check_29 : decode cX0_check 29 = .ok (.goto (-24), 3) := dk_167 255 232 (dk_at dksX0_check_1 5 rfl rfl)
theorem dX0_check_32 : decode cX0_check 32 = .ok (.iload_n 2, 1) := dk_28 (dk_at dksX0_check_1 8 rfl rfl)
theorem dX0_check_33 : decode cX0_check 33 = .ok (.ireturn, 1) := dk_172 (dk_at dksX0_check_1 9 rfl rfl)
abbrev cX0_octet : ByteArray := prog_1_method_62_code
def yX0_octet : MethodName := ⟨RX0, "octet", "(I)I"⟩
def dkwX0_octet_1 : List UInt8 := [17, 0, 255, 126, 172]
abbrev dktX0_octet_1 : List UInt8 := dkwX0_octet_1 ++ []
def dkwX0_octet_0 : List UInt8 := [27, 155, 0, 11, 27, 42, 180, 1, 121, 161, 0, 7, 2, 167, 0, 13, 42, 180, 0, 109, 27, 51]
abbrev dktX0_octet_0 : List UInt8 := dkwX0_octet_0 ++ dktX0_octet_1
theorem dksX0_octet_0 : cX0_octet.data.toList.drop 0 = dktX0_octet_0 := by decide +kernel
theorem dksX0_octet_1 : cX0_octet.data.toList.drop 22 = dktX0_octet_1 := dk_seg dksX0_octet_0 22 rfl rfl
theorem dX0_octet_0 : decode cX0_octet 0 = .ok (.iload_n 1, 1) := dk_27 (dk_at dksX0_octet_0 0 rfl rfl)
theorem dX0_octet_1 : decode cX0_octet 1 = .ok (.ifCond .lt 11, 3) := dk_155 0 11 (dk_at dksX0_octet_0 1 rfl rfl)
theorem dX0_octet_4 : decode cX0_octet 4 = .ok (.iload_n 1, 1) := dk_27 (dk_at dksX0_octet_0 4 rfl rfl)
theorem dX0_octet_5 : decode cX0_octet 5 = .ok (.aload_n 0, 1) := dk_42 (dk_at dksX0_octet_0 5 rfl rfl)
theorem dX0_octet_6 : decode cX0_octet 6 = .ok (.getfield 377, 3) := dk_180 1 121 (dk_at dksX0_octet_0 6 rfl rfl)
theorem dX0_octet_9 : decode cX0_octet 9 = .ok (.if_icmp .lt 7, 3) := dk_161 0 7 (dk_at dksX0_octet_0 9 rfl rfl)
theorem dX0_octet_12 : decode cX0_octet 12 = .ok (.iconst (-1), 1) := dk_2 (dk_at dksX0_octet_0 12 rfl rfl)
theorem dX0_octet_13 : decode cX0_octet 13 = .ok (.goto 13, 3) := dk_167 0 13 (dk_at dksX0_octet_0 13 rfl rfl)
theorem dX0_octet_16 : decode cX0_octet 16 = .ok (.aload_n 0, 1) := dk_42 (dk_at dksX0_octet_0 16 rfl rfl)
theorem dX0_octet_17 : decode cX0_octet 17 = .ok (.getfield 109, 3) := dk_180 0 109 (dk_at dksX0_octet_0 17 rfl rfl)
theorem dX0_octet_20 : decode cX0_octet 20 = .ok (.iload_n 1, 1) := dk_27 (dk_at dksX0_octet_0 20 rfl rfl)
theorem dX0_octet_21 : decode cX0_octet 21 = .ok (.baload, 1) := dk_51 (dk_at dksX0_octet_0 21 rfl rfl)
theorem dX0_octet_22 : decode cX0_octet 22 = .ok (.sipush 255, 3) := dk_17 0 255 (dk_at dksX0_octet_1 0 rfl rfl)
theorem dX0_octet_25 : decode cX0_octet 25 = .ok (.iand, 1) := dk_126 (dk_at dksX0_octet_1 3 rfl rfl)
theorem dX0_octet_26 : decode cX0_octet 26 = .ok (.ireturn, 1) := dk_172 (dk_at dksX0_octet_1 4 rfl rfl)
abbrev cX0_on : ByteArray := prog_1_method_64_code
def yX0_on : MethodName := ⟨RX0, "on", "()Z"⟩
def dkwX0_on_10 : List UInt8 := [180, 0, 73, 182, 1, 30, 87, 42, 3, 181, 0, 145, 4, 172]
abbrev dktX0_on_10 : List UInt8 := dkwX0_on_10 ++ []
def dkwX0_on_9 : List UInt8 := [154, 0, 17, 42, 8, 182, 0, 115, 155, 0, 7, 4, 167, 0, 4, 3, 172, 42, 180, 0, 69, 42]
abbrev dktX0_on_9 : List UInt8 := dkwX0_on_9 ++ dktX0_on_10
def dkwX0_on_8 : List UInt8 := [153, 0, 23, 42, 21, 4, 28, 16, 6, 21, 4, 104, 96, 182, 1, 134, 62, 132, 4, 1, 167, 255, 226, 29]
abbrev dktX0_on_8 : List UInt8 := dkwX0_on_8 ++ dktX0_on_9
def dkwX0_on_7 : List UInt8 := [167, 0, 4, 3, 62, 132, 4, 1, 167, 255, 191, 3, 54, 4, 21, 4, 42, 182, 0, 166, 162, 0, 27, 29]
abbrev dktX0_on_7 : List UInt8 := dkwX0_on_7 ++ dktX0_on_8
def dkwX0_on_6 : List UInt8 := [180, 0, 73, 180, 0, 202, 21, 4, 46, 4, 42, 180, 0, 31, 180, 0, 172, 120, 162, 0, 7, 4]
abbrev dktX0_on_6 : List UInt8 := dkwX0_on_6 ++ dktX0_on_7
def dkwX0_on_5 : List UInt8 := [153, 0, 55, 42, 180, 0, 73, 180, 0, 202, 21, 4, 42, 5, 21, 4, 96, 182, 1, 63, 79, 42]
abbrev dktX0_on_5 : List UInt8 := dkwX0_on_5 ++ dktX0_on_6
def dkwX0_on_4 : List UInt8 := [180, 0, 73, 3, 181, 0, 222, 3, 54, 4, 21, 4, 42, 180, 0, 31, 180, 0, 154, 162, 0, 59, 29]
abbrev dktX0_on_4 : List UInt8 := dkwX0_on_4 ++ dktX0_on_5
def dkwX0_on_3 : List UInt8 := [3, 62, 42, 180, 0, 73, 42, 180, 0, 69, 182, 1, 30, 42, 3, 182, 1, 131, 181, 0, 213, 42]
abbrev dktX0_on_3 : List UInt8 := dkwX0_on_3 ++ dktX0_on_4
def dkwX0_on_2 : List UInt8 := [27, 4, 100, 184, 1, 127, 160, 0, 18, 42, 3, 182, 1, 131, 17, 3, 231, 163, 0, 7, 4, 167, 0, 4]
abbrev dktX0_on_2 : List UInt8 := dkwX0_on_2 ++ dktX0_on_3
def dkwX0_on_1 : List UInt8 := [16, 6, 42, 182, 0, 166, 104, 96, 4, 96, 160, 0, 38, 42, 27, 4, 100, 182, 1, 63, 42, 180, 0, 35]
abbrev dktX0_on_1 : List UInt8 := dkwX0_on_1 ++ dktX0_on_2
def dkwX0_on_0 : List UInt8 := [42, 182, 0, 126, 60, 5, 42, 180, 0, 31, 180, 0, 154, 96, 61, 42, 182, 1, 16, 153, 0, 53, 27, 28]
abbrev dktX0_on_0 : List UInt8 := dkwX0_on_0 ++ dktX0_on_1
theorem dksX0_on_0 : cX0_on.data.toList.drop 0 = dktX0_on_0 := by decide +kernel
theorem dksX0_on_1 : cX0_on.data.toList.drop 24 = dktX0_on_1 := dk_seg dksX0_on_0 24 rfl rfl
theorem dksX0_on_2 : cX0_on.data.toList.drop 48 = dktX0_on_2 := dk_seg dksX0_on_1 24 rfl rfl
theorem dksX0_on_3 : cX0_on.data.toList.drop 72 = dktX0_on_3 := dk_seg dksX0_on_2 24 rfl rfl
theorem dksX0_on_4 : cX0_on.data.toList.drop 94 = dktX0_on_4 := dk_seg dksX0_on_3 22 rfl rfl
theorem dksX0_on_5 : cX0_on.data.toList.drop 117 = dktX0_on_5 := dk_seg dksX0_on_4 23 rfl rfl
theorem dksX0_on_6 : cX0_on.data.toList.drop 139 = dktX0_on_6 := dk_seg dksX0_on_5 22 rfl rfl
theorem dksX0_on_7 : cX0_on.data.toList.drop 161 = dktX0_on_7 := dk_seg dksX0_on_6 22 rfl rfl
theorem dksX0_on_8 : cX0_on.data.toList.drop 185 = dktX0_on_8 := dk_seg dksX0_on_7 24 rfl rfl
theorem dksX0_on_9 : cX0_on.data.toList.drop 209 = dktX0_on_9 := dk_seg dksX0_on_8 24 rfl rfl
theorem dksX0_on_10 : cX0_on.data.toList.drop 231 = dktX0_on_10 := dk_seg dksX0_on_9 22 rfl rfl
theorem dX0_on_0 : decode cX0_on 0 = .ok (.aload_n 0, 1) := dk_42 (dk_at dksX0_on_0 0 rfl rfl)
theorem dX0_on_1 : decode cX0_on 1 = .ok (.invokevirtual 126, 3) := dk_182 0 126 (dk_at dksX0_on_0 1 rfl rfl)
theorem dX0_on_4 : decode cX0_on 4 = .ok (.istore_n 1, 1) := dk_60 (dk_at dksX0_on_0 4 rfl rfl)
theorem dX0_on_5 : decode cX0_on 5 = .ok (.iconst 2, 1) := dk_5 (dk_at dksX0_on_0 5 rfl rfl)
theorem dX0_on_6 : decode cX0_on 6 = .ok (.aload_n 0, 1) := dk_42 (dk_at dksX0_on_0 6 rfl rfl)
theorem dX0_on_7 : decode cX0_on 7 = .ok (.getfield 31, 3) := dk_180 0 31 (dk_at dksX0_on_0 7 rfl rfl)
theorem dX0_on_10 : decode cX0_on 10 = .ok (.getfield 154, 3) := dk_180 0 154 (dk_at dksX0_on_0 10 rfl rfl)
theorem dX0_on_13 : decode cX0_on 13 = .ok (.iadd, 1) := dk_96 (dk_at dksX0_on_0 13 rfl rfl)
theorem dX0_on_14 : decode cX0_on 14 = .ok (.istore_n 2, 1) := dk_61 (dk_at dksX0_on_0 14 rfl rfl)
theorem dX0_on_15 : decode cX0_on 15 = .ok (.aload_n 0, 1) := dk_42 (dk_at dksX0_on_0 15 rfl rfl)
theorem dX0_on_16 : decode cX0_on 16 = .ok (.invokevirtual 272, 3) := dk_182 1 16 (dk_at dksX0_on_0 16 rfl rfl)
theorem dX0_on_19 : decode cX0_on 19 = .ok (.ifCond .eq 53, 3) := dk_153 0 53 (dk_at dksX0_on_0 19 rfl rfl)
theorem dX0_on_22 : decode cX0_on 22 = .ok (.iload_n 1, 1) := dk_27 (dk_at dksX0_on_0 22 rfl rfl)
theorem dX0_on_23 : decode cX0_on 23 = .ok (.iload_n 2, 1) := dk_28 (dk_at dksX0_on_0 23 rfl rfl)
theorem dX0_on_24 : decode cX0_on 24 = .ok (.bipush 6, 2) := dk_16 6 (dk_at dksX0_on_1 0 rfl rfl)
theorem dX0_on_26 : decode cX0_on 26 = .ok (.aload_n 0, 1) := dk_42 (dk_at dksX0_on_1 2 rfl rfl)
theorem dX0_on_27 : decode cX0_on 27 = .ok (.invokevirtual 166, 3) := dk_182 0 166 (dk_at dksX0_on_1 3 rfl rfl)
theorem dX0_on_30 : decode cX0_on 30 = .ok (.imul, 1) := dk_104 (dk_at dksX0_on_1 6 rfl rfl)
theorem dX0_on_31 : decode cX0_on 31 = .ok (.iadd, 1) := dk_96 (dk_at dksX0_on_1 7 rfl rfl)
theorem dX0_on_32 : decode cX0_on 32 = .ok (.iconst 1, 1) := dk_4 (dk_at dksX0_on_1 8 rfl rfl)
theorem dX0_on_33 : decode cX0_on 33 = .ok (.iadd, 1) := dk_96 (dk_at dksX0_on_1 9 rfl rfl)
theorem dX0_on_34 : decode cX0_on 34 = .ok (.if_icmp .ne 38, 3) := dk_160 0 38 (dk_at dksX0_on_1 10 rfl rfl)
theorem dX0_on_37 : decode cX0_on 37 = .ok (.aload_n 0, 1) := dk_42 (dk_at dksX0_on_1 13 rfl rfl)
theorem dX0_on_38 : decode cX0_on 38 = .ok (.iload_n 1, 1) := dk_27 (dk_at dksX0_on_1 14 rfl rfl)
theorem dX0_on_39 : decode cX0_on 39 = .ok (.iconst 1, 1) := dk_4 (dk_at dksX0_on_1 15 rfl rfl)
theorem dX0_on_40 : decode cX0_on 40 = .ok (.isub, 1) := dk_100 (dk_at dksX0_on_1 16 rfl rfl)
theorem dX0_on_41 : decode cX0_on 41 = .ok (.invokevirtual 319, 3) := dk_182 1 63 (dk_at dksX0_on_1 17 rfl rfl)
theorem dX0_on_44 : decode cX0_on 44 = .ok (.aload_n 0, 1) := dk_42 (dk_at dksX0_on_1 20 rfl rfl)
theorem dX0_on_45 : decode cX0_on 45 = .ok (.getfield 35, 3) := dk_180 0 35 (dk_at dksX0_on_1 21 rfl rfl)
theorem dX0_on_48 : decode cX0_on 48 = .ok (.iload_n 1, 1) := dk_27 (dk_at dksX0_on_2 0 rfl rfl)
theorem dX0_on_49 : decode cX0_on 49 = .ok (.iconst 1, 1) := dk_4 (dk_at dksX0_on_2 1 rfl rfl)
theorem dX0_on_50 : decode cX0_on 50 = .ok (.isub, 1) := dk_100 (dk_at dksX0_on_2 2 rfl rfl)
theorem dX0_on_51 : decode cX0_on 51 = .ok (.invokestatic 383, 3) := dk_184 1 127 (dk_at dksX0_on_2 3 rfl rfl)
theorem dX0_on_54 : decode cX0_on 54 = .ok (.if_icmp .ne 18, 3) := dk_160 0 18 (dk_at dksX0_on_2 6 rfl rfl)
theorem dX0_on_57 : decode cX0_on 57 = .ok (.aload_n 0, 1) := dk_42 (dk_at dksX0_on_2 9 rfl rfl)
theorem dX0_on_58 : decode cX0_on 58 = .ok (.iconst 0, 1) := dk_3 (dk_at dksX0_on_2 10 rfl rfl)
theorem dX0_on_59 : decode cX0_on 59 = .ok (.invokevirtual 387, 3) := dk_182 1 131 (dk_at dksX0_on_2 11 rfl rfl)
theorem dX0_on_62 : decode cX0_on 62 = .ok (.sipush 999, 3) := dk_17 3 231 (dk_at dksX0_on_2 14 rfl rfl)
theorem dX0_on_65 : decode cX0_on 65 = .ok (.if_icmp .gt 7, 3) := dk_163 0 7 (dk_at dksX0_on_2 17 rfl rfl)
theorem dX0_on_68 : decode cX0_on 68 = .ok (.iconst 1, 1) := dk_4 (dk_at dksX0_on_2 20 rfl rfl)
theorem dX0_on_69 : decode cX0_on 69 = .ok (.goto 4, 3) := dk_167 0 4 (dk_at dksX0_on_2 21 rfl rfl)
theorem dX0_on_72 : decode cX0_on 72 = .ok (.iconst 0, 1) := dk_3 (dk_at dksX0_on_3 0 rfl rfl)
theorem dX0_on_73 : decode cX0_on 73 = .ok (.istore_n 3, 1) := dk_62 (dk_at dksX0_on_3 1 rfl rfl)
theorem dX0_on_74 : decode cX0_on 74 = .ok (.aload_n 0, 1) := dk_42 (dk_at dksX0_on_3 2 rfl rfl)
theorem dX0_on_75 : decode cX0_on 75 = .ok (.getfield 73, 3) := dk_180 0 73 (dk_at dksX0_on_3 3 rfl rfl)
theorem dX0_on_78 : decode cX0_on 78 = .ok (.aload_n 0, 1) := dk_42 (dk_at dksX0_on_3 6 rfl rfl)
theorem dX0_on_79 : decode cX0_on 79 = .ok (.getfield 69, 3) := dk_180 0 69 (dk_at dksX0_on_3 7 rfl rfl)
theorem dX0_on_82 : decode cX0_on 82 = .ok (.invokevirtual 286, 3) := dk_182 1 30 (dk_at dksX0_on_3 10 rfl rfl)
theorem dX0_on_85 : decode cX0_on 85 = .ok (.aload_n 0, 1) := dk_42 (dk_at dksX0_on_3 13 rfl rfl)
theorem dX0_on_86 : decode cX0_on 86 = .ok (.iconst 0, 1) := dk_3 (dk_at dksX0_on_3 14 rfl rfl)
theorem dX0_on_87 : decode cX0_on 87 = .ok (.invokevirtual 387, 3) := dk_182 1 131 (dk_at dksX0_on_3 15 rfl rfl)
theorem dX0_on_90 : decode cX0_on 90 = .ok (.putfield 213, 3) := dk_181 0 213 (dk_at dksX0_on_3 18 rfl rfl)
theorem dX0_on_93 : decode cX0_on 93 = .ok (.aload_n 0, 1) := dk_42 (dk_at dksX0_on_3 21 rfl rfl)
theorem dX0_on_94 : decode cX0_on 94 = .ok (.getfield 73, 3) := dk_180 0 73 (dk_at dksX0_on_4 0 rfl rfl)
theorem dX0_on_97 : decode cX0_on 97 = .ok (.iconst 0, 1) := dk_3 (dk_at dksX0_on_4 3 rfl rfl)
theorem dX0_on_98 : decode cX0_on 98 = .ok (.putfield 222, 3) := dk_181 0 222 (dk_at dksX0_on_4 4 rfl rfl)
theorem dX0_on_101 : decode cX0_on 101 = .ok (.iconst 0, 1) := dk_3 (dk_at dksX0_on_4 7 rfl rfl)
theorem dX0_on_102 : decode cX0_on 102 = .ok (.istore 4, 2) := dk_54 4 (dk_at dksX0_on_4 8 rfl rfl)
theorem dX0_on_104 : decode cX0_on 104 = .ok (.iload 4, 2) := dk_21 4 (dk_at dksX0_on_4 10 rfl rfl)
theorem dX0_on_106 : decode cX0_on 106 = .ok (.aload_n 0, 1) := dk_42 (dk_at dksX0_on_4 12 rfl rfl)
theorem dX0_on_107 : decode cX0_on 107 = .ok (.getfield 31, 3) := dk_180 0 31 (dk_at dksX0_on_4 13 rfl rfl)
theorem dX0_on_110 : decode cX0_on 110 = .ok (.getfield 154, 3) := dk_180 0 154 (dk_at dksX0_on_4 16 rfl rfl)
theorem dX0_on_113 : decode cX0_on 113 = .ok (.if_icmp .ge 59, 3) := dk_162 0 59 (dk_at dksX0_on_4 19 rfl rfl)
theorem dX0_on_116 : decode cX0_on 116 = .ok (.iload_n 3, 1) := dk_29 (dk_at dksX0_on_4 22 rfl rfl)
theorem dX0_on_117 : decode cX0_on 117 = .ok (.ifCond .eq 55, 3) := dk_153 0 55 (dk_at dksX0_on_5 0 rfl rfl)
theorem dX0_on_120 : decode cX0_on 120 = .ok (.aload_n 0, 1) := dk_42 (dk_at dksX0_on_5 3 rfl rfl)
theorem dX0_on_121 : decode cX0_on 121 = .ok (.getfield 73, 3) := dk_180 0 73 (dk_at dksX0_on_5 4 rfl rfl)
theorem dX0_on_124 : decode cX0_on 124 = .ok (.getfield 202, 3) := dk_180 0 202 (dk_at dksX0_on_5 7 rfl rfl)
theorem dX0_on_127 : decode cX0_on 127 = .ok (.iload 4, 2) := dk_21 4 (dk_at dksX0_on_5 10 rfl rfl)
theorem dX0_on_129 : decode cX0_on 129 = .ok (.aload_n 0, 1) := dk_42 (dk_at dksX0_on_5 12 rfl rfl)
theorem dX0_on_130 : decode cX0_on 130 = .ok (.iconst 2, 1) := dk_5 (dk_at dksX0_on_5 13 rfl rfl)
theorem dX0_on_131 : decode cX0_on 131 = .ok (.iload 4, 2) := dk_21 4 (dk_at dksX0_on_5 14 rfl rfl)
theorem dX0_on_133 : decode cX0_on 133 = .ok (.iadd, 1) := dk_96 (dk_at dksX0_on_5 16 rfl rfl)
theorem dX0_on_134 : decode cX0_on 134 = .ok (.invokevirtual 319, 3) := dk_182 1 63 (dk_at dksX0_on_5 17 rfl rfl)
theorem dX0_on_137 : decode cX0_on 137 = .ok (.iastore, 1) := dk_79 (dk_at dksX0_on_5 20 rfl rfl)
theorem dX0_on_138 : decode cX0_on 138 = .ok (.aload_n 0, 1) := dk_42 (dk_at dksX0_on_5 21 rfl rfl)
theorem dX0_on_139 : decode cX0_on 139 = .ok (.getfield 73, 3) := dk_180 0 73 (dk_at dksX0_on_6 0 rfl rfl)
theorem dX0_on_142 : decode cX0_on 142 = .ok (.getfield 202, 3) := dk_180 0 202 (dk_at dksX0_on_6 3 rfl rfl)
theorem dX0_on_145 : decode cX0_on 145 = .ok (.iload 4, 2) := dk_21 4 (dk_at dksX0_on_6 6 rfl rfl)
theorem dX0_on_147 : decode cX0_on 147 = .ok (.iaload, 1) := dk_46 (dk_at dksX0_on_6 8 rfl rfl)
theorem dX0_on_148 : decode cX0_on 148 = .ok (.iconst 1, 1) := dk_4 (dk_at dksX0_on_6 9 rfl rfl)
theorem dX0_on_149 : decode cX0_on 149 = .ok (.aload_n 0, 1) := dk_42 (dk_at dksX0_on_6 10 rfl rfl)
theorem dX0_on_150 : decode cX0_on 150 = .ok (.getfield 31, 3) := dk_180 0 31 (dk_at dksX0_on_6 11 rfl rfl)
theorem dX0_on_153 : decode cX0_on 153 = .ok (.getfield 172, 3) := dk_180 0 172 (dk_at dksX0_on_6 14 rfl rfl)
theorem dX0_on_156 : decode cX0_on 156 = .ok (.ishl, 1) := dk_120 (dk_at dksX0_on_6 17 rfl rfl)
theorem dX0_on_157 : decode cX0_on 157 = .ok (.if_icmp .ge 7, 3) := dk_162 0 7 (dk_at dksX0_on_6 18 rfl rfl)
theorem dX0_on_160 : decode cX0_on 160 = .ok (.iconst 1, 1) := dk_4 (dk_at dksX0_on_6 21 rfl rfl)
theorem dX0_on_161 : decode cX0_on 161 = .ok (.goto 4, 3) := dk_167 0 4 (dk_at dksX0_on_7 0 rfl rfl)
theorem dX0_on_164 : decode cX0_on 164 = .ok (.iconst 0, 1) := dk_3 (dk_at dksX0_on_7 3 rfl rfl)
theorem dX0_on_165 : decode cX0_on 165 = .ok (.istore_n 3, 1) := dk_62 (dk_at dksX0_on_7 4 rfl rfl)
theorem dX0_on_166 : decode cX0_on 166 = .ok (.iinc 4 1, 3) := dk_132 4 1 (dk_at dksX0_on_7 5 rfl rfl)
theorem dX0_on_169 : decode cX0_on 169 = .ok (.goto (-65), 3) := dk_167 255 191 (dk_at dksX0_on_7 8 rfl rfl)
theorem dX0_on_172 : decode cX0_on 172 = .ok (.iconst 0, 1) := dk_3 (dk_at dksX0_on_7 11 rfl rfl)
theorem dX0_on_173 : decode cX0_on 173 = .ok (.istore 4, 2) := dk_54 4 (dk_at dksX0_on_7 12 rfl rfl)
theorem dX0_on_175 : decode cX0_on 175 = .ok (.iload 4, 2) := dk_21 4 (dk_at dksX0_on_7 14 rfl rfl)
theorem dX0_on_177 : decode cX0_on 177 = .ok (.aload_n 0, 1) := dk_42 (dk_at dksX0_on_7 16 rfl rfl)
theorem dX0_on_178 : decode cX0_on 178 = .ok (.invokevirtual 166, 3) := dk_182 0 166 (dk_at dksX0_on_7 17 rfl rfl)
theorem dX0_on_181 : decode cX0_on 181 = .ok (.if_icmp .ge 27, 3) := dk_162 0 27 (dk_at dksX0_on_7 20 rfl rfl)
theorem dX0_on_184 : decode cX0_on 184 = .ok (.iload_n 3, 1) := dk_29 (dk_at dksX0_on_7 23 rfl rfl)
theorem dX0_on_185 : decode cX0_on 185 = .ok (.ifCond .eq 23, 3) := dk_153 0 23 (dk_at dksX0_on_8 0 rfl rfl)
theorem dX0_on_188 : decode cX0_on 188 = .ok (.aload_n 0, 1) := dk_42 (dk_at dksX0_on_8 3 rfl rfl)
theorem dX0_on_189 : decode cX0_on 189 = .ok (.iload 4, 2) := dk_21 4 (dk_at dksX0_on_8 4 rfl rfl)
theorem dX0_on_191 : decode cX0_on 191 = .ok (.iload_n 2, 1) := dk_28 (dk_at dksX0_on_8 6 rfl rfl)
theorem dX0_on_192 : decode cX0_on 192 = .ok (.bipush 6, 2) := dk_16 6 (dk_at dksX0_on_8 7 rfl rfl)
theorem dX0_on_194 : decode cX0_on 194 = .ok (.iload 4, 2) := dk_21 4 (dk_at dksX0_on_8 9 rfl rfl)
theorem dX0_on_196 : decode cX0_on 196 = .ok (.imul, 1) := dk_104 (dk_at dksX0_on_8 11 rfl rfl)
theorem dX0_on_197 : decode cX0_on 197 = .ok (.iadd, 1) := dk_96 (dk_at dksX0_on_8 12 rfl rfl)
theorem dX0_on_198 : decode cX0_on 198 = .ok (.invokevirtual 390, 3) := dk_182 1 134 (dk_at dksX0_on_8 13 rfl rfl)
theorem dX0_on_201 : decode cX0_on 201 = .ok (.istore_n 3, 1) := dk_62 (dk_at dksX0_on_8 16 rfl rfl)
theorem dX0_on_202 : decode cX0_on 202 = .ok (.iinc 4 1, 3) := dk_132 4 1 (dk_at dksX0_on_8 17 rfl rfl)
theorem dX0_on_205 : decode cX0_on 205 = .ok (.goto (-30), 3) := dk_167 255 226 (dk_at dksX0_on_8 20 rfl rfl)
theorem dX0_on_208 : decode cX0_on 208 = .ok (.iload_n 3, 1) := dk_29 (dk_at dksX0_on_8 23 rfl rfl)
theorem dX0_on_209 : decode cX0_on 209 = .ok (.ifCond .ne 17, 3) := dk_154 0 17 (dk_at dksX0_on_9 0 rfl rfl)
theorem dX0_on_212 : decode cX0_on 212 = .ok (.aload_n 0, 1) := dk_42 (dk_at dksX0_on_9 3 rfl rfl)
theorem dX0_on_213 : decode cX0_on 213 = .ok (.iconst 5, 1) := dk_8 (dk_at dksX0_on_9 4 rfl rfl)
theorem dX0_on_214 : decode cX0_on 214 = .ok (.invokevirtual 115, 3) := dk_182 0 115 (dk_at dksX0_on_9 5 rfl rfl)
theorem dX0_on_217 : decode cX0_on 217 = .ok (.ifCond .lt 7, 3) := dk_155 0 7 (dk_at dksX0_on_9 8 rfl rfl)
theorem dX0_on_220 : decode cX0_on 220 = .ok (.iconst 1, 1) := dk_4 (dk_at dksX0_on_9 11 rfl rfl)
theorem dX0_on_221 : decode cX0_on 221 = .ok (.goto 4, 3) := dk_167 0 4 (dk_at dksX0_on_9 12 rfl rfl)
theorem dX0_on_224 : decode cX0_on 224 = .ok (.iconst 0, 1) := dk_3 (dk_at dksX0_on_9 15 rfl rfl)
theorem dX0_on_225 : decode cX0_on 225 = .ok (.ireturn, 1) := dk_172 (dk_at dksX0_on_9 16 rfl rfl)
theorem dX0_on_226 : decode cX0_on 226 = .ok (.aload_n 0, 1) := dk_42 (dk_at dksX0_on_9 17 rfl rfl)
theorem dX0_on_227 : decode cX0_on 227 = .ok (.getfield 69, 3) := dk_180 0 69 (dk_at dksX0_on_9 18 rfl rfl)
theorem dX0_on_230 : decode cX0_on 230 = .ok (.aload_n 0, 1) := dk_42 (dk_at dksX0_on_9 21 rfl rfl)
theorem dX0_on_231 : decode cX0_on 231 = .ok (.getfield 73, 3) := dk_180 0 73 (dk_at dksX0_on_10 0 rfl rfl)
theorem dX0_on_234 : decode cX0_on 234 = .ok (.invokevirtual 286, 3) := dk_182 1 30 (dk_at dksX0_on_10 3 rfl rfl)
theorem dX0_on_237 : decode cX0_on 237 = .ok (.pop, 1) := dk_87 (dk_at dksX0_on_10 6 rfl rfl)
theorem dX0_on_238 : decode cX0_on 238 = .ok (.aload_n 0, 1) := dk_42 (dk_at dksX0_on_10 7 rfl rfl)
theorem dX0_on_239 : decode cX0_on 239 = .ok (.iconst 0, 1) := dk_3 (dk_at dksX0_on_10 8 rfl rfl)
theorem dX0_on_240 : decode cX0_on 240 = .ok (.putfield 145, 3) := dk_181 0 145 (dk_at dksX0_on_10 9 rfl rfl)
theorem dX0_on_243 : decode cX0_on 243 = .ok (.iconst 1, 1) := dk_4 (dk_at dksX0_on_10 12 rfl rfl)
theorem dX0_on_244 : decode cX0_on 244 = .ok (.ireturn, 1) := dk_172 (dk_at dksX0_on_10 13 rfl rfl)
abbrev cX0_twoAt : ByteArray := prog_1_method_41_code
def yX0_twoAt : MethodName := ⟨RX0, "twoAt", "(I)I"⟩
def dkwX0_twoAt_0 : List UInt8 := [42, 27, 182, 1, 63, 16, 8, 120, 42, 27, 4, 96, 182, 1, 63, 128, 172]
abbrev dktX0_twoAt_0 : List UInt8 := dkwX0_twoAt_0 ++ []
theorem dksX0_twoAt_0 : cX0_twoAt.data.toList.drop 0 = dktX0_twoAt_0 := by decide +kernel
theorem dX0_twoAt_0 : decode cX0_twoAt 0 = .ok (.aload_n 0, 1) := dk_42 (dk_at dksX0_twoAt_0 0 rfl rfl)
theorem dX0_twoAt_1 : decode cX0_twoAt 1 = .ok (.iload_n 1, 1) := dk_27 (dk_at dksX0_twoAt_0 1 rfl rfl)
theorem dX0_twoAt_2 : decode cX0_twoAt 2 = .ok (.invokevirtual 319, 3) := dk_182 1 63 (dk_at dksX0_twoAt_0 2 rfl rfl)
theorem dX0_twoAt_5 : decode cX0_twoAt 5 = .ok (.bipush 8, 2) := dk_16 8 (dk_at dksX0_twoAt_0 5 rfl rfl)
theorem dX0_twoAt_7 : decode cX0_twoAt 7 = .ok (.ishl, 1) := dk_120 (dk_at dksX0_twoAt_0 7 rfl rfl)
theorem dX0_twoAt_8 : decode cX0_twoAt 8 = .ok (.aload_n 0, 1) := dk_42 (dk_at dksX0_twoAt_0 8 rfl rfl)
theorem dX0_twoAt_9 : decode cX0_twoAt 9 = .ok (.iload_n 1, 1) := dk_27 (dk_at dksX0_twoAt_0 9 rfl rfl)
theorem dX0_twoAt_10 : decode cX0_twoAt 10 = .ok (.iconst 1, 1) := dk_4 (dk_at dksX0_twoAt_0 10 rfl rfl)
theorem dX0_twoAt_11 : decode cX0_twoAt 11 = .ok (.iadd, 1) := dk_96 (dk_at dksX0_twoAt_0 11 rfl rfl)
theorem dX0_twoAt_12 : decode cX0_twoAt 12 = .ok (.invokevirtual 319, 3) := dk_182 1 63 (dk_at dksX0_twoAt_0 12 rfl rfl)
theorem dX0_twoAt_15 : decode cX0_twoAt 15 = .ok (.ior, 1) := dk_128 (dk_at dksX0_twoAt_0 15 rfl rfl)
theorem dX0_twoAt_16 : decode cX0_twoAt 16 = .ok (.ireturn, 1) := dk_172 (dk_at dksX0_twoAt_0 16 rfl rfl)
abbrev cX0_beingOn : ByteArray := prog_1_method_63_code
def yX0_beingOn : MethodName := ⟨RX0, "beingOn", "(II)Z"⟩
def dkwX0_beingOn_7 : List UInt8 := [180, 0, 248, 27, 46, 17, 39, 15, 163, 0, 7, 4, 167, 0, 4, 3, 172]
abbrev dktX0_beingOn_7 : List UInt8 := dkwX0_beingOn_7 ++ []
def dkwX0_beingOn_6 : List UInt8 := [182, 1, 131, 79, 42, 180, 0, 73, 180, 0, 245, 27, 46, 17, 39, 15, 163, 0, 22, 42, 180, 0, 73]
abbrev dktX0_beingOn_6 : List UInt8 := dkwX0_beingOn_6 ++ dktX0_beingOn_7
def dkwX0_beingOn_5 : List UInt8 := [180, 0, 245, 27, 42, 28, 5, 96, 182, 1, 131, 79, 42, 180, 0, 73, 180, 0, 248, 27, 42, 28, 7, 96]
abbrev dktX0_beingOn_5 : List UInt8 := dkwX0_beingOn_5 ++ dktX0_beingOn_6
def dkwX0_beingOn_4 : List UInt8 := [180, 0, 73, 180, 0, 236, 27, 29, 79, 42, 180, 0, 73, 180, 0, 239, 27, 21, 4, 79, 42, 180, 0, 73]
abbrev dktX0_beingOn_4 : List UInt8 := dkwX0_beingOn_4 ++ dktX0_beingOn_5
def dkwX0_beingOn_3 : List UInt8 := [180, 0, 73, 180, 0, 239, 21, 5, 46, 21, 4, 160, 0, 5, 3, 172, 132, 5, 1, 167, 255, 216, 42]
abbrev dktX0_beingOn_3 : List UInt8 := dkwX0_beingOn_3 ++ dktX0_beingOn_4
def dkwX0_beingOn_2 : List UInt8 := [54, 5, 21, 5, 27, 162, 0, 40, 42, 180, 0, 73, 180, 0, 236, 21, 5, 46, 29, 160, 0, 20, 42]
abbrev dktX0_beingOn_2 : List UInt8 := dkwX0_beingOn_2 ++ dktX0_beingOn_3
def dkwX0_beingOn_1 : List UInt8 := [153, 0, 20, 42, 180, 0, 73, 180, 0, 202, 29, 46, 21, 4, 184, 0, 254, 153, 0, 5, 3, 172, 3]
abbrev dktX0_beingOn_1 : List UInt8 := dkwX0_beingOn_1 ++ dktX0_beingOn_2
def dkwX0_beingOn_0 : List UInt8 := [42, 28, 182, 1, 63, 62, 42, 28, 4, 96, 182, 1, 63, 54, 4, 42, 29, 21, 4, 182, 0, 251]
abbrev dktX0_beingOn_0 : List UInt8 := dkwX0_beingOn_0 ++ dktX0_beingOn_1
theorem dksX0_beingOn_0 : cX0_beingOn.data.toList.drop 0 = dktX0_beingOn_0 := by decide +kernel
theorem dksX0_beingOn_1 : cX0_beingOn.data.toList.drop 22 = dktX0_beingOn_1 := dk_seg dksX0_beingOn_0 22 rfl rfl
theorem dksX0_beingOn_2 : cX0_beingOn.data.toList.drop 45 = dktX0_beingOn_2 := dk_seg dksX0_beingOn_1 23 rfl rfl
theorem dksX0_beingOn_3 : cX0_beingOn.data.toList.drop 68 = dktX0_beingOn_3 := dk_seg dksX0_beingOn_2 23 rfl rfl
theorem dksX0_beingOn_4 : cX0_beingOn.data.toList.drop 91 = dktX0_beingOn_4 := dk_seg dksX0_beingOn_3 23 rfl rfl
theorem dksX0_beingOn_5 : cX0_beingOn.data.toList.drop 115 = dktX0_beingOn_5 := dk_seg dksX0_beingOn_4 24 rfl rfl
theorem dksX0_beingOn_6 : cX0_beingOn.data.toList.drop 139 = dktX0_beingOn_6 := dk_seg dksX0_beingOn_5 24 rfl rfl
theorem dksX0_beingOn_7 : cX0_beingOn.data.toList.drop 162 = dktX0_beingOn_7 := dk_seg dksX0_beingOn_6 23 rfl rfl
theorem dX0_beingOn_0 : decode cX0_beingOn 0 = .ok (.aload_n 0, 1) := dk_42 (dk_at dksX0_beingOn_0 0 rfl rfl)
theorem dX0_beingOn_1 : decode cX0_beingOn 1 = .ok (.iload_n 2, 1) := dk_28 (dk_at dksX0_beingOn_0 1 rfl rfl)
theorem dX0_beingOn_2 : decode cX0_beingOn 2 = .ok (.invokevirtual 319, 3) := dk_182 1 63 (dk_at dksX0_beingOn_0 2 rfl rfl)
theorem dX0_beingOn_5 : decode cX0_beingOn 5 = .ok (.istore_n 3, 1) := dk_62 (dk_at dksX0_beingOn_0 5 rfl rfl)
theorem dX0_beingOn_6 : decode cX0_beingOn 6 = .ok (.aload_n 0, 1) := dk_42 (dk_at dksX0_beingOn_0 6 rfl rfl)
theorem dX0_beingOn_7 : decode cX0_beingOn 7 = .ok (.iload_n 2, 1) := dk_28 (dk_at dksX0_beingOn_0 7 rfl rfl)
theorem dX0_beingOn_8 : decode cX0_beingOn 8 = .ok (.iconst 1, 1) := dk_4 (dk_at dksX0_beingOn_0 8 rfl rfl)
theorem dX0_beingOn_9 : decode cX0_beingOn 9 = .ok (.iadd, 1) := dk_96 (dk_at dksX0_beingOn_0 9 rfl rfl)
theorem dX0_beingOn_10 : decode cX0_beingOn 10 = .ok (.invokevirtual 319, 3) := dk_182 1 63 (dk_at dksX0_beingOn_0 10 rfl rfl)
theorem dX0_beingOn_13 : decode cX0_beingOn 13 = .ok (.istore 4, 2) := dk_54 4 (dk_at dksX0_beingOn_0 13 rfl rfl)
theorem dX0_beingOn_15 : decode cX0_beingOn 15 = .ok (.aload_n 0, 1) := dk_42 (dk_at dksX0_beingOn_0 15 rfl rfl)
theorem dX0_beingOn_16 : decode cX0_beingOn 16 = .ok (.iload_n 3, 1) := dk_29 (dk_at dksX0_beingOn_0 16 rfl rfl)
theorem dX0_beingOn_17 : decode cX0_beingOn 17 = .ok (.iload 4, 2) := dk_21 4 (dk_at dksX0_beingOn_0 17 rfl rfl)
theorem dX0_beingOn_19 : decode cX0_beingOn 19 = .ok (.invokevirtual 251, 3) := dk_182 0 251 (dk_at dksX0_beingOn_0 19 rfl rfl)
theorem dX0_beingOn_22 : decode cX0_beingOn 22 = .ok (.ifCond .eq 20, 3) := dk_153 0 20 (dk_at dksX0_beingOn_1 0 rfl rfl)
theorem dX0_beingOn_25 : decode cX0_beingOn 25 = .ok (.aload_n 0, 1) := dk_42 (dk_at dksX0_beingOn_1 3 rfl rfl)
theorem dX0_beingOn_26 : decode cX0_beingOn 26 = .ok (.getfield 73, 3) := dk_180 0 73 (dk_at dksX0_beingOn_1 4 rfl rfl)
theorem dX0_beingOn_29 : decode cX0_beingOn 29 = .ok (.getfield 202, 3) := dk_180 0 202 (dk_at dksX0_beingOn_1 7 rfl rfl)
theorem dX0_beingOn_32 : decode cX0_beingOn 32 = .ok (.iload_n 3, 1) := dk_29 (dk_at dksX0_beingOn_1 10 rfl rfl)
theorem dX0_beingOn_33 : decode cX0_beingOn 33 = .ok (.iaload, 1) := dk_46 (dk_at dksX0_beingOn_1 11 rfl rfl)
theorem dX0_beingOn_34 : decode cX0_beingOn 34 = .ok (.iload 4, 2) := dk_21 4 (dk_at dksX0_beingOn_1 12 rfl rfl)
theorem dX0_beingOn_36 : decode cX0_beingOn 36 = .ok (.invokestatic 254, 3) := dk_184 0 254 (dk_at dksX0_beingOn_1 14 rfl rfl)
theorem dX0_beingOn_39 : decode cX0_beingOn 39 = .ok (.ifCond .eq 5, 3) := dk_153 0 5 (dk_at dksX0_beingOn_1 17 rfl rfl)
theorem dX0_beingOn_42 : decode cX0_beingOn 42 = .ok (.iconst 0, 1) := dk_3 (dk_at dksX0_beingOn_1 20 rfl rfl)
theorem dX0_beingOn_43 : decode cX0_beingOn 43 = .ok (.ireturn, 1) := dk_172 (dk_at dksX0_beingOn_1 21 rfl rfl)
theorem dX0_beingOn_44 : decode cX0_beingOn 44 = .ok (.iconst 0, 1) := dk_3 (dk_at dksX0_beingOn_1 22 rfl rfl)
theorem dX0_beingOn_45 : decode cX0_beingOn 45 = .ok (.istore 5, 2) := dk_54 5 (dk_at dksX0_beingOn_2 0 rfl rfl)
theorem dX0_beingOn_47 : decode cX0_beingOn 47 = .ok (.iload 5, 2) := dk_21 5 (dk_at dksX0_beingOn_2 2 rfl rfl)
theorem dX0_beingOn_49 : decode cX0_beingOn 49 = .ok (.iload_n 1, 1) := dk_27 (dk_at dksX0_beingOn_2 4 rfl rfl)
theorem dX0_beingOn_50 : decode cX0_beingOn 50 = .ok (.if_icmp .ge 40, 3) := dk_162 0 40 (dk_at dksX0_beingOn_2 5 rfl rfl)
theorem dX0_beingOn_53 : decode cX0_beingOn 53 = .ok (.aload_n 0, 1) := dk_42 (dk_at dksX0_beingOn_2 8 rfl rfl)
theorem dX0_beingOn_54 : decode cX0_beingOn 54 = .ok (.getfield 73, 3) := dk_180 0 73 (dk_at dksX0_beingOn_2 9 rfl rfl)
theorem dX0_beingOn_57 : decode cX0_beingOn 57 = .ok (.getfield 236, 3) := dk_180 0 236 (dk_at dksX0_beingOn_2 12 rfl rfl)
theorem dX0_beingOn_60 : decode cX0_beingOn 60 = .ok (.iload 5, 2) := dk_21 5 (dk_at dksX0_beingOn_2 15 rfl rfl)
theorem dX0_beingOn_62 : decode cX0_beingOn 62 = .ok (.iaload, 1) := dk_46 (dk_at dksX0_beingOn_2 17 rfl rfl)
theorem dX0_beingOn_63 : decode cX0_beingOn 63 = .ok (.iload_n 3, 1) := dk_29 (dk_at dksX0_beingOn_2 18 rfl rfl)
theorem dX0_beingOn_64 : decode cX0_beingOn 64 = .ok (.if_icmp .ne 20, 3) := dk_160 0 20 (dk_at dksX0_beingOn_2 19 rfl rfl)
theorem dX0_beingOn_67 : decode cX0_beingOn 67 = .ok (.aload_n 0, 1) := dk_42 (dk_at dksX0_beingOn_2 22 rfl rfl)
theorem dX0_beingOn_68 : decode cX0_beingOn 68 = .ok (.getfield 73, 3) := dk_180 0 73 (dk_at dksX0_beingOn_3 0 rfl rfl)
theorem dX0_beingOn_71 : decode cX0_beingOn 71 = .ok (.getfield 239, 3) := dk_180 0 239 (dk_at dksX0_beingOn_3 3 rfl rfl)
theorem dX0_beingOn_74 : decode cX0_beingOn 74 = .ok (.iload 5, 2) := dk_21 5 (dk_at dksX0_beingOn_3 6 rfl rfl)
theorem dX0_beingOn_76 : decode cX0_beingOn 76 = .ok (.iaload, 1) := dk_46 (dk_at dksX0_beingOn_3 8 rfl rfl)
theorem dX0_beingOn_77 : decode cX0_beingOn 77 = .ok (.iload 4, 2) := dk_21 4 (dk_at dksX0_beingOn_3 9 rfl rfl)
theorem dX0_beingOn_79 : decode cX0_beingOn 79 = .ok (.if_icmp .ne 5, 3) := dk_160 0 5 (dk_at dksX0_beingOn_3 11 rfl rfl)
theorem dX0_beingOn_82 : decode cX0_beingOn 82 = .ok (.iconst 0, 1) := dk_3 (dk_at dksX0_beingOn_3 14 rfl rfl)
theorem dX0_beingOn_83 : decode cX0_beingOn 83 = .ok (.ireturn, 1) := dk_172 (dk_at dksX0_beingOn_3 15 rfl rfl)
theorem dX0_beingOn_84 : decode cX0_beingOn 84 = .ok (.iinc 5 1, 3) := dk_132 5 1 (dk_at dksX0_beingOn_3 16 rfl rfl)
theorem dX0_beingOn_87 : decode cX0_beingOn 87 = .ok (.goto (-40), 3) := dk_167 255 216 (dk_at dksX0_beingOn_3 19 rfl rfl)
theorem dX0_beingOn_90 : decode cX0_beingOn 90 = .ok (.aload_n 0, 1) := dk_42 (dk_at dksX0_beingOn_3 22 rfl rfl)
theorem dX0_beingOn_91 : decode cX0_beingOn 91 = .ok (.getfield 73, 3) := dk_180 0 73 (dk_at dksX0_beingOn_4 0 rfl rfl)
theorem dX0_beingOn_94 : decode cX0_beingOn 94 = .ok (.getfield 236, 3) := dk_180 0 236 (dk_at dksX0_beingOn_4 3 rfl rfl)
theorem dX0_beingOn_97 : decode cX0_beingOn 97 = .ok (.iload_n 1, 1) := dk_27 (dk_at dksX0_beingOn_4 6 rfl rfl)
theorem dX0_beingOn_98 : decode cX0_beingOn 98 = .ok (.iload_n 3, 1) := dk_29 (dk_at dksX0_beingOn_4 7 rfl rfl)
theorem dX0_beingOn_99 : decode cX0_beingOn 99 = .ok (.iastore, 1) := dk_79 (dk_at dksX0_beingOn_4 8 rfl rfl)
theorem dX0_beingOn_100 : decode cX0_beingOn 100 = .ok (.aload_n 0, 1) := dk_42 (dk_at dksX0_beingOn_4 9 rfl rfl)
theorem dX0_beingOn_101 : decode cX0_beingOn 101 = .ok (.getfield 73, 3) := dk_180 0 73 (dk_at dksX0_beingOn_4 10 rfl rfl)
theorem dX0_beingOn_104 : decode cX0_beingOn 104 = .ok (.getfield 239, 3) := dk_180 0 239 (dk_at dksX0_beingOn_4 13 rfl rfl)
theorem dX0_beingOn_107 : decode cX0_beingOn 107 = .ok (.iload_n 1, 1) := dk_27 (dk_at dksX0_beingOn_4 16 rfl rfl)
theorem dX0_beingOn_108 : decode cX0_beingOn 108 = .ok (.iload 4, 2) := dk_21 4 (dk_at dksX0_beingOn_4 17 rfl rfl)
theorem dX0_beingOn_110 : decode cX0_beingOn 110 = .ok (.iastore, 1) := dk_79 (dk_at dksX0_beingOn_4 19 rfl rfl)
theorem dX0_beingOn_111 : decode cX0_beingOn 111 = .ok (.aload_n 0, 1) := dk_42 (dk_at dksX0_beingOn_4 20 rfl rfl)
theorem dX0_beingOn_112 : decode cX0_beingOn 112 = .ok (.getfield 73, 3) := dk_180 0 73 (dk_at dksX0_beingOn_4 21 rfl rfl)
theorem dX0_beingOn_115 : decode cX0_beingOn 115 = .ok (.getfield 245, 3) := dk_180 0 245 (dk_at dksX0_beingOn_5 0 rfl rfl)
theorem dX0_beingOn_118 : decode cX0_beingOn 118 = .ok (.iload_n 1, 1) := dk_27 (dk_at dksX0_beingOn_5 3 rfl rfl)
theorem dX0_beingOn_119 : decode cX0_beingOn 119 = .ok (.aload_n 0, 1) := dk_42 (dk_at dksX0_beingOn_5 4 rfl rfl)
theorem dX0_beingOn_120 : decode cX0_beingOn 120 = .ok (.iload_n 2, 1) := dk_28 (dk_at dksX0_beingOn_5 5 rfl rfl)
theorem dX0_beingOn_121 : decode cX0_beingOn 121 = .ok (.iconst 2, 1) := dk_5 (dk_at dksX0_beingOn_5 6 rfl rfl)
theorem dX0_beingOn_122 : decode cX0_beingOn 122 = .ok (.iadd, 1) := dk_96 (dk_at dksX0_beingOn_5 7 rfl rfl)
theorem dX0_beingOn_123 : decode cX0_beingOn 123 = .ok (.invokevirtual 387, 3) := dk_182 1 131 (dk_at dksX0_beingOn_5 8 rfl rfl)
theorem dX0_beingOn_126 : decode cX0_beingOn 126 = .ok (.iastore, 1) := dk_79 (dk_at dksX0_beingOn_5 11 rfl rfl)
theorem dX0_beingOn_127 : decode cX0_beingOn 127 = .ok (.aload_n 0, 1) := dk_42 (dk_at dksX0_beingOn_5 12 rfl rfl)
theorem dX0_beingOn_128 : decode cX0_beingOn 128 = .ok (.getfield 73, 3) := dk_180 0 73 (dk_at dksX0_beingOn_5 13 rfl rfl)
theorem dX0_beingOn_131 : decode cX0_beingOn 131 = .ok (.getfield 248, 3) := dk_180 0 248 (dk_at dksX0_beingOn_5 16 rfl rfl)
theorem dX0_beingOn_134 : decode cX0_beingOn 134 = .ok (.iload_n 1, 1) := dk_27 (dk_at dksX0_beingOn_5 19 rfl rfl)
theorem dX0_beingOn_135 : decode cX0_beingOn 135 = .ok (.aload_n 0, 1) := dk_42 (dk_at dksX0_beingOn_5 20 rfl rfl)
theorem dX0_beingOn_136 : decode cX0_beingOn 136 = .ok (.iload_n 2, 1) := dk_28 (dk_at dksX0_beingOn_5 21 rfl rfl)
theorem dX0_beingOn_137 : decode cX0_beingOn 137 = .ok (.iconst 4, 1) := dk_7 (dk_at dksX0_beingOn_5 22 rfl rfl)
theorem dX0_beingOn_138 : decode cX0_beingOn 138 = .ok (.iadd, 1) := dk_96 (dk_at dksX0_beingOn_5 23 rfl rfl)
theorem dX0_beingOn_139 : decode cX0_beingOn 139 = .ok (.invokevirtual 387, 3) := dk_182 1 131 (dk_at dksX0_beingOn_6 0 rfl rfl)
theorem dX0_beingOn_142 : decode cX0_beingOn 142 = .ok (.iastore, 1) := dk_79 (dk_at dksX0_beingOn_6 3 rfl rfl)
theorem dX0_beingOn_143 : decode cX0_beingOn 143 = .ok (.aload_n 0, 1) := dk_42 (dk_at dksX0_beingOn_6 4 rfl rfl)
theorem dX0_beingOn_144 : decode cX0_beingOn 144 = .ok (.getfield 73, 3) := dk_180 0 73 (dk_at dksX0_beingOn_6 5 rfl rfl)
theorem dX0_beingOn_147 : decode cX0_beingOn 147 = .ok (.getfield 245, 3) := dk_180 0 245 (dk_at dksX0_beingOn_6 8 rfl rfl)
theorem dX0_beingOn_150 : decode cX0_beingOn 150 = .ok (.iload_n 1, 1) := dk_27 (dk_at dksX0_beingOn_6 11 rfl rfl)
theorem dX0_beingOn_151 : decode cX0_beingOn 151 = .ok (.iaload, 1) := dk_46 (dk_at dksX0_beingOn_6 12 rfl rfl)
theorem dX0_beingOn_152 : decode cX0_beingOn 152 = .ok (.sipush 9999, 3) := dk_17 39 15 (dk_at dksX0_beingOn_6 13 rfl rfl)
theorem dX0_beingOn_155 : decode cX0_beingOn 155 = .ok (.if_icmp .gt 22, 3) := dk_163 0 22 (dk_at dksX0_beingOn_6 16 rfl rfl)
theorem dX0_beingOn_158 : decode cX0_beingOn 158 = .ok (.aload_n 0, 1) := dk_42 (dk_at dksX0_beingOn_6 19 rfl rfl)
theorem dX0_beingOn_159 : decode cX0_beingOn 159 = .ok (.getfield 73, 3) := dk_180 0 73 (dk_at dksX0_beingOn_6 20 rfl rfl)
theorem dX0_beingOn_162 : decode cX0_beingOn 162 = .ok (.getfield 248, 3) := dk_180 0 248 (dk_at dksX0_beingOn_7 0 rfl rfl)
theorem dX0_beingOn_165 : decode cX0_beingOn 165 = .ok (.iload_n 1, 1) := dk_27 (dk_at dksX0_beingOn_7 3 rfl rfl)
theorem dX0_beingOn_166 : decode cX0_beingOn 166 = .ok (.iaload, 1) := dk_46 (dk_at dksX0_beingOn_7 4 rfl rfl)
theorem dX0_beingOn_167 : decode cX0_beingOn 167 = .ok (.sipush 9999, 3) := dk_17 39 15 (dk_at dksX0_beingOn_7 5 rfl rfl)
theorem dX0_beingOn_170 : decode cX0_beingOn 170 = .ok (.if_icmp .gt 7, 3) := dk_163 0 7 (dk_at dksX0_beingOn_7 8 rfl rfl)
theorem dX0_beingOn_173 : decode cX0_beingOn 173 = .ok (.iconst 1, 1) := dk_4 (dk_at dksX0_beingOn_7 11 rfl rfl)
theorem dX0_beingOn_174 : decode cX0_beingOn 174 = .ok (.goto 4, 3) := dk_167 0 4 (dk_at dksX0_beingOn_7 12 rfl rfl)
theorem dX0_beingOn_177 : decode cX0_beingOn 177 = .ok (.iconst 0, 1) := dk_3 (dk_at dksX0_beingOn_7 15 rfl rfl)
theorem dX0_beingOn_178 : decode cX0_beingOn 178 = .ok (.ireturn, 1) := dk_172 (dk_at dksX0_beingOn_7 16 rfl rfl)
abbrev cX0_status : ByteArray := prog_1_method_65_code
def yX0_status : MethodName := ⟨RX0, "status", "(I)I"⟩
def dkwX0_status_0 : List UInt8 := [27, 3, 8, 184, 0, 168, 153, 0, 12, 42, 180, 0, 62, 27, 46, 167, 0, 4, 2, 172]
abbrev dktX0_status_0 : List UInt8 := dkwX0_status_0 ++ []
theorem dksX0_status_0 : cX0_status.data.toList.drop 0 = dktX0_status_0 := by decide +kernel
theorem dX0_status_0 : decode cX0_status 0 = .ok (.iload_n 1, 1) := dk_27 (dk_at dksX0_status_0 0 rfl rfl)
theorem dX0_status_1 : decode cX0_status 1 = .ok (.iconst 0, 1) := dk_3 (dk_at dksX0_status_0 1 rfl rfl)
theorem dX0_status_2 : decode cX0_status 2 = .ok (.iconst 5, 1) := dk_8 (dk_at dksX0_status_0 2 rfl rfl)
theorem dX0_status_3 : decode cX0_status 3 = .ok (.invokestatic 168, 3) := dk_184 0 168 (dk_at dksX0_status_0 3 rfl rfl)
theorem dX0_status_6 : decode cX0_status 6 = .ok (.ifCond .eq 12, 3) := dk_153 0 12 (dk_at dksX0_status_0 6 rfl rfl)
theorem dX0_status_9 : decode cX0_status 9 = .ok (.aload_n 0, 1) := dk_42 (dk_at dksX0_status_0 9 rfl rfl)
theorem dX0_status_10 : decode cX0_status 10 = .ok (.getfield 62, 3) := dk_180 0 62 (dk_at dksX0_status_0 10 rfl rfl)
theorem dX0_status_13 : decode cX0_status 13 = .ok (.iload_n 1, 1) := dk_27 (dk_at dksX0_status_0 13 rfl rfl)
theorem dX0_status_14 : decode cX0_status 14 = .ok (.iaload, 1) := dk_46 (dk_at dksX0_status_0 14 rfl rfl)
theorem dX0_status_15 : decode cX0_status 15 = .ok (.goto 4, 3) := dk_167 0 4 (dk_at dksX0_status_0 15 rfl rfl)
theorem dX0_status_18 : decode cX0_status 18 = .ok (.iconst (-1), 1) := dk_2 (dk_at dksX0_status_0 18 rfl rfl)
theorem dX0_status_19 : decode cX0_status 19 = .ok (.ireturn, 1) := dk_172 (dk_at dksX0_status_0 19 rfl rfl)
theorem q152 : (Jvm.Cond.initialized "MarginFolk") ∈ lw_all := lw_g (lw_at lw_m1 1 rfl) rfl
theorem q191 : (Jvm.Cond.instantiable "MarginFolk" (25 : Nat)) ∈ lw_all := lw_g (lw_at lw_m1 40 rfl) rfl
theorem q193 : (Jvm.Cond.instanceMethod ({ cls := "MarginFolk", name := "<init>", desc := "()V" } : Jvm.MethodName)) ∈ lw_all := lw_g (lw_at lw_m1 42 rfl) rfl
theorem q194 : (Jvm.Cond.code ({ cls := "MarginFolk", name := "<init>", desc := "()V" } : Jvm.MethodName) prog_1_method_7_code (2 : Nat) (Option.none : Option Jvm.ClassFile.FieldType)) ∈ lw_all := lw_g (lw_at lw_m1 43 rfl) rfl
theorem q195 : (Jvm.Cond.methodLink "MarginFolk" (22 : Nat) ({ cls := "java/lang/Object", name := "<init>", desc := "()V" } : Jvm.MethodName)) ∈ lw_all := lw_g (lw_at lw_m1 44 rfl) rfl
theorem q198 : (Jvm.Cond.classLink "MarginFolk" (28 : Nat) "MarginFolk$Folio") ∈ lw_all := lw_g (lw_at lw_m1 47 rfl) rfl
theorem q200 : (Jvm.Cond.methodLinkNest "MarginFolk" (30 : Nat) ({ cls := "MarginFolk$Folio", name := "<init>", desc := "()V" } : Jvm.MethodName) "MarginFolk") ∈ lw_tbl := lw_at lw_m1 49 rfl
theorem q233 : (Jvm.Cond.fieldLinkNest "MarginFolk" (151 : Nat) "MarginFolk$Folio" "statements" "I" "MarginFolk") ∈ lw_tbl := lw_at lw_m1 82 rfl
theorem q236 : (Jvm.Cond.fieldLinkNest "MarginFolk" (154 : Nat) "MarginFolk$Folio" "leaves" "I" "MarginFolk") ∈ lw_tbl := lw_at lw_m1 85 rfl
theorem q239 : (Jvm.Cond.fieldLinkNest "MarginFolk" (172 : Nat) "MarginFolk$Folio" "cells" "I" "MarginFolk") ∈ lw_tbl := lw_at lw_m1 88 rfl
theorem q242 : (Jvm.Cond.fieldLinkNest "MarginFolk" (210 : Nat) "MarginFolk$Folio" "worms" "I" "MarginFolk") ∈ lw_tbl := lw_at lw_m1 91 rfl
theorem q244 : (Jvm.Cond.fieldLinkNest "MarginFolk" (355 : Nat) "MarginFolk$Folio" "thumb" "I" "MarginFolk") ∈ lw_tbl := lw_at lw_m1 93 rfl
theorem q250 : (Jvm.Cond.fieldLinkNest "MarginFolk" (309 : Nat) "MarginFolk$Folio" "wormFrom" "[I" "MarginFolk") ∈ lw_tbl := lw_at lw_m1 99 rfl
theorem q253 : (Jvm.Cond.fieldLinkNest "MarginFolk" (312 : Nat) "MarginFolk$Folio" "wormTo" "[I" "MarginFolk") ∈ lw_tbl := lw_at lw_m1 102 rfl
theorem q256 : (Jvm.Cond.fieldLinkNest "MarginFolk" (306 : Nat) "MarginFolk$Folio" "wormCell" "[I" "MarginFolk") ∈ lw_tbl := lw_at lw_m1 105 rfl
theorem q258 : (Jvm.Cond.fieldLinkNest "MarginFolk" (157 : Nat) "MarginFolk$Folio" "beings" "Ljava/util/List;" "MarginFolk") ∈ lw_tbl := lw_at lw_m1 107 rfl
theorem q261 : (Jvm.Cond.fieldLinkNest "MarginFolk" (185 : Nat) "MarginFolk$Folio" "opens" "LMarginFolk$Value;" "MarginFolk") ∈ lw_tbl := lw_at lw_m1 110 rfl
theorem q299 : (Jvm.Cond.classLink "MarginFolk" (43 : Nat) "MarginFolk$Reader") ∈ lw_all := lw_g (lw_at lw_m1 148 rfl) rfl
theorem q301 : (Jvm.Cond.methodLinkNest "MarginFolk" (45 : Nat) ({ cls := "MarginFolk$Reader", name := "<init>", desc := "(LMarginFolk;)V" } : Jvm.MethodName) "MarginFolk") ∈ lw_tbl := lw_at lw_m1 150 rfl
theorem q357 : (Jvm.Cond.fieldLinkNest "MarginFolk" (136 : Nat) "MarginFolk$Fault" "kind" "I" "MarginFolk") ∈ lw_tbl := lw_at lw_m1 206 rfl
theorem q359 : (Jvm.Cond.fieldLinkNest "MarginFolk" (139 : Nat) "MarginFolk$Fault" "place" "I" "MarginFolk") ∈ lw_tbl := lw_at lw_m1 208 rfl
theorem q403 : (Jvm.Cond.classLink "MarginFolk" (52 : Nat) "MarginFolk$Moment") ∈ lw_all := lw_g (lw_at lw_m2 12 rfl) rfl
theorem q405 : (Jvm.Cond.methodLinkNest "MarginFolk" (54 : Nat) ({ cls := "MarginFolk$Moment", name := "<init>", desc := "()V" } : Jvm.MethodName) "MarginFolk") ∈ lw_tbl := lw_at lw_m2 14 rfl
theorem q412 : (Jvm.Cond.fieldLinkNest "MarginFolk" (189 : Nat) "MarginFolk$Moment" "of" "[J" "MarginFolk") ∈ lw_tbl := lw_at lw_m2 21 rfl
theorem q417 : (Jvm.Cond.classLink "MarginFolk" (66 : Nat) "MarginFolk$State") ∈ lw_all := lw_g (lw_at lw_m2 26 rfl) rfl
theorem q419 : (Jvm.Cond.methodLinkNest "MarginFolk" (68 : Nat) ({ cls := "MarginFolk$State", name := "<init>", desc := "(LMarginFolk;)V" } : Jvm.MethodName) "MarginFolk") ∈ lw_tbl := lw_at lw_m2 28 rfl
theorem q426 : (Jvm.Cond.fieldLinkNest "MarginFolk" (213 : Nat) "MarginFolk$State" "day" "I" "MarginFolk") ∈ lw_tbl := lw_at lw_m2 35 rfl
theorem q428 : (Jvm.Cond.fieldLinkNest "MarginFolk" (222 : Nat) "MarginFolk$State" "keeps" "I" "MarginFolk") ∈ lw_tbl := lw_at lw_m2 37 rfl
theorem q430 : (Jvm.Cond.fieldLinkNest "MarginFolk" (202 : Nat) "MarginFolk$State" "gloss" "[I" "MarginFolk") ∈ lw_tbl := lw_at lw_m2 39 rfl
theorem q432 : (Jvm.Cond.fieldLinkNest "MarginFolk" (236 : Nat) "MarginFolk$State" "leaf" "[I" "MarginFolk") ∈ lw_tbl := lw_at lw_m2 41 rfl
theorem q434 : (Jvm.Cond.fieldLinkNest "MarginFolk" (239 : Nat) "MarginFolk$State" "cell" "[I" "MarginFolk") ∈ lw_tbl := lw_at lw_m2 43 rfl
theorem q436 : (Jvm.Cond.fieldLinkNest "MarginFolk" (245 : Nat) "MarginFolk$State" "purse" "[I" "MarginFolk") ∈ lw_tbl := lw_at lw_m2 45 rfl
theorem q438 : (Jvm.Cond.fieldLinkNest "MarginFolk" (248 : Nat) "MarginFolk$State" "met" "[I" "MarginFolk") ∈ lw_tbl := lw_at lw_m2 47 rfl
theorem q440 : (Jvm.Cond.fieldLinkNest "MarginFolk" (267 : Nat) "MarginFolk$State" "rows" "[[I" "MarginFolk") ∈ lw_tbl := lw_at lw_m2 49 rfl
theorem q442 : (Jvm.Cond.fieldLinkNest "MarginFolk" (293 : Nat) "MarginFolk$State" "pairs" "I" "MarginFolk") ∈ lw_tbl := lw_at lw_m2 51 rfl
theorem q444 : (Jvm.Cond.fieldLinkNest "MarginFolk" (299 : Nat) "MarginFolk$State" "metNow" "[I" "MarginFolk") ∈ lw_tbl := lw_at lw_m2 53 rfl
theorem q469 : (Jvm.Cond.classLink "MarginFolk" (76 : Nat) "[[Z") ∈ lw_all := lw_g (lw_at lw_m2 78 rfl) rfl
theorem q471 : (Jvm.Cond.classLink "MarginFolk" (90 : Nat) "[[I") ∈ lw_all := lw_g (lw_at lw_m2 80 rfl) rfl
theorem q474 : (Jvm.Cond.fieldLink "MarginFolk" (31 : Nat) "MarginFolk" "folio" "LMarginFolk$Folio;") ∈ lw_all := lw_g (lw_at lw_m2 83 rfl) rfl
theorem q476 : (Jvm.Cond.fieldLink "MarginFolk" (35 : Nat) "MarginFolk" "tape" "[B") ∈ lw_all := lw_g (lw_at lw_m2 85 rfl) rfl
theorem q477 : (Jvm.Cond.fieldLink "MarginFolk" (112 : Nat) "MarginFolk" "taped" "I") ∈ lw_all := lw_g (lw_at lw_m2 86 rfl) rfl
theorem q478 : (Jvm.Cond.fieldLink "MarginFolk" (123 : Nat) "MarginFolk" "faultKind" "I") ∈ lw_all := lw_g (lw_at lw_m2 87 rfl) rfl
theorem q479 : (Jvm.Cond.fieldLink "MarginFolk" (39 : Nat) "MarginFolk" "faultPlace" "I") ∈ lw_all := lw_g (lw_at lw_m2 88 rfl) rfl
theorem q480 : (Jvm.Cond.fieldLink "MarginFolk" (48 : Nat) "MarginFolk" "reader" "LMarginFolk$Reader;") ∈ lw_all := lw_g (lw_at lw_m2 89 rfl) rfl
theorem q481 : (Jvm.Cond.fieldLink "MarginFolk" (55 : Nat) "MarginFolk" "moment" "LMarginFolk$Moment;") ∈ lw_all := lw_g (lw_at lw_m2 90 rfl) rfl
theorem q483 : (Jvm.Cond.fieldLink "MarginFolk" (59 : Nat) "MarginFolk" "asked" "LMarginFolk$Moment;") ∈ lw_all := lw_g (lw_at lw_m2 92 rfl) rfl
theorem q484 : (Jvm.Cond.fieldLink "MarginFolk" (62 : Nat) "MarginFolk" "refused" "[I") ∈ lw_all := lw_g (lw_at lw_m2 93 rfl) rfl
theorem q485 : (Jvm.Cond.fieldLink "MarginFolk" (69 : Nat) "MarginFolk" "now" "LMarginFolk$State;") ∈ lw_all := lw_g (lw_at lw_m2 94 rfl) rfl
theorem q486 : (Jvm.Cond.fieldLink "MarginFolk" (73 : Nat) "MarginFolk" "tried" "LMarginFolk$State;") ∈ lw_all := lw_g (lw_at lw_m2 95 rfl) rfl
theorem q487 : (Jvm.Cond.fieldLink "MarginFolk" (78 : Nat) "MarginFolk" "here" "[[Z") ∈ lw_all := lw_g (lw_at lw_m2 96 rfl) rfl
theorem q488 : (Jvm.Cond.fieldLink "MarginFolk" (81 : Nat) "MarginFolk" "next" "[[Z") ∈ lw_all := lw_g (lw_at lw_m2 97 rfl) rfl
theorem q489 : (Jvm.Cond.fieldLink "MarginFolk" (84 : Nat) "MarginFolk" "rowBeing" "[I") ∈ lw_all := lw_g (lw_at lw_m2 98 rfl) rfl
theorem q490 : (Jvm.Cond.fieldLink "MarginFolk" (87 : Nat) "MarginFolk" "rowCell" "[I") ∈ lw_all := lw_g (lw_at lw_m2 99 rfl) rfl
theorem q491 : (Jvm.Cond.fieldLink "MarginFolk" (148 : Nat) "MarginFolk" "rows" "I") ∈ lw_all := lw_g (lw_at lw_m2 100 rfl) rfl
theorem q492 : (Jvm.Cond.fieldLink "MarginFolk" (92 : Nat) "MarginFolk" "there" "[[I") ∈ lw_all := lw_g (lw_at lw_m2 101 rfl) rfl
theorem q493 : (Jvm.Cond.fieldLink "MarginFolk" (95 : Nat) "MarginFolk" "goers" "[I") ∈ lw_all := lw_g (lw_at lw_m2 102 rfl) rfl
theorem q494 : (Jvm.Cond.fieldLink "MarginFolk" (98 : Nat) "MarginFolk" "free" "[I") ∈ lw_all := lw_g (lw_at lw_m2 103 rfl) rfl
theorem q495 : (Jvm.Cond.fieldLink "MarginFolk" (101 : Nat) "MarginFolk" "kept" "[LMarginFolk$State;") ∈ lw_all := lw_g (lw_at lw_m2 104 rfl) rfl
theorem q496 : (Jvm.Cond.fieldLink "MarginFolk" (145 : Nat) "MarginFolk" "undos" "I") ∈ lw_all := lw_g (lw_at lw_m2 105 rfl) rfl
theorem q497 : (Jvm.Cond.fieldLink "MarginFolk" (105 : Nat) "MarginFolk" "seeds" "J") ∈ lw_all := lw_g (lw_at lw_m2 106 rfl) rfl
theorem q498 : (Jvm.Cond.fieldLink "MarginFolk" (358 : Nat) "MarginFolk" "askedBeing" "I") ∈ lw_all := lw_g (lw_at lw_m2 107 rfl) rfl
theorem q499 : (Jvm.Cond.fieldLink "MarginFolk" (109 : Nat) "MarginFolk" "out" "[B") ∈ lw_all := lw_g (lw_at lw_m2 108 rfl) rfl
theorem q500 : (Jvm.Cond.fieldLink "MarginFolk" (377 : Nat) "MarginFolk" "outs" "I") ∈ lw_all := lw_g (lw_at lw_m2 109 rfl) rfl
theorem q501 : (Jvm.Cond.lays "MarginFolk" "MarginFolk" "folio" "LMarginFolk$Folio;") ∈ lw_all := lw_g (lw_at lw_m2 110 rfl) rfl
theorem q502 : (Jvm.Cond.soleField "MarginFolk" "folio") ∈ lw_all := lw_g (lw_at lw_m2 111 rfl) rfl
theorem q503 : (Jvm.Cond.laysFinal "MarginFolk" "MarginFolk" "tape" "[B") ∈ lw_all := lw_g (lw_at lw_m2 112 rfl) rfl
theorem q504 : (Jvm.Cond.soleField "MarginFolk" "tape") ∈ lw_all := lw_g (lw_at lw_m2 113 rfl) rfl
theorem q505 : (Jvm.Cond.lays "MarginFolk" "MarginFolk" "taped" "I") ∈ lw_all := lw_g (lw_at lw_m2 114 rfl) rfl
theorem q506 : (Jvm.Cond.soleField "MarginFolk" "taped") ∈ lw_all := lw_g (lw_at lw_m2 115 rfl) rfl
theorem q507 : (Jvm.Cond.lays "MarginFolk" "MarginFolk" "faultKind" "I") ∈ lw_all := lw_g (lw_at lw_m2 116 rfl) rfl
theorem q508 : (Jvm.Cond.soleField "MarginFolk" "faultKind") ∈ lw_all := lw_g (lw_at lw_m2 117 rfl) rfl
theorem q509 : (Jvm.Cond.lays "MarginFolk" "MarginFolk" "faultPlace" "I") ∈ lw_all := lw_g (lw_at lw_m2 118 rfl) rfl
theorem q510 : (Jvm.Cond.soleField "MarginFolk" "faultPlace") ∈ lw_all := lw_g (lw_at lw_m2 119 rfl) rfl
theorem q511 : (Jvm.Cond.laysFinal "MarginFolk" "MarginFolk" "reader" "LMarginFolk$Reader;") ∈ lw_all := lw_g (lw_at lw_m2 120 rfl) rfl
theorem q512 : (Jvm.Cond.soleField "MarginFolk" "reader") ∈ lw_all := lw_g (lw_at lw_m2 121 rfl) rfl
theorem q513 : (Jvm.Cond.laysFinal "MarginFolk" "MarginFolk" "moment" "LMarginFolk$Moment;") ∈ lw_all := lw_g (lw_at lw_m2 122 rfl) rfl
theorem q514 : (Jvm.Cond.soleField "MarginFolk" "moment") ∈ lw_all := lw_g (lw_at lw_m2 123 rfl) rfl
theorem q515 : (Jvm.Cond.laysFinal "MarginFolk" "MarginFolk" "asked" "LMarginFolk$Moment;") ∈ lw_all := lw_g (lw_at lw_m2 124 rfl) rfl
theorem q516 : (Jvm.Cond.soleField "MarginFolk" "asked") ∈ lw_all := lw_g (lw_at lw_m2 125 rfl) rfl
theorem q517 : (Jvm.Cond.laysFinal "MarginFolk" "MarginFolk" "refused" "[I") ∈ lw_all := lw_g (lw_at lw_m2 126 rfl) rfl
theorem q518 : (Jvm.Cond.soleField "MarginFolk" "refused") ∈ lw_all := lw_g (lw_at lw_m2 127 rfl) rfl
theorem q519 : (Jvm.Cond.laysFinal "MarginFolk" "MarginFolk" "now" "LMarginFolk$State;") ∈ lw_all := lw_g (lw_at lw_m2 128 rfl) rfl
theorem q520 : (Jvm.Cond.soleField "MarginFolk" "now") ∈ lw_all := lw_g (lw_at lw_m2 129 rfl) rfl
theorem q521 : (Jvm.Cond.laysFinal "MarginFolk" "MarginFolk" "tried" "LMarginFolk$State;") ∈ lw_all := lw_g (lw_at lw_m2 130 rfl) rfl
theorem q522 : (Jvm.Cond.soleField "MarginFolk" "tried") ∈ lw_all := lw_g (lw_at lw_m2 131 rfl) rfl
theorem q523 : (Jvm.Cond.lays "MarginFolk" "MarginFolk" "here" "[[Z") ∈ lw_all := lw_g (lw_at lw_m2 132 rfl) rfl
theorem q524 : (Jvm.Cond.soleField "MarginFolk" "here") ∈ lw_all := lw_g (lw_at lw_m2 133 rfl) rfl
theorem q525 : (Jvm.Cond.lays "MarginFolk" "MarginFolk" "next" "[[Z") ∈ lw_all := lw_g (lw_at lw_m2 134 rfl) rfl
theorem q526 : (Jvm.Cond.soleField "MarginFolk" "next") ∈ lw_all := lw_g (lw_at lw_m2 135 rfl) rfl
theorem q527 : (Jvm.Cond.laysFinal "MarginFolk" "MarginFolk" "rowBeing" "[I") ∈ lw_all := lw_g (lw_at lw_m2 136 rfl) rfl
theorem q528 : (Jvm.Cond.soleField "MarginFolk" "rowBeing") ∈ lw_all := lw_g (lw_at lw_m2 137 rfl) rfl
theorem q529 : (Jvm.Cond.laysFinal "MarginFolk" "MarginFolk" "rowCell" "[I") ∈ lw_all := lw_g (lw_at lw_m2 138 rfl) rfl
theorem q530 : (Jvm.Cond.soleField "MarginFolk" "rowCell") ∈ lw_all := lw_g (lw_at lw_m2 139 rfl) rfl
theorem q531 : (Jvm.Cond.lays "MarginFolk" "MarginFolk" "rows" "I") ∈ lw_all := lw_g (lw_at lw_m2 140 rfl) rfl
theorem q532 : (Jvm.Cond.soleField "MarginFolk" "rows") ∈ lw_all := lw_g (lw_at lw_m2 141 rfl) rfl
theorem q533 : (Jvm.Cond.laysFinal "MarginFolk" "MarginFolk" "there" "[[I") ∈ lw_all := lw_g (lw_at lw_m2 142 rfl) rfl
theorem q534 : (Jvm.Cond.soleField "MarginFolk" "there") ∈ lw_all := lw_g (lw_at lw_m2 143 rfl) rfl
theorem q535 : (Jvm.Cond.laysFinal "MarginFolk" "MarginFolk" "goers" "[I") ∈ lw_all := lw_g (lw_at lw_m2 144 rfl) rfl
theorem q536 : (Jvm.Cond.soleField "MarginFolk" "goers") ∈ lw_all := lw_g (lw_at lw_m2 145 rfl) rfl
theorem q537 : (Jvm.Cond.laysFinal "MarginFolk" "MarginFolk" "free" "[I") ∈ lw_all := lw_g (lw_at lw_m2 146 rfl) rfl
theorem q538 : (Jvm.Cond.soleField "MarginFolk" "free") ∈ lw_all := lw_g (lw_at lw_m2 147 rfl) rfl
theorem q539 : (Jvm.Cond.laysFinal "MarginFolk" "MarginFolk" "kept" "[LMarginFolk$State;") ∈ lw_all := lw_g (lw_at lw_m2 148 rfl) rfl
theorem q540 : (Jvm.Cond.soleField "MarginFolk" "kept") ∈ lw_all := lw_g (lw_at lw_m2 149 rfl) rfl
theorem q541 : (Jvm.Cond.lays "MarginFolk" "MarginFolk" "undos" "I") ∈ lw_all := lw_g (lw_at lw_m2 150 rfl) rfl
theorem q542 : (Jvm.Cond.soleField "MarginFolk" "undos") ∈ lw_all := lw_g (lw_at lw_m2 151 rfl) rfl
theorem q543 : (Jvm.Cond.lays "MarginFolk" "MarginFolk" "seeds" "J") ∈ lw_all := lw_g (lw_at lw_m2 152 rfl) rfl
theorem q544 : (Jvm.Cond.soleField "MarginFolk" "seeds") ∈ lw_all := lw_g (lw_at lw_m2 153 rfl) rfl
theorem q545 : (Jvm.Cond.lays "MarginFolk" "MarginFolk" "askedBeing" "I") ∈ lw_all := lw_g (lw_at lw_m2 154 rfl) rfl
theorem q546 : (Jvm.Cond.soleField "MarginFolk" "askedBeing") ∈ lw_all := lw_g (lw_at lw_m2 155 rfl) rfl
theorem q547 : (Jvm.Cond.laysFinal "MarginFolk" "MarginFolk" "out" "[B") ∈ lw_all := lw_g (lw_at lw_m2 156 rfl) rfl
theorem q548 : (Jvm.Cond.soleField "MarginFolk" "out") ∈ lw_all := lw_g (lw_at lw_m2 157 rfl) rfl
theorem q549 : (Jvm.Cond.lays "MarginFolk" "MarginFolk" "outs" "I") ∈ lw_all := lw_g (lw_at lw_m2 158 rfl) rfl
theorem q550 : (Jvm.Cond.soleField "MarginFolk" "outs") ∈ lw_all := lw_g (lw_at lw_m2 159 rfl) rfl
theorem q551 : (Jvm.Cond.superclass "MarginFolk" "java/lang/Object") ∈ lw_all := lw_g (lw_at lw_m2 160 rfl) rfl
theorem q554 : (Jvm.Cond.instanceMethod ({ cls := "MarginFolk", name := "feed", desc := "(IIIII)I" } : Jvm.MethodName)) ∈ lw_all := lw_g (lw_at lw_m2 163 rfl) rfl
theorem q555 : (Jvm.Cond.selects "MarginFolk" ({ cls := "MarginFolk", name := "feed", desc := "(IIIII)I" } : Jvm.MethodName) ({ cls := "MarginFolk", name := "feed", desc := "(IIIII)I" } : Jvm.MethodName)) ∈ lw_all := lw_g (lw_at lw_m2 164 rfl) rfl
theorem q556 : (Jvm.Cond.code ({ cls := "MarginFolk", name := "feed", desc := "(IIIII)I" } : Jvm.MethodName) prog_1_method_10_code (6 : Nat) (Option.some Jvm.ClassFile.FieldType.int)) ∈ lw_all := lw_g (lw_at lw_m2 165 rfl) rfl
theorem q557 : (Jvm.Cond.methodLink "MarginFolk" (115 : Nat) ({ cls := "MarginFolk", name := "refuses", desc := "(I)I" } : Jvm.MethodName)) ∈ lw_all := lw_g (lw_at lw_m2 166 rfl) rfl
theorem q558 : (Jvm.Cond.privateMethod ({ cls := "MarginFolk", name := "refuses", desc := "(I)I" } : Jvm.MethodName)) ∈ lw_tbl := lw_at lw_m2 167 rfl
theorem q559 : (Jvm.Cond.instanceMethod ({ cls := "MarginFolk", name := "refuses", desc := "(I)I" } : Jvm.MethodName)) ∈ lw_all := lw_g (lw_at lw_m2 168 rfl) rfl
theorem q560 : (Jvm.Cond.code ({ cls := "MarginFolk", name := "refuses", desc := "(I)I" } : Jvm.MethodName) prog_1_method_8_code (2 : Nat) (Option.some Jvm.ClassFile.FieldType.int)) ∈ lw_all := lw_g (lw_at lw_m2 169 rfl) rfl
theorem q561 : (Jvm.Cond.methodLink "MarginFolk" (119 : Nat) ({ cls := "MarginFolk", name := "put", desc := "(I)V" } : Jvm.MethodName)) ∈ lw_all := lw_g (lw_at lw_m2 170 rfl) rfl
theorem q562 : (Jvm.Cond.privateMethod ({ cls := "MarginFolk", name := "put", desc := "(I)V" } : Jvm.MethodName)) ∈ lw_tbl := lw_at lw_m2 171 rfl
theorem q563 : (Jvm.Cond.instanceMethod ({ cls := "MarginFolk", name := "put", desc := "(I)V" } : Jvm.MethodName)) ∈ lw_all := lw_g (lw_at lw_m2 172 rfl) rfl
theorem q564 : (Jvm.Cond.code ({ cls := "MarginFolk", name := "put", desc := "(I)V" } : Jvm.MethodName) prog_1_method_9_code (3 : Nat) (Option.none : Option Jvm.ClassFile.FieldType)) ∈ lw_all := lw_g (lw_at lw_m2 173 rfl) rfl
theorem q566 : (Jvm.Cond.instanceMethod ({ cls := "MarginFolk", name := "end", desc := "(I)Z" } : Jvm.MethodName)) ∈ lw_all := lw_g (lw_at lw_m2 175 rfl) rfl
theorem q567 : (Jvm.Cond.selects "MarginFolk" ({ cls := "MarginFolk", name := "end", desc := "(I)Z" } : Jvm.MethodName) ({ cls := "MarginFolk", name := "end", desc := "(I)Z" } : Jvm.MethodName)) ∈ lw_all := lw_g (lw_at lw_m2 176 rfl) rfl
theorem q568 : (Jvm.Cond.code ({ cls := "MarginFolk", name := "end", desc := "(I)Z" } : Jvm.MethodName) prog_1_method_11_code (2 : Nat) (Option.some Jvm.ClassFile.FieldType.boolean)) ∈ lw_all := lw_g (lw_at lw_m2 177 rfl) rfl
theorem q570 : (Jvm.Cond.instanceMethod ({ cls := "MarginFolk", name := "folio", desc := "()I" } : Jvm.MethodName)) ∈ lw_all := lw_g (lw_at lw_m2 179 rfl) rfl
theorem q571 : (Jvm.Cond.selects "MarginFolk" ({ cls := "MarginFolk", name := "folio", desc := "()I" } : Jvm.MethodName) ({ cls := "MarginFolk", name := "folio", desc := "()I" } : Jvm.MethodName)) ∈ lw_all := lw_g (lw_at lw_m2 180 rfl) rfl
theorem q572 : (Jvm.Cond.codeWith ({ cls := "MarginFolk", name := "folio", desc := "()I" } : Jvm.MethodName) prog_1_method_13_code (2 : Nat) (Option.some Jvm.ClassFile.FieldType.int) [((10 : Nat), (25 : Nat), (28 : Nat), (134 : Nat))]) ∈ lw_all := lw_g (lw_at lw_m2 181 rfl) rfl
theorem q573 : (Jvm.Cond.classLink "MarginFolk" (134 : Nat) "MarginFolk$Fault") ∈ lw_all := lw_g (lw_at lw_m2 182 rfl) rfl
theorem q574 : (Jvm.Cond.methodLink "MarginFolk" (126 : Nat) ({ cls := "MarginFolk", name := "taken", desc := "()I" } : Jvm.MethodName)) ∈ lw_all := lw_g (lw_at lw_m2 183 rfl) rfl
theorem q575 : (Jvm.Cond.privateMethod ({ cls := "MarginFolk", name := "taken", desc := "()I" } : Jvm.MethodName)) ∈ lw_tbl := lw_at lw_m2 184 rfl
theorem q576 : (Jvm.Cond.instanceMethod ({ cls := "MarginFolk", name := "taken", desc := "()I" } : Jvm.MethodName)) ∈ lw_all := lw_g (lw_at lw_m2 185 rfl) rfl
theorem q577 : (Jvm.Cond.code ({ cls := "MarginFolk", name := "taken", desc := "()I" } : Jvm.MethodName) prog_1_method_12_code (2 : Nat) (Option.some Jvm.ClassFile.FieldType.int)) ∈ lw_all := lw_g (lw_at lw_m2 186 rfl) rfl
theorem q578 : (Jvm.Cond.methodLink "MarginFolk" (130 : Nat) ({ cls := "MarginFolk$Reader", name := "all", desc := "(I)LMarginFolk$Folio;" } : Jvm.MethodName)) ∈ lw_all := lw_g (lw_at lw_m2 187 rfl) rfl
theorem q602 : (Jvm.Cond.static ({ cls := "MarginFolk", name := "isLetter", desc := "(I)Z" } : Jvm.MethodName)) ∈ lw_all := lw_g (lw_at lw_m2 211 rfl) rfl
theorem q603 : (Jvm.Cond.code ({ cls := "MarginFolk", name := "isLetter", desc := "(I)Z" } : Jvm.MethodName) prog_1_method_4_code (1 : Nat) (Option.some Jvm.ClassFile.FieldType.boolean)) ∈ lw_all := lw_g (lw_at lw_m2 212 rfl) rfl
theorem q613 : (Jvm.Cond.static ({ cls := "MarginFolk", name := "isDigit", desc := "(I)Z" } : Jvm.MethodName)) ∈ lw_all := lw_g (lw_at lw_m2 222 rfl) rfl
theorem q614 : (Jvm.Cond.code ({ cls := "MarginFolk", name := "isDigit", desc := "(I)Z" } : Jvm.MethodName) prog_1_method_5_code (1 : Nat) (Option.some Jvm.ClassFile.FieldType.boolean)) ∈ lw_all := lw_g (lw_at lw_m2 223 rfl) rfl
theorem q705 : (Jvm.Cond.static ({ cls := "MarginFolk", name := "is", desc := "(III)Z" } : Jvm.MethodName)) ∈ lw_all := lw_g (lw_at lw_m3 74 rfl) rfl
theorem q706 : (Jvm.Cond.code ({ cls := "MarginFolk", name := "is", desc := "(III)Z" } : Jvm.MethodName) prog_1_method_1_code (3 : Nat) (Option.some Jvm.ClassFile.FieldType.boolean)) ∈ lw_all := lw_g (lw_at lw_m3 75 rfl) rfl
theorem q793 : (Jvm.Cond.static ({ cls := "MarginFolk", name := "has", desc := "(II)Z" } : Jvm.MethodName)) ∈ lw_all := lw_g (lw_at lw_m3 162 rfl) rfl
theorem q794 : (Jvm.Cond.code ({ cls := "MarginFolk", name := "has", desc := "(II)Z" } : Jvm.MethodName) prog_1_method_2_code (2 : Nat) (Option.some Jvm.ClassFile.FieldType.boolean)) ∈ lw_all := lw_g (lw_at lw_m3 163 rfl) rfl
theorem q832 : (Jvm.Cond.laysStatic "MarginFolk" "OWN" "[Ljava/lang/String;") ∈ lw_tbl := lw_at lw_m3 201 rfl
theorem q834 : (Jvm.Cond.static ({ cls := "MarginFolk", name := "find", desc := "(Ljava/lang/String;[Ljava/lang/String;)I" } : Jvm.MethodName)) ∈ lw_all := lw_g (lw_at lw_m3 203 rfl) rfl
theorem q835 : (Jvm.Cond.code ({ cls := "MarginFolk", name := "find", desc := "(Ljava/lang/String;[Ljava/lang/String;)I" } : Jvm.MethodName) prog_1_method_6_code (3 : Nat) (Option.some Jvm.ClassFile.FieldType.int)) ∈ lw_all := lw_g (lw_at lw_m3 204 rfl) rfl
theorem q836 : (Jvm.Cond.methodLink "MarginFolk" (16 : Nat) ({ cls := "java/lang/String", name := "equals", desc := "(Ljava/lang/Object;)Z" } : Jvm.MethodName)) ∈ lw_all := lw_g (lw_at lw_m3 205 rfl) rfl
theorem q869 : (Jvm.Cond.fieldLinkNest "MarginFolk" (242 : Nat) "MarginFolk$Being" "trade" "I" "MarginFolk") ∈ lw_tbl := lw_at lw_m3 238 rfl
theorem q918 : (Jvm.Cond.selects "MarginFolk" ({ cls := "java/lang/Object", name := "getClass", desc := "()Ljava/lang/Class;" } : Jvm.MethodName) ({ cls := "java/lang/Object", name := "getClass", desc := "()Ljava/lang/Class;" } : Jvm.MethodName)) ∈ lw_all := lw_g (lw_at lw_m4 47 rfl) rfl
theorem q1054 : (Jvm.Cond.laysStatic "MarginFolk" "ASKED" "[Ljava/lang/String;") ∈ lw_tbl := lw_at lw_m4 183 rfl
theorem q1067 : (Jvm.Cond.laysStatic "MarginFolk" "LOOKED" "[Ljava/lang/String;") ∈ lw_tbl := lw_at lw_m4 196 rfl
theorem q1227 : (Jvm.Cond.methodLink "MarginFolk" (142 : Nat) ({ cls := "MarginFolk$State", name := "begins", desc := "()V" } : Jvm.MethodName)) ∈ lw_all := lw_g (lw_at lw_m5 116 rfl) rfl
theorem q1232 : (Jvm.Cond.privateMethod ({ cls := "MarginFolk", name := "beings", desc := "()I" } : Jvm.MethodName)) ∈ lw_tbl := lw_at lw_m5 121 rfl
theorem q1233 : (Jvm.Cond.instanceMethod ({ cls := "MarginFolk", name := "beings", desc := "()I" } : Jvm.MethodName)) ∈ lw_all := lw_g (lw_at lw_m5 122 rfl) rfl
theorem q1234 : (Jvm.Cond.code ({ cls := "MarginFolk", name := "beings", desc := "()I" } : Jvm.MethodName) prog_1_method_16_code (1 : Nat) (Option.some Jvm.ClassFile.FieldType.int)) ∈ lw_all := lw_g (lw_at lw_m5 123 rfl) rfl
theorem q1235 : (Jvm.Cond.interfaceEntry "MarginFolk" (161 : Nat)) ∈ lw_tbl := lw_at lw_m5 124 rfl
theorem q1236 : (Jvm.Cond.methodLink "MarginFolk" (161 : Nat) ({ cls := "java/util/List", name := "size", desc := "()I" } : Jvm.MethodName)) ∈ lw_all := lw_g (lw_at lw_m5 125 rfl) rfl
theorem q1238 : (Jvm.Cond.privateMethod ({ cls := "MarginFolk", name := "beingOf", desc := "(I)LMarginFolk$Being;" } : Jvm.MethodName)) ∈ lw_tbl := lw_at lw_m5 127 rfl
theorem q1239 : (Jvm.Cond.instanceMethod ({ cls := "MarginFolk", name := "beingOf", desc := "(I)LMarginFolk$Being;" } : Jvm.MethodName)) ∈ lw_all := lw_g (lw_at lw_m5 128 rfl) rfl
theorem q1240 : (Jvm.Cond.code ({ cls := "MarginFolk", name := "beingOf", desc := "(I)LMarginFolk$Being;" } : Jvm.MethodName) prog_1_method_19_code (2 : Nat) (Option.some (Jvm.ClassFile.FieldType.object "MarginFolk$Being"))) ∈ lw_all := lw_g (lw_at lw_m5 129 rfl) rfl
theorem q1241 : (Jvm.Cond.interfaceEntry "MarginFolk" (175 : Nat)) ∈ lw_tbl := lw_at lw_m5 130 rfl
theorem q1242 : (Jvm.Cond.methodLink "MarginFolk" (175 : Nat) ({ cls := "java/util/List", name := "get", desc := "(I)Ljava/lang/Object;" } : Jvm.MethodName)) ∈ lw_all := lw_g (lw_at lw_m5 131 rfl) rfl
theorem q1243 : (Jvm.Cond.classLink "MarginFolk" (179 : Nat) "MarginFolk$Being") ∈ lw_all := lw_g (lw_at lw_m5 132 rfl) rfl
theorem q1245 : (Jvm.Cond.instanceMethod ({ cls := "MarginFolk", name := "fault", desc := "(I)I" } : Jvm.MethodName)) ∈ lw_all := lw_g (lw_at lw_m5 134 rfl) rfl
theorem q1246 : (Jvm.Cond.selects "MarginFolk" ({ cls := "MarginFolk", name := "fault", desc := "(I)I" } : Jvm.MethodName) ({ cls := "MarginFolk", name := "fault", desc := "(I)I" } : Jvm.MethodName)) ∈ lw_all := lw_g (lw_at lw_m5 135 rfl) rfl
theorem q1247 : (Jvm.Cond.code ({ cls := "MarginFolk", name := "fault", desc := "(I)I" } : Jvm.MethodName) prog_1_method_14_code (2 : Nat) (Option.some Jvm.ClassFile.FieldType.int)) ∈ lw_all := lw_g (lw_at lw_m5 136 rfl) rfl
theorem q1249 : (Jvm.Cond.instanceMethod ({ cls := "MarginFolk", name := "has", desc := "(I)I" } : Jvm.MethodName)) ∈ lw_all := lw_g (lw_at lw_m5 138 rfl) rfl
theorem q1250 : (Jvm.Cond.selects "MarginFolk" ({ cls := "MarginFolk", name := "has", desc := "(I)I" } : Jvm.MethodName) ({ cls := "MarginFolk", name := "has", desc := "(I)I" } : Jvm.MethodName)) ∈ lw_all := lw_g (lw_at lw_m5 139 rfl) rfl
theorem q1251 : (Jvm.Cond.code ({ cls := "MarginFolk", name := "has", desc := "(I)I" } : Jvm.MethodName) prog_1_method_24_code (4 : Nat) (Option.some Jvm.ClassFile.FieldType.int)) ∈ lw_all := lw_g (lw_at lw_m5 140 rfl) rfl
theorem q1252 : (Jvm.Cond.methodLink "MarginFolk" (205 : Nat) ({ cls := "java/lang/Integer", name := "bitCount", desc := "(I)I" } : Jvm.MethodName)) ∈ lw_all := lw_g (lw_at lw_m5 141 rfl) rfl
theorem q1258 : (Jvm.Cond.methodLink "MarginFolk" (166 : Nat) ({ cls := "MarginFolk", name := "beings", desc := "()I" } : Jvm.MethodName)) ∈ lw_all := lw_g (lw_at lw_m5 147 rfl) rfl
theorem q1259 : (Jvm.Cond.methodLink "MarginFolk" (216 : Nat) ({ cls := "MarginFolk", name := "openingOf", desc := "(I)I" } : Jvm.MethodName)) ∈ lw_all := lw_g (lw_at lw_m5 148 rfl) rfl
theorem q1260 : (Jvm.Cond.privateMethod ({ cls := "MarginFolk", name := "openingOf", desc := "(I)I" } : Jvm.MethodName)) ∈ lw_tbl := lw_at lw_m5 149 rfl
theorem q1261 : (Jvm.Cond.instanceMethod ({ cls := "MarginFolk", name := "openingOf", desc := "(I)I" } : Jvm.MethodName)) ∈ lw_all := lw_g (lw_at lw_m5 150 rfl) rfl
theorem q1262 : (Jvm.Cond.code ({ cls := "MarginFolk", name := "openingOf", desc := "(I)I" } : Jvm.MethodName) prog_1_method_23_code (2 : Nat) (Option.some Jvm.ClassFile.FieldType.int)) ∈ lw_all := lw_g (lw_at lw_m5 151 rfl) rfl
theorem q1263 : (Jvm.Cond.methodLink "MarginFolk" (193 : Nat) ({ cls := "MarginFolk$Value", name := "at", desc := "(LMarginFolk$Moment;)J" } : Jvm.MethodName)) ∈ lw_all := lw_g (lw_at lw_m5 152 rfl) rfl
theorem q1270 : (Jvm.Cond.static ({ cls := "MarginFolk", name := "held", desc := "(J)J" } : Jvm.MethodName)) ∈ lw_all := lw_g (lw_at lw_m5 159 rfl) rfl
theorem q1271 : (Jvm.Cond.code ({ cls := "MarginFolk", name := "held", desc := "(J)J" } : Jvm.MethodName) prog_1_method_3_code (2 : Nat) (Option.some Jvm.ClassFile.FieldType.long)) ∈ lw_all := lw_g (lw_at lw_m5 160 rfl) rfl
theorem q1272 : (Jvm.Cond.constantLong "MarginFolk" (3 : Nat) (-1000000 : Int64)) ∈ lw_all := lw_g (lw_at lw_m5 161 rfl) rfl
theorem q1273 : (Jvm.Cond.constantLong "MarginFolk" (5 : Nat) (1000000 : Int64)) ∈ lw_all := lw_g (lw_at lw_m5 162 rfl) rfl
theorem q1274 : (Jvm.Cond.methodLink "MarginFolk" (7 : Nat) ({ cls := "java/lang/Math", name := "min", desc := "(JJ)J" } : Jvm.MethodName)) ∈ lw_all := lw_g (lw_at lw_m5 163 rfl) rfl
theorem q1277 : (Jvm.Cond.methodLink "MarginFolk" (13 : Nat) ({ cls := "java/lang/Math", name := "max", desc := "(JJ)J" } : Jvm.MethodName)) ∈ lw_all := lw_g (lw_at lw_m5 166 rfl) rfl
theorem q1296 : (Jvm.Cond.privateMethod ({ cls := "MarginFolk", name := "looked", desc := "(IJ)J" } : Jvm.MethodName)) ∈ lw_tbl := lw_at lw_m5 185 rfl
theorem q1297 : (Jvm.Cond.instanceMethod ({ cls := "MarginFolk", name := "looked", desc := "(IJ)J" } : Jvm.MethodName)) ∈ lw_all := lw_g (lw_at lw_m5 186 rfl) rfl
theorem q1298 : (Jvm.Cond.code ({ cls := "MarginFolk", name := "looked", desc := "(IJ)J" } : Jvm.MethodName) prog_1_method_57_code (4 : Nat) (Option.some Jvm.ClassFile.FieldType.long)) ∈ lw_all := lw_g (lw_at lw_m5 187 rfl) rfl
theorem q1299 : (Jvm.Cond.methodLink "MarginFolk" (269 : Nat) ({ cls := "MarginFolk$State", name := "meet", desc := "(III)Z" } : Jvm.MethodName)) ∈ lw_all := lw_g (lw_at lw_m5 188 rfl) rfl
theorem q1308 : (Jvm.Cond.privateMethod ({ cls := "MarginFolk", name := "liesOn", desc := "(II)Z" } : Jvm.MethodName)) ∈ lw_tbl := lw_at lw_m5 197 rfl
theorem q1309 : (Jvm.Cond.instanceMethod ({ cls := "MarginFolk", name := "liesOn", desc := "(II)Z" } : Jvm.MethodName)) ∈ lw_all := lw_g (lw_at lw_m5 198 rfl) rfl
theorem q1310 : (Jvm.Cond.code ({ cls := "MarginFolk", name := "liesOn", desc := "(II)Z" } : Jvm.MethodName) prog_1_method_22_code (3 : Nat) (Option.some Jvm.ClassFile.FieldType.boolean)) ∈ lw_all := lw_g (lw_at lw_m5 199 rfl) rfl
theorem q1311 : (Jvm.Cond.methodLink "MarginFolk" (181 : Nat) ({ cls := "MarginFolk", name := "isOpen", desc := "(II)Z" } : Jvm.MethodName)) ∈ lw_all := lw_g (lw_at lw_m5 200 rfl) rfl
theorem q1312 : (Jvm.Cond.static ({ cls := "MarginFolk", name := "isOpen", desc := "(II)Z" } : Jvm.MethodName)) ∈ lw_all := lw_g (lw_at lw_m5 201 rfl) rfl
theorem q1313 : (Jvm.Cond.code ({ cls := "MarginFolk", name := "isOpen", desc := "(II)Z" } : Jvm.MethodName) prog_1_method_21_code (2 : Nat) (Option.some Jvm.ClassFile.FieldType.boolean)) ∈ lw_all := lw_g (lw_at lw_m5 202 rfl) rfl
theorem q1315 : (Jvm.Cond.privateMethod ({ cls := "MarginFolk", name := "mirrored", desc := "(I)I" } : Jvm.MethodName)) ∈ lw_tbl := lw_at lw_m5 204 rfl
theorem q1316 : (Jvm.Cond.instanceMethod ({ cls := "MarginFolk", name := "mirrored", desc := "(I)I" } : Jvm.MethodName)) ∈ lw_all := lw_g (lw_at lw_m5 205 rfl) rfl
theorem q1317 : (Jvm.Cond.code ({ cls := "MarginFolk", name := "mirrored", desc := "(I)I" } : Jvm.MethodName) prog_1_method_20_code (2 : Nat) (Option.some Jvm.ClassFile.FieldType.int)) ∈ lw_all := lw_g (lw_at lw_m5 206 rfl) rfl
theorem q1341 : (Jvm.Cond.methodLink "MarginFolk" (199 : Nat) ({ cls := "java/lang/Math", name := "floorMod", desc := "(JJ)J" } : Jvm.MethodName)) ∈ lw_all := lw_g (lw_at lw_m5 230 rfl) rfl
theorem q1344 : (Jvm.Cond.methodLink "MarginFolk" (219 : Nat) ({ cls := "MarginFolk$State", name := "purses", desc := "()I" } : Jvm.MethodName)) ∈ lw_all := lw_g (lw_at lw_m5 233 rfl) rfl
theorem q1349 : (Jvm.Cond.instanceMethod ({ cls := "MarginFolk", name := "letter", desc := "(II)I" } : Jvm.MethodName)) ∈ lw_all := lw_g (lw_at lw_m5 238 rfl) rfl
theorem q1350 : (Jvm.Cond.selects "MarginFolk" ({ cls := "MarginFolk", name := "letter", desc := "(II)I" } : Jvm.MethodName) ({ cls := "MarginFolk", name := "letter", desc := "(II)I" } : Jvm.MethodName)) ∈ lw_all := lw_g (lw_at lw_m5 239 rfl) rfl
theorem q1351 : (Jvm.Cond.code ({ cls := "MarginFolk", name := "letter", desc := "(II)I" } : Jvm.MethodName) prog_1_method_25_code (3 : Nat) (Option.some Jvm.ClassFile.FieldType.int)) ∈ lw_all := lw_g (lw_at lw_m6 0 rfl) rfl
theorem q1352 : (Jvm.Cond.methodLink "MarginFolk" (225 : Nat) ({ cls := "MarginFolk", name := "isBeing", desc := "(I)Z" } : Jvm.MethodName)) ∈ lw_all := lw_g (lw_at lw_m6 1 rfl) rfl
theorem q1353 : (Jvm.Cond.privateMethod ({ cls := "MarginFolk", name := "isBeing", desc := "(I)Z" } : Jvm.MethodName)) ∈ lw_tbl := lw_at lw_m6 2 rfl
theorem q1354 : (Jvm.Cond.instanceMethod ({ cls := "MarginFolk", name := "isBeing", desc := "(I)Z" } : Jvm.MethodName)) ∈ lw_all := lw_g (lw_at lw_m6 3 rfl) rfl
theorem q1355 : (Jvm.Cond.code ({ cls := "MarginFolk", name := "isBeing", desc := "(I)Z" } : Jvm.MethodName) prog_1_method_17_code (2 : Nat) (Option.some Jvm.ClassFile.FieldType.boolean)) ∈ lw_all := lw_g (lw_at lw_m6 4 rfl) rfl
theorem q1356 : (Jvm.Cond.methodLink "MarginFolk" (168 : Nat) ({ cls := "MarginFolk", name := "is", desc := "(III)Z" } : Jvm.MethodName)) ∈ lw_all := lw_g (lw_at lw_m6 5 rfl) rfl
theorem q1357 : (Jvm.Cond.methodLink "MarginFolk" (229 : Nat) ({ cls := "MarginFolk", name := "beingOf", desc := "(I)LMarginFolk$Being;" } : Jvm.MethodName)) ∈ lw_all := lw_g (lw_at lw_m6 6 rfl) rfl
theorem q1358 : (Jvm.Cond.methodLink "MarginFolk" (233 : Nat) ({ cls := "MarginFolk$Being", name := "letter", desc := "(I)I" } : Jvm.MethodName)) ∈ lw_all := lw_g (lw_at lw_m6 7 rfl) rfl
theorem q1375 : (Jvm.Cond.instanceMethod ({ cls := "MarginFolk", name := "being", desc := "(II)I" } : Jvm.MethodName)) ∈ lw_all := lw_g (lw_at lw_m6 24 rfl) rfl
theorem q1376 : (Jvm.Cond.selects "MarginFolk" ({ cls := "MarginFolk", name := "being", desc := "(II)I" } : Jvm.MethodName) ({ cls := "MarginFolk", name := "being", desc := "(II)I" } : Jvm.MethodName)) ∈ lw_all := lw_g (lw_at lw_m6 25 rfl) rfl
theorem q1377 : (Jvm.Cond.code ({ cls := "MarginFolk", name := "being", desc := "(II)I" } : Jvm.MethodName) prog_1_method_26_code (3 : Nat) (Option.some Jvm.ClassFile.FieldType.int)) ∈ lw_all := lw_g (lw_at lw_m6 26 rfl) rfl
theorem q1379 : (Jvm.Cond.instanceMethod ({ cls := "MarginFolk", name := "cell", desc := "(III)I" } : Jvm.MethodName)) ∈ lw_all := lw_g (lw_at lw_m6 28 rfl) rfl
theorem q1380 : (Jvm.Cond.selects "MarginFolk" ({ cls := "MarginFolk", name := "cell", desc := "(III)I" } : Jvm.MethodName) ({ cls := "MarginFolk", name := "cell", desc := "(III)I" } : Jvm.MethodName)) ∈ lw_all := lw_g (lw_at lw_m6 29 rfl) rfl
theorem q1381 : (Jvm.Cond.code ({ cls := "MarginFolk", name := "cell", desc := "(III)I" } : Jvm.MethodName) prog_1_method_27_code (6 : Nat) (Option.some Jvm.ClassFile.FieldType.int)) ∈ lw_all := lw_g (lw_at lw_m6 30 rfl) rfl
theorem q1382 : (Jvm.Cond.methodLink "MarginFolk" (251 : Nat) ({ cls := "MarginFolk", name := "isCell", desc := "(II)Z" } : Jvm.MethodName)) ∈ lw_all := lw_g (lw_at lw_m6 31 rfl) rfl
theorem q1383 : (Jvm.Cond.privateMethod ({ cls := "MarginFolk", name := "isCell", desc := "(II)Z" } : Jvm.MethodName)) ∈ lw_tbl := lw_at lw_m6 32 rfl
theorem q1384 : (Jvm.Cond.instanceMethod ({ cls := "MarginFolk", name := "isCell", desc := "(II)Z" } : Jvm.MethodName)) ∈ lw_all := lw_g (lw_at lw_m6 33 rfl) rfl
theorem q1385 : (Jvm.Cond.code ({ cls := "MarginFolk", name := "isCell", desc := "(II)Z" } : Jvm.MethodName) prog_1_method_18_code (3 : Nat) (Option.some Jvm.ClassFile.FieldType.boolean)) ∈ lw_all := lw_g (lw_at lw_m6 34 rfl) rfl
theorem q1386 : (Jvm.Cond.methodLink "MarginFolk" (254 : Nat) ({ cls := "MarginFolk", name := "has", desc := "(II)Z" } : Jvm.MethodName)) ∈ lw_all := lw_g (lw_at lw_m6 35 rfl) rfl
theorem q1387 : (Jvm.Cond.methodLink "MarginFolk" (257 : Nat) ({ cls := "MarginFolk$State", name := "who", desc := "(II)I" } : Jvm.MethodName)) ∈ lw_all := lw_g (lw_at lw_m6 36 rfl) rfl
theorem q1391 : (Jvm.Cond.methodLink "MarginFolk" (261 : Nat) ({ cls := "MarginFolk", name := "liesOn", desc := "(II)Z" } : Jvm.MethodName)) ∈ lw_all := lw_g (lw_at lw_m6 40 rfl) rfl
theorem q1392 : (Jvm.Cond.methodLink "MarginFolk" (264 : Nat) ({ cls := "MarginFolk", name := "mirrored", desc := "(I)I" } : Jvm.MethodName)) ∈ lw_all := lw_g (lw_at lw_m6 41 rfl) rfl
theorem q1394 : (Jvm.Cond.instanceMethod ({ cls := "MarginFolk", name := "kept", desc := "(II)I" } : Jvm.MethodName)) ∈ lw_all := lw_g (lw_at lw_m6 43 rfl) rfl
theorem q1395 : (Jvm.Cond.selects "MarginFolk" ({ cls := "MarginFolk", name := "kept", desc := "(II)I" } : Jvm.MethodName) ({ cls := "MarginFolk", name := "kept", desc := "(II)I" } : Jvm.MethodName)) ∈ lw_all := lw_g (lw_at lw_m6 44 rfl) rfl
theorem q1396 : (Jvm.Cond.code ({ cls := "MarginFolk", name := "kept", desc := "(II)I" } : Jvm.MethodName) prog_1_method_28_code (3 : Nat) (Option.some Jvm.ClassFile.FieldType.int)) ∈ lw_all := lw_g (lw_at lw_m6 45 rfl) rfl
theorem q1398 : (Jvm.Cond.instanceMethod ({ cls := "MarginFolk", name := "meets", desc := "(II)I" } : Jvm.MethodName)) ∈ lw_all := lw_g (lw_at lw_m6 47 rfl) rfl
theorem q1399 : (Jvm.Cond.selects "MarginFolk" ({ cls := "MarginFolk", name := "meets", desc := "(II)I" } : Jvm.MethodName) ({ cls := "MarginFolk", name := "meets", desc := "(II)I" } : Jvm.MethodName)) ∈ lw_all := lw_g (lw_at lw_m6 48 rfl) rfl
theorem q1400 : (Jvm.Cond.code ({ cls := "MarginFolk", name := "meets", desc := "(II)I" } : Jvm.MethodName) prog_1_method_29_code (3 : Nat) (Option.some Jvm.ClassFile.FieldType.int)) ∈ lw_all := lw_g (lw_at lw_m6 49 rfl) rfl
theorem q1402 : (Jvm.Cond.instanceMethod ({ cls := "MarginFolk", name := "pairs", desc := "(I)I" } : Jvm.MethodName)) ∈ lw_all := lw_g (lw_at lw_m6 51 rfl) rfl
theorem q1403 : (Jvm.Cond.selects "MarginFolk" ({ cls := "MarginFolk", name := "pairs", desc := "(I)I" } : Jvm.MethodName) ({ cls := "MarginFolk", name := "pairs", desc := "(I)I" } : Jvm.MethodName)) ∈ lw_all := lw_g (lw_at lw_m6 52 rfl) rfl
theorem q1404 : (Jvm.Cond.code ({ cls := "MarginFolk", name := "pairs", desc := "(I)I" } : Jvm.MethodName) prog_1_method_30_code (2 : Nat) (Option.some Jvm.ClassFile.FieldType.int)) ∈ lw_all := lw_g (lw_at lw_m6 53 rfl) rfl
theorem q1405 : (Jvm.Cond.methodLink "MarginFolk" (272 : Nat) ({ cls := "MarginFolk", name := "isFolio", desc := "()Z" } : Jvm.MethodName)) ∈ lw_all := lw_g (lw_at lw_m6 54 rfl) rfl
theorem q1406 : (Jvm.Cond.privateMethod ({ cls := "MarginFolk", name := "isFolio", desc := "()Z" } : Jvm.MethodName)) ∈ lw_tbl := lw_at lw_m6 55 rfl
theorem q1407 : (Jvm.Cond.instanceMethod ({ cls := "MarginFolk", name := "isFolio", desc := "()Z" } : Jvm.MethodName)) ∈ lw_all := lw_g (lw_at lw_m6 56 rfl) rfl
theorem q1408 : (Jvm.Cond.code ({ cls := "MarginFolk", name := "isFolio", desc := "()Z" } : Jvm.MethodName) prog_1_method_15_code (1 : Nat) (Option.some Jvm.ClassFile.FieldType.boolean)) ∈ lw_all := lw_g (lw_at lw_m6 57 rfl) rfl
theorem q1409 : (Jvm.Cond.methodLink "MarginFolk" (276 : Nat) ({ cls := "MarginFolk$State", name := "pairs", desc := "(I)I" } : Jvm.MethodName)) ∈ lw_all := lw_g (lw_at lw_m6 58 rfl) rfl
theorem q1415 : (Jvm.Cond.instanceMethod ({ cls := "MarginFolk", name := "apart", desc := "()I" } : Jvm.MethodName)) ∈ lw_all := lw_g (lw_at lw_m6 64 rfl) rfl
theorem q1416 : (Jvm.Cond.selects "MarginFolk" ({ cls := "MarginFolk", name := "apart", desc := "()I" } : Jvm.MethodName) ({ cls := "MarginFolk", name := "apart", desc := "()I" } : Jvm.MethodName)) ∈ lw_all := lw_g (lw_at lw_m6 65 rfl) rfl
theorem q1417 : (Jvm.Cond.code ({ cls := "MarginFolk", name := "apart", desc := "()I" } : Jvm.MethodName) prog_1_method_31_code (3 : Nat) (Option.some Jvm.ClassFile.FieldType.int)) ∈ lw_all := lw_g (lw_at lw_m6 66 rfl) rfl
theorem q1419 : (Jvm.Cond.instanceMethod ({ cls := "MarginFolk", name := "reading", desc := "(II)I" } : Jvm.MethodName)) ∈ lw_all := lw_g (lw_at lw_m6 68 rfl) rfl
theorem q1420 : (Jvm.Cond.selects "MarginFolk" ({ cls := "MarginFolk", name := "reading", desc := "(II)I" } : Jvm.MethodName) ({ cls := "MarginFolk", name := "reading", desc := "(II)I" } : Jvm.MethodName)) ∈ lw_all := lw_g (lw_at lw_m6 69 rfl) rfl
theorem q1421 : (Jvm.Cond.code ({ cls := "MarginFolk", name := "reading", desc := "(II)I" } : Jvm.MethodName) prog_1_method_34_code (7 : Nat) (Option.some Jvm.ClassFile.FieldType.int)) ∈ lw_all := lw_g (lw_at lw_m6 70 rfl) rfl
theorem q1422 : (Jvm.Cond.methodLink "MarginFolk" (279 : Nat) ({ cls := "MarginFolk", name := "isAhead", desc := "(III)Z" } : Jvm.MethodName)) ∈ lw_all := lw_g (lw_at lw_m6 71 rfl) rfl
theorem q1423 : (Jvm.Cond.privateMethod ({ cls := "MarginFolk", name := "isAhead", desc := "(III)Z" } : Jvm.MethodName)) ∈ lw_tbl := lw_at lw_m6 72 rfl
theorem q1424 : (Jvm.Cond.instanceMethod ({ cls := "MarginFolk", name := "isAhead", desc := "(III)Z" } : Jvm.MethodName)) ∈ lw_all := lw_g (lw_at lw_m6 73 rfl) rfl
theorem q1425 : (Jvm.Cond.code ({ cls := "MarginFolk", name := "isAhead", desc := "(III)Z" } : Jvm.MethodName) prog_1_method_32_code (4 : Nat) (Option.some Jvm.ClassFile.FieldType.boolean)) ∈ lw_all := lw_g (lw_at lw_m6 74 rfl) rfl
theorem q1426 : (Jvm.Cond.constant "MarginFolk" (282 : Nat) (100000000 : Int32)) ∈ lw_all := lw_g (lw_at lw_m6 75 rfl) rfl
theorem q1427 : (Jvm.Cond.methodLink "MarginFolk" (283 : Nat) ({ cls := "MarginFolk", name := "ways", desc := "(I)I" } : Jvm.MethodName)) ∈ lw_all := lw_g (lw_at lw_m6 76 rfl) rfl
theorem q1428 : (Jvm.Cond.privateMethod ({ cls := "MarginFolk", name := "ways", desc := "(I)I" } : Jvm.MethodName)) ∈ lw_tbl := lw_at lw_m6 77 rfl
theorem q1429 : (Jvm.Cond.instanceMethod ({ cls := "MarginFolk", name := "ways", desc := "(I)I" } : Jvm.MethodName)) ∈ lw_all := lw_g (lw_at lw_m6 78 rfl) rfl
theorem q1430 : (Jvm.Cond.code ({ cls := "MarginFolk", name := "ways", desc := "(I)I" } : Jvm.MethodName) prog_1_method_33_code (4 : Nat) (Option.some Jvm.ClassFile.FieldType.int)) ∈ lw_all := lw_g (lw_at lw_m6 79 rfl) rfl
theorem q1431 : (Jvm.Cond.methodLink "MarginFolk" (286 : Nat) ({ cls := "MarginFolk$State", name := "copy", desc := "(LMarginFolk$State;)LMarginFolk$State;" } : Jvm.MethodName)) ∈ lw_all := lw_g (lw_at lw_m6 80 rfl) rfl
theorem q1435 : (Jvm.Cond.methodLink "MarginFolk" (290 : Nat) ({ cls := "MarginFolk$State", name := "passes", desc := "(I)V" } : Jvm.MethodName)) ∈ lw_all := lw_g (lw_at lw_m6 84 rfl) rfl
theorem q1499 : (Jvm.Cond.instanceMethod ({ cls := "MarginFolk", name := "later", desc := "(III)I" } : Jvm.MethodName)) ∈ lw_all := lw_g (lw_at lw_m6 148 rfl) rfl
theorem q1500 : (Jvm.Cond.selects "MarginFolk" ({ cls := "MarginFolk", name := "later", desc := "(III)I" } : Jvm.MethodName) ({ cls := "MarginFolk", name := "later", desc := "(III)I" } : Jvm.MethodName)) ∈ lw_all := lw_g (lw_at lw_m6 149 rfl) rfl
theorem q1501 : (Jvm.Cond.code ({ cls := "MarginFolk", name := "later", desc := "(III)I" } : Jvm.MethodName) prog_1_method_35_code (4 : Nat) (Option.some Jvm.ClassFile.FieldType.int)) ∈ lw_all := lw_g (lw_at lw_m6 150 rfl) rfl
theorem q1502 : (Jvm.Cond.methodLink "MarginFolk" (295 : Nat) ({ cls := "MarginFolk$State", name := "days", desc := "(I)LMarginFolk$State;" } : Jvm.MethodName)) ∈ lw_all := lw_g (lw_at lw_m6 151 rfl) rfl
theorem q1509 : (Jvm.Cond.instanceMethod ({ cls := "MarginFolk", name := "opening", desc := "(I)I" } : Jvm.MethodName)) ∈ lw_all := lw_g (lw_at lw_m6 158 rfl) rfl
theorem q1510 : (Jvm.Cond.selects "MarginFolk" ({ cls := "MarginFolk", name := "opening", desc := "(I)I" } : Jvm.MethodName) ({ cls := "MarginFolk", name := "opening", desc := "(I)I" } : Jvm.MethodName)) ∈ lw_all := lw_g (lw_at lw_m6 159 rfl) rfl
theorem q1511 : (Jvm.Cond.code ({ cls := "MarginFolk", name := "opening", desc := "(I)I" } : Jvm.MethodName) prog_1_method_36_code (2 : Nat) (Option.some Jvm.ClassFile.FieldType.int)) ∈ lw_all := lw_g (lw_at lw_m6 160 rfl) rfl
theorem q1513 : (Jvm.Cond.instanceMethod ({ cls := "MarginFolk", name := "way", desc := "(III)I" } : Jvm.MethodName)) ∈ lw_all := lw_g (lw_at lw_m6 162 rfl) rfl
theorem q1514 : (Jvm.Cond.selects "MarginFolk" ({ cls := "MarginFolk", name := "way", desc := "(III)I" } : Jvm.MethodName) ({ cls := "MarginFolk", name := "way", desc := "(III)I" } : Jvm.MethodName)) ∈ lw_all := lw_g (lw_at lw_m6 163 rfl) rfl
theorem q1515 : (Jvm.Cond.code ({ cls := "MarginFolk", name := "way", desc := "(III)I" } : Jvm.MethodName) prog_1_method_39_code (10 : Nat) (Option.some Jvm.ClassFile.FieldType.int)) ∈ lw_all := lw_g (lw_at lw_m6 164 rfl) rfl
theorem q1516 : (Jvm.Cond.methodLink "MarginFolk" (315 : Nat) ({ cls := "MarginFolk", name := "goesOn", desc := "(III)V" } : Jvm.MethodName)) ∈ lw_all := lw_g (lw_at lw_m6 165 rfl) rfl
theorem q1517 : (Jvm.Cond.privateMethod ({ cls := "MarginFolk", name := "goesOn", desc := "(III)V" } : Jvm.MethodName)) ∈ lw_tbl := lw_at lw_m6 166 rfl
theorem q1518 : (Jvm.Cond.instanceMethod ({ cls := "MarginFolk", name := "goesOn", desc := "(III)V" } : Jvm.MethodName)) ∈ lw_all := lw_g (lw_at lw_m6 167 rfl) rfl
theorem q1519 : (Jvm.Cond.code ({ cls := "MarginFolk", name := "goesOn", desc := "(III)V" } : Jvm.MethodName) prog_1_method_38_code (5 : Nat) (Option.none : Option Jvm.ClassFile.FieldType)) ∈ lw_all := lw_g (lw_at lw_m6 168 rfl) rfl
theorem q1520 : (Jvm.Cond.methodLink "MarginFolk" (302 : Nat) ({ cls := "MarginFolk", name := "comes", desc := "(II)V" } : Jvm.MethodName)) ∈ lw_all := lw_g (lw_at lw_m6 169 rfl) rfl
theorem q1521 : (Jvm.Cond.privateMethod ({ cls := "MarginFolk", name := "comes", desc := "(II)V" } : Jvm.MethodName)) ∈ lw_tbl := lw_at lw_m6 170 rfl
theorem q1522 : (Jvm.Cond.instanceMethod ({ cls := "MarginFolk", name := "comes", desc := "(II)V" } : Jvm.MethodName)) ∈ lw_all := lw_g (lw_at lw_m6 171 rfl) rfl
theorem q1523 : (Jvm.Cond.code ({ cls := "MarginFolk", name := "comes", desc := "(II)V" } : Jvm.MethodName) prog_1_method_37_code (3 : Nat) (Option.none : Option Jvm.ClassFile.FieldType)) ∈ lw_all := lw_g (lw_at lw_m6 172 rfl) rfl
theorem q1525 : (Jvm.Cond.instanceMethod ({ cls := "MarginFolk", name := "see", desc := "()I" } : Jvm.MethodName)) ∈ lw_all := lw_g (lw_at lw_m6 174 rfl) rfl
theorem q1526 : (Jvm.Cond.selects "MarginFolk" ({ cls := "MarginFolk", name := "see", desc := "()I" } : Jvm.MethodName) ({ cls := "MarginFolk", name := "see", desc := "()I" } : Jvm.MethodName)) ∈ lw_all := lw_g (lw_at lw_m6 175 rfl) rfl
theorem q1527 : (Jvm.Cond.code ({ cls := "MarginFolk", name := "see", desc := "()I" } : Jvm.MethodName) prog_1_method_42_code (4 : Nat) (Option.some Jvm.ClassFile.FieldType.int)) ∈ lw_all := lw_g (lw_at lw_m6 176 rfl) rfl
theorem q1528 : (Jvm.Cond.methodLink "MarginFolk" (319 : Nat) ({ cls := "MarginFolk", name := "byteAt", desc := "(I)I" } : Jvm.MethodName)) ∈ lw_all := lw_g (lw_at lw_m6 177 rfl) rfl
theorem q1529 : (Jvm.Cond.privateMethod ({ cls := "MarginFolk", name := "byteAt", desc := "(I)I" } : Jvm.MethodName)) ∈ lw_tbl := lw_at lw_m6 178 rfl
theorem q1530 : (Jvm.Cond.instanceMethod ({ cls := "MarginFolk", name := "byteAt", desc := "(I)I" } : Jvm.MethodName)) ∈ lw_all := lw_g (lw_at lw_m6 179 rfl) rfl
theorem q1531 : (Jvm.Cond.code ({ cls := "MarginFolk", name := "byteAt", desc := "(I)I" } : Jvm.MethodName) prog_1_method_40_code (2 : Nat) (Option.some Jvm.ClassFile.FieldType.int)) ∈ lw_all := lw_g (lw_at lw_m6 180 rfl) rfl
theorem q1533 : (Jvm.Cond.instanceMethod ({ cls := "MarginFolk", name := "lay", desc := "(I)I" } : Jvm.MethodName)) ∈ lw_all := lw_g (lw_at lw_m6 182 rfl) rfl
theorem q1534 : (Jvm.Cond.selects "MarginFolk" ({ cls := "MarginFolk", name := "lay", desc := "(I)I" } : Jvm.MethodName) ({ cls := "MarginFolk", name := "lay", desc := "(I)I" } : Jvm.MethodName)) ∈ lw_all := lw_g (lw_at lw_m6 183 rfl) rfl
theorem q1535 : (Jvm.Cond.code ({ cls := "MarginFolk", name := "lay", desc := "(I)I" } : Jvm.MethodName) prog_1_method_45_code (2 : Nat) (Option.some Jvm.ClassFile.FieldType.int)) ∈ lw_all := lw_g (lw_at lw_m6 184 rfl) rfl
theorem q1536 : (Jvm.Cond.methodLink "MarginFolk" (325 : Nat) ({ cls := "MarginFolk", name := "openings", desc := "()I" } : Jvm.MethodName)) ∈ lw_all := lw_g (lw_at lw_m6 185 rfl) rfl
theorem q1537 : (Jvm.Cond.privateMethod ({ cls := "MarginFolk", name := "openings", desc := "()I" } : Jvm.MethodName)) ∈ lw_tbl := lw_at lw_m6 186 rfl
theorem q1538 : (Jvm.Cond.instanceMethod ({ cls := "MarginFolk", name := "openings", desc := "()I" } : Jvm.MethodName)) ∈ lw_all := lw_g (lw_at lw_m6 187 rfl) rfl
theorem q1539 : (Jvm.Cond.code ({ cls := "MarginFolk", name := "openings", desc := "()I" } : Jvm.MethodName) prog_1_method_44_code (3 : Nat) (Option.some Jvm.ClassFile.FieldType.int)) ∈ lw_all := lw_g (lw_at lw_m6 188 rfl) rfl
theorem q1540 : (Jvm.Cond.methodLink "MarginFolk" (322 : Nat) ({ cls := "MarginFolk", name := "canLie", desc := "(I)Z" } : Jvm.MethodName)) ∈ lw_all := lw_g (lw_at lw_m6 189 rfl) rfl
theorem q1541 : (Jvm.Cond.privateMethod ({ cls := "MarginFolk", name := "canLie", desc := "(I)Z" } : Jvm.MethodName)) ∈ lw_tbl := lw_at lw_m6 190 rfl
theorem q1542 : (Jvm.Cond.instanceMethod ({ cls := "MarginFolk", name := "canLie", desc := "(I)Z" } : Jvm.MethodName)) ∈ lw_all := lw_g (lw_at lw_m6 191 rfl) rfl
theorem q1543 : (Jvm.Cond.code ({ cls := "MarginFolk", name := "canLie", desc := "(I)Z" } : Jvm.MethodName) prog_1_method_43_code (3 : Nat) (Option.some Jvm.ClassFile.FieldType.boolean)) ∈ lw_all := lw_g (lw_at lw_m6 192 rfl) rfl
theorem q1545 : (Jvm.Cond.instanceMethod ({ cls := "MarginFolk", name := "after", desc := "(I)I" } : Jvm.MethodName)) ∈ lw_all := lw_g (lw_at lw_m6 194 rfl) rfl
theorem q1546 : (Jvm.Cond.selects "MarginFolk" ({ cls := "MarginFolk", name := "after", desc := "(I)I" } : Jvm.MethodName) ({ cls := "MarginFolk", name := "after", desc := "(I)I" } : Jvm.MethodName)) ∈ lw_all := lw_g (lw_at lw_m6 195 rfl) rfl
theorem q1547 : (Jvm.Cond.code ({ cls := "MarginFolk", name := "after", desc := "(I)I" } : Jvm.MethodName) prog_1_method_46_code (8 : Nat) (Option.some Jvm.ClassFile.FieldType.int)) ∈ lw_all := lw_g (lw_at lw_m6 196 rfl) rfl
theorem q1548 : (Jvm.Cond.methodLink "MarginFolk" (328 : Nat) ({ cls := "java/lang/Math", name := "max", desc := "(II)I" } : Jvm.MethodName)) ∈ lw_all := lw_g (lw_at lw_m6 197 rfl) rfl
theorem q1550 : (Jvm.Cond.instanceMethod ({ cls := "MarginFolk", name := "trim", desc := "(II)I" } : Jvm.MethodName)) ∈ lw_all := lw_g (lw_at lw_m6 199 rfl) rfl
theorem q1551 : (Jvm.Cond.selects "MarginFolk" ({ cls := "MarginFolk", name := "trim", desc := "(II)I" } : Jvm.MethodName) ({ cls := "MarginFolk", name := "trim", desc := "(II)I" } : Jvm.MethodName)) ∈ lw_all := lw_g (lw_at lw_m6 200 rfl) rfl
theorem q1552 : (Jvm.Cond.code ({ cls := "MarginFolk", name := "trim", desc := "(II)I" } : Jvm.MethodName) prog_1_method_48_code (7 : Nat) (Option.some Jvm.ClassFile.FieldType.int)) ∈ lw_all := lw_g (lw_at lw_m6 201 rfl) rfl
theorem q1553 : (Jvm.Cond.methodLink "MarginFolk" (336 : Nat) ({ cls := "MarginFolk$State", name := "isFree", desc := "(II)Z" } : Jvm.MethodName)) ∈ lw_all := lw_g (lw_at lw_m6 202 rfl) rfl
theorem q1554 : (Jvm.Cond.methodLink "MarginFolk" (330 : Nat) ({ cls := "MarginFolk", name := "fewest", desc := "(IIII)I" } : Jvm.MethodName)) ∈ lw_all := lw_g (lw_at lw_m6 203 rfl) rfl
theorem q1555 : (Jvm.Cond.privateMethod ({ cls := "MarginFolk", name := "fewest", desc := "(IIII)I" } : Jvm.MethodName)) ∈ lw_tbl := lw_at lw_m6 204 rfl
theorem q1556 : (Jvm.Cond.instanceMethod ({ cls := "MarginFolk", name := "fewest", desc := "(IIII)I" } : Jvm.MethodName)) ∈ lw_all := lw_g (lw_at lw_m6 205 rfl) rfl
theorem q1557 : (Jvm.Cond.code ({ cls := "MarginFolk", name := "fewest", desc := "(IIII)I" } : Jvm.MethodName) prog_1_method_47_code (7 : Nat) (Option.some Jvm.ClassFile.FieldType.int)) ∈ lw_all := lw_g (lw_at lw_m6 206 rfl) rfl
theorem q1558 : (Jvm.Cond.methodLink "MarginFolk" (334 : Nat) ({ cls := "java/lang/Math", name := "min", desc := "(II)I" } : Jvm.MethodName)) ∈ lw_all := lw_g (lw_at lw_m6 207 rfl) rfl
theorem q1560 : (Jvm.Cond.instanceMethod ({ cls := "MarginFolk", name := "undo", desc := "()Z" } : Jvm.MethodName)) ∈ lw_all := lw_g (lw_at lw_m6 209 rfl) rfl
theorem q1561 : (Jvm.Cond.selects "MarginFolk" ({ cls := "MarginFolk", name := "undo", desc := "()Z" } : Jvm.MethodName) ({ cls := "MarginFolk", name := "undo", desc := "()Z" } : Jvm.MethodName)) ∈ lw_all := lw_g (lw_at lw_m6 210 rfl) rfl
theorem q1562 : (Jvm.Cond.code ({ cls := "MarginFolk", name := "undo", desc := "()Z" } : Jvm.MethodName) prog_1_method_50_code (1 : Nat) (Option.some Jvm.ClassFile.FieldType.boolean)) ∈ lw_all := lw_g (lw_at lw_m6 211 rfl) rfl
theorem q1564 : (Jvm.Cond.instanceMethod ({ cls := "MarginFolk", name := "go", desc := "(III)Z" } : Jvm.MethodName)) ∈ lw_all := lw_g (lw_at lw_m6 213 rfl) rfl
theorem q1565 : (Jvm.Cond.selects "MarginFolk" ({ cls := "MarginFolk", name := "go", desc := "(III)Z" } : Jvm.MethodName) ({ cls := "MarginFolk", name := "go", desc := "(III)Z" } : Jvm.MethodName)) ∈ lw_all := lw_g (lw_at lw_m6 214 rfl) rfl
theorem q1566 : (Jvm.Cond.code ({ cls := "MarginFolk", name := "go", desc := "(III)Z" } : Jvm.MethodName) prog_1_method_51_code (4 : Nat) (Option.some Jvm.ClassFile.FieldType.boolean)) ∈ lw_all := lw_g (lw_at lw_m6 215 rfl) rfl
theorem q1567 : (Jvm.Cond.methodLink "MarginFolk" (339 : Nat) ({ cls := "MarginFolk", name := "keeps", desc := "()V" } : Jvm.MethodName)) ∈ lw_all := lw_g (lw_at lw_m6 216 rfl) rfl
theorem q1568 : (Jvm.Cond.privateMethod ({ cls := "MarginFolk", name := "keeps", desc := "()V" } : Jvm.MethodName)) ∈ lw_tbl := lw_at lw_m6 217 rfl
theorem q1569 : (Jvm.Cond.instanceMethod ({ cls := "MarginFolk", name := "keeps", desc := "()V" } : Jvm.MethodName)) ∈ lw_all := lw_g (lw_at lw_m6 218 rfl) rfl
theorem q1570 : (Jvm.Cond.code ({ cls := "MarginFolk", name := "keeps", desc := "()V" } : Jvm.MethodName) prog_1_method_49_code (3 : Nat) (Option.none : Option Jvm.ClassFile.FieldType)) ∈ lw_all := lw_g (lw_at lw_m6 219 rfl) rfl
theorem q1572 : (Jvm.Cond.instanceMethod ({ cls := "MarginFolk", name := "gloss", desc := "(II)I" } : Jvm.MethodName)) ∈ lw_all := lw_g (lw_at lw_m6 221 rfl) rfl
theorem q1573 : (Jvm.Cond.selects "MarginFolk" ({ cls := "MarginFolk", name := "gloss", desc := "(II)I" } : Jvm.MethodName) ({ cls := "MarginFolk", name := "gloss", desc := "(II)I" } : Jvm.MethodName)) ∈ lw_all := lw_g (lw_at lw_m6 222 rfl) rfl
theorem q1574 : (Jvm.Cond.code ({ cls := "MarginFolk", name := "gloss", desc := "(II)I" } : Jvm.MethodName) prog_1_method_52_code (5 : Nat) (Option.some Jvm.ClassFile.FieldType.int)) ∈ lw_all := lw_g (lw_at lw_m6 223 rfl) rfl
theorem q1575 : (Jvm.Cond.methodLink "MarginFolk" (341 : Nat) ({ cls := "MarginFolk$State", name := "nearest", desc := "(II)I" } : Jvm.MethodName)) ∈ lw_all := lw_g (lw_at lw_m6 224 rfl) rfl
theorem q1580 : (Jvm.Cond.instanceMethod ({ cls := "MarginFolk", name := "days", desc := "(I)I" } : Jvm.MethodName)) ∈ lw_all := lw_g (lw_at lw_m6 229 rfl) rfl
theorem q1581 : (Jvm.Cond.selects "MarginFolk" ({ cls := "MarginFolk", name := "days", desc := "(I)I" } : Jvm.MethodName) ({ cls := "MarginFolk", name := "days", desc := "(I)I" } : Jvm.MethodName)) ∈ lw_all := lw_g (lw_at lw_m6 230 rfl) rfl
theorem q1582 : (Jvm.Cond.code ({ cls := "MarginFolk", name := "days", desc := "(I)I" } : Jvm.MethodName) prog_1_method_53_code (2 : Nat) (Option.some Jvm.ClassFile.FieldType.int)) ∈ lw_all := lw_g (lw_at lw_m6 231 rfl) rfl
theorem q1584 : (Jvm.Cond.instanceMethod ({ cls := "MarginFolk", name := "chance", desc := "(I)I" } : Jvm.MethodName)) ∈ lw_all := lw_g (lw_at lw_m6 233 rfl) rfl
theorem q1585 : (Jvm.Cond.selects "MarginFolk" ({ cls := "MarginFolk", name := "chance", desc := "(I)I" } : Jvm.MethodName) ({ cls := "MarginFolk", name := "chance", desc := "(I)I" } : Jvm.MethodName)) ∈ lw_all := lw_g (lw_at lw_m6 234 rfl) rfl
theorem q1586 : (Jvm.Cond.code ({ cls := "MarginFolk", name := "chance", desc := "(I)I" } : Jvm.MethodName) prog_1_method_55_code (4 : Nat) (Option.some Jvm.ClassFile.FieldType.int)) ∈ lw_all := lw_g (lw_at lw_m6 235 rfl) rfl
theorem q1587 : (Jvm.Cond.methodLink "MarginFolk" (352 : Nat) ({ cls := "MarginFolk", name := "draw", desc := "(I)I" } : Jvm.MethodName)) ∈ lw_all := lw_g (lw_at lw_m6 236 rfl) rfl
theorem q1588 : (Jvm.Cond.privateMethod ({ cls := "MarginFolk", name := "draw", desc := "(I)I" } : Jvm.MethodName)) ∈ lw_tbl := lw_at lw_m6 237 rfl
theorem q1589 : (Jvm.Cond.instanceMethod ({ cls := "MarginFolk", name := "draw", desc := "(I)I" } : Jvm.MethodName)) ∈ lw_all := lw_g (lw_at lw_m6 238 rfl) rfl
theorem q1590 : (Jvm.Cond.code ({ cls := "MarginFolk", name := "draw", desc := "(I)I" } : Jvm.MethodName) prog_1_method_54_code (2 : Nat) (Option.some Jvm.ClassFile.FieldType.int)) ∈ lw_all := lw_g (lw_at lw_m6 239 rfl) rfl
theorem q1591 : (Jvm.Cond.constantLong "MarginFolk" (344 : Nat) (1103515245 : Int64)) ∈ lw_all := lw_g (lw_at lw_m7 0 rfl) rfl
theorem q1592 : (Jvm.Cond.constantLong "MarginFolk" (346 : Nat) (12345 : Int64)) ∈ lw_all := lw_g (lw_at lw_m7 1 rfl) rfl
theorem q1593 : (Jvm.Cond.constantLong "MarginFolk" (348 : Nat) (2147483648 : Int64)) ∈ lw_all := lw_g (lw_at lw_m7 2 rfl) rfl
theorem q1594 : (Jvm.Cond.constantLong "MarginFolk" (350 : Nat) (64 : Int64)) ∈ lw_all := lw_g (lw_at lw_m7 3 rfl) rfl
theorem q1596 : (Jvm.Cond.instanceMethod ({ cls := "MarginFolk", name := "seed", desc := "(I)Z" } : Jvm.MethodName)) ∈ lw_all := lw_g (lw_at lw_m7 5 rfl) rfl
theorem q1597 : (Jvm.Cond.selects "MarginFolk" ({ cls := "MarginFolk", name := "seed", desc := "(I)Z" } : Jvm.MethodName) ({ cls := "MarginFolk", name := "seed", desc := "(I)Z" } : Jvm.MethodName)) ∈ lw_all := lw_g (lw_at lw_m7 6 rfl) rfl
theorem q1598 : (Jvm.Cond.code ({ cls := "MarginFolk", name := "seed", desc := "(I)Z" } : Jvm.MethodName) prog_1_method_56_code (2 : Nat) (Option.some Jvm.ClassFile.FieldType.boolean)) ∈ lw_all := lw_g (lw_at lw_m7 7 rfl) rfl
theorem q1600 : (Jvm.Cond.instanceMethod ({ cls := "MarginFolk", name := "ask", desc := "()J" } : Jvm.MethodName)) ∈ lw_all := lw_g (lw_at lw_m7 9 rfl) rfl
theorem q1601 : (Jvm.Cond.selects "MarginFolk" ({ cls := "MarginFolk", name := "ask", desc := "()J" } : Jvm.MethodName) ({ cls := "MarginFolk", name := "ask", desc := "()J" } : Jvm.MethodName)) ∈ lw_all := lw_g (lw_at lw_m7 10 rfl) rfl
theorem q1602 : (Jvm.Cond.codeWith ({ cls := "MarginFolk", name := "ask", desc := "()J" } : Jvm.MethodName) prog_1_method_58_code (4 : Nat) (Option.some Jvm.ClassFile.FieldType.long) [((26 : Nat), (35 : Nat), (38 : Nat), (134 : Nat))]) ∈ lw_all := lw_g (lw_at lw_m7 11 rfl) rfl
theorem q1603 : (Jvm.Cond.constantLong "MarginFolk" (361 : Nat) (-1000000000000000 : Int64)) ∈ lw_all := lw_g (lw_at lw_m7 12 rfl) rfl
theorem q1604 : (Jvm.Cond.methodLink "MarginFolk" (363 : Nat) ({ cls := "MarginFolk$Reader", name := "question", desc := "(I)LMarginFolk$Question;" } : Jvm.MethodName)) ∈ lw_all := lw_g (lw_at lw_m7 13 rfl) rfl
theorem q1609 : (Jvm.Cond.laysStatic "MarginFolk" "TOLD_OF" "[Ljava/lang/String;") ∈ lw_tbl := lw_at lw_m7 18 rfl
theorem q1633 : (Jvm.Cond.methodLink "MarginFolk" (367 : Nat) ({ cls := "MarginFolk$Question", name := "meets", desc := "(ILMarginFolk$Moment;)V" } : Jvm.MethodName)) ∈ lw_all := lw_g (lw_at lw_m7 42 rfl) rfl
theorem q1641 : (Jvm.Cond.methodLink "MarginFolk" (373 : Nat) ({ cls := "MarginFolk$Question", name := "answer", desc := "()J" } : Jvm.MethodName)) ∈ lw_all := lw_g (lw_at lw_m7 50 rfl) rfl
theorem q1646 : (Jvm.Cond.instanceMethod ({ cls := "MarginFolk", name := "image", desc := "()I" } : Jvm.MethodName)) ∈ lw_all := lw_g (lw_at lw_m7 55 rfl) rfl
theorem q1647 : (Jvm.Cond.selects "MarginFolk" ({ cls := "MarginFolk", name := "image", desc := "()I" } : Jvm.MethodName) ({ cls := "MarginFolk", name := "image", desc := "()I" } : Jvm.MethodName)) ∈ lw_all := lw_g (lw_at lw_m7 56 rfl) rfl
theorem q1648 : (Jvm.Cond.code ({ cls := "MarginFolk", name := "image", desc := "()I" } : Jvm.MethodName) prog_1_method_61_code (2 : Nat) (Option.some Jvm.ClassFile.FieldType.int)) ∈ lw_all := lw_g (lw_at lw_m7 57 rfl) rfl
theorem q1649 : (Jvm.Cond.methodLink "MarginFolk" (380 : Nat) ({ cls := "MarginFolk", name := "writes", desc := "(II)V" } : Jvm.MethodName)) ∈ lw_all := lw_g (lw_at lw_m7 58 rfl) rfl
theorem q1650 : (Jvm.Cond.privateMethod ({ cls := "MarginFolk", name := "writes", desc := "(II)V" } : Jvm.MethodName)) ∈ lw_tbl := lw_at lw_m7 59 rfl
theorem q1651 : (Jvm.Cond.instanceMethod ({ cls := "MarginFolk", name := "writes", desc := "(II)V" } : Jvm.MethodName)) ∈ lw_all := lw_g (lw_at lw_m7 60 rfl) rfl
theorem q1652 : (Jvm.Cond.code ({ cls := "MarginFolk", name := "writes", desc := "(II)V" } : Jvm.MethodName) prog_1_method_59_code (4 : Nat) (Option.none : Option Jvm.ClassFile.FieldType)) ∈ lw_all := lw_g (lw_at lw_m7 61 rfl) rfl
theorem q1653 : (Jvm.Cond.methodLink "MarginFolk" (383 : Nat) ({ cls := "MarginFolk", name := "check", desc := "([BI)I" } : Jvm.MethodName)) ∈ lw_all := lw_g (lw_at lw_m7 62 rfl) rfl
theorem q1654 : (Jvm.Cond.static ({ cls := "MarginFolk", name := "check", desc := "([BI)I" } : Jvm.MethodName)) ∈ lw_all := lw_g (lw_at lw_m7 63 rfl) rfl
theorem q1655 : (Jvm.Cond.code ({ cls := "MarginFolk", name := "check", desc := "([BI)I" } : Jvm.MethodName) prog_1_method_60_code (4 : Nat) (Option.some Jvm.ClassFile.FieldType.int)) ∈ lw_all := lw_g (lw_at lw_m7 64 rfl) rfl
theorem q1657 : (Jvm.Cond.instanceMethod ({ cls := "MarginFolk", name := "octet", desc := "(I)I" } : Jvm.MethodName)) ∈ lw_all := lw_g (lw_at lw_m7 66 rfl) rfl
theorem q1658 : (Jvm.Cond.selects "MarginFolk" ({ cls := "MarginFolk", name := "octet", desc := "(I)I" } : Jvm.MethodName) ({ cls := "MarginFolk", name := "octet", desc := "(I)I" } : Jvm.MethodName)) ∈ lw_all := lw_g (lw_at lw_m7 67 rfl) rfl
theorem q1659 : (Jvm.Cond.code ({ cls := "MarginFolk", name := "octet", desc := "(I)I" } : Jvm.MethodName) prog_1_method_62_code (2 : Nat) (Option.some Jvm.ClassFile.FieldType.int)) ∈ lw_all := lw_g (lw_at lw_m7 68 rfl) rfl
theorem q1661 : (Jvm.Cond.instanceMethod ({ cls := "MarginFolk", name := "on", desc := "()Z" } : Jvm.MethodName)) ∈ lw_all := lw_g (lw_at lw_m7 70 rfl) rfl
theorem q1662 : (Jvm.Cond.selects "MarginFolk" ({ cls := "MarginFolk", name := "on", desc := "()Z" } : Jvm.MethodName) ({ cls := "MarginFolk", name := "on", desc := "()Z" } : Jvm.MethodName)) ∈ lw_all := lw_g (lw_at lw_m7 71 rfl) rfl
theorem q1663 : (Jvm.Cond.code ({ cls := "MarginFolk", name := "on", desc := "()Z" } : Jvm.MethodName) prog_1_method_64_code (5 : Nat) (Option.some Jvm.ClassFile.FieldType.boolean)) ∈ lw_all := lw_g (lw_at lw_m7 72 rfl) rfl
theorem q1664 : (Jvm.Cond.methodLink "MarginFolk" (387 : Nat) ({ cls := "MarginFolk", name := "twoAt", desc := "(I)I" } : Jvm.MethodName)) ∈ lw_all := lw_g (lw_at lw_m7 73 rfl) rfl
theorem q1665 : (Jvm.Cond.privateMethod ({ cls := "MarginFolk", name := "twoAt", desc := "(I)I" } : Jvm.MethodName)) ∈ lw_tbl := lw_at lw_m7 74 rfl
theorem q1666 : (Jvm.Cond.instanceMethod ({ cls := "MarginFolk", name := "twoAt", desc := "(I)I" } : Jvm.MethodName)) ∈ lw_all := lw_g (lw_at lw_m7 75 rfl) rfl
theorem q1667 : (Jvm.Cond.code ({ cls := "MarginFolk", name := "twoAt", desc := "(I)I" } : Jvm.MethodName) prog_1_method_41_code (2 : Nat) (Option.some Jvm.ClassFile.FieldType.int)) ∈ lw_all := lw_g (lw_at lw_m7 76 rfl) rfl
theorem q1668 : (Jvm.Cond.methodLink "MarginFolk" (390 : Nat) ({ cls := "MarginFolk", name := "beingOn", desc := "(II)Z" } : Jvm.MethodName)) ∈ lw_all := lw_g (lw_at lw_m7 77 rfl) rfl
theorem q1669 : (Jvm.Cond.privateMethod ({ cls := "MarginFolk", name := "beingOn", desc := "(II)Z" } : Jvm.MethodName)) ∈ lw_tbl := lw_at lw_m7 78 rfl
theorem q1670 : (Jvm.Cond.instanceMethod ({ cls := "MarginFolk", name := "beingOn", desc := "(II)Z" } : Jvm.MethodName)) ∈ lw_all := lw_g (lw_at lw_m7 79 rfl) rfl
theorem q1671 : (Jvm.Cond.code ({ cls := "MarginFolk", name := "beingOn", desc := "(II)Z" } : Jvm.MethodName) prog_1_method_63_code (6 : Nat) (Option.some Jvm.ClassFile.FieldType.boolean)) ∈ lw_all := lw_g (lw_at lw_m7 80 rfl) rfl
theorem q1673 : (Jvm.Cond.instanceMethod ({ cls := "MarginFolk", name := "status", desc := "(I)I" } : Jvm.MethodName)) ∈ lw_all := lw_g (lw_at lw_m7 82 rfl) rfl
theorem q1674 : (Jvm.Cond.selects "MarginFolk" ({ cls := "MarginFolk", name := "status", desc := "(I)I" } : Jvm.MethodName) ({ cls := "MarginFolk", name := "status", desc := "(I)I" } : Jvm.MethodName)) ∈ lw_all := lw_g (lw_at lw_m7 83 rfl) rfl
theorem q1675 : (Jvm.Cond.code ({ cls := "MarginFolk", name := "status", desc := "(I)I" } : Jvm.MethodName) prog_1_method_65_code (2 : Nat) (Option.some Jvm.ClassFile.FieldType.int)) ∈ lw_all := lw_g (lw_at lw_m7 84 rfl) rfl
theorem q2548 : (Jvm.Cond.castable "MarginFolk" "java/lang/Object") ∈ lw_tbl := lw_at lw_m10 237 rfl
theorem q2583 : (Jvm.Cond.stringRef "MarginFolk" (428 : Nat) "folio") ∈ lw_tbl := lw_at lw_m11 32 rfl
theorem q2584 : (Jvm.Cond.stringRef "MarginFolk" (429 : Nat) "cells") ∈ lw_tbl := lw_at lw_m11 33 rfl
theorem q2585 : (Jvm.Cond.stringRef "MarginFolk" (430 : Nat) "gloss") ∈ lw_tbl := lw_at lw_m11 34 rfl
theorem q2586 : (Jvm.Cond.stringRef "MarginFolk" (431 : Nat) "worm") ∈ lw_tbl := lw_at lw_m11 35 rfl
theorem q2587 : (Jvm.Cond.stringRef "MarginFolk" (433 : Nat) "being") ∈ lw_tbl := lw_at lw_m11 36 rfl
theorem q2588 : (Jvm.Cond.stringRef "MarginFolk" (435 : Nat) "on") ∈ lw_tbl := lw_at lw_m11 37 rfl
theorem q2589 : (Jvm.Cond.stringRef "MarginFolk" (437 : Nat) "at") ∈ lw_tbl := lw_at lw_m11 38 rfl
theorem q2590 : (Jvm.Cond.stringRef "MarginFolk" (396 : Nat) "trade") ∈ lw_tbl := lw_at lw_m11 39 rfl
theorem q2591 : (Jvm.Cond.stringRef "MarginFolk" (438 : Nat) "opens") ∈ lw_tbl := lw_at lw_m11 40 rfl
theorem q2592 : (Jvm.Cond.stringRef "MarginFolk" (439 : Nat) "corn") ∈ lw_tbl := lw_at lw_m11 41 rfl
theorem q2593 : (Jvm.Cond.stringRef "MarginFolk" (441 : Nat) "toll") ∈ lw_tbl := lw_at lw_m11 42 rfl
theorem q2594 : (Jvm.Cond.stringRef "MarginFolk" (443 : Nat) "steps") ∈ lw_tbl := lw_at lw_m11 43 rfl
theorem q2595 : (Jvm.Cond.stringRef "MarginFolk" (445 : Nat) "thumb") ∈ lw_tbl := lw_at lw_m11 44 rfl
theorem q2596 : (Jvm.Cond.stringRef "MarginFolk" (393 : Nat) "day") ∈ lw_tbl := lw_at lw_m11 45 rfl
theorem q2597 : (Jvm.Cond.stringRef "MarginFolk" (394 : Nat) "leaf") ∈ lw_tbl := lw_at lw_m11 46 rfl
theorem q2598 : (Jvm.Cond.stringRef "MarginFolk" (395 : Nat) "cell") ∈ lw_tbl := lw_at lw_m11 47 rfl
theorem q2599 : (Jvm.Cond.stringRef "MarginFolk" (397 : Nat) "purse") ∈ lw_tbl := lw_at lw_m11 48 rfl
theorem q2600 : (Jvm.Cond.stringRef "MarginFolk" (398 : Nat) "open") ∈ lw_tbl := lw_at lw_m11 49 rfl
theorem q2601 : (Jvm.Cond.stringRef "MarginFolk" (400 : Nat) "other") ∈ lw_tbl := lw_at lw_m11 50 rfl
theorem q2602 : (Jvm.Cond.stringRef "MarginFolk" (402 : Nat) "number") ∈ lw_tbl := lw_at lw_m11 51 rfl
theorem q2603 : (Jvm.Cond.stringRef "MarginFolk" (404 : Nat) "met") ∈ lw_tbl := lw_at lw_m11 52 rfl
theorem q2604 : (Jvm.Cond.stringRef "MarginFolk" (409 : Nat) "meets") ∈ lw_tbl := lw_at lw_m11 53 rfl
theorem q2605 : (Jvm.Cond.stringRef "MarginFolk" (446 : Nat) "or") ∈ lw_tbl := lw_at lw_m11 54 rfl
theorem q2606 : (Jvm.Cond.stringRef "MarginFolk" (448 : Nat) "and") ∈ lw_tbl := lw_at lw_m11 55 rfl
theorem q2607 : (Jvm.Cond.stringRef "MarginFolk" (450 : Nat) "not") ∈ lw_tbl := lw_at lw_m11 56 rfl
theorem q2608 : (Jvm.Cond.stringRef "MarginFolk" (452 : Nat) "all") ∈ lw_tbl := lw_at lw_m11 57 rfl
theorem q2609 : (Jvm.Cond.stringRef "MarginFolk" (453 : Nat) "min") ∈ lw_tbl := lw_at lw_m11 58 rfl
theorem q2610 : (Jvm.Cond.stringRef "MarginFolk" (454 : Nat) "max") ∈ lw_tbl := lw_at lw_m11 59 rfl
theorem q2612 : (Jvm.Cond.stringRef "MarginFolk" (413 : Nat) "first") ∈ lw_tbl := lw_at lw_m11 61 rfl
theorem q2613 : (Jvm.Cond.stringRef "MarginFolk" (415 : Nat) "last") ∈ lw_tbl := lw_at lw_m11 62 rfl
theorem q2614 : (Jvm.Cond.stringRef "MarginFolk" (417 : Nat) "often") ∈ lw_tbl := lw_at lw_m11 63 rfl
theorem q2615 : (Jvm.Cond.stringRef "MarginFolk" (419 : Nat) "total") ∈ lw_tbl := lw_at lw_m11 64 rfl
theorem q2616 : (Jvm.Cond.stringRef "MarginFolk" (421 : Nat) "most") ∈ lw_tbl := lw_at lw_m11 65 rfl
theorem q2617 : (Jvm.Cond.stringRef "MarginFolk" (423 : Nat) "least") ∈ lw_tbl := lw_at lw_m11 66 rfl
theorem in_X0 : ∀ w ∈ wsX00, w ∈ lw_all := lw_in wsX00 [501, 503, 505, 507, 509, 511, 513, 515, 517, 519, 521, 523, 525, 527, 529, 531, 533, 535, 537, 539, 541, 543, 545, 547, 549] (by decide +kernel) (by decide +kernel)
/-! MarginFolk$Folio -/
set_option maxRecDepth 100000
def RX1 : String := "MarginFolk$Folio"
def TX1 : u_T := fun k => match k with
  | 0 => ("MarginFolk$Folio", "statements", "I", false)
  | 1 => ("MarginFolk$Folio", "leaves", "I", false)
  | 2 => ("MarginFolk$Folio", "cells", "I", false)
  | 3 => ("MarginFolk$Folio", "glosses", "I", false)
  | 4 => ("MarginFolk$Folio", "worms", "I", false)
  | 5 => ("MarginFolk$Folio", "thumb", "I", false)
  | 6 => ("MarginFolk$Folio", "gloss", "[I", true)
  | 7 => ("MarginFolk$Folio", "wormFrom", "[I", true)
  | 8 => ("MarginFolk$Folio", "wormTo", "[I", true)
  | 9 => ("MarginFolk$Folio", "wormCell", "[I", true)
  | 10 => ("MarginFolk$Folio", "beings", "Ljava/util/List;", true)
  | 11 => ("MarginFolk$Folio", "opens", "LMarginFolk$Value;", false)
  | 12 => ("MarginFolk$Folio", "corn", "LMarginFolk$Value;", false)
  | 13 => ("MarginFolk$Folio", "toll", "LMarginFolk$Value;", false)
  | _ => ("MarginFolk$Folio", "steps", "LMarginFolk$Test;", false)
def tyX1 : Nat → FieldType := fun k => match k with
  | 0 => .int
  | 1 => .int
  | 2 => .int
  | 3 => .int
  | 4 => .int
  | 5 => .int
  | 6 => .array .int
  | 7 => .array .int
  | 8 => .array .int
  | 9 => .array .int
  | 10 => .object "java/util/List"
  | 11 => .object "MarginFolk$Value"
  | 12 => .object "MarginFolk$Value"
  | 13 => .object "MarginFolk$Value"
  | _ => .object "MarginFolk$Test"
abbrev wsX10 : List Cond := u_ws RX1 TX1 15
set_option maxRecDepth 100000 in
theorem nmX1 : ∀ a, a < 15 → ∀ b, b < 15 → a ≠ b → (TX1 a).2.1 ≠ (TX1 b).2.1 := by decide +kernel
set_option maxRecDepth 100000 in
theorem tyX1_ok : ∀ k, k < 15 → parseFieldDescriptor (TX1 k).2.2.1 = some (tyX1 k) := by decide +kernel
abbrev cX1_init : ByteArray := prog_9_method_1_code
def yX1_init : MethodName := ⟨RX1, "<init>", "()V"⟩
def dkwX1_init_2 : List UInt8 := [181, 0, 29, 177]
abbrev dktX1_init_2 : List UInt8 := dkwX1_init_2 ++ []
def dkwX1_init_1 : List UInt8 := [188, 10, 181, 0, 18, 42, 16, 12, 188, 10, 181, 0, 21, 42, 187, 0, 24, 89, 7, 183, 0, 26]
abbrev dktX1_init_1 : List UInt8 := dkwX1_init_1 ++ dktX1_init_2
def dkwX1_init_0 : List UInt8 := [42, 183, 0, 3, 42, 16, 6, 188, 10, 181, 0, 9, 42, 16, 12, 188, 10, 181, 0, 15, 42, 16, 12]
abbrev dktX1_init_0 : List UInt8 := dkwX1_init_0 ++ dktX1_init_1
theorem dksX1_init_0 : cX1_init.data.toList.drop 0 = dktX1_init_0 := by decide +kernel
theorem dksX1_init_1 : cX1_init.data.toList.drop 23 = dktX1_init_1 := dk_seg dksX1_init_0 23 rfl rfl
theorem dksX1_init_2 : cX1_init.data.toList.drop 45 = dktX1_init_2 := dk_seg dksX1_init_1 22 rfl rfl
theorem dX1_init_0 : decode cX1_init 0 = .ok (.aload_n 0, 1) := dk_42 (dk_at dksX1_init_0 0 rfl rfl)
theorem dX1_init_1 : decode cX1_init 1 = .ok (.invokespecial 3, 3) := dk_183 0 3 (dk_at dksX1_init_0 1 rfl rfl)
theorem dX1_init_4 : decode cX1_init 4 = .ok (.aload_n 0, 1) := dk_42 (dk_at dksX1_init_0 4 rfl rfl)
theorem dX1_init_5 : decode cX1_init 5 = .ok (.bipush 6, 2) := dk_16 6 (dk_at dksX1_init_0 5 rfl rfl)
theorem dX1_init_7 : decode cX1_init 7 = .ok (.newarray .int, 2) := dk_188_10 (dk_at dksX1_init_0 7 rfl rfl)
theorem dX1_init_9 : decode cX1_init 9 = .ok (.putfield 9, 3) := dk_181 0 9 (dk_at dksX1_init_0 9 rfl rfl)
theorem dX1_init_12 : decode cX1_init 12 = .ok (.aload_n 0, 1) := dk_42 (dk_at dksX1_init_0 12 rfl rfl)
theorem dX1_init_13 : decode cX1_init 13 = .ok (.bipush 12, 2) := dk_16 12 (dk_at dksX1_init_0 13 rfl rfl)
theorem dX1_init_15 : decode cX1_init 15 = .ok (.newarray .int, 2) := dk_188_10 (dk_at dksX1_init_0 15 rfl rfl)
theorem dX1_init_17 : decode cX1_init 17 = .ok (.putfield 15, 3) := dk_181 0 15 (dk_at dksX1_init_0 17 rfl rfl)
theorem dX1_init_20 : decode cX1_init 20 = .ok (.aload_n 0, 1) := dk_42 (dk_at dksX1_init_0 20 rfl rfl)
theorem dX1_init_21 : decode cX1_init 21 = .ok (.bipush 12, 2) := dk_16 12 (dk_at dksX1_init_0 21 rfl rfl)
theorem dX1_init_23 : decode cX1_init 23 = .ok (.newarray .int, 2) := dk_188_10 (dk_at dksX1_init_1 0 rfl rfl)
theorem dX1_init_25 : decode cX1_init 25 = .ok (.putfield 18, 3) := dk_181 0 18 (dk_at dksX1_init_1 2 rfl rfl)
theorem dX1_init_28 : decode cX1_init 28 = .ok (.aload_n 0, 1) := dk_42 (dk_at dksX1_init_1 5 rfl rfl)
theorem dX1_init_29 : decode cX1_init 29 = .ok (.bipush 12, 2) := dk_16 12 (dk_at dksX1_init_1 6 rfl rfl)
theorem dX1_init_31 : decode cX1_init 31 = .ok (.newarray .int, 2) := dk_188_10 (dk_at dksX1_init_1 8 rfl rfl)
theorem dX1_init_33 : decode cX1_init 33 = .ok (.putfield 21, 3) := dk_181 0 21 (dk_at dksX1_init_1 10 rfl rfl)
theorem dX1_init_36 : decode cX1_init 36 = .ok (.aload_n 0, 1) := dk_42 (dk_at dksX1_init_1 13 rfl rfl)
theorem dX1_init_37 : decode cX1_init 37 = .ok (.new 24, 3) := dk_187 0 24 (dk_at dksX1_init_1 14 rfl rfl)
theorem dX1_init_40 : decode cX1_init 40 = .ok (.dup, 1) := dk_89 (dk_at dksX1_init_1 17 rfl rfl)
theorem dX1_init_41 : decode cX1_init 41 = .ok (.iconst 4, 1) := dk_7 (dk_at dksX1_init_1 18 rfl rfl)
theorem dX1_init_42 : decode cX1_init 42 = .ok (.invokespecial 26, 3) := dk_183 0 26 (dk_at dksX1_init_1 19 rfl rfl)
theorem dX1_init_45 : decode cX1_init 45 = .ok (.putfield 29, 3) := dk_181 0 29 (dk_at dksX1_init_2 0 rfl rfl)
theorem dX1_init_48 : decode cX1_init 48 = .ok (.return_, 1) := dk_177 (dk_at dksX1_init_2 3 rfl rfl)
abbrev cX1_isFree : ByteArray := prog_9_method_3_code
def yX1_isFree : MethodName := ⟨RX1, "isFree", "(II)Z"⟩
def dkwX1_isFree_3 : List UInt8 := [3, 172, 132, 3, 1, 167, 255, 198, 4, 172]
abbrev dktX1_isFree_3 : List UInt8 := dkwX1_isFree_3 ++ []
def dkwX1_isFree_2 : List UInt8 := [27, 160, 0, 25, 42, 180, 0, 29, 29, 185, 0, 39, 2, 0, 192, 0, 43, 180, 0, 63, 28, 160, 0, 5]
abbrev dktX1_isFree_2 : List UInt8 := dkwX1_isFree_2 ++ dktX1_isFree_3
def dkwX1_isFree_1 : List UInt8 := [185, 0, 33, 1, 0, 162, 0, 51, 42, 180, 0, 29, 29, 185, 0, 39, 2, 0, 192, 0, 43, 180, 0, 59]
abbrev dktX1_isFree_1 : List UInt8 := dkwX1_isFree_1 ++ dktX1_isFree_2
def dkwX1_isFree_0 : List UInt8 := [42, 180, 0, 9, 27, 46, 28, 184, 0, 55, 153, 0, 5, 3, 172, 3, 62, 29, 42, 180, 0, 29]
abbrev dktX1_isFree_0 : List UInt8 := dkwX1_isFree_0 ++ dktX1_isFree_1
theorem dksX1_isFree_0 : cX1_isFree.data.toList.drop 0 = dktX1_isFree_0 := by decide +kernel
theorem dksX1_isFree_1 : cX1_isFree.data.toList.drop 22 = dktX1_isFree_1 := dk_seg dksX1_isFree_0 22 rfl rfl
theorem dksX1_isFree_2 : cX1_isFree.data.toList.drop 46 = dktX1_isFree_2 := dk_seg dksX1_isFree_1 24 rfl rfl
theorem dksX1_isFree_3 : cX1_isFree.data.toList.drop 70 = dktX1_isFree_3 := dk_seg dksX1_isFree_2 24 rfl rfl
theorem dX1_isFree_0 : decode cX1_isFree 0 = .ok (.aload_n 0, 1) := dk_42 (dk_at dksX1_isFree_0 0 rfl rfl)
theorem dX1_isFree_1 : decode cX1_isFree 1 = .ok (.getfield 9, 3) := dk_180 0 9 (dk_at dksX1_isFree_0 1 rfl rfl)
theorem dX1_isFree_4 : decode cX1_isFree 4 = .ok (.iload_n 1, 1) := dk_27 (dk_at dksX1_isFree_0 4 rfl rfl)
theorem dX1_isFree_5 : decode cX1_isFree 5 = .ok (.iaload, 1) := dk_46 (dk_at dksX1_isFree_0 5 rfl rfl)
theorem dX1_isFree_6 : decode cX1_isFree 6 = .ok (.iload_n 2, 1) := dk_28 (dk_at dksX1_isFree_0 6 rfl rfl)
theorem dX1_isFree_7 : decode cX1_isFree 7 = .ok (.invokestatic 55, 3) := dk_184 0 55 (dk_at dksX1_isFree_0 7 rfl rfl)
theorem dX1_isFree_10 : decode cX1_isFree 10 = .ok (.ifCond .eq 5, 3) := dk_153 0 5 (dk_at dksX1_isFree_0 10 rfl rfl)
theorem dX1_isFree_13 : decode cX1_isFree 13 = .ok (.iconst 0, 1) := dk_3 (dk_at dksX1_isFree_0 13 rfl rfl)
theorem dX1_isFree_14 : decode cX1_isFree 14 = .ok (.ireturn, 1) := dk_172 (dk_at dksX1_isFree_0 14 rfl rfl)
theorem dX1_isFree_15 : decode cX1_isFree 15 = .ok (.iconst 0, 1) := dk_3 (dk_at dksX1_isFree_0 15 rfl rfl)
theorem dX1_isFree_16 : decode cX1_isFree 16 = .ok (.istore_n 3, 1) := dk_62 (dk_at dksX1_isFree_0 16 rfl rfl)
theorem dX1_isFree_17 : decode cX1_isFree 17 = .ok (.iload_n 3, 1) := dk_29 (dk_at dksX1_isFree_0 17 rfl rfl)
theorem dX1_isFree_18 : decode cX1_isFree 18 = .ok (.aload_n 0, 1) := dk_42 (dk_at dksX1_isFree_0 18 rfl rfl)
theorem dX1_isFree_19 : decode cX1_isFree 19 = .ok (.getfield 29, 3) := dk_180 0 29 (dk_at dksX1_isFree_0 19 rfl rfl)
theorem dX1_isFree_22 : decode cX1_isFree 22 = .ok (.invokeinterface 33 1, 5) := by decide +kernel
theorem dX1_isFree_27 : decode cX1_isFree 27 = .ok (.if_icmp .ge 51, 3) := dk_162 0 51 (dk_at dksX1_isFree_1 5 rfl rfl)
theorem dX1_isFree_30 : decode cX1_isFree 30 = .ok (.aload_n 0, 1) := dk_42 (dk_at dksX1_isFree_1 8 rfl rfl)
theorem dX1_isFree_31 : decode cX1_isFree 31 = .ok (.getfield 29, 3) := dk_180 0 29 (dk_at dksX1_isFree_1 9 rfl rfl)
theorem dX1_isFree_34 : decode cX1_isFree 34 = .ok (.iload_n 3, 1) := dk_29 (dk_at dksX1_isFree_1 12 rfl rfl)
theorem dX1_isFree_35 : decode cX1_isFree 35 = .ok (.invokeinterface 39 2, 5) := by decide +kernel
theorem dX1_isFree_40 : decode cX1_isFree 40 = .ok (.checkcast 43, 3) := dk_192 0 43 (dk_at dksX1_isFree_1 18 rfl rfl)
theorem dX1_isFree_43 : decode cX1_isFree 43 = .ok (.getfield 59, 3) := dk_180 0 59 (dk_at dksX1_isFree_1 21 rfl rfl)
theorem dX1_isFree_46 : decode cX1_isFree 46 = .ok (.iload_n 1, 1) := dk_27 (dk_at dksX1_isFree_2 0 rfl rfl)
theorem dX1_isFree_47 : decode cX1_isFree 47 = .ok (.if_icmp .ne 25, 3) := dk_160 0 25 (dk_at dksX1_isFree_2 1 rfl rfl)
theorem dX1_isFree_50 : decode cX1_isFree 50 = .ok (.aload_n 0, 1) := dk_42 (dk_at dksX1_isFree_2 4 rfl rfl)
theorem dX1_isFree_51 : decode cX1_isFree 51 = .ok (.getfield 29, 3) := dk_180 0 29 (dk_at dksX1_isFree_2 5 rfl rfl)
theorem dX1_isFree_54 : decode cX1_isFree 54 = .ok (.iload_n 3, 1) := dk_29 (dk_at dksX1_isFree_2 8 rfl rfl)
theorem dX1_isFree_55 : decode cX1_isFree 55 = .ok (.invokeinterface 39 2, 5) := by decide +kernel
theorem dX1_isFree_60 : decode cX1_isFree 60 = .ok (.checkcast 43, 3) := dk_192 0 43 (dk_at dksX1_isFree_2 14 rfl rfl)
theorem dX1_isFree_63 : decode cX1_isFree 63 = .ok (.getfield 63, 3) := dk_180 0 63 (dk_at dksX1_isFree_2 17 rfl rfl)
theorem dX1_isFree_66 : decode cX1_isFree 66 = .ok (.iload_n 2, 1) := dk_28 (dk_at dksX1_isFree_2 20 rfl rfl)
theorem dX1_isFree_67 : decode cX1_isFree 67 = .ok (.if_icmp .ne 5, 3) := dk_160 0 5 (dk_at dksX1_isFree_2 21 rfl rfl)
theorem dX1_isFree_70 : decode cX1_isFree 70 = .ok (.iconst 0, 1) := dk_3 (dk_at dksX1_isFree_3 0 rfl rfl)
theorem dX1_isFree_71 : decode cX1_isFree 71 = .ok (.ireturn, 1) := dk_172 (dk_at dksX1_isFree_3 1 rfl rfl)
theorem dX1_isFree_72 : decode cX1_isFree 72 = .ok (.iinc 3 1, 3) := dk_132 3 1 (dk_at dksX1_isFree_3 2 rfl rfl)
theorem dX1_isFree_75 : decode cX1_isFree 75 = .ok (.goto (-58), 3) := dk_167 255 198 (dk_at dksX1_isFree_3 5 rfl rfl)
theorem dX1_isFree_78 : decode cX1_isFree 78 = .ok (.iconst 1, 1) := dk_4 (dk_at dksX1_isFree_3 8 rfl rfl)
theorem dX1_isFree_79 : decode cX1_isFree 79 = .ok (.ireturn, 1) := dk_172 (dk_at dksX1_isFree_3 9 rfl rfl)
abbrev cX1_find : ByteArray := prog_9_method_2_code
def yX1_find : MethodName := ⟨RX1, "find", "(Ljava/lang/String;)I"⟩
def dkwX1_find_2 : List UInt8 := [167, 255, 215, 2, 172]
abbrev dktX1_find_2 : List UInt8 := dkwX1_find_2 ++ []
def dkwX1_find_1 : List UInt8 := [185, 0, 39, 2, 0, 192, 0, 43, 180, 0, 45, 43, 182, 0, 49, 153, 0, 5, 28, 172, 132, 2, 1]
abbrev dktX1_find_1 : List UInt8 := dkwX1_find_1 ++ dktX1_find_2
def dkwX1_find_0 : List UInt8 := [3, 61, 28, 42, 180, 0, 29, 185, 0, 33, 1, 0, 162, 0, 34, 42, 180, 0, 29, 28]
abbrev dktX1_find_0 : List UInt8 := dkwX1_find_0 ++ dktX1_find_1
theorem dksX1_find_0 : cX1_find.data.toList.drop 0 = dktX1_find_0 := by decide +kernel
theorem dksX1_find_1 : cX1_find.data.toList.drop 20 = dktX1_find_1 := dk_seg dksX1_find_0 20 rfl rfl
theorem dksX1_find_2 : cX1_find.data.toList.drop 43 = dktX1_find_2 := dk_seg dksX1_find_1 23 rfl rfl
theorem dX1_find_0 : decode cX1_find 0 = .ok (.iconst 0, 1) := dk_3 (dk_at dksX1_find_0 0 rfl rfl)
theorem dX1_find_1 : decode cX1_find 1 = .ok (.istore_n 2, 1) := dk_61 (dk_at dksX1_find_0 1 rfl rfl)
theorem dX1_find_2 : decode cX1_find 2 = .ok (.iload_n 2, 1) := dk_28 (dk_at dksX1_find_0 2 rfl rfl)
theorem dX1_find_3 : decode cX1_find 3 = .ok (.aload_n 0, 1) := dk_42 (dk_at dksX1_find_0 3 rfl rfl)
theorem dX1_find_4 : decode cX1_find 4 = .ok (.getfield 29, 3) := dk_180 0 29 (dk_at dksX1_find_0 4 rfl rfl)
theorem dX1_find_7 : decode cX1_find 7 = .ok (.invokeinterface 33 1, 5) := by decide +kernel
theorem dX1_find_12 : decode cX1_find 12 = .ok (.if_icmp .ge 34, 3) := dk_162 0 34 (dk_at dksX1_find_0 12 rfl rfl)
theorem dX1_find_15 : decode cX1_find 15 = .ok (.aload_n 0, 1) := dk_42 (dk_at dksX1_find_0 15 rfl rfl)
theorem dX1_find_16 : decode cX1_find 16 = .ok (.getfield 29, 3) := dk_180 0 29 (dk_at dksX1_find_0 16 rfl rfl)
theorem dX1_find_19 : decode cX1_find 19 = .ok (.iload_n 2, 1) := dk_28 (dk_at dksX1_find_0 19 rfl rfl)
theorem dX1_find_20 : decode cX1_find 20 = .ok (.invokeinterface 39 2, 5) := by decide +kernel
theorem dX1_find_25 : decode cX1_find 25 = .ok (.checkcast 43, 3) := dk_192 0 43 (dk_at dksX1_find_1 5 rfl rfl)
theorem dX1_find_28 : decode cX1_find 28 = .ok (.getfield 45, 3) := dk_180 0 45 (dk_at dksX1_find_1 8 rfl rfl)
theorem dX1_find_31 : decode cX1_find 31 = .ok (.aload_n 1, 1) := dk_43 (dk_at dksX1_find_1 11 rfl rfl)
theorem dX1_find_32 : decode cX1_find 32 = .ok (.invokevirtual 49, 3) := dk_182 0 49 (dk_at dksX1_find_1 12 rfl rfl)
theorem dX1_find_35 : decode cX1_find 35 = .ok (.ifCond .eq 5, 3) := dk_153 0 5 (dk_at dksX1_find_1 15 rfl rfl)
theorem dX1_find_38 : decode cX1_find 38 = .ok (.iload_n 2, 1) := dk_28 (dk_at dksX1_find_1 18 rfl rfl)
theorem dX1_find_39 : decode cX1_find 39 = .ok (.ireturn, 1) := dk_172 (dk_at dksX1_find_1 19 rfl rfl)
theorem dX1_find_40 : decode cX1_find 40 = .ok (.iinc 2 1, 3) := dk_132 2 1 (dk_at dksX1_find_1 20 rfl rfl)
theorem dX1_find_43 : decode cX1_find 43 = .ok (.goto (-41), 3) := dk_167 255 215 (dk_at dksX1_find_2 0 rfl rfl)
theorem dX1_find_46 : decode cX1_find 46 = .ok (.iconst (-1), 1) := dk_2 (dk_at dksX1_find_2 3 rfl rfl)
theorem dX1_find_47 : decode cX1_find 47 = .ok (.ireturn, 1) := dk_172 (dk_at dksX1_find_2 4 rfl rfl)
theorem q153 : (Jvm.Cond.initialized "MarginFolk$Folio") ∈ lw_all := lw_g (lw_at lw_m1 2 rfl) rfl
theorem q199 : (Jvm.Cond.instantiable "MarginFolk$Folio" (15 : Nat)) ∈ lw_all := lw_g (lw_at lw_m1 48 rfl) rfl
theorem q201 : (Jvm.Cond.instanceMethod ({ cls := "MarginFolk$Folio", name := "<init>", desc := "()V" } : Jvm.MethodName)) ∈ lw_all := lw_g (lw_at lw_m1 50 rfl) rfl
theorem q202 : (Jvm.Cond.code ({ cls := "MarginFolk$Folio", name := "<init>", desc := "()V" } : Jvm.MethodName) prog_9_method_1_code (1 : Nat) (Option.none : Option Jvm.ClassFile.FieldType)) ∈ lw_all := lw_g (lw_at lw_m1 51 rfl) rfl
theorem q203 : (Jvm.Cond.methodLink "MarginFolk$Folio" (3 : Nat) ({ cls := "java/lang/Object", name := "<init>", desc := "()V" } : Jvm.MethodName)) ∈ lw_all := lw_g (lw_at lw_m1 52 rfl) rfl
theorem q204 : (Jvm.Cond.classLink "MarginFolk$Folio" (24 : Nat) "java/util/ArrayList") ∈ lw_all := lw_g (lw_at lw_m1 53 rfl) rfl
theorem q206 : (Jvm.Cond.methodLink "MarginFolk$Folio" (26 : Nat) ({ cls := "java/util/ArrayList", name := "<init>", desc := "(I)V" } : Jvm.MethodName)) ∈ lw_all := lw_g (lw_at lw_m1 55 rfl) rfl
theorem q245 : (Jvm.Cond.fieldLink "MarginFolk$Folio" (9 : Nat) "MarginFolk$Folio" "gloss" "[I") ∈ lw_all := lw_g (lw_at lw_m1 94 rfl) rfl
theorem q248 : (Jvm.Cond.fieldLink "MarginFolk$Folio" (15 : Nat) "MarginFolk$Folio" "wormFrom" "[I") ∈ lw_all := lw_g (lw_at lw_m1 97 rfl) rfl
theorem q251 : (Jvm.Cond.fieldLink "MarginFolk$Folio" (18 : Nat) "MarginFolk$Folio" "wormTo" "[I") ∈ lw_all := lw_g (lw_at lw_m1 100 rfl) rfl
theorem q254 : (Jvm.Cond.fieldLink "MarginFolk$Folio" (21 : Nat) "MarginFolk$Folio" "wormCell" "[I") ∈ lw_all := lw_g (lw_at lw_m1 103 rfl) rfl
theorem q257 : (Jvm.Cond.fieldLink "MarginFolk$Folio" (29 : Nat) "MarginFolk$Folio" "beings" "Ljava/util/List;") ∈ lw_all := lw_g (lw_at lw_m1 106 rfl) rfl
theorem q268 : (Jvm.Cond.lays "MarginFolk$Folio" "MarginFolk$Folio" "statements" "I") ∈ lw_all := lw_g (lw_at lw_m1 117 rfl) rfl
theorem q269 : (Jvm.Cond.soleField "MarginFolk$Folio" "statements") ∈ lw_all := lw_g (lw_at lw_m1 118 rfl) rfl
theorem q270 : (Jvm.Cond.lays "MarginFolk$Folio" "MarginFolk$Folio" "leaves" "I") ∈ lw_all := lw_g (lw_at lw_m1 119 rfl) rfl
theorem q271 : (Jvm.Cond.soleField "MarginFolk$Folio" "leaves") ∈ lw_all := lw_g (lw_at lw_m1 120 rfl) rfl
theorem q272 : (Jvm.Cond.lays "MarginFolk$Folio" "MarginFolk$Folio" "cells" "I") ∈ lw_all := lw_g (lw_at lw_m1 121 rfl) rfl
theorem q273 : (Jvm.Cond.soleField "MarginFolk$Folio" "cells") ∈ lw_all := lw_g (lw_at lw_m1 122 rfl) rfl
theorem q274 : (Jvm.Cond.lays "MarginFolk$Folio" "MarginFolk$Folio" "glosses" "I") ∈ lw_all := lw_g (lw_at lw_m1 123 rfl) rfl
theorem q275 : (Jvm.Cond.soleField "MarginFolk$Folio" "glosses") ∈ lw_all := lw_g (lw_at lw_m1 124 rfl) rfl
theorem q276 : (Jvm.Cond.lays "MarginFolk$Folio" "MarginFolk$Folio" "worms" "I") ∈ lw_all := lw_g (lw_at lw_m1 125 rfl) rfl
theorem q277 : (Jvm.Cond.soleField "MarginFolk$Folio" "worms") ∈ lw_all := lw_g (lw_at lw_m1 126 rfl) rfl
theorem q278 : (Jvm.Cond.lays "MarginFolk$Folio" "MarginFolk$Folio" "thumb" "I") ∈ lw_all := lw_g (lw_at lw_m1 127 rfl) rfl
theorem q279 : (Jvm.Cond.soleField "MarginFolk$Folio" "thumb") ∈ lw_all := lw_g (lw_at lw_m1 128 rfl) rfl
theorem q280 : (Jvm.Cond.laysFinal "MarginFolk$Folio" "MarginFolk$Folio" "gloss" "[I") ∈ lw_all := lw_g (lw_at lw_m1 129 rfl) rfl
theorem q281 : (Jvm.Cond.soleField "MarginFolk$Folio" "gloss") ∈ lw_all := lw_g (lw_at lw_m1 130 rfl) rfl
theorem q282 : (Jvm.Cond.laysFinal "MarginFolk$Folio" "MarginFolk$Folio" "wormFrom" "[I") ∈ lw_all := lw_g (lw_at lw_m1 131 rfl) rfl
theorem q283 : (Jvm.Cond.soleField "MarginFolk$Folio" "wormFrom") ∈ lw_all := lw_g (lw_at lw_m1 132 rfl) rfl
theorem q284 : (Jvm.Cond.laysFinal "MarginFolk$Folio" "MarginFolk$Folio" "wormTo" "[I") ∈ lw_all := lw_g (lw_at lw_m1 133 rfl) rfl
theorem q285 : (Jvm.Cond.soleField "MarginFolk$Folio" "wormTo") ∈ lw_all := lw_g (lw_at lw_m1 134 rfl) rfl
theorem q286 : (Jvm.Cond.laysFinal "MarginFolk$Folio" "MarginFolk$Folio" "wormCell" "[I") ∈ lw_all := lw_g (lw_at lw_m1 135 rfl) rfl
theorem q287 : (Jvm.Cond.soleField "MarginFolk$Folio" "wormCell") ∈ lw_all := lw_g (lw_at lw_m1 136 rfl) rfl
theorem q288 : (Jvm.Cond.laysFinal "MarginFolk$Folio" "MarginFolk$Folio" "beings" "Ljava/util/List;") ∈ lw_all := lw_g (lw_at lw_m1 137 rfl) rfl
theorem q289 : (Jvm.Cond.soleField "MarginFolk$Folio" "beings") ∈ lw_all := lw_g (lw_at lw_m1 138 rfl) rfl
theorem q290 : (Jvm.Cond.lays "MarginFolk$Folio" "MarginFolk$Folio" "opens" "LMarginFolk$Value;") ∈ lw_all := lw_g (lw_at lw_m1 139 rfl) rfl
theorem q291 : (Jvm.Cond.soleField "MarginFolk$Folio" "opens") ∈ lw_all := lw_g (lw_at lw_m1 140 rfl) rfl
theorem q292 : (Jvm.Cond.lays "MarginFolk$Folio" "MarginFolk$Folio" "corn" "LMarginFolk$Value;") ∈ lw_all := lw_g (lw_at lw_m1 141 rfl) rfl
theorem q293 : (Jvm.Cond.soleField "MarginFolk$Folio" "corn") ∈ lw_all := lw_g (lw_at lw_m1 142 rfl) rfl
theorem q294 : (Jvm.Cond.lays "MarginFolk$Folio" "MarginFolk$Folio" "toll" "LMarginFolk$Value;") ∈ lw_all := lw_g (lw_at lw_m1 143 rfl) rfl
theorem q295 : (Jvm.Cond.soleField "MarginFolk$Folio" "toll") ∈ lw_all := lw_g (lw_at lw_m1 144 rfl) rfl
theorem q296 : (Jvm.Cond.lays "MarginFolk$Folio" "MarginFolk$Folio" "steps" "LMarginFolk$Test;") ∈ lw_all := lw_g (lw_at lw_m1 145 rfl) rfl
theorem q297 : (Jvm.Cond.soleField "MarginFolk$Folio" "steps") ∈ lw_all := lw_g (lw_at lw_m1 146 rfl) rfl
theorem q298 : (Jvm.Cond.superclass "MarginFolk$Folio" "java/lang/Object") ∈ lw_all := lw_g (lw_at lw_m1 147 rfl) rfl
theorem q789 : (Jvm.Cond.instanceMethod ({ cls := "MarginFolk$Folio", name := "isFree", desc := "(II)Z" } : Jvm.MethodName)) ∈ lw_all := lw_g (lw_at lw_m3 158 rfl) rfl
theorem q790 : (Jvm.Cond.selects "MarginFolk$Folio" ({ cls := "MarginFolk$Folio", name := "isFree", desc := "(II)Z" } : Jvm.MethodName) ({ cls := "MarginFolk$Folio", name := "isFree", desc := "(II)Z" } : Jvm.MethodName)) ∈ lw_all := lw_g (lw_at lw_m3 159 rfl) rfl
theorem q791 : (Jvm.Cond.code ({ cls := "MarginFolk$Folio", name := "isFree", desc := "(II)Z" } : Jvm.MethodName) prog_9_method_3_code (4 : Nat) (Option.some Jvm.ClassFile.FieldType.boolean)) ∈ lw_all := lw_g (lw_at lw_m3 160 rfl) rfl
theorem q792 : (Jvm.Cond.methodLinkNest "MarginFolk$Folio" (55 : Nat) ({ cls := "MarginFolk", name := "has", desc := "(II)Z" } : Jvm.MethodName) "MarginFolk") ∈ lw_tbl := lw_at lw_m3 161 rfl
theorem q795 : (Jvm.Cond.interfaceEntry "MarginFolk$Folio" (33 : Nat)) ∈ lw_tbl := lw_at lw_m3 164 rfl
theorem q796 : (Jvm.Cond.methodLink "MarginFolk$Folio" (33 : Nat) ({ cls := "java/util/List", name := "size", desc := "()I" } : Jvm.MethodName)) ∈ lw_all := lw_g (lw_at lw_m3 165 rfl) rfl
theorem q805 : (Jvm.Cond.interfaceEntry "MarginFolk$Folio" (39 : Nat)) ∈ lw_tbl := lw_at lw_m3 174 rfl
theorem q806 : (Jvm.Cond.methodLink "MarginFolk$Folio" (39 : Nat) ({ cls := "java/util/List", name := "get", desc := "(I)Ljava/lang/Object;" } : Jvm.MethodName)) ∈ lw_all := lw_g (lw_at lw_m3 175 rfl) rfl
theorem q824 : (Jvm.Cond.classLink "MarginFolk$Folio" (43 : Nat) "MarginFolk$Being") ∈ lw_all := lw_g (lw_at lw_m3 193 rfl) rfl
theorem q846 : (Jvm.Cond.instanceMethod ({ cls := "MarginFolk$Folio", name := "find", desc := "(Ljava/lang/String;)I" } : Jvm.MethodName)) ∈ lw_all := lw_g (lw_at lw_m3 215 rfl) rfl
theorem q847 : (Jvm.Cond.selects "MarginFolk$Folio" ({ cls := "MarginFolk$Folio", name := "find", desc := "(Ljava/lang/String;)I" } : Jvm.MethodName) ({ cls := "MarginFolk$Folio", name := "find", desc := "(Ljava/lang/String;)I" } : Jvm.MethodName)) ∈ lw_all := lw_g (lw_at lw_m3 216 rfl) rfl
theorem q848 : (Jvm.Cond.code ({ cls := "MarginFolk$Folio", name := "find", desc := "(Ljava/lang/String;)I" } : Jvm.MethodName) prog_9_method_2_code (3 : Nat) (Option.some Jvm.ClassFile.FieldType.int)) ∈ lw_all := lw_g (lw_at lw_m3 217 rfl) rfl
theorem q849 : (Jvm.Cond.methodLink "MarginFolk$Folio" (49 : Nat) ({ cls := "java/lang/String", name := "equals", desc := "(Ljava/lang/Object;)Z" } : Jvm.MethodName)) ∈ lw_all := lw_g (lw_at lw_m3 218 rfl) rfl
theorem q860 : (Jvm.Cond.fieldLinkNest "MarginFolk$Folio" (45 : Nat) "MarginFolk$Being" "name" "Ljava/lang/String;" "MarginFolk") ∈ lw_tbl := lw_at lw_m3 229 rfl
theorem q863 : (Jvm.Cond.fieldLinkNest "MarginFolk$Folio" (59 : Nat) "MarginFolk$Being" "leaf" "I" "MarginFolk") ∈ lw_tbl := lw_at lw_m3 232 rfl
theorem q866 : (Jvm.Cond.fieldLinkNest "MarginFolk$Folio" (63 : Nat) "MarginFolk$Being" "cell" "I" "MarginFolk") ∈ lw_tbl := lw_at lw_m3 235 rfl
theorem q926 : (Jvm.Cond.selects "MarginFolk$Folio" ({ cls := "java/lang/Object", name := "getClass", desc := "()Ljava/lang/Class;" } : Jvm.MethodName) ({ cls := "java/lang/Object", name := "getClass", desc := "()Ljava/lang/Class;" } : Jvm.MethodName)) ∈ lw_all := lw_g (lw_at lw_m4 55 rfl) rfl
theorem q2549 : (Jvm.Cond.castable "MarginFolk$Folio" "java/lang/Object") ∈ lw_tbl := lw_at lw_m10 238 rfl
theorem in_X1 : ∀ w ∈ wsX10, w ∈ lw_all := lw_in wsX10 [268, 270, 272, 274, 276, 278, 280, 282, 284, 286, 288, 290, 292, 294, 296] (by decide +kernel) (by decide +kernel)
/-! MarginFolk$Reader -/
set_option maxRecDepth 100000
def RX2 : String := "MarginFolk$Reader"
def TX2 : u_T := fun k => match k with
  | 0 => ("MarginFolk$Reader", "fault", "LMarginFolk$Fault;", true)
  | 1 => ("MarginFolk$Reader", "size", "I", false)
  | 2 => ("MarginFolk$Reader", "at", "I", false)
  | 3 => ("MarginFolk$Reader", "from", "I", false)
  | 4 => ("MarginFolk$Reader", "open", "I", false)
  | 5 => ("MarginFolk$Reader", "context", "I", false)
  | 6 => ("MarginFolk$Reader", "to", "LMarginFolk$Folio;", false)
  | _ => ("MarginFolk$Reader", "this$0", "LMarginFolk;", true)
def tyX2 : Nat → FieldType := fun k => match k with
  | 0 => .object "MarginFolk$Fault"
  | 1 => .int
  | 2 => .int
  | 3 => .int
  | 4 => .int
  | 5 => .int
  | 6 => .object "MarginFolk$Folio"
  | _ => .object "MarginFolk"
abbrev wsX20 : List Cond := u_ws RX2 TX2 8
theorem nmX2 : ∀ a, a < 8 → ∀ b, b < 8 → a ≠ b → (TX2 a).2.1 ≠ (TX2 b).2.1 := by decide +kernel
theorem tyX2_ok : ∀ k, k < 8 → parseFieldDescriptor (TX2 k).2.2.1 = some (tyX2 k) := by decide +kernel
abbrev cX2_init : ByteArray := prog_15_method_1_code
def yX2_init : MethodName := ⟨RX2, "<init>", "(LMarginFolk;)V"⟩
def dkwX2_init_0 : List UInt8 := [42, 43, 181, 0, 3, 42, 183, 0, 9, 42, 187, 0, 15, 89, 183, 0, 17, 181, 0, 18, 177]
abbrev dktX2_init_0 : List UInt8 := dkwX2_init_0 ++ []
theorem dksX2_init_0 : cX2_init.data.toList.drop 0 = dktX2_init_0 := by decide +kernel
theorem dX2_init_0 : decode cX2_init 0 = .ok (.aload_n 0, 1) := dk_42 (dk_at dksX2_init_0 0 rfl rfl)
theorem dX2_init_1 : decode cX2_init 1 = .ok (.aload_n 1, 1) := dk_43 (dk_at dksX2_init_0 1 rfl rfl)
theorem dX2_init_2 : decode cX2_init 2 = .ok (.putfield 3, 3) := dk_181 0 3 (dk_at dksX2_init_0 2 rfl rfl)
theorem dX2_init_5 : decode cX2_init 5 = .ok (.aload_n 0, 1) := dk_42 (dk_at dksX2_init_0 5 rfl rfl)
theorem dX2_init_6 : decode cX2_init 6 = .ok (.invokespecial 9, 3) := dk_183 0 9 (dk_at dksX2_init_0 6 rfl rfl)
theorem dX2_init_9 : decode cX2_init 9 = .ok (.aload_n 0, 1) := dk_42 (dk_at dksX2_init_0 9 rfl rfl)
theorem dX2_init_10 : decode cX2_init 10 = .ok (.new 15, 3) := dk_187 0 15 (dk_at dksX2_init_0 10 rfl rfl)
theorem dX2_init_13 : decode cX2_init 13 = .ok (.dup, 1) := dk_89 (dk_at dksX2_init_0 13 rfl rfl)
theorem dX2_init_14 : decode cX2_init 14 = .ok (.invokespecial 17, 3) := dk_183 0 17 (dk_at dksX2_init_0 14 rfl rfl)
theorem dX2_init_17 : decode cX2_init 17 = .ok (.putfield 18, 3) := dk_181 0 18 (dk_at dksX2_init_0 17 rfl rfl)
theorem dX2_init_20 : decode cX2_init 20 = .ok (.return_, 1) := dk_177 (dk_at dksX2_init_0 20 rfl rfl)
abbrev cX2_all : ByteArray := prog_15_method_16_code
def yX2_all : MethodName := ⟨RX2, "all", "(I)LMarginFolk$Folio;"⟩
def dkwX2_all_7 : List UInt8 := [180, 0, 100, 176]
abbrev dktX2_all_7 : List UInt8 := dkwX2_all_7 ++ []
def dkwX2_all_6 : List UInt8 := [154, 0, 12, 42, 44, 42, 180, 0, 61, 182, 0, 141, 42, 16, 59, 182, 0, 126, 167, 255, 178, 42]
abbrev dktX2_all_6 : List UInt8 := dkwX2_all_6 ++ dktX2_all_7
def dkwX2_all_5 : List UInt8 := [180, 0, 130, 4, 96, 181, 0, 130, 42, 182, 0, 70, 77, 42, 44, 42, 180, 0, 61, 182, 0, 137]
abbrev dktX2_all_5 : List UInt8 := dkwX2_all_5 ++ dktX2_all_6
def dkwX2_all_4 : List UInt8 := [16, 80, 160, 0, 7, 4, 167, 0, 4, 3, 42, 180, 0, 36, 182, 0, 133, 42, 180, 0, 100, 89]
abbrev dktX2_all_4 : List UInt8 := dkwX2_all_4 ++ dktX2_all_5
def dkwX2_all_3 : List UInt8 := [180, 0, 100, 4, 181, 0, 130, 42, 182, 0, 43, 2, 159, 0, 76, 42, 42, 180, 0, 100, 180, 0, 130]
abbrev dktX2_all_3 : List UInt8 := dkwX2_all_3 ++ dktX2_all_4
def dkwX2_all_2 : List UInt8 := [180, 0, 100, 42, 18, 122, 5, 16, 8, 182, 0, 123, 181, 0, 109, 42, 16, 59, 182, 0, 126, 42]
abbrev dktX2_all_2 : List UInt8 := dkwX2_all_2 ++ dktX2_all_3
def dkwX2_all_1 : List UInt8 := [181, 0, 117, 42, 18, 120, 182, 0, 93, 42, 180, 0, 100, 42, 4, 16, 6, 182, 0, 96, 181, 0, 104, 42]
abbrev dktX2_all_1 : List UInt8 := dkwX2_all_1 ++ dktX2_all_2
def dkwX2_all_0 : List UInt8 := [42, 187, 0, 105, 89, 183, 0, 116, 181, 0, 100, 42, 27, 181, 0, 29, 42, 3, 181, 0, 36, 42, 3]
abbrev dktX2_all_0 : List UInt8 := dkwX2_all_0 ++ dktX2_all_1
theorem dksX2_all_0 : cX2_all.data.toList.drop 0 = dktX2_all_0 := by decide +kernel
theorem dksX2_all_1 : cX2_all.data.toList.drop 23 = dktX2_all_1 := dk_seg dksX2_all_0 23 rfl rfl
theorem dksX2_all_2 : cX2_all.data.toList.drop 47 = dktX2_all_2 := dk_seg dksX2_all_1 24 rfl rfl
theorem dksX2_all_3 : cX2_all.data.toList.drop 69 = dktX2_all_3 := dk_seg dksX2_all_2 22 rfl rfl
theorem dksX2_all_4 : cX2_all.data.toList.drop 92 = dktX2_all_4 := dk_seg dksX2_all_3 23 rfl rfl
theorem dksX2_all_5 : cX2_all.data.toList.drop 114 = dktX2_all_5 := dk_seg dksX2_all_4 22 rfl rfl
theorem dksX2_all_6 : cX2_all.data.toList.drop 136 = dktX2_all_6 := dk_seg dksX2_all_5 22 rfl rfl
theorem dksX2_all_7 : cX2_all.data.toList.drop 158 = dktX2_all_7 := dk_seg dksX2_all_6 22 rfl rfl
theorem dX2_all_0 : decode cX2_all 0 = .ok (.aload_n 0, 1) := dk_42 (dk_at dksX2_all_0 0 rfl rfl)
theorem dX2_all_1 : decode cX2_all 1 = .ok (.new 105, 3) := dk_187 0 105 (dk_at dksX2_all_0 1 rfl rfl)
theorem dX2_all_4 : decode cX2_all 4 = .ok (.dup, 1) := dk_89 (dk_at dksX2_all_0 4 rfl rfl)
theorem dX2_all_5 : decode cX2_all 5 = .ok (.invokespecial 116, 3) := dk_183 0 116 (dk_at dksX2_all_0 5 rfl rfl)
theorem dX2_all_8 : decode cX2_all 8 = .ok (.putfield 100, 3) := dk_181 0 100 (dk_at dksX2_all_0 8 rfl rfl)
theorem dX2_all_11 : decode cX2_all 11 = .ok (.aload_n 0, 1) := dk_42 (dk_at dksX2_all_0 11 rfl rfl)
theorem dX2_all_12 : decode cX2_all 12 = .ok (.iload_n 1, 1) := dk_27 (dk_at dksX2_all_0 12 rfl rfl)
theorem dX2_all_13 : decode cX2_all 13 = .ok (.putfield 29, 3) := dk_181 0 29 (dk_at dksX2_all_0 13 rfl rfl)
theorem dX2_all_16 : decode cX2_all 16 = .ok (.aload_n 0, 1) := dk_42 (dk_at dksX2_all_0 16 rfl rfl)
theorem dX2_all_17 : decode cX2_all 17 = .ok (.iconst 0, 1) := dk_3 (dk_at dksX2_all_0 17 rfl rfl)
theorem dX2_all_18 : decode cX2_all 18 = .ok (.putfield 36, 3) := dk_181 0 36 (dk_at dksX2_all_0 18 rfl rfl)
theorem dX2_all_21 : decode cX2_all 21 = .ok (.aload_n 0, 1) := dk_42 (dk_at dksX2_all_0 21 rfl rfl)
theorem dX2_all_22 : decode cX2_all 22 = .ok (.iconst 0, 1) := dk_3 (dk_at dksX2_all_0 22 rfl rfl)
theorem dX2_all_23 : decode cX2_all 23 = .ok (.putfield 117, 3) := dk_181 0 117 (dk_at dksX2_all_1 0 rfl rfl)
theorem dX2_all_26 : decode cX2_all 26 = .ok (.aload_n 0, 1) := dk_42 (dk_at dksX2_all_1 3 rfl rfl)
theorem dX2_all_27 : decode cX2_all 27 = .ok (.ldc 120, 2) := dk_18 120 (dk_at dksX2_all_1 4 rfl rfl)
theorem dX2_all_29 : decode cX2_all 29 = .ok (.invokevirtual 93, 3) := dk_182 0 93 (dk_at dksX2_all_1 6 rfl rfl)
theorem dX2_all_32 : decode cX2_all 32 = .ok (.aload_n 0, 1) := dk_42 (dk_at dksX2_all_1 9 rfl rfl)
theorem dX2_all_33 : decode cX2_all 33 = .ok (.getfield 100, 3) := dk_180 0 100 (dk_at dksX2_all_1 10 rfl rfl)
theorem dX2_all_36 : decode cX2_all 36 = .ok (.aload_n 0, 1) := dk_42 (dk_at dksX2_all_1 13 rfl rfl)
theorem dX2_all_37 : decode cX2_all 37 = .ok (.iconst 1, 1) := dk_4 (dk_at dksX2_all_1 14 rfl rfl)
theorem dX2_all_38 : decode cX2_all 38 = .ok (.bipush 6, 2) := dk_16 6 (dk_at dksX2_all_1 15 rfl rfl)
theorem dX2_all_40 : decode cX2_all 40 = .ok (.invokevirtual 96, 3) := dk_182 0 96 (dk_at dksX2_all_1 17 rfl rfl)
theorem dX2_all_43 : decode cX2_all 43 = .ok (.putfield 104, 3) := dk_181 0 104 (dk_at dksX2_all_1 20 rfl rfl)
theorem dX2_all_46 : decode cX2_all 46 = .ok (.aload_n 0, 1) := dk_42 (dk_at dksX2_all_1 23 rfl rfl)
theorem dX2_all_47 : decode cX2_all 47 = .ok (.getfield 100, 3) := dk_180 0 100 (dk_at dksX2_all_2 0 rfl rfl)
theorem dX2_all_50 : decode cX2_all 50 = .ok (.aload_n 0, 1) := dk_42 (dk_at dksX2_all_2 3 rfl rfl)
theorem dX2_all_51 : decode cX2_all 51 = .ok (.ldc 122, 2) := dk_18 122 (dk_at dksX2_all_2 4 rfl rfl)
theorem dX2_all_53 : decode cX2_all 53 = .ok (.iconst 2, 1) := dk_5 (dk_at dksX2_all_2 6 rfl rfl)
theorem dX2_all_54 : decode cX2_all 54 = .ok (.bipush 8, 2) := dk_16 8 (dk_at dksX2_all_2 7 rfl rfl)
theorem dX2_all_56 : decode cX2_all 56 = .ok (.invokevirtual 123, 3) := dk_182 0 123 (dk_at dksX2_all_2 9 rfl rfl)
theorem dX2_all_59 : decode cX2_all 59 = .ok (.putfield 109, 3) := dk_181 0 109 (dk_at dksX2_all_2 12 rfl rfl)
theorem dX2_all_62 : decode cX2_all 62 = .ok (.aload_n 0, 1) := dk_42 (dk_at dksX2_all_2 15 rfl rfl)
theorem dX2_all_63 : decode cX2_all 63 = .ok (.bipush 59, 2) := dk_16 59 (dk_at dksX2_all_2 16 rfl rfl)
theorem dX2_all_65 : decode cX2_all 65 = .ok (.invokevirtual 126, 3) := dk_182 0 126 (dk_at dksX2_all_2 18 rfl rfl)
theorem dX2_all_68 : decode cX2_all 68 = .ok (.aload_n 0, 1) := dk_42 (dk_at dksX2_all_2 21 rfl rfl)
theorem dX2_all_69 : decode cX2_all 69 = .ok (.getfield 100, 3) := dk_180 0 100 (dk_at dksX2_all_3 0 rfl rfl)
theorem dX2_all_72 : decode cX2_all 72 = .ok (.iconst 1, 1) := dk_4 (dk_at dksX2_all_3 3 rfl rfl)
theorem dX2_all_73 : decode cX2_all 73 = .ok (.putfield 130, 3) := dk_181 0 130 (dk_at dksX2_all_3 4 rfl rfl)
theorem dX2_all_76 : decode cX2_all 76 = .ok (.aload_n 0, 1) := dk_42 (dk_at dksX2_all_3 7 rfl rfl)
theorem dX2_all_77 : decode cX2_all 77 = .ok (.invokevirtual 43, 3) := dk_182 0 43 (dk_at dksX2_all_3 8 rfl rfl)
theorem dX2_all_80 : decode cX2_all 80 = .ok (.iconst (-1), 1) := dk_2 (dk_at dksX2_all_3 11 rfl rfl)
theorem dX2_all_81 : decode cX2_all 81 = .ok (.if_icmp .eq 76, 3) := dk_159 0 76 (dk_at dksX2_all_3 12 rfl rfl)
theorem dX2_all_84 : decode cX2_all 84 = .ok (.aload_n 0, 1) := dk_42 (dk_at dksX2_all_3 15 rfl rfl)
theorem dX2_all_85 : decode cX2_all 85 = .ok (.aload_n 0, 1) := dk_42 (dk_at dksX2_all_3 16 rfl rfl)
theorem dX2_all_86 : decode cX2_all 86 = .ok (.getfield 100, 3) := dk_180 0 100 (dk_at dksX2_all_3 17 rfl rfl)
theorem dX2_all_89 : decode cX2_all 89 = .ok (.getfield 130, 3) := dk_180 0 130 (dk_at dksX2_all_3 20 rfl rfl)
theorem dX2_all_92 : decode cX2_all 92 = .ok (.bipush 80, 2) := dk_16 80 (dk_at dksX2_all_4 0 rfl rfl)
theorem dX2_all_94 : decode cX2_all 94 = .ok (.if_icmp .ne 7, 3) := dk_160 0 7 (dk_at dksX2_all_4 2 rfl rfl)
theorem dX2_all_97 : decode cX2_all 97 = .ok (.iconst 1, 1) := dk_4 (dk_at dksX2_all_4 5 rfl rfl)
theorem dX2_all_98 : decode cX2_all 98 = .ok (.goto 4, 3) := dk_167 0 4 (dk_at dksX2_all_4 6 rfl rfl)
theorem dX2_all_101 : decode cX2_all 101 = .ok (.iconst 0, 1) := dk_3 (dk_at dksX2_all_4 9 rfl rfl)
theorem dX2_all_102 : decode cX2_all 102 = .ok (.aload_n 0, 1) := dk_42 (dk_at dksX2_all_4 10 rfl rfl)
theorem dX2_all_103 : decode cX2_all 103 = .ok (.getfield 36, 3) := dk_180 0 36 (dk_at dksX2_all_4 11 rfl rfl)
theorem dX2_all_106 : decode cX2_all 106 = .ok (.invokevirtual 133, 3) := dk_182 0 133 (dk_at dksX2_all_4 14 rfl rfl)
theorem dX2_all_109 : decode cX2_all 109 = .ok (.aload_n 0, 1) := dk_42 (dk_at dksX2_all_4 17 rfl rfl)
theorem dX2_all_110 : decode cX2_all 110 = .ok (.getfield 100, 3) := dk_180 0 100 (dk_at dksX2_all_4 18 rfl rfl)
theorem dX2_all_113 : decode cX2_all 113 = .ok (.dup, 1) := dk_89 (dk_at dksX2_all_4 21 rfl rfl)
theorem dX2_all_114 : decode cX2_all 114 = .ok (.getfield 130, 3) := dk_180 0 130 (dk_at dksX2_all_5 0 rfl rfl)
theorem dX2_all_117 : decode cX2_all 117 = .ok (.iconst 1, 1) := dk_4 (dk_at dksX2_all_5 3 rfl rfl)
theorem dX2_all_118 : decode cX2_all 118 = .ok (.iadd, 1) := dk_96 (dk_at dksX2_all_5 4 rfl rfl)
theorem dX2_all_119 : decode cX2_all 119 = .ok (.putfield 130, 3) := dk_181 0 130 (dk_at dksX2_all_5 5 rfl rfl)
theorem dX2_all_122 : decode cX2_all 122 = .ok (.aload_n 0, 1) := dk_42 (dk_at dksX2_all_5 8 rfl rfl)
theorem dX2_all_123 : decode cX2_all 123 = .ok (.invokevirtual 70, 3) := dk_182 0 70 (dk_at dksX2_all_5 9 rfl rfl)
theorem dX2_all_126 : decode cX2_all 126 = .ok (.astore_n 2, 1) := dk_77 (dk_at dksX2_all_5 12 rfl rfl)
theorem dX2_all_127 : decode cX2_all 127 = .ok (.aload_n 0, 1) := dk_42 (dk_at dksX2_all_5 13 rfl rfl)
theorem dX2_all_128 : decode cX2_all 128 = .ok (.aload_n 2, 1) := dk_44 (dk_at dksX2_all_5 14 rfl rfl)
theorem dX2_all_129 : decode cX2_all 129 = .ok (.aload_n 0, 1) := dk_42 (dk_at dksX2_all_5 15 rfl rfl)
theorem dX2_all_130 : decode cX2_all 130 = .ok (.getfield 61, 3) := dk_180 0 61 (dk_at dksX2_all_5 16 rfl rfl)
theorem dX2_all_133 : decode cX2_all 133 = .ok (.invokevirtual 137, 3) := dk_182 0 137 (dk_at dksX2_all_5 19 rfl rfl)
theorem dX2_all_136 : decode cX2_all 136 = .ok (.ifCond .ne 12, 3) := dk_154 0 12 (dk_at dksX2_all_6 0 rfl rfl)
theorem dX2_all_139 : decode cX2_all 139 = .ok (.aload_n 0, 1) := dk_42 (dk_at dksX2_all_6 3 rfl rfl)
theorem dX2_all_140 : decode cX2_all 140 = .ok (.aload_n 2, 1) := dk_44 (dk_at dksX2_all_6 4 rfl rfl)
theorem dX2_all_141 : decode cX2_all 141 = .ok (.aload_n 0, 1) := dk_42 (dk_at dksX2_all_6 5 rfl rfl)
theorem dX2_all_142 : decode cX2_all 142 = .ok (.getfield 61, 3) := dk_180 0 61 (dk_at dksX2_all_6 6 rfl rfl)
theorem dX2_all_145 : decode cX2_all 145 = .ok (.invokevirtual 141, 3) := dk_182 0 141 (dk_at dksX2_all_6 9 rfl rfl)
theorem dX2_all_148 : decode cX2_all 148 = .ok (.aload_n 0, 1) := dk_42 (dk_at dksX2_all_6 12 rfl rfl)
theorem dX2_all_149 : decode cX2_all 149 = .ok (.bipush 59, 2) := dk_16 59 (dk_at dksX2_all_6 13 rfl rfl)
theorem dX2_all_151 : decode cX2_all 151 = .ok (.invokevirtual 126, 3) := dk_182 0 126 (dk_at dksX2_all_6 15 rfl rfl)
theorem dX2_all_154 : decode cX2_all 154 = .ok (.goto (-78), 3) := dk_167 255 178 (dk_at dksX2_all_6 18 rfl rfl)
theorem dX2_all_157 : decode cX2_all 157 = .ok (.aload_n 0, 1) := dk_42 (dk_at dksX2_all_6 21 rfl rfl)
theorem dX2_all_158 : decode cX2_all 158 = .ok (.getfield 100, 3) := dk_180 0 100 (dk_at dksX2_all_7 0 rfl rfl)
theorem dX2_all_161 : decode cX2_all 161 = .ok (.areturn, 1) := dk_176 (dk_at dksX2_all_7 3 rfl rfl)
abbrev cX2_word : ByteArray := prog_15_method_8_code
def yX2_word : MethodName := ⟨RX2, "word", "(Ljava/lang/String;)V"⟩
def dkwX2_word_0 : List UInt8 := [42, 182, 0, 70, 43, 182, 0, 74, 154, 0, 13, 42, 4, 42, 180, 0, 61, 182, 0, 47, 191, 177]
abbrev dktX2_word_0 : List UInt8 := dkwX2_word_0 ++ []
theorem dksX2_word_0 : cX2_word.data.toList.drop 0 = dktX2_word_0 := by decide +kernel
theorem dX2_word_0 : decode cX2_word 0 = .ok (.aload_n 0, 1) := dk_42 (dk_at dksX2_word_0 0 rfl rfl)
theorem dX2_word_1 : decode cX2_word 1 = .ok (.invokevirtual 70, 3) := dk_182 0 70 (dk_at dksX2_word_0 1 rfl rfl)
theorem dX2_word_4 : decode cX2_word 4 = .ok (.aload_n 1, 1) := dk_43 (dk_at dksX2_word_0 4 rfl rfl)
theorem dX2_word_5 : decode cX2_word 5 = .ok (.invokevirtual 74, 3) := dk_182 0 74 (dk_at dksX2_word_0 5 rfl rfl)
theorem dX2_word_8 : decode cX2_word 8 = .ok (.ifCond .ne 13, 3) := dk_154 0 13 (dk_at dksX2_word_0 8 rfl rfl)
theorem dX2_word_11 : decode cX2_word 11 = .ok (.aload_n 0, 1) := dk_42 (dk_at dksX2_word_0 11 rfl rfl)
theorem dX2_word_12 : decode cX2_word 12 = .ok (.iconst 1, 1) := dk_4 (dk_at dksX2_word_0 12 rfl rfl)
theorem dX2_word_13 : decode cX2_word 13 = .ok (.aload_n 0, 1) := dk_42 (dk_at dksX2_word_0 13 rfl rfl)
theorem dX2_word_14 : decode cX2_word 14 = .ok (.getfield 61, 3) := dk_180 0 61 (dk_at dksX2_word_0 14 rfl rfl)
theorem dX2_word_17 : decode cX2_word 17 = .ok (.invokevirtual 47, 3) := dk_182 0 47 (dk_at dksX2_word_0 17 rfl rfl)
theorem dX2_word_20 : decode cX2_word 20 = .ok (.athrow, 1) := dk_191 (dk_at dksX2_word_0 20 rfl rfl)
theorem dX2_word_21 : decode cX2_word 21 = .ok (.return_, 1) := dk_177 (dk_at dksX2_word_0 21 rfl rfl)
abbrev cX2_word_2 : ByteArray := prog_15_method_7_code
def yX2_word_2 : MethodName := ⟨RX2, "word", "()Ljava/lang/String;"⟩
def dkwX2_word_2_4 : List UInt8 := [180, 0, 32, 28, 51, 146, 85, 132, 2, 1, 167, 255, 227, 43, 184, 0, 64, 176]
abbrev dktX2_word_2_4 : List UInt8 := dkwX2_word_2_4 ++ []
def dkwX2_word_2_3 : List UInt8 := [180, 0, 61, 61, 28, 42, 180, 0, 36, 162, 0, 27, 43, 28, 42, 180, 0, 61, 100, 42, 180, 0, 3]
abbrev dktX2_word_2_3 : List UInt8 := dkwX2_word_2_3 ++ dktX2_word_2_4
def dkwX2_word_2_2 : List UInt8 := [180, 0, 36, 4, 96, 181, 0, 36, 167, 255, 232, 42, 180, 0, 36, 42, 180, 0, 61, 100, 188, 5, 76, 42]
abbrev dktX2_word_2_2 : List UInt8 := dkwX2_word_2_2 ++ dktX2_word_2_3
def dkwX2_word_2_1 : List UInt8 := [42, 42, 180, 0, 36, 181, 0, 61, 42, 42, 180, 0, 36, 182, 0, 39, 184, 0, 51, 153, 0, 16, 42, 89]
abbrev dktX2_word_2_1 : List UInt8 := dkwX2_word_2_1 ++ dktX2_word_2_2
def dkwX2_word_2_0 : List UInt8 := [42, 182, 0, 43, 184, 0, 51, 154, 0, 13, 42, 4, 42, 180, 0, 36, 182, 0, 47, 191, 42, 182, 0, 58]
abbrev dktX2_word_2_0 : List UInt8 := dkwX2_word_2_0 ++ dktX2_word_2_1
theorem dksX2_word_2_0 : cX2_word_2.data.toList.drop 0 = dktX2_word_2_0 := by decide +kernel
theorem dksX2_word_2_1 : cX2_word_2.data.toList.drop 24 = dktX2_word_2_1 := dk_seg dksX2_word_2_0 24 rfl rfl
theorem dksX2_word_2_2 : cX2_word_2.data.toList.drop 48 = dktX2_word_2_2 := dk_seg dksX2_word_2_1 24 rfl rfl
theorem dksX2_word_2_3 : cX2_word_2.data.toList.drop 72 = dktX2_word_2_3 := dk_seg dksX2_word_2_2 24 rfl rfl
theorem dksX2_word_2_4 : cX2_word_2.data.toList.drop 95 = dktX2_word_2_4 := dk_seg dksX2_word_2_3 23 rfl rfl
theorem dX2_word_2_0 : decode cX2_word_2 0 = .ok (.aload_n 0, 1) := dk_42 (dk_at dksX2_word_2_0 0 rfl rfl)
theorem dX2_word_2_1 : decode cX2_word_2 1 = .ok (.invokevirtual 43, 3) := dk_182 0 43 (dk_at dksX2_word_2_0 1 rfl rfl)
theorem dX2_word_2_4 : decode cX2_word_2 4 = .ok (.invokestatic 51, 3) := dk_184 0 51 (dk_at dksX2_word_2_0 4 rfl rfl)
theorem dX2_word_2_7 : decode cX2_word_2 7 = .ok (.ifCond .ne 13, 3) := dk_154 0 13 (dk_at dksX2_word_2_0 7 rfl rfl)
theorem dX2_word_2_10 : decode cX2_word_2 10 = .ok (.aload_n 0, 1) := dk_42 (dk_at dksX2_word_2_0 10 rfl rfl)
theorem dX2_word_2_11 : decode cX2_word_2 11 = .ok (.iconst 1, 1) := dk_4 (dk_at dksX2_word_2_0 11 rfl rfl)
theorem dX2_word_2_12 : decode cX2_word_2 12 = .ok (.aload_n 0, 1) := dk_42 (dk_at dksX2_word_2_0 12 rfl rfl)
theorem dX2_word_2_13 : decode cX2_word_2 13 = .ok (.getfield 36, 3) := dk_180 0 36 (dk_at dksX2_word_2_0 13 rfl rfl)
theorem dX2_word_2_16 : decode cX2_word_2 16 = .ok (.invokevirtual 47, 3) := dk_182 0 47 (dk_at dksX2_word_2_0 16 rfl rfl)
theorem dX2_word_2_19 : decode cX2_word_2 19 = .ok (.athrow, 1) := dk_191 (dk_at dksX2_word_2_0 19 rfl rfl)
theorem dX2_word_2_20 : decode cX2_word_2 20 = .ok (.aload_n 0, 1) := dk_42 (dk_at dksX2_word_2_0 20 rfl rfl)
theorem dX2_word_2_21 : decode cX2_word_2 21 = .ok (.invokevirtual 58, 3) := dk_182 0 58 (dk_at dksX2_word_2_0 21 rfl rfl)
theorem dX2_word_2_24 : decode cX2_word_2 24 = .ok (.aload_n 0, 1) := dk_42 (dk_at dksX2_word_2_1 0 rfl rfl)
theorem dX2_word_2_25 : decode cX2_word_2 25 = .ok (.aload_n 0, 1) := dk_42 (dk_at dksX2_word_2_1 1 rfl rfl)
theorem dX2_word_2_26 : decode cX2_word_2 26 = .ok (.getfield 36, 3) := dk_180 0 36 (dk_at dksX2_word_2_1 2 rfl rfl)
theorem dX2_word_2_29 : decode cX2_word_2 29 = .ok (.putfield 61, 3) := dk_181 0 61 (dk_at dksX2_word_2_1 5 rfl rfl)
theorem dX2_word_2_32 : decode cX2_word_2 32 = .ok (.aload_n 0, 1) := dk_42 (dk_at dksX2_word_2_1 8 rfl rfl)
theorem dX2_word_2_33 : decode cX2_word_2 33 = .ok (.aload_n 0, 1) := dk_42 (dk_at dksX2_word_2_1 9 rfl rfl)
theorem dX2_word_2_34 : decode cX2_word_2 34 = .ok (.getfield 36, 3) := dk_180 0 36 (dk_at dksX2_word_2_1 10 rfl rfl)
theorem dX2_word_2_37 : decode cX2_word_2 37 = .ok (.invokevirtual 39, 3) := dk_182 0 39 (dk_at dksX2_word_2_1 13 rfl rfl)
theorem dX2_word_2_40 : decode cX2_word_2 40 = .ok (.invokestatic 51, 3) := dk_184 0 51 (dk_at dksX2_word_2_1 16 rfl rfl)
theorem dX2_word_2_43 : decode cX2_word_2 43 = .ok (.ifCond .eq 16, 3) := dk_153 0 16 (dk_at dksX2_word_2_1 19 rfl rfl)
theorem dX2_word_2_46 : decode cX2_word_2 46 = .ok (.aload_n 0, 1) := dk_42 (dk_at dksX2_word_2_1 22 rfl rfl)
theorem dX2_word_2_47 : decode cX2_word_2 47 = .ok (.dup, 1) := dk_89 (dk_at dksX2_word_2_1 23 rfl rfl)
theorem dX2_word_2_48 : decode cX2_word_2 48 = .ok (.getfield 36, 3) := dk_180 0 36 (dk_at dksX2_word_2_2 0 rfl rfl)
theorem dX2_word_2_51 : decode cX2_word_2 51 = .ok (.iconst 1, 1) := dk_4 (dk_at dksX2_word_2_2 3 rfl rfl)
theorem dX2_word_2_52 : decode cX2_word_2 52 = .ok (.iadd, 1) := dk_96 (dk_at dksX2_word_2_2 4 rfl rfl)
theorem dX2_word_2_53 : decode cX2_word_2 53 = .ok (.putfield 36, 3) := dk_181 0 36 (dk_at dksX2_word_2_2 5 rfl rfl)
theorem dX2_word_2_56 : decode cX2_word_2 56 = .ok (.goto (-24), 3) := dk_167 255 232 (dk_at dksX2_word_2_2 8 rfl rfl)
theorem dX2_word_2_59 : decode cX2_word_2 59 = .ok (.aload_n 0, 1) := dk_42 (dk_at dksX2_word_2_2 11 rfl rfl)
theorem dX2_word_2_60 : decode cX2_word_2 60 = .ok (.getfield 36, 3) := dk_180 0 36 (dk_at dksX2_word_2_2 12 rfl rfl)
theorem dX2_word_2_63 : decode cX2_word_2 63 = .ok (.aload_n 0, 1) := dk_42 (dk_at dksX2_word_2_2 15 rfl rfl)
theorem dX2_word_2_64 : decode cX2_word_2 64 = .ok (.getfield 61, 3) := dk_180 0 61 (dk_at dksX2_word_2_2 16 rfl rfl)
theorem dX2_word_2_67 : decode cX2_word_2 67 = .ok (.isub, 1) := dk_100 (dk_at dksX2_word_2_2 19 rfl rfl)
theorem dX2_word_2_68 : decode cX2_word_2 68 = .ok (.newarray .char, 2) := dk_188_5 (dk_at dksX2_word_2_2 20 rfl rfl)
theorem dX2_word_2_70 : decode cX2_word_2 70 = .ok (.astore_n 1, 1) := dk_76 (dk_at dksX2_word_2_2 22 rfl rfl)
theorem dX2_word_2_71 : decode cX2_word_2 71 = .ok (.aload_n 0, 1) := dk_42 (dk_at dksX2_word_2_2 23 rfl rfl)
theorem dX2_word_2_72 : decode cX2_word_2 72 = .ok (.getfield 61, 3) := dk_180 0 61 (dk_at dksX2_word_2_3 0 rfl rfl)
theorem dX2_word_2_75 : decode cX2_word_2 75 = .ok (.istore_n 2, 1) := dk_61 (dk_at dksX2_word_2_3 3 rfl rfl)
theorem dX2_word_2_76 : decode cX2_word_2 76 = .ok (.iload_n 2, 1) := dk_28 (dk_at dksX2_word_2_3 4 rfl rfl)
theorem dX2_word_2_77 : decode cX2_word_2 77 = .ok (.aload_n 0, 1) := dk_42 (dk_at dksX2_word_2_3 5 rfl rfl)
theorem dX2_word_2_78 : decode cX2_word_2 78 = .ok (.getfield 36, 3) := dk_180 0 36 (dk_at dksX2_word_2_3 6 rfl rfl)
theorem dX2_word_2_81 : decode cX2_word_2 81 = .ok (.if_icmp .ge 27, 3) := dk_162 0 27 (dk_at dksX2_word_2_3 9 rfl rfl)
theorem dX2_word_2_84 : decode cX2_word_2 84 = .ok (.aload_n 1, 1) := dk_43 (dk_at dksX2_word_2_3 12 rfl rfl)
theorem dX2_word_2_85 : decode cX2_word_2 85 = .ok (.iload_n 2, 1) := dk_28 (dk_at dksX2_word_2_3 13 rfl rfl)
theorem dX2_word_2_86 : decode cX2_word_2 86 = .ok (.aload_n 0, 1) := dk_42 (dk_at dksX2_word_2_3 14 rfl rfl)
theorem dX2_word_2_87 : decode cX2_word_2 87 = .ok (.getfield 61, 3) := dk_180 0 61 (dk_at dksX2_word_2_3 15 rfl rfl)
theorem dX2_word_2_90 : decode cX2_word_2 90 = .ok (.isub, 1) := dk_100 (dk_at dksX2_word_2_3 18 rfl rfl)
theorem dX2_word_2_91 : decode cX2_word_2 91 = .ok (.aload_n 0, 1) := dk_42 (dk_at dksX2_word_2_3 19 rfl rfl)
theorem dX2_word_2_92 : decode cX2_word_2 92 = .ok (.getfield 3, 3) := dk_180 0 3 (dk_at dksX2_word_2_3 20 rfl rfl)
theorem dX2_word_2_95 : decode cX2_word_2 95 = .ok (.getfield 32, 3) := dk_180 0 32 (dk_at dksX2_word_2_4 0 rfl rfl)
theorem dX2_word_2_98 : decode cX2_word_2 98 = .ok (.iload_n 2, 1) := dk_28 (dk_at dksX2_word_2_4 3 rfl rfl)
theorem dX2_word_2_99 : decode cX2_word_2 99 = .ok (.baload, 1) := dk_51 (dk_at dksX2_word_2_4 4 rfl rfl)
theorem dX2_word_2_100 : decode cX2_word_2 100 = .ok (.i2c, 1) := dk_146 (dk_at dksX2_word_2_4 5 rfl rfl)
theorem dX2_word_2_101 : decode cX2_word_2 101 = .ok (.castore, 1) := dk_85 (dk_at dksX2_word_2_4 6 rfl rfl)
theorem dX2_word_2_102 : decode cX2_word_2 102 = .ok (.iinc 2 1, 3) := dk_132 2 1 (dk_at dksX2_word_2_4 7 rfl rfl)
theorem dX2_word_2_105 : decode cX2_word_2 105 = .ok (.goto (-29), 3) := dk_167 255 227 (dk_at dksX2_word_2_4 10 rfl rfl)
theorem dX2_word_2_108 : decode cX2_word_2 108 = .ok (.aload_n 1, 1) := dk_43 (dk_at dksX2_word_2_4 13 rfl rfl)
theorem dX2_word_2_109 : decode cX2_word_2 109 = .ok (.invokestatic 64, 3) := dk_184 0 64 (dk_at dksX2_word_2_4 14 rfl rfl)
theorem dX2_word_2_112 : decode cX2_word_2 112 = .ok (.areturn, 1) := dk_176 (dk_at dksX2_word_2_4 17 rfl rfl)
abbrev cX2_here : ByteArray := prog_15_method_4_code
def yX2_here : MethodName := ⟨RX2, "here", "()I"⟩
def dkwX2_here_2 : List UInt8 := [172]
abbrev dktX2_here_2 : List UInt8 := dkwX2_here_2 ++ []
def dkwX2_here_1 : List UInt8 := [160, 0, 16, 42, 89, 180, 0, 36, 4, 96, 181, 0, 36, 167, 255, 220, 42, 42, 180, 0, 36, 182, 0, 39]
abbrev dktX2_here_1 : List UInt8 := dkwX2_here_1 ++ dktX2_here_2
def dkwX2_here_0 : List UInt8 := [42, 42, 180, 0, 36, 182, 0, 39, 16, 32, 159, 0, 16, 42, 42, 180, 0, 36, 182, 0, 39, 16, 10]
abbrev dktX2_here_0 : List UInt8 := dkwX2_here_0 ++ dktX2_here_1
theorem dksX2_here_0 : cX2_here.data.toList.drop 0 = dktX2_here_0 := by decide +kernel
theorem dksX2_here_1 : cX2_here.data.toList.drop 23 = dktX2_here_1 := dk_seg dksX2_here_0 23 rfl rfl
theorem dksX2_here_2 : cX2_here.data.toList.drop 47 = dktX2_here_2 := dk_seg dksX2_here_1 24 rfl rfl
theorem dX2_here_0 : decode cX2_here 0 = .ok (.aload_n 0, 1) := dk_42 (dk_at dksX2_here_0 0 rfl rfl)
theorem dX2_here_1 : decode cX2_here 1 = .ok (.aload_n 0, 1) := dk_42 (dk_at dksX2_here_0 1 rfl rfl)
theorem dX2_here_2 : decode cX2_here 2 = .ok (.getfield 36, 3) := dk_180 0 36 (dk_at dksX2_here_0 2 rfl rfl)
theorem dX2_here_5 : decode cX2_here 5 = .ok (.invokevirtual 39, 3) := dk_182 0 39 (dk_at dksX2_here_0 5 rfl rfl)
theorem dX2_here_8 : decode cX2_here 8 = .ok (.bipush 32, 2) := dk_16 32 (dk_at dksX2_here_0 8 rfl rfl)
theorem dX2_here_10 : decode cX2_here 10 = .ok (.if_icmp .eq 16, 3) := dk_159 0 16 (dk_at dksX2_here_0 10 rfl rfl)
theorem dX2_here_13 : decode cX2_here 13 = .ok (.aload_n 0, 1) := dk_42 (dk_at dksX2_here_0 13 rfl rfl)
theorem dX2_here_14 : decode cX2_here 14 = .ok (.aload_n 0, 1) := dk_42 (dk_at dksX2_here_0 14 rfl rfl)
theorem dX2_here_15 : decode cX2_here 15 = .ok (.getfield 36, 3) := dk_180 0 36 (dk_at dksX2_here_0 15 rfl rfl)
theorem dX2_here_18 : decode cX2_here 18 = .ok (.invokevirtual 39, 3) := dk_182 0 39 (dk_at dksX2_here_0 18 rfl rfl)
theorem dX2_here_21 : decode cX2_here 21 = .ok (.bipush 10, 2) := dk_16 10 (dk_at dksX2_here_0 21 rfl rfl)
theorem dX2_here_23 : decode cX2_here 23 = .ok (.if_icmp .ne 16, 3) := dk_160 0 16 (dk_at dksX2_here_1 0 rfl rfl)
theorem dX2_here_26 : decode cX2_here 26 = .ok (.aload_n 0, 1) := dk_42 (dk_at dksX2_here_1 3 rfl rfl)
theorem dX2_here_27 : decode cX2_here 27 = .ok (.dup, 1) := dk_89 (dk_at dksX2_here_1 4 rfl rfl)
theorem dX2_here_28 : decode cX2_here 28 = .ok (.getfield 36, 3) := dk_180 0 36 (dk_at dksX2_here_1 5 rfl rfl)
theorem dX2_here_31 : decode cX2_here 31 = .ok (.iconst 1, 1) := dk_4 (dk_at dksX2_here_1 8 rfl rfl)
theorem dX2_here_32 : decode cX2_here 32 = .ok (.iadd, 1) := dk_96 (dk_at dksX2_here_1 9 rfl rfl)
theorem dX2_here_33 : decode cX2_here 33 = .ok (.putfield 36, 3) := dk_181 0 36 (dk_at dksX2_here_1 10 rfl rfl)
theorem dX2_here_36 : decode cX2_here 36 = .ok (.goto (-36), 3) := dk_167 255 220 (dk_at dksX2_here_1 13 rfl rfl)
theorem dX2_here_39 : decode cX2_here 39 = .ok (.aload_n 0, 1) := dk_42 (dk_at dksX2_here_1 16 rfl rfl)
theorem dX2_here_40 : decode cX2_here 40 = .ok (.aload_n 0, 1) := dk_42 (dk_at dksX2_here_1 17 rfl rfl)
theorem dX2_here_41 : decode cX2_here 41 = .ok (.getfield 36, 3) := dk_180 0 36 (dk_at dksX2_here_1 18 rfl rfl)
theorem dX2_here_44 : decode cX2_here 44 = .ok (.invokevirtual 39, 3) := dk_182 0 39 (dk_at dksX2_here_1 21 rfl rfl)
theorem dX2_here_47 : decode cX2_here 47 = .ok (.ireturn, 1) := dk_172 (dk_at dksX2_here_2 0 rfl rfl)
abbrev cX2_byteAt : ByteArray := prog_15_method_3_code
def yX2_byteAt : MethodName := ⟨RX2, "byteAt", "(I)I"⟩
def dkwX2_byteAt_1 : List UInt8 := [126, 167, 0, 4, 2, 172]
abbrev dktX2_byteAt_1 : List UInt8 := dkwX2_byteAt_1 ++ []
def dkwX2_byteAt_0 : List UInt8 := [27, 155, 0, 27, 27, 42, 180, 0, 29, 162, 0, 19, 42, 180, 0, 3, 180, 0, 32, 27, 51, 17, 0, 255]
abbrev dktX2_byteAt_0 : List UInt8 := dkwX2_byteAt_0 ++ dktX2_byteAt_1
theorem dksX2_byteAt_0 : cX2_byteAt.data.toList.drop 0 = dktX2_byteAt_0 := by decide +kernel
theorem dksX2_byteAt_1 : cX2_byteAt.data.toList.drop 24 = dktX2_byteAt_1 := dk_seg dksX2_byteAt_0 24 rfl rfl
theorem dX2_byteAt_0 : decode cX2_byteAt 0 = .ok (.iload_n 1, 1) := dk_27 (dk_at dksX2_byteAt_0 0 rfl rfl)
theorem dX2_byteAt_1 : decode cX2_byteAt 1 = .ok (.ifCond .lt 27, 3) := dk_155 0 27 (dk_at dksX2_byteAt_0 1 rfl rfl)
theorem dX2_byteAt_4 : decode cX2_byteAt 4 = .ok (.iload_n 1, 1) := dk_27 (dk_at dksX2_byteAt_0 4 rfl rfl)
theorem dX2_byteAt_5 : decode cX2_byteAt 5 = .ok (.aload_n 0, 1) := dk_42 (dk_at dksX2_byteAt_0 5 rfl rfl)
theorem dX2_byteAt_6 : decode cX2_byteAt 6 = .ok (.getfield 29, 3) := dk_180 0 29 (dk_at dksX2_byteAt_0 6 rfl rfl)
theorem dX2_byteAt_9 : decode cX2_byteAt 9 = .ok (.if_icmp .ge 19, 3) := dk_162 0 19 (dk_at dksX2_byteAt_0 9 rfl rfl)
theorem dX2_byteAt_12 : decode cX2_byteAt 12 = .ok (.aload_n 0, 1) := dk_42 (dk_at dksX2_byteAt_0 12 rfl rfl)
theorem dX2_byteAt_13 : decode cX2_byteAt 13 = .ok (.getfield 3, 3) := dk_180 0 3 (dk_at dksX2_byteAt_0 13 rfl rfl)
theorem dX2_byteAt_16 : decode cX2_byteAt 16 = .ok (.getfield 32, 3) := dk_180 0 32 (dk_at dksX2_byteAt_0 16 rfl rfl)
theorem dX2_byteAt_19 : decode cX2_byteAt 19 = .ok (.iload_n 1, 1) := dk_27 (dk_at dksX2_byteAt_0 19 rfl rfl)
theorem dX2_byteAt_20 : decode cX2_byteAt 20 = .ok (.baload, 1) := dk_51 (dk_at dksX2_byteAt_0 20 rfl rfl)
theorem dX2_byteAt_21 : decode cX2_byteAt 21 = .ok (.sipush 255, 3) := dk_17 0 255 (dk_at dksX2_byteAt_0 21 rfl rfl)
theorem dX2_byteAt_24 : decode cX2_byteAt 24 = .ok (.iand, 1) := dk_126 (dk_at dksX2_byteAt_1 0 rfl rfl)
theorem dX2_byteAt_25 : decode cX2_byteAt 25 = .ok (.goto 4, 3) := dk_167 0 4 (dk_at dksX2_byteAt_1 1 rfl rfl)
theorem dX2_byteAt_28 : decode cX2_byteAt 28 = .ok (.iconst (-1), 1) := dk_2 (dk_at dksX2_byteAt_1 4 rfl rfl)
theorem dX2_byteAt_29 : decode cX2_byteAt 29 = .ok (.ireturn, 1) := dk_172 (dk_at dksX2_byteAt_1 5 rfl rfl)
abbrev cX2_wrong : ByteArray := prog_15_method_2_code
def yX2_wrong : MethodName := ⟨RX2, "wrong", "(II)LMarginFolk$Fault;"⟩
def dkwX2_wrong_0 : List UInt8 := [42, 180, 0, 18, 27, 181, 0, 22, 42, 180, 0, 18, 28, 181, 0, 26, 42, 180, 0, 18, 176]
abbrev dktX2_wrong_0 : List UInt8 := dkwX2_wrong_0 ++ []
theorem dksX2_wrong_0 : cX2_wrong.data.toList.drop 0 = dktX2_wrong_0 := by decide +kernel
theorem dX2_wrong_0 : decode cX2_wrong 0 = .ok (.aload_n 0, 1) := dk_42 (dk_at dksX2_wrong_0 0 rfl rfl)
theorem dX2_wrong_1 : decode cX2_wrong 1 = .ok (.getfield 18, 3) := dk_180 0 18 (dk_at dksX2_wrong_0 1 rfl rfl)
theorem dX2_wrong_4 : decode cX2_wrong 4 = .ok (.iload_n 1, 1) := dk_27 (dk_at dksX2_wrong_0 4 rfl rfl)
theorem dX2_wrong_5 : decode cX2_wrong 5 = .ok (.putfield 22, 3) := dk_181 0 22 (dk_at dksX2_wrong_0 5 rfl rfl)
theorem dX2_wrong_8 : decode cX2_wrong 8 = .ok (.aload_n 0, 1) := dk_42 (dk_at dksX2_wrong_0 8 rfl rfl)
theorem dX2_wrong_9 : decode cX2_wrong 9 = .ok (.getfield 18, 3) := dk_180 0 18 (dk_at dksX2_wrong_0 9 rfl rfl)
theorem dX2_wrong_12 : decode cX2_wrong 12 = .ok (.iload_n 2, 1) := dk_28 (dk_at dksX2_wrong_0 12 rfl rfl)
theorem dX2_wrong_13 : decode cX2_wrong 13 = .ok (.putfield 26, 3) := dk_181 0 26 (dk_at dksX2_wrong_0 13 rfl rfl)
theorem dX2_wrong_16 : decode cX2_wrong 16 = .ok (.aload_n 0, 1) := dk_42 (dk_at dksX2_wrong_0 16 rfl rfl)
theorem dX2_wrong_17 : decode cX2_wrong 17 = .ok (.getfield 18, 3) := dk_180 0 18 (dk_at dksX2_wrong_0 17 rfl rfl)
theorem dX2_wrong_20 : decode cX2_wrong 20 = .ok (.areturn, 1) := dk_176 (dk_at dksX2_wrong_0 20 rfl rfl)
abbrev cX2_parted : ByteArray := prog_15_method_6_code
def yX2_parted : MethodName := ⟨RX2, "parted", "()V"⟩
def dkwX2_parted_1 : List UInt8 := [182, 0, 39, 184, 0, 55, 153, 0, 13, 42, 4, 42, 180, 0, 36, 182, 0, 47, 191, 177]
abbrev dktX2_parted_1 : List UInt8 := dkwX2_parted_1 ++ []
def dkwX2_parted_0 : List UInt8 := [42, 42, 180, 0, 36, 4, 100, 182, 0, 39, 184, 0, 51, 154, 0, 19, 42, 42, 180, 0, 36, 4, 100]
abbrev dktX2_parted_0 : List UInt8 := dkwX2_parted_0 ++ dktX2_parted_1
theorem dksX2_parted_0 : cX2_parted.data.toList.drop 0 = dktX2_parted_0 := by decide +kernel
theorem dksX2_parted_1 : cX2_parted.data.toList.drop 23 = dktX2_parted_1 := dk_seg dksX2_parted_0 23 rfl rfl
theorem dX2_parted_0 : decode cX2_parted 0 = .ok (.aload_n 0, 1) := dk_42 (dk_at dksX2_parted_0 0 rfl rfl)
theorem dX2_parted_1 : decode cX2_parted 1 = .ok (.aload_n 0, 1) := dk_42 (dk_at dksX2_parted_0 1 rfl rfl)
theorem dX2_parted_2 : decode cX2_parted 2 = .ok (.getfield 36, 3) := dk_180 0 36 (dk_at dksX2_parted_0 2 rfl rfl)
theorem dX2_parted_5 : decode cX2_parted 5 = .ok (.iconst 1, 1) := dk_4 (dk_at dksX2_parted_0 5 rfl rfl)
theorem dX2_parted_6 : decode cX2_parted 6 = .ok (.isub, 1) := dk_100 (dk_at dksX2_parted_0 6 rfl rfl)
theorem dX2_parted_7 : decode cX2_parted 7 = .ok (.invokevirtual 39, 3) := dk_182 0 39 (dk_at dksX2_parted_0 7 rfl rfl)
theorem dX2_parted_10 : decode cX2_parted 10 = .ok (.invokestatic 51, 3) := dk_184 0 51 (dk_at dksX2_parted_0 10 rfl rfl)
theorem dX2_parted_13 : decode cX2_parted 13 = .ok (.ifCond .ne 19, 3) := dk_154 0 19 (dk_at dksX2_parted_0 13 rfl rfl)
theorem dX2_parted_16 : decode cX2_parted 16 = .ok (.aload_n 0, 1) := dk_42 (dk_at dksX2_parted_0 16 rfl rfl)
theorem dX2_parted_17 : decode cX2_parted 17 = .ok (.aload_n 0, 1) := dk_42 (dk_at dksX2_parted_0 17 rfl rfl)
theorem dX2_parted_18 : decode cX2_parted 18 = .ok (.getfield 36, 3) := dk_180 0 36 (dk_at dksX2_parted_0 18 rfl rfl)
theorem dX2_parted_21 : decode cX2_parted 21 = .ok (.iconst 1, 1) := dk_4 (dk_at dksX2_parted_0 21 rfl rfl)
theorem dX2_parted_22 : decode cX2_parted 22 = .ok (.isub, 1) := dk_100 (dk_at dksX2_parted_0 22 rfl rfl)
theorem dX2_parted_23 : decode cX2_parted 23 = .ok (.invokevirtual 39, 3) := dk_182 0 39 (dk_at dksX2_parted_1 0 rfl rfl)
theorem dX2_parted_26 : decode cX2_parted 26 = .ok (.invokestatic 55, 3) := dk_184 0 55 (dk_at dksX2_parted_1 3 rfl rfl)
theorem dX2_parted_29 : decode cX2_parted 29 = .ok (.ifCond .eq 13, 3) := dk_153 0 13 (dk_at dksX2_parted_1 6 rfl rfl)
theorem dX2_parted_32 : decode cX2_parted 32 = .ok (.aload_n 0, 1) := dk_42 (dk_at dksX2_parted_1 9 rfl rfl)
theorem dX2_parted_33 : decode cX2_parted 33 = .ok (.iconst 1, 1) := dk_4 (dk_at dksX2_parted_1 10 rfl rfl)
theorem dX2_parted_34 : decode cX2_parted 34 = .ok (.aload_n 0, 1) := dk_42 (dk_at dksX2_parted_1 11 rfl rfl)
theorem dX2_parted_35 : decode cX2_parted 35 = .ok (.getfield 36, 3) := dk_180 0 36 (dk_at dksX2_parted_1 12 rfl rfl)
theorem dX2_parted_38 : decode cX2_parted 38 = .ok (.invokevirtual 47, 3) := dk_182 0 47 (dk_at dksX2_parted_1 15 rfl rfl)
theorem dX2_parted_41 : decode cX2_parted 41 = .ok (.athrow, 1) := dk_191 (dk_at dksX2_parted_1 18 rfl rfl)
theorem dX2_parted_42 : decode cX2_parted 42 = .ok (.return_, 1) := dk_177 (dk_at dksX2_parted_1 19 rfl rfl)
abbrev cX2_number : ByteArray := prog_15_method_11_code
def yX2_number : MethodName := ⟨RX2, "number", "(II)I"⟩
def dkwX2_number_5 : List UInt8 := [191, 29, 172]
abbrev dktX2_number_5 : List UInt8 := dkwX2_number_5 ++ []
def dkwX2_number_4 : List UInt8 := [181, 0, 36, 167, 255, 192, 29, 27, 28, 184, 0, 89, 154, 0, 13, 42, 5, 42, 180, 0, 61, 182, 0, 47]
abbrev dktX2_number_4 : List UInt8 := dkwX2_number_4 ++ dktX2_number_5
def dkwX2_number_3 : List UInt8 := [16, 10, 29, 104, 42, 42, 180, 0, 36, 182, 0, 39, 96, 16, 48, 100, 62, 42, 89, 180, 0, 36, 4, 96]
abbrev dktX2_number_3 : List UInt8 := dkwX2_number_3 ++ dktX2_number_4
def dkwX2_number_2 : List UInt8 := [42, 180, 0, 36, 42, 180, 0, 61, 100, 7, 160, 0, 13, 42, 4, 42, 180, 0, 36, 182, 0, 47, 191]
abbrev dktX2_number_2 : List UInt8 := dkwX2_number_2 ++ dktX2_number_3
def dkwX2_number_1 : List UInt8 := [42, 42, 180, 0, 36, 181, 0, 61, 3, 62, 42, 42, 180, 0, 36, 182, 0, 39, 184, 0, 55, 153, 0, 56]
abbrev dktX2_number_1 : List UInt8 := dkwX2_number_1 ++ dktX2_number_2
def dkwX2_number_0 : List UInt8 := [42, 182, 0, 43, 184, 0, 55, 154, 0, 13, 42, 4, 42, 180, 0, 36, 182, 0, 47, 191, 42, 182, 0, 58]
abbrev dktX2_number_0 : List UInt8 := dkwX2_number_0 ++ dktX2_number_1
theorem dksX2_number_0 : cX2_number.data.toList.drop 0 = dktX2_number_0 := by decide +kernel
theorem dksX2_number_1 : cX2_number.data.toList.drop 24 = dktX2_number_1 := dk_seg dksX2_number_0 24 rfl rfl
theorem dksX2_number_2 : cX2_number.data.toList.drop 48 = dktX2_number_2 := dk_seg dksX2_number_1 24 rfl rfl
theorem dksX2_number_3 : cX2_number.data.toList.drop 71 = dktX2_number_3 := dk_seg dksX2_number_2 23 rfl rfl
theorem dksX2_number_4 : cX2_number.data.toList.drop 95 = dktX2_number_4 := dk_seg dksX2_number_3 24 rfl rfl
theorem dksX2_number_5 : cX2_number.data.toList.drop 119 = dktX2_number_5 := dk_seg dksX2_number_4 24 rfl rfl
theorem dX2_number_0 : decode cX2_number 0 = .ok (.aload_n 0, 1) := dk_42 (dk_at dksX2_number_0 0 rfl rfl)
theorem dX2_number_1 : decode cX2_number 1 = .ok (.invokevirtual 43, 3) := dk_182 0 43 (dk_at dksX2_number_0 1 rfl rfl)
theorem dX2_number_4 : decode cX2_number 4 = .ok (.invokestatic 55, 3) := dk_184 0 55 (dk_at dksX2_number_0 4 rfl rfl)
theorem dX2_number_7 : decode cX2_number 7 = .ok (.ifCond .ne 13, 3) := dk_154 0 13 (dk_at dksX2_number_0 7 rfl rfl)
theorem dX2_number_10 : decode cX2_number 10 = .ok (.aload_n 0, 1) := dk_42 (dk_at dksX2_number_0 10 rfl rfl)
theorem dX2_number_11 : decode cX2_number 11 = .ok (.iconst 1, 1) := dk_4 (dk_at dksX2_number_0 11 rfl rfl)
theorem dX2_number_12 : decode cX2_number 12 = .ok (.aload_n 0, 1) := dk_42 (dk_at dksX2_number_0 12 rfl rfl)
theorem dX2_number_13 : decode cX2_number 13 = .ok (.getfield 36, 3) := dk_180 0 36 (dk_at dksX2_number_0 13 rfl rfl)
theorem dX2_number_16 : decode cX2_number 16 = .ok (.invokevirtual 47, 3) := dk_182 0 47 (dk_at dksX2_number_0 16 rfl rfl)
theorem dX2_number_19 : decode cX2_number 19 = .ok (.athrow, 1) := dk_191 (dk_at dksX2_number_0 19 rfl rfl)
theorem dX2_number_20 : decode cX2_number 20 = .ok (.aload_n 0, 1) := dk_42 (dk_at dksX2_number_0 20 rfl rfl)
theorem dX2_number_21 : decode cX2_number 21 = .ok (.invokevirtual 58, 3) := dk_182 0 58 (dk_at dksX2_number_0 21 rfl rfl)
theorem dX2_number_24 : decode cX2_number 24 = .ok (.aload_n 0, 1) := dk_42 (dk_at dksX2_number_1 0 rfl rfl)
theorem dX2_number_25 : decode cX2_number 25 = .ok (.aload_n 0, 1) := dk_42 (dk_at dksX2_number_1 1 rfl rfl)
theorem dX2_number_26 : decode cX2_number 26 = .ok (.getfield 36, 3) := dk_180 0 36 (dk_at dksX2_number_1 2 rfl rfl)
theorem dX2_number_29 : decode cX2_number 29 = .ok (.putfield 61, 3) := dk_181 0 61 (dk_at dksX2_number_1 5 rfl rfl)
theorem dX2_number_32 : decode cX2_number 32 = .ok (.iconst 0, 1) := dk_3 (dk_at dksX2_number_1 8 rfl rfl)
theorem dX2_number_33 : decode cX2_number 33 = .ok (.istore_n 3, 1) := dk_62 (dk_at dksX2_number_1 9 rfl rfl)
theorem dX2_number_34 : decode cX2_number 34 = .ok (.aload_n 0, 1) := dk_42 (dk_at dksX2_number_1 10 rfl rfl)
theorem dX2_number_35 : decode cX2_number 35 = .ok (.aload_n 0, 1) := dk_42 (dk_at dksX2_number_1 11 rfl rfl)
theorem dX2_number_36 : decode cX2_number 36 = .ok (.getfield 36, 3) := dk_180 0 36 (dk_at dksX2_number_1 12 rfl rfl)
theorem dX2_number_39 : decode cX2_number 39 = .ok (.invokevirtual 39, 3) := dk_182 0 39 (dk_at dksX2_number_1 15 rfl rfl)
theorem dX2_number_42 : decode cX2_number 42 = .ok (.invokestatic 55, 3) := dk_184 0 55 (dk_at dksX2_number_1 18 rfl rfl)
theorem dX2_number_45 : decode cX2_number 45 = .ok (.ifCond .eq 56, 3) := dk_153 0 56 (dk_at dksX2_number_1 21 rfl rfl)
theorem dX2_number_48 : decode cX2_number 48 = .ok (.aload_n 0, 1) := dk_42 (dk_at dksX2_number_2 0 rfl rfl)
theorem dX2_number_49 : decode cX2_number 49 = .ok (.getfield 36, 3) := dk_180 0 36 (dk_at dksX2_number_2 1 rfl rfl)
theorem dX2_number_52 : decode cX2_number 52 = .ok (.aload_n 0, 1) := dk_42 (dk_at dksX2_number_2 4 rfl rfl)
theorem dX2_number_53 : decode cX2_number 53 = .ok (.getfield 61, 3) := dk_180 0 61 (dk_at dksX2_number_2 5 rfl rfl)
theorem dX2_number_56 : decode cX2_number 56 = .ok (.isub, 1) := dk_100 (dk_at dksX2_number_2 8 rfl rfl)
theorem dX2_number_57 : decode cX2_number 57 = .ok (.iconst 4, 1) := dk_7 (dk_at dksX2_number_2 9 rfl rfl)
theorem dX2_number_58 : decode cX2_number 58 = .ok (.if_icmp .ne 13, 3) := dk_160 0 13 (dk_at dksX2_number_2 10 rfl rfl)
theorem dX2_number_61 : decode cX2_number 61 = .ok (.aload_n 0, 1) := dk_42 (dk_at dksX2_number_2 13 rfl rfl)
theorem dX2_number_62 : decode cX2_number 62 = .ok (.iconst 1, 1) := dk_4 (dk_at dksX2_number_2 14 rfl rfl)
theorem dX2_number_63 : decode cX2_number 63 = .ok (.aload_n 0, 1) := dk_42 (dk_at dksX2_number_2 15 rfl rfl)
theorem dX2_number_64 : decode cX2_number 64 = .ok (.getfield 36, 3) := dk_180 0 36 (dk_at dksX2_number_2 16 rfl rfl)
theorem dX2_number_67 : decode cX2_number 67 = .ok (.invokevirtual 47, 3) := dk_182 0 47 (dk_at dksX2_number_2 19 rfl rfl)
theorem dX2_number_70 : decode cX2_number 70 = .ok (.athrow, 1) := dk_191 (dk_at dksX2_number_2 22 rfl rfl)
theorem dX2_number_71 : decode cX2_number 71 = .ok (.bipush 10, 2) := dk_16 10 (dk_at dksX2_number_3 0 rfl rfl)
theorem dX2_number_73 : decode cX2_number 73 = .ok (.iload_n 3, 1) := dk_29 (dk_at dksX2_number_3 2 rfl rfl)
theorem dX2_number_74 : decode cX2_number 74 = .ok (.imul, 1) := dk_104 (dk_at dksX2_number_3 3 rfl rfl)
theorem dX2_number_75 : decode cX2_number 75 = .ok (.aload_n 0, 1) := dk_42 (dk_at dksX2_number_3 4 rfl rfl)
theorem dX2_number_76 : decode cX2_number 76 = .ok (.aload_n 0, 1) := dk_42 (dk_at dksX2_number_3 5 rfl rfl)
theorem dX2_number_77 : decode cX2_number 77 = .ok (.getfield 36, 3) := dk_180 0 36 (dk_at dksX2_number_3 6 rfl rfl)
theorem dX2_number_80 : decode cX2_number 80 = .ok (.invokevirtual 39, 3) := dk_182 0 39 (dk_at dksX2_number_3 9 rfl rfl)
theorem dX2_number_83 : decode cX2_number 83 = .ok (.iadd, 1) := dk_96 (dk_at dksX2_number_3 12 rfl rfl)
theorem dX2_number_84 : decode cX2_number 84 = .ok (.bipush 48, 2) := dk_16 48 (dk_at dksX2_number_3 13 rfl rfl)
theorem dX2_number_86 : decode cX2_number 86 = .ok (.isub, 1) := dk_100 (dk_at dksX2_number_3 15 rfl rfl)
theorem dX2_number_87 : decode cX2_number 87 = .ok (.istore_n 3, 1) := dk_62 (dk_at dksX2_number_3 16 rfl rfl)
theorem dX2_number_88 : decode cX2_number 88 = .ok (.aload_n 0, 1) := dk_42 (dk_at dksX2_number_3 17 rfl rfl)
theorem dX2_number_89 : decode cX2_number 89 = .ok (.dup, 1) := dk_89 (dk_at dksX2_number_3 18 rfl rfl)
theorem dX2_number_90 : decode cX2_number 90 = .ok (.getfield 36, 3) := dk_180 0 36 (dk_at dksX2_number_3 19 rfl rfl)
theorem dX2_number_93 : decode cX2_number 93 = .ok (.iconst 1, 1) := dk_4 (dk_at dksX2_number_3 22 rfl rfl)
theorem dX2_number_94 : decode cX2_number 94 = .ok (.iadd, 1) := dk_96 (dk_at dksX2_number_3 23 rfl rfl)
theorem dX2_number_95 : decode cX2_number 95 = .ok (.putfield 36, 3) := dk_181 0 36 (dk_at dksX2_number_4 0 rfl rfl)
theorem dX2_number_98 : decode cX2_number 98 = .ok (.goto (-64), 3) := dk_167 255 192 (dk_at dksX2_number_4 3 rfl rfl)
theorem dX2_number_101 : decode cX2_number 101 = .ok (.iload_n 3, 1) := dk_29 (dk_at dksX2_number_4 6 rfl rfl)
theorem dX2_number_102 : decode cX2_number 102 = .ok (.iload_n 1, 1) := dk_27 (dk_at dksX2_number_4 7 rfl rfl)
theorem dX2_number_103 : decode cX2_number 103 = .ok (.iload_n 2, 1) := dk_28 (dk_at dksX2_number_4 8 rfl rfl)
theorem dX2_number_104 : decode cX2_number 104 = .ok (.invokestatic 89, 3) := dk_184 0 89 (dk_at dksX2_number_4 9 rfl rfl)
theorem dX2_number_107 : decode cX2_number 107 = .ok (.ifCond .ne 13, 3) := dk_154 0 13 (dk_at dksX2_number_4 12 rfl rfl)
theorem dX2_number_110 : decode cX2_number 110 = .ok (.aload_n 0, 1) := dk_42 (dk_at dksX2_number_4 15 rfl rfl)
theorem dX2_number_111 : decode cX2_number 111 = .ok (.iconst 2, 1) := dk_5 (dk_at dksX2_number_4 16 rfl rfl)
theorem dX2_number_112 : decode cX2_number 112 = .ok (.aload_n 0, 1) := dk_42 (dk_at dksX2_number_4 17 rfl rfl)
theorem dX2_number_113 : decode cX2_number 113 = .ok (.getfield 61, 3) := dk_180 0 61 (dk_at dksX2_number_4 18 rfl rfl)
theorem dX2_number_116 : decode cX2_number 116 = .ok (.invokevirtual 47, 3) := dk_182 0 47 (dk_at dksX2_number_4 21 rfl rfl)
theorem dX2_number_119 : decode cX2_number 119 = .ok (.athrow, 1) := dk_191 (dk_at dksX2_number_5 0 rfl rfl)
theorem dX2_number_120 : decode cX2_number 120 = .ok (.iload_n 3, 1) := dk_29 (dk_at dksX2_number_5 1 rfl rfl)
theorem dX2_number_121 : decode cX2_number 121 = .ok (.ireturn, 1) := dk_172 (dk_at dksX2_number_5 2 rfl rfl)
abbrev cX2_number_2 : ByteArray := prog_15_method_12_code
def yX2_number_2 : MethodName := ⟨RX2, "number", "(Ljava/lang/String;II)I"⟩
def dkwX2_number_2_0 : List UInt8 := [42, 43, 182, 0, 93, 42, 28, 29, 182, 0, 96, 172]
abbrev dktX2_number_2_0 : List UInt8 := dkwX2_number_2_0 ++ []
theorem dksX2_number_2_0 : cX2_number_2.data.toList.drop 0 = dktX2_number_2_0 := by decide +kernel
theorem dX2_number_2_0 : decode cX2_number_2 0 = .ok (.aload_n 0, 1) := dk_42 (dk_at dksX2_number_2_0 0 rfl rfl)
theorem dX2_number_2_1 : decode cX2_number_2 1 = .ok (.aload_n 1, 1) := dk_43 (dk_at dksX2_number_2_0 1 rfl rfl)
theorem dX2_number_2_2 : decode cX2_number_2 2 = .ok (.invokevirtual 93, 3) := dk_182 0 93 (dk_at dksX2_number_2_0 2 rfl rfl)
theorem dX2_number_2_5 : decode cX2_number_2 5 = .ok (.aload_n 0, 1) := dk_42 (dk_at dksX2_number_2_0 5 rfl rfl)
theorem dX2_number_2_6 : decode cX2_number_2 6 = .ok (.iload_n 2, 1) := dk_28 (dk_at dksX2_number_2_0 6 rfl rfl)
theorem dX2_number_2_7 : decode cX2_number_2 7 = .ok (.iload_n 3, 1) := dk_29 (dk_at dksX2_number_2_0 7 rfl rfl)
theorem dX2_number_2_8 : decode cX2_number_2 8 = .ok (.invokevirtual 96, 3) := dk_182 0 96 (dk_at dksX2_number_2_0 8 rfl rfl)
theorem dX2_number_2_11 : decode cX2_number_2 11 = .ok (.ireturn, 1) := dk_172 (dk_at dksX2_number_2_0 11 rfl rfl)
abbrev cX2_must : ByteArray := prog_15_method_5_code
def yX2_must : MethodName := ⟨RX2, "must", "(I)V"⟩
def dkwX2_must_1 : List UInt8 := [96, 181, 0, 36, 177]
abbrev dktX2_must_1 : List UInt8 := dkwX2_must_1 ++ []
def dkwX2_must_0 : List UInt8 := [42, 182, 0, 43, 27, 159, 0, 13, 42, 4, 42, 180, 0, 36, 182, 0, 47, 191, 42, 89, 180, 0, 36, 4]
abbrev dktX2_must_0 : List UInt8 := dkwX2_must_0 ++ dktX2_must_1
theorem dksX2_must_0 : cX2_must.data.toList.drop 0 = dktX2_must_0 := by decide +kernel
theorem dksX2_must_1 : cX2_must.data.toList.drop 24 = dktX2_must_1 := dk_seg dksX2_must_0 24 rfl rfl
theorem dX2_must_0 : decode cX2_must 0 = .ok (.aload_n 0, 1) := dk_42 (dk_at dksX2_must_0 0 rfl rfl)
theorem dX2_must_1 : decode cX2_must 1 = .ok (.invokevirtual 43, 3) := dk_182 0 43 (dk_at dksX2_must_0 1 rfl rfl)
theorem dX2_must_4 : decode cX2_must 4 = .ok (.iload_n 1, 1) := dk_27 (dk_at dksX2_must_0 4 rfl rfl)
theorem dX2_must_5 : decode cX2_must 5 = .ok (.if_icmp .eq 13, 3) := dk_159 0 13 (dk_at dksX2_must_0 5 rfl rfl)
theorem dX2_must_8 : decode cX2_must 8 = .ok (.aload_n 0, 1) := dk_42 (dk_at dksX2_must_0 8 rfl rfl)
theorem dX2_must_9 : decode cX2_must 9 = .ok (.iconst 1, 1) := dk_4 (dk_at dksX2_must_0 9 rfl rfl)
theorem dX2_must_10 : decode cX2_must 10 = .ok (.aload_n 0, 1) := dk_42 (dk_at dksX2_must_0 10 rfl rfl)
theorem dX2_must_11 : decode cX2_must 11 = .ok (.getfield 36, 3) := dk_180 0 36 (dk_at dksX2_must_0 11 rfl rfl)
theorem dX2_must_14 : decode cX2_must 14 = .ok (.invokevirtual 47, 3) := dk_182 0 47 (dk_at dksX2_must_0 14 rfl rfl)
theorem dX2_must_17 : decode cX2_must 17 = .ok (.athrow, 1) := dk_191 (dk_at dksX2_must_0 17 rfl rfl)
theorem dX2_must_18 : decode cX2_must 18 = .ok (.aload_n 0, 1) := dk_42 (dk_at dksX2_must_0 18 rfl rfl)
theorem dX2_must_19 : decode cX2_must 19 = .ok (.dup, 1) := dk_89 (dk_at dksX2_must_0 19 rfl rfl)
theorem dX2_must_20 : decode cX2_must 20 = .ok (.getfield 36, 3) := dk_180 0 36 (dk_at dksX2_must_0 20 rfl rfl)
theorem dX2_must_23 : decode cX2_must 23 = .ok (.iconst 1, 1) := dk_4 (dk_at dksX2_must_0 23 rfl rfl)
theorem dX2_must_24 : decode cX2_must 24 = .ok (.iadd, 1) := dk_96 (dk_at dksX2_must_1 0 rfl rfl)
theorem dX2_must_25 : decode cX2_must 25 = .ok (.putfield 36, 3) := dk_181 0 36 (dk_at dksX2_must_1 1 rfl rfl)
theorem dX2_must_28 : decode cX2_must 28 = .ok (.return_, 1) := dk_177 (dk_at dksX2_must_1 4 rfl rfl)
abbrev cX2_most : ByteArray := prog_15_method_13_code
def yX2_most : MethodName := ⟨RX2, "most", "(ZI)V"⟩
def dkwX2_most_0 : List UInt8 := [27, 153, 0, 10, 42, 8, 28, 182, 0, 47, 191, 177]
abbrev dktX2_most_0 : List UInt8 := dkwX2_most_0 ++ []
theorem dksX2_most_0 : cX2_most.data.toList.drop 0 = dktX2_most_0 := by decide +kernel
theorem dX2_most_0 : decode cX2_most 0 = .ok (.iload_n 1, 1) := dk_27 (dk_at dksX2_most_0 0 rfl rfl)
theorem dX2_most_1 : decode cX2_most 1 = .ok (.ifCond .eq 10, 3) := dk_153 0 10 (dk_at dksX2_most_0 1 rfl rfl)
theorem dX2_most_4 : decode cX2_most 4 = .ok (.aload_n 0, 1) := dk_42 (dk_at dksX2_most_0 4 rfl rfl)
theorem dX2_most_5 : decode cX2_most 5 = .ok (.iconst 5, 1) := dk_8 (dk_at dksX2_most_0 5 rfl rfl)
theorem dX2_most_6 : decode cX2_most 6 = .ok (.iload_n 2, 1) := dk_28 (dk_at dksX2_most_0 6 rfl rfl)
theorem dX2_most_7 : decode cX2_most 7 = .ok (.invokevirtual 47, 3) := dk_182 0 47 (dk_at dksX2_most_0 7 rfl rfl)
theorem dX2_most_10 : decode cX2_most 10 = .ok (.athrow, 1) := dk_191 (dk_at dksX2_most_0 10 rfl rfl)
theorem dX2_most_11 : decode cX2_most 11 = .ok (.return_, 1) := dk_177 (dk_at dksX2_most_0 11 rfl rfl)
abbrev cX2_places : ByteArray := prog_15_method_17_code
def yX2_places : MethodName := ⟨RX2, "places", "(Ljava/lang/String;I)Z"⟩
def dkwX2_places_18 : List UInt8 := [185, 0, 202, 2, 0, 87, 4, 172, 3, 172]
abbrev dktX2_places_18 : List UInt8 := dkwX2_places_18 ++ []
def dkwX2_places_17 : List UInt8 := [187, 0, 195, 89, 25, 8, 21, 9, 21, 10, 42, 18, 197, 3, 16, 9, 182, 0, 123, 183, 0, 199]
abbrev dktX2_places_17 : List UInt8 := dkwX2_places_17 ++ dktX2_places_18
def dkwX2_places_16 : List UInt8 := [54, 9, 42, 18, 194, 182, 0, 93, 42, 21, 9, 182, 0, 163, 54, 10, 42, 180, 0, 100, 180, 0, 178]
abbrev dktX2_places_16 : List UInt8 := dkwX2_places_16 ++ dktX2_places_17
def dkwX2_places_15 : List UInt8 := [159, 0, 13, 42, 6, 42, 180, 0, 61, 182, 0, 47, 191, 42, 18, 192, 182, 0, 93, 42, 182, 0, 157]
abbrev dktX2_places_15 : List UInt8 := dkwX2_places_15 ++ dktX2_places_16
def dkwX2_places_14 : List UInt8 := [167, 0, 4, 3, 28, 182, 0, 133, 42, 182, 0, 186, 58, 8, 42, 180, 0, 100, 25, 8, 182, 0, 189, 2]
abbrev dktX2_places_14 : List UInt8 := dkwX2_places_14 ++ dktX2_places_15
def dkwX2_places_13 : List UInt8 := [181, 0, 166, 4, 172, 42, 42, 180, 0, 100, 180, 0, 178, 185, 0, 182, 1, 0, 16, 8, 160, 0, 7, 4]
abbrev dktX2_places_13 : List UInt8 := dkwX2_places_13 ++ dktX2_places_14
def dkwX2_places_12 : List UInt8 := [3, 42, 180, 0, 100, 180, 0, 109, 4, 100, 182, 0, 96, 79, 42, 180, 0, 100, 89, 180, 0, 166, 4, 96]
abbrev dktX2_places_12 : List UInt8 := dkwX2_places_12 ++ dktX2_places_13
def dkwX2_places_11 : List UInt8 := [180, 0, 100, 180, 0, 166, 21, 7, 79, 42, 180, 0, 100, 180, 0, 175, 42, 180, 0, 100, 180, 0, 166, 42]
abbrev dktX2_places_11 : List UInt8 := dkwX2_places_11 ++ dktX2_places_12
def dkwX2_places_10 : List UInt8 := [180, 0, 100, 180, 0, 169, 42, 180, 0, 100, 180, 0, 166, 21, 6, 79, 42, 180, 0, 100, 180, 0, 172, 42]
abbrev dktX2_places_10 : List UInt8 := dkwX2_places_10 ++ dktX2_places_11
def dkwX2_places_9 : List UInt8 := [182, 0, 157, 54, 7, 21, 7, 21, 6, 160, 0, 13, 42, 5, 42, 180, 0, 61, 182, 0, 47, 191, 42]
abbrev dktX2_places_9 : List UInt8 := dkwX2_places_9 ++ dktX2_places_10
def dkwX2_places_8 : List UInt8 := [180, 0, 166, 16, 12, 160, 0, 7, 4, 167, 0, 4, 3, 28, 182, 0, 133, 42, 182, 0, 157, 54, 6, 42]
abbrev dktX2_places_8 : List UInt8 := dkwX2_places_8 ++ dktX2_places_9
def dkwX2_places_7 : List UInt8 := [128, 79, 42, 180, 0, 100, 89, 180, 0, 154, 4, 96, 181, 0, 154, 4, 172, 42, 42, 180, 0, 100]
abbrev dktX2_places_7 : List UInt8 := dkwX2_places_7 ++ dktX2_places_8
def dkwX2_places_6 : List UInt8 := [182, 0, 157, 54, 5, 42, 180, 0, 100, 180, 0, 160, 21, 5, 92, 46, 4, 42, 21, 5, 182, 0, 163, 120]
abbrev dktX2_places_6 : List UInt8 := dkwX2_places_6 ++ dktX2_places_7
def dkwX2_places_5 : List UInt8 := [42, 42, 180, 0, 100, 180, 0, 154, 16, 20, 160, 0, 7, 4, 167, 0, 4, 3, 28, 182, 0, 133, 42]
abbrev dktX2_places_5 : List UInt8 := dkwX2_places_5 ++ dktX2_places_6
def dkwX2_places_4 : List UInt8 := [170, 0, 0, 0, 0, 0, 1, 84, 0, 0, 0, 0, 0, 0, 0, 2, 0, 0, 0, 28, 0, 0, 0, 92, 0, 0, 0, 221]
abbrev dktX2_places_4 : List UInt8 := dkwX2_places_4 ++ dktX2_places_5
def dkwX2_places_3 : List UInt8 := [4, 54, 4, 167, 0, 15, 45, 18, 152, 182, 0, 74, 153, 0, 6, 5, 54, 4, 21, 4]
abbrev dktX2_places_3 : List UInt8 := dkwX2_places_3 ++ dktX2_places_4
def dkwX2_places_2 : List UInt8 := [45, 18, 148, 182, 0, 74, 153, 0, 36, 3, 54, 4, 167, 0, 30, 45, 18, 150, 182, 0, 74, 153, 0, 21]
abbrev dktX2_places_2 : List UInt8 := dkwX2_places_2 ++ dktX2_places_3
def dkwX2_places_1 : List UInt8 := [171, 0, 0, 0, 0, 0, 77, 0, 0, 0, 3, 0, 55, 199, 19, 0, 0, 0, 50, 5, 148, 128, 191, 0, 0, 0, 65, 5, 222, 60, 10, 0, 0, 0, 35]
abbrev dktX2_places_1 : List UInt8 := dkwX2_places_1 ++ dktX2_places_2
def dkwX2_places_0 : List UInt8 := [43, 78, 2, 54, 4, 45, 182, 0, 145]
abbrev dktX2_places_0 : List UInt8 := dkwX2_places_0 ++ dktX2_places_1
theorem dksX2_places_0 : cX2_places.data.toList.drop 0 = dktX2_places_0 := by decide +kernel
theorem dksX2_places_1 : cX2_places.data.toList.drop 9 = dktX2_places_1 := dk_seg dksX2_places_0 9 rfl rfl
theorem dksX2_places_2 : cX2_places.data.toList.drop 44 = dktX2_places_2 := dk_seg dksX2_places_1 35 rfl rfl
theorem dksX2_places_3 : cX2_places.data.toList.drop 68 = dktX2_places_3 := dk_seg dksX2_places_2 24 rfl rfl
theorem dksX2_places_4 : cX2_places.data.toList.drop 88 = dktX2_places_4 := dk_seg dksX2_places_3 20 rfl rfl
theorem dksX2_places_5 : cX2_places.data.toList.drop 116 = dktX2_places_5 := dk_seg dksX2_places_4 28 rfl rfl
theorem dksX2_places_6 : cX2_places.data.toList.drop 139 = dktX2_places_6 := dk_seg dksX2_places_5 23 rfl rfl
theorem dksX2_places_7 : cX2_places.data.toList.drop 163 = dktX2_places_7 := dk_seg dksX2_places_6 24 rfl rfl
theorem dksX2_places_8 : cX2_places.data.toList.drop 185 = dktX2_places_8 := dk_seg dksX2_places_7 22 rfl rfl
theorem dksX2_places_9 : cX2_places.data.toList.drop 209 = dktX2_places_9 := dk_seg dksX2_places_8 24 rfl rfl
theorem dksX2_places_10 : cX2_places.data.toList.drop 232 = dktX2_places_10 := dk_seg dksX2_places_9 23 rfl rfl
theorem dksX2_places_11 : cX2_places.data.toList.drop 256 = dktX2_places_11 := dk_seg dksX2_places_10 24 rfl rfl
theorem dksX2_places_12 : cX2_places.data.toList.drop 280 = dktX2_places_12 := dk_seg dksX2_places_11 24 rfl rfl
theorem dksX2_places_13 : cX2_places.data.toList.drop 304 = dktX2_places_13 := dk_seg dksX2_places_12 24 rfl rfl
theorem dksX2_places_14 : cX2_places.data.toList.drop 328 = dktX2_places_14 := dk_seg dksX2_places_13 24 rfl rfl
theorem dksX2_places_15 : cX2_places.data.toList.drop 352 = dktX2_places_15 := dk_seg dksX2_places_14 24 rfl rfl
theorem dksX2_places_16 : cX2_places.data.toList.drop 375 = dktX2_places_16 := dk_seg dksX2_places_15 23 rfl rfl
theorem dksX2_places_17 : cX2_places.data.toList.drop 398 = dktX2_places_17 := dk_seg dksX2_places_16 23 rfl rfl
theorem dksX2_places_18 : cX2_places.data.toList.drop 420 = dktX2_places_18 := dk_seg dksX2_places_17 22 rfl rfl
theorem dX2_places_0 : decode cX2_places 0 = .ok (.aload_n 1, 1) := dk_43 (dk_at dksX2_places_0 0 rfl rfl)
theorem dX2_places_1 : decode cX2_places 1 = .ok (.astore_n 3, 1) := dk_78 (dk_at dksX2_places_0 1 rfl rfl)
theorem dX2_places_2 : decode cX2_places 2 = .ok (.iconst (-1), 1) := dk_2 (dk_at dksX2_places_0 2 rfl rfl)
theorem dX2_places_3 : decode cX2_places 3 = .ok (.istore 4, 2) := dk_54 4 (dk_at dksX2_places_0 3 rfl rfl)
theorem dX2_places_5 : decode cX2_places 5 = .ok (.aload_n 3, 1) := dk_45 (dk_at dksX2_places_0 5 rfl rfl)
theorem dX2_places_6 : decode cX2_places 6 = .ok (.invokevirtual 145, 3) := dk_182 0 145 (dk_at dksX2_places_0 6 rfl rfl)
theorem dX2_places_9 : decode cX2_places 9 = .ok (.lookupswitch 77 #[(3655443, 50), (93618367, 65), (98450442, 35)], 35) := by decide +kernel
theorem dX2_places_44 : decode cX2_places 44 = .ok (.aload_n 3, 1) := dk_45 (dk_at dksX2_places_2 0 rfl rfl)
theorem dX2_places_45 : decode cX2_places 45 = .ok (.ldc 148, 2) := dk_18 148 (dk_at dksX2_places_2 1 rfl rfl)
theorem dX2_places_47 : decode cX2_places 47 = .ok (.invokevirtual 74, 3) := dk_182 0 74 (dk_at dksX2_places_2 3 rfl rfl)
theorem dX2_places_50 : decode cX2_places 50 = .ok (.ifCond .eq 36, 3) := dk_153 0 36 (dk_at dksX2_places_2 6 rfl rfl)
theorem dX2_places_53 : decode cX2_places 53 = .ok (.iconst 0, 1) := dk_3 (dk_at dksX2_places_2 9 rfl rfl)
theorem dX2_places_54 : decode cX2_places 54 = .ok (.istore 4, 2) := dk_54 4 (dk_at dksX2_places_2 10 rfl rfl)
theorem dX2_places_56 : decode cX2_places 56 = .ok (.goto 30, 3) := dk_167 0 30 (dk_at dksX2_places_2 12 rfl rfl)
theorem dX2_places_59 : decode cX2_places 59 = .ok (.aload_n 3, 1) := dk_45 (dk_at dksX2_places_2 15 rfl rfl)
theorem dX2_places_60 : decode cX2_places 60 = .ok (.ldc 150, 2) := dk_18 150 (dk_at dksX2_places_2 16 rfl rfl)
theorem dX2_places_62 : decode cX2_places 62 = .ok (.invokevirtual 74, 3) := dk_182 0 74 (dk_at dksX2_places_2 18 rfl rfl)
theorem dX2_places_65 : decode cX2_places 65 = .ok (.ifCond .eq 21, 3) := dk_153 0 21 (dk_at dksX2_places_2 21 rfl rfl)
theorem dX2_places_68 : decode cX2_places 68 = .ok (.iconst 1, 1) := dk_4 (dk_at dksX2_places_3 0 rfl rfl)
theorem dX2_places_69 : decode cX2_places 69 = .ok (.istore 4, 2) := dk_54 4 (dk_at dksX2_places_3 1 rfl rfl)
theorem dX2_places_71 : decode cX2_places 71 = .ok (.goto 15, 3) := dk_167 0 15 (dk_at dksX2_places_3 3 rfl rfl)
theorem dX2_places_74 : decode cX2_places 74 = .ok (.aload_n 3, 1) := dk_45 (dk_at dksX2_places_3 6 rfl rfl)
theorem dX2_places_75 : decode cX2_places 75 = .ok (.ldc 152, 2) := dk_18 152 (dk_at dksX2_places_3 7 rfl rfl)
theorem dX2_places_77 : decode cX2_places 77 = .ok (.invokevirtual 74, 3) := dk_182 0 74 (dk_at dksX2_places_3 9 rfl rfl)
theorem dX2_places_80 : decode cX2_places 80 = .ok (.ifCond .eq 6, 3) := dk_153 0 6 (dk_at dksX2_places_3 12 rfl rfl)
theorem dX2_places_83 : decode cX2_places 83 = .ok (.iconst 2, 1) := dk_5 (dk_at dksX2_places_3 15 rfl rfl)
theorem dX2_places_84 : decode cX2_places 84 = .ok (.istore 4, 2) := dk_54 4 (dk_at dksX2_places_3 16 rfl rfl)
theorem dX2_places_86 : decode cX2_places 86 = .ok (.iload 4, 2) := dk_21 4 (dk_at dksX2_places_3 18 rfl rfl)
theorem dX2_places_88 : decode cX2_places 88 = .ok (.tableswitch 340 0 2 #[28, 92, 221], 28) := by decide +kernel
theorem dX2_places_116 : decode cX2_places 116 = .ok (.aload_n 0, 1) := dk_42 (dk_at dksX2_places_5 0 rfl rfl)
theorem dX2_places_117 : decode cX2_places 117 = .ok (.aload_n 0, 1) := dk_42 (dk_at dksX2_places_5 1 rfl rfl)
theorem dX2_places_118 : decode cX2_places 118 = .ok (.getfield 100, 3) := dk_180 0 100 (dk_at dksX2_places_5 2 rfl rfl)
theorem dX2_places_121 : decode cX2_places 121 = .ok (.getfield 154, 3) := dk_180 0 154 (dk_at dksX2_places_5 5 rfl rfl)
theorem dX2_places_124 : decode cX2_places 124 = .ok (.bipush 20, 2) := dk_16 20 (dk_at dksX2_places_5 8 rfl rfl)
theorem dX2_places_126 : decode cX2_places 126 = .ok (.if_icmp .ne 7, 3) := dk_160 0 7 (dk_at dksX2_places_5 10 rfl rfl)
theorem dX2_places_129 : decode cX2_places 129 = .ok (.iconst 1, 1) := dk_4 (dk_at dksX2_places_5 13 rfl rfl)
theorem dX2_places_130 : decode cX2_places 130 = .ok (.goto 4, 3) := dk_167 0 4 (dk_at dksX2_places_5 14 rfl rfl)
theorem dX2_places_133 : decode cX2_places 133 = .ok (.iconst 0, 1) := dk_3 (dk_at dksX2_places_5 17 rfl rfl)
theorem dX2_places_134 : decode cX2_places 134 = .ok (.iload_n 2, 1) := dk_28 (dk_at dksX2_places_5 18 rfl rfl)
theorem dX2_places_135 : decode cX2_places 135 = .ok (.invokevirtual 133, 3) := dk_182 0 133 (dk_at dksX2_places_5 19 rfl rfl)
theorem dX2_places_138 : decode cX2_places 138 = .ok (.aload_n 0, 1) := dk_42 (dk_at dksX2_places_5 22 rfl rfl)
theorem dX2_places_139 : decode cX2_places 139 = .ok (.invokevirtual 157, 3) := dk_182 0 157 (dk_at dksX2_places_6 0 rfl rfl)
theorem dX2_places_142 : decode cX2_places 142 = .ok (.istore 5, 2) := dk_54 5 (dk_at dksX2_places_6 3 rfl rfl)
theorem dX2_places_144 : decode cX2_places 144 = .ok (.aload_n 0, 1) := dk_42 (dk_at dksX2_places_6 5 rfl rfl)
theorem dX2_places_145 : decode cX2_places 145 = .ok (.getfield 100, 3) := dk_180 0 100 (dk_at dksX2_places_6 6 rfl rfl)
theorem dX2_places_148 : decode cX2_places 148 = .ok (.getfield 160, 3) := dk_180 0 160 (dk_at dksX2_places_6 9 rfl rfl)
theorem dX2_places_151 : decode cX2_places 151 = .ok (.iload 5, 2) := dk_21 5 (dk_at dksX2_places_6 12 rfl rfl)
theorem dX2_places_153 : decode cX2_places 153 = .ok (.dup2, 1) := dk_92 (dk_at dksX2_places_6 14 rfl rfl)
theorem dX2_places_154 : decode cX2_places 154 = .ok (.iaload, 1) := dk_46 (dk_at dksX2_places_6 15 rfl rfl)
theorem dX2_places_155 : decode cX2_places 155 = .ok (.iconst 1, 1) := dk_4 (dk_at dksX2_places_6 16 rfl rfl)
theorem dX2_places_156 : decode cX2_places 156 = .ok (.aload_n 0, 1) := dk_42 (dk_at dksX2_places_6 17 rfl rfl)
theorem dX2_places_157 : decode cX2_places 157 = .ok (.iload 5, 2) := dk_21 5 (dk_at dksX2_places_6 18 rfl rfl)
theorem dX2_places_159 : decode cX2_places 159 = .ok (.invokevirtual 163, 3) := dk_182 0 163 (dk_at dksX2_places_6 20 rfl rfl)
theorem dX2_places_162 : decode cX2_places 162 = .ok (.ishl, 1) := dk_120 (dk_at dksX2_places_6 23 rfl rfl)
theorem dX2_places_163 : decode cX2_places 163 = .ok (.ior, 1) := dk_128 (dk_at dksX2_places_7 0 rfl rfl)
theorem dX2_places_164 : decode cX2_places 164 = .ok (.iastore, 1) := dk_79 (dk_at dksX2_places_7 1 rfl rfl)
theorem dX2_places_165 : decode cX2_places 165 = .ok (.aload_n 0, 1) := dk_42 (dk_at dksX2_places_7 2 rfl rfl)
theorem dX2_places_166 : decode cX2_places 166 = .ok (.getfield 100, 3) := dk_180 0 100 (dk_at dksX2_places_7 3 rfl rfl)
theorem dX2_places_169 : decode cX2_places 169 = .ok (.dup, 1) := dk_89 (dk_at dksX2_places_7 6 rfl rfl)
theorem dX2_places_170 : decode cX2_places 170 = .ok (.getfield 154, 3) := dk_180 0 154 (dk_at dksX2_places_7 7 rfl rfl)
theorem dX2_places_173 : decode cX2_places 173 = .ok (.iconst 1, 1) := dk_4 (dk_at dksX2_places_7 10 rfl rfl)
theorem dX2_places_174 : decode cX2_places 174 = .ok (.iadd, 1) := dk_96 (dk_at dksX2_places_7 11 rfl rfl)
theorem dX2_places_175 : decode cX2_places 175 = .ok (.putfield 154, 3) := dk_181 0 154 (dk_at dksX2_places_7 12 rfl rfl)
theorem dX2_places_178 : decode cX2_places 178 = .ok (.iconst 1, 1) := dk_4 (dk_at dksX2_places_7 15 rfl rfl)
theorem dX2_places_179 : decode cX2_places 179 = .ok (.ireturn, 1) := dk_172 (dk_at dksX2_places_7 16 rfl rfl)
theorem dX2_places_180 : decode cX2_places 180 = .ok (.aload_n 0, 1) := dk_42 (dk_at dksX2_places_7 17 rfl rfl)
theorem dX2_places_181 : decode cX2_places 181 = .ok (.aload_n 0, 1) := dk_42 (dk_at dksX2_places_7 18 rfl rfl)
theorem dX2_places_182 : decode cX2_places 182 = .ok (.getfield 100, 3) := dk_180 0 100 (dk_at dksX2_places_7 19 rfl rfl)
theorem dX2_places_185 : decode cX2_places 185 = .ok (.getfield 166, 3) := dk_180 0 166 (dk_at dksX2_places_8 0 rfl rfl)
theorem dX2_places_188 : decode cX2_places 188 = .ok (.bipush 12, 2) := dk_16 12 (dk_at dksX2_places_8 3 rfl rfl)
theorem dX2_places_190 : decode cX2_places 190 = .ok (.if_icmp .ne 7, 3) := dk_160 0 7 (dk_at dksX2_places_8 5 rfl rfl)
theorem dX2_places_193 : decode cX2_places 193 = .ok (.iconst 1, 1) := dk_4 (dk_at dksX2_places_8 8 rfl rfl)
theorem dX2_places_194 : decode cX2_places 194 = .ok (.goto 4, 3) := dk_167 0 4 (dk_at dksX2_places_8 9 rfl rfl)
theorem dX2_places_197 : decode cX2_places 197 = .ok (.iconst 0, 1) := dk_3 (dk_at dksX2_places_8 12 rfl rfl)
theorem dX2_places_198 : decode cX2_places 198 = .ok (.iload_n 2, 1) := dk_28 (dk_at dksX2_places_8 13 rfl rfl)
theorem dX2_places_199 : decode cX2_places 199 = .ok (.invokevirtual 133, 3) := dk_182 0 133 (dk_at dksX2_places_8 14 rfl rfl)
theorem dX2_places_202 : decode cX2_places 202 = .ok (.aload_n 0, 1) := dk_42 (dk_at dksX2_places_8 17 rfl rfl)
theorem dX2_places_203 : decode cX2_places 203 = .ok (.invokevirtual 157, 3) := dk_182 0 157 (dk_at dksX2_places_8 18 rfl rfl)
theorem dX2_places_206 : decode cX2_places 206 = .ok (.istore 6, 2) := dk_54 6 (dk_at dksX2_places_8 21 rfl rfl)
theorem dX2_places_208 : decode cX2_places 208 = .ok (.aload_n 0, 1) := dk_42 (dk_at dksX2_places_8 23 rfl rfl)
theorem dX2_places_209 : decode cX2_places 209 = .ok (.invokevirtual 157, 3) := dk_182 0 157 (dk_at dksX2_places_9 0 rfl rfl)
theorem dX2_places_212 : decode cX2_places 212 = .ok (.istore 7, 2) := dk_54 7 (dk_at dksX2_places_9 3 rfl rfl)
theorem dX2_places_214 : decode cX2_places 214 = .ok (.iload 7, 2) := dk_21 7 (dk_at dksX2_places_9 5 rfl rfl)
theorem dX2_places_216 : decode cX2_places 216 = .ok (.iload 6, 2) := dk_21 6 (dk_at dksX2_places_9 7 rfl rfl)
theorem dX2_places_218 : decode cX2_places 218 = .ok (.if_icmp .ne 13, 3) := dk_160 0 13 (dk_at dksX2_places_9 9 rfl rfl)
theorem dX2_places_221 : decode cX2_places 221 = .ok (.aload_n 0, 1) := dk_42 (dk_at dksX2_places_9 12 rfl rfl)
theorem dX2_places_222 : decode cX2_places 222 = .ok (.iconst 2, 1) := dk_5 (dk_at dksX2_places_9 13 rfl rfl)
theorem dX2_places_223 : decode cX2_places 223 = .ok (.aload_n 0, 1) := dk_42 (dk_at dksX2_places_9 14 rfl rfl)
theorem dX2_places_224 : decode cX2_places 224 = .ok (.getfield 61, 3) := dk_180 0 61 (dk_at dksX2_places_9 15 rfl rfl)
theorem dX2_places_227 : decode cX2_places 227 = .ok (.invokevirtual 47, 3) := dk_182 0 47 (dk_at dksX2_places_9 18 rfl rfl)
theorem dX2_places_230 : decode cX2_places 230 = .ok (.athrow, 1) := dk_191 (dk_at dksX2_places_9 21 rfl rfl)
theorem dX2_places_231 : decode cX2_places 231 = .ok (.aload_n 0, 1) := dk_42 (dk_at dksX2_places_9 22 rfl rfl)
theorem dX2_places_232 : decode cX2_places 232 = .ok (.getfield 100, 3) := dk_180 0 100 (dk_at dksX2_places_10 0 rfl rfl)
theorem dX2_places_235 : decode cX2_places 235 = .ok (.getfield 169, 3) := dk_180 0 169 (dk_at dksX2_places_10 3 rfl rfl)
theorem dX2_places_238 : decode cX2_places 238 = .ok (.aload_n 0, 1) := dk_42 (dk_at dksX2_places_10 6 rfl rfl)
theorem dX2_places_239 : decode cX2_places 239 = .ok (.getfield 100, 3) := dk_180 0 100 (dk_at dksX2_places_10 7 rfl rfl)
theorem dX2_places_242 : decode cX2_places 242 = .ok (.getfield 166, 3) := dk_180 0 166 (dk_at dksX2_places_10 10 rfl rfl)
theorem dX2_places_245 : decode cX2_places 245 = .ok (.iload 6, 2) := dk_21 6 (dk_at dksX2_places_10 13 rfl rfl)
theorem dX2_places_247 : decode cX2_places 247 = .ok (.iastore, 1) := dk_79 (dk_at dksX2_places_10 15 rfl rfl)
theorem dX2_places_248 : decode cX2_places 248 = .ok (.aload_n 0, 1) := dk_42 (dk_at dksX2_places_10 16 rfl rfl)
theorem dX2_places_249 : decode cX2_places 249 = .ok (.getfield 100, 3) := dk_180 0 100 (dk_at dksX2_places_10 17 rfl rfl)
theorem dX2_places_252 : decode cX2_places 252 = .ok (.getfield 172, 3) := dk_180 0 172 (dk_at dksX2_places_10 20 rfl rfl)
theorem dX2_places_255 : decode cX2_places 255 = .ok (.aload_n 0, 1) := dk_42 (dk_at dksX2_places_10 23 rfl rfl)
theorem dX2_places_256 : decode cX2_places 256 = .ok (.getfield 100, 3) := dk_180 0 100 (dk_at dksX2_places_11 0 rfl rfl)
theorem dX2_places_259 : decode cX2_places 259 = .ok (.getfield 166, 3) := dk_180 0 166 (dk_at dksX2_places_11 3 rfl rfl)
theorem dX2_places_262 : decode cX2_places 262 = .ok (.iload 7, 2) := dk_21 7 (dk_at dksX2_places_11 6 rfl rfl)
theorem dX2_places_264 : decode cX2_places 264 = .ok (.iastore, 1) := dk_79 (dk_at dksX2_places_11 8 rfl rfl)
theorem dX2_places_265 : decode cX2_places 265 = .ok (.aload_n 0, 1) := dk_42 (dk_at dksX2_places_11 9 rfl rfl)
theorem dX2_places_266 : decode cX2_places 266 = .ok (.getfield 100, 3) := dk_180 0 100 (dk_at dksX2_places_11 10 rfl rfl)
theorem dX2_places_269 : decode cX2_places 269 = .ok (.getfield 175, 3) := dk_180 0 175 (dk_at dksX2_places_11 13 rfl rfl)
theorem dX2_places_272 : decode cX2_places 272 = .ok (.aload_n 0, 1) := dk_42 (dk_at dksX2_places_11 16 rfl rfl)
theorem dX2_places_273 : decode cX2_places 273 = .ok (.getfield 100, 3) := dk_180 0 100 (dk_at dksX2_places_11 17 rfl rfl)
theorem dX2_places_276 : decode cX2_places 276 = .ok (.getfield 166, 3) := dk_180 0 166 (dk_at dksX2_places_11 20 rfl rfl)
theorem dX2_places_279 : decode cX2_places 279 = .ok (.aload_n 0, 1) := dk_42 (dk_at dksX2_places_11 23 rfl rfl)
theorem dX2_places_280 : decode cX2_places 280 = .ok (.iconst 0, 1) := dk_3 (dk_at dksX2_places_12 0 rfl rfl)
theorem dX2_places_281 : decode cX2_places 281 = .ok (.aload_n 0, 1) := dk_42 (dk_at dksX2_places_12 1 rfl rfl)
theorem dX2_places_282 : decode cX2_places 282 = .ok (.getfield 100, 3) := dk_180 0 100 (dk_at dksX2_places_12 2 rfl rfl)
theorem dX2_places_285 : decode cX2_places 285 = .ok (.getfield 109, 3) := dk_180 0 109 (dk_at dksX2_places_12 5 rfl rfl)
theorem dX2_places_288 : decode cX2_places 288 = .ok (.iconst 1, 1) := dk_4 (dk_at dksX2_places_12 8 rfl rfl)
theorem dX2_places_289 : decode cX2_places 289 = .ok (.isub, 1) := dk_100 (dk_at dksX2_places_12 9 rfl rfl)
theorem dX2_places_290 : decode cX2_places 290 = .ok (.invokevirtual 96, 3) := dk_182 0 96 (dk_at dksX2_places_12 10 rfl rfl)
theorem dX2_places_293 : decode cX2_places 293 = .ok (.iastore, 1) := dk_79 (dk_at dksX2_places_12 13 rfl rfl)
theorem dX2_places_294 : decode cX2_places 294 = .ok (.aload_n 0, 1) := dk_42 (dk_at dksX2_places_12 14 rfl rfl)
theorem dX2_places_295 : decode cX2_places 295 = .ok (.getfield 100, 3) := dk_180 0 100 (dk_at dksX2_places_12 15 rfl rfl)
theorem dX2_places_298 : decode cX2_places 298 = .ok (.dup, 1) := dk_89 (dk_at dksX2_places_12 18 rfl rfl)
theorem dX2_places_299 : decode cX2_places 299 = .ok (.getfield 166, 3) := dk_180 0 166 (dk_at dksX2_places_12 19 rfl rfl)
theorem dX2_places_302 : decode cX2_places 302 = .ok (.iconst 1, 1) := dk_4 (dk_at dksX2_places_12 22 rfl rfl)
theorem dX2_places_303 : decode cX2_places 303 = .ok (.iadd, 1) := dk_96 (dk_at dksX2_places_12 23 rfl rfl)
theorem dX2_places_304 : decode cX2_places 304 = .ok (.putfield 166, 3) := dk_181 0 166 (dk_at dksX2_places_13 0 rfl rfl)
theorem dX2_places_307 : decode cX2_places 307 = .ok (.iconst 1, 1) := dk_4 (dk_at dksX2_places_13 3 rfl rfl)
theorem dX2_places_308 : decode cX2_places 308 = .ok (.ireturn, 1) := dk_172 (dk_at dksX2_places_13 4 rfl rfl)
theorem dX2_places_309 : decode cX2_places 309 = .ok (.aload_n 0, 1) := dk_42 (dk_at dksX2_places_13 5 rfl rfl)
theorem dX2_places_310 : decode cX2_places 310 = .ok (.aload_n 0, 1) := dk_42 (dk_at dksX2_places_13 6 rfl rfl)
theorem dX2_places_311 : decode cX2_places 311 = .ok (.getfield 100, 3) := dk_180 0 100 (dk_at dksX2_places_13 7 rfl rfl)
theorem dX2_places_314 : decode cX2_places 314 = .ok (.getfield 178, 3) := dk_180 0 178 (dk_at dksX2_places_13 10 rfl rfl)
theorem dX2_places_317 : decode cX2_places 317 = .ok (.invokeinterface 182 1, 5) := by decide +kernel
theorem dX2_places_322 : decode cX2_places 322 = .ok (.bipush 8, 2) := dk_16 8 (dk_at dksX2_places_13 18 rfl rfl)
theorem dX2_places_324 : decode cX2_places 324 = .ok (.if_icmp .ne 7, 3) := dk_160 0 7 (dk_at dksX2_places_13 20 rfl rfl)
theorem dX2_places_327 : decode cX2_places 327 = .ok (.iconst 1, 1) := dk_4 (dk_at dksX2_places_13 23 rfl rfl)
theorem dX2_places_328 : decode cX2_places 328 = .ok (.goto 4, 3) := dk_167 0 4 (dk_at dksX2_places_14 0 rfl rfl)
theorem dX2_places_331 : decode cX2_places 331 = .ok (.iconst 0, 1) := dk_3 (dk_at dksX2_places_14 3 rfl rfl)
theorem dX2_places_332 : decode cX2_places 332 = .ok (.iload_n 2, 1) := dk_28 (dk_at dksX2_places_14 4 rfl rfl)
theorem dX2_places_333 : decode cX2_places 333 = .ok (.invokevirtual 133, 3) := dk_182 0 133 (dk_at dksX2_places_14 5 rfl rfl)
theorem dX2_places_336 : decode cX2_places 336 = .ok (.aload_n 0, 1) := dk_42 (dk_at dksX2_places_14 8 rfl rfl)
theorem dX2_places_337 : decode cX2_places 337 = .ok (.invokevirtual 186, 3) := dk_182 0 186 (dk_at dksX2_places_14 9 rfl rfl)
theorem dX2_places_340 : decode cX2_places 340 = .ok (.astore 8, 2) := dk_58 8 (dk_at dksX2_places_14 12 rfl rfl)
theorem dX2_places_342 : decode cX2_places 342 = .ok (.aload_n 0, 1) := dk_42 (dk_at dksX2_places_14 14 rfl rfl)
theorem dX2_places_343 : decode cX2_places 343 = .ok (.getfield 100, 3) := dk_180 0 100 (dk_at dksX2_places_14 15 rfl rfl)
theorem dX2_places_346 : decode cX2_places 346 = .ok (.aload 8, 2) := dk_25 8 (dk_at dksX2_places_14 18 rfl rfl)
theorem dX2_places_348 : decode cX2_places 348 = .ok (.invokevirtual 189, 3) := dk_182 0 189 (dk_at dksX2_places_14 20 rfl rfl)
theorem dX2_places_351 : decode cX2_places 351 = .ok (.iconst (-1), 1) := dk_2 (dk_at dksX2_places_14 23 rfl rfl)
theorem dX2_places_352 : decode cX2_places 352 = .ok (.if_icmp .eq 13, 3) := dk_159 0 13 (dk_at dksX2_places_15 0 rfl rfl)
theorem dX2_places_355 : decode cX2_places 355 = .ok (.aload_n 0, 1) := dk_42 (dk_at dksX2_places_15 3 rfl rfl)
theorem dX2_places_356 : decode cX2_places 356 = .ok (.iconst 3, 1) := dk_6 (dk_at dksX2_places_15 4 rfl rfl)
theorem dX2_places_357 : decode cX2_places 357 = .ok (.aload_n 0, 1) := dk_42 (dk_at dksX2_places_15 5 rfl rfl)
theorem dX2_places_358 : decode cX2_places 358 = .ok (.getfield 61, 3) := dk_180 0 61 (dk_at dksX2_places_15 6 rfl rfl)
theorem dX2_places_361 : decode cX2_places 361 = .ok (.invokevirtual 47, 3) := dk_182 0 47 (dk_at dksX2_places_15 9 rfl rfl)
theorem dX2_places_364 : decode cX2_places 364 = .ok (.athrow, 1) := dk_191 (dk_at dksX2_places_15 12 rfl rfl)
theorem dX2_places_365 : decode cX2_places 365 = .ok (.aload_n 0, 1) := dk_42 (dk_at dksX2_places_15 13 rfl rfl)
theorem dX2_places_366 : decode cX2_places 366 = .ok (.ldc 192, 2) := dk_18 192 (dk_at dksX2_places_15 14 rfl rfl)
theorem dX2_places_368 : decode cX2_places 368 = .ok (.invokevirtual 93, 3) := dk_182 0 93 (dk_at dksX2_places_15 16 rfl rfl)
theorem dX2_places_371 : decode cX2_places 371 = .ok (.aload_n 0, 1) := dk_42 (dk_at dksX2_places_15 19 rfl rfl)
theorem dX2_places_372 : decode cX2_places 372 = .ok (.invokevirtual 157, 3) := dk_182 0 157 (dk_at dksX2_places_15 20 rfl rfl)
theorem dX2_places_375 : decode cX2_places 375 = .ok (.istore 9, 2) := dk_54 9 (dk_at dksX2_places_16 0 rfl rfl)
theorem dX2_places_377 : decode cX2_places 377 = .ok (.aload_n 0, 1) := dk_42 (dk_at dksX2_places_16 2 rfl rfl)
theorem dX2_places_378 : decode cX2_places 378 = .ok (.ldc 194, 2) := dk_18 194 (dk_at dksX2_places_16 3 rfl rfl)
theorem dX2_places_380 : decode cX2_places 380 = .ok (.invokevirtual 93, 3) := dk_182 0 93 (dk_at dksX2_places_16 5 rfl rfl)
theorem dX2_places_383 : decode cX2_places 383 = .ok (.aload_n 0, 1) := dk_42 (dk_at dksX2_places_16 8 rfl rfl)
theorem dX2_places_384 : decode cX2_places 384 = .ok (.iload 9, 2) := dk_21 9 (dk_at dksX2_places_16 9 rfl rfl)
theorem dX2_places_386 : decode cX2_places 386 = .ok (.invokevirtual 163, 3) := dk_182 0 163 (dk_at dksX2_places_16 11 rfl rfl)
theorem dX2_places_389 : decode cX2_places 389 = .ok (.istore 10, 2) := dk_54 10 (dk_at dksX2_places_16 14 rfl rfl)
theorem dX2_places_391 : decode cX2_places 391 = .ok (.aload_n 0, 1) := dk_42 (dk_at dksX2_places_16 16 rfl rfl)
theorem dX2_places_392 : decode cX2_places 392 = .ok (.getfield 100, 3) := dk_180 0 100 (dk_at dksX2_places_16 17 rfl rfl)
theorem dX2_places_395 : decode cX2_places 395 = .ok (.getfield 178, 3) := dk_180 0 178 (dk_at dksX2_places_16 20 rfl rfl)
theorem dX2_places_398 : decode cX2_places 398 = .ok (.new 195, 3) := dk_187 0 195 (dk_at dksX2_places_17 0 rfl rfl)
theorem dX2_places_401 : decode cX2_places 401 = .ok (.dup, 1) := dk_89 (dk_at dksX2_places_17 3 rfl rfl)
theorem dX2_places_402 : decode cX2_places 402 = .ok (.aload 8, 2) := dk_25 8 (dk_at dksX2_places_17 4 rfl rfl)
theorem dX2_places_404 : decode cX2_places 404 = .ok (.iload 9, 2) := dk_21 9 (dk_at dksX2_places_17 6 rfl rfl)
theorem dX2_places_406 : decode cX2_places 406 = .ok (.iload 10, 2) := dk_21 10 (dk_at dksX2_places_17 8 rfl rfl)
theorem dX2_places_408 : decode cX2_places 408 = .ok (.aload_n 0, 1) := dk_42 (dk_at dksX2_places_17 10 rfl rfl)
theorem dX2_places_409 : decode cX2_places 409 = .ok (.ldc 197, 2) := dk_18 197 (dk_at dksX2_places_17 11 rfl rfl)
theorem dX2_places_411 : decode cX2_places 411 = .ok (.iconst 0, 1) := dk_3 (dk_at dksX2_places_17 13 rfl rfl)
theorem dX2_places_412 : decode cX2_places 412 = .ok (.bipush 9, 2) := dk_16 9 (dk_at dksX2_places_17 14 rfl rfl)
theorem dX2_places_414 : decode cX2_places 414 = .ok (.invokevirtual 123, 3) := dk_182 0 123 (dk_at dksX2_places_17 16 rfl rfl)
theorem dX2_places_417 : decode cX2_places 417 = .ok (.invokespecial 199, 3) := dk_183 0 199 (dk_at dksX2_places_17 19 rfl rfl)
theorem dX2_places_420 : decode cX2_places 420 = .ok (.invokeinterface 202 2, 5) := by decide +kernel
theorem dX2_places_425 : decode cX2_places 425 = .ok (.pop, 1) := dk_87 (dk_at dksX2_places_18 5 rfl rfl)
theorem dX2_places_426 : decode cX2_places 426 = .ok (.iconst 1, 1) := dk_4 (dk_at dksX2_places_18 6 rfl rfl)
theorem dX2_places_427 : decode cX2_places 427 = .ok (.ireturn, 1) := dk_172 (dk_at dksX2_places_18 7 rfl rfl)
theorem dX2_places_428 : decode cX2_places 428 = .ok (.iconst 0, 1) := dk_3 (dk_at dksX2_places_18 8 rfl rfl)
theorem dX2_places_429 : decode cX2_places 429 = .ok (.ireturn, 1) := dk_172 (dk_at dksX2_places_18 9 rfl rfl)
abbrev cX2_leaf : ByteArray := prog_15_method_14_code
def yX2_leaf : MethodName := ⟨RX2, "leaf", "()I"⟩
def dkwX2_leaf_0 : List UInt8 := [42, 3, 42, 180, 0, 100, 180, 0, 104, 4, 100, 182, 0, 96, 172]
abbrev dktX2_leaf_0 : List UInt8 := dkwX2_leaf_0 ++ []
theorem dksX2_leaf_0 : cX2_leaf.data.toList.drop 0 = dktX2_leaf_0 := by decide +kernel
theorem dX2_leaf_0 : decode cX2_leaf 0 = .ok (.aload_n 0, 1) := dk_42 (dk_at dksX2_leaf_0 0 rfl rfl)
theorem dX2_leaf_1 : decode cX2_leaf 1 = .ok (.iconst 0, 1) := dk_3 (dk_at dksX2_leaf_0 1 rfl rfl)
theorem dX2_leaf_2 : decode cX2_leaf 2 = .ok (.aload_n 0, 1) := dk_42 (dk_at dksX2_leaf_0 2 rfl rfl)
theorem dX2_leaf_3 : decode cX2_leaf 3 = .ok (.getfield 100, 3) := dk_180 0 100 (dk_at dksX2_leaf_0 3 rfl rfl)
theorem dX2_leaf_6 : decode cX2_leaf 6 = .ok (.getfield 104, 3) := dk_180 0 104 (dk_at dksX2_leaf_0 6 rfl rfl)
theorem dX2_leaf_9 : decode cX2_leaf 9 = .ok (.iconst 1, 1) := dk_4 (dk_at dksX2_leaf_0 9 rfl rfl)
theorem dX2_leaf_10 : decode cX2_leaf 10 = .ok (.isub, 1) := dk_100 (dk_at dksX2_leaf_0 10 rfl rfl)
theorem dX2_leaf_11 : decode cX2_leaf 11 = .ok (.invokevirtual 96, 3) := dk_182 0 96 (dk_at dksX2_leaf_0 11 rfl rfl)
theorem dX2_leaf_14 : decode cX2_leaf 14 = .ok (.ireturn, 1) := dk_172 (dk_at dksX2_leaf_0 14 rfl rfl)
abbrev cX2_free : ByteArray := prog_15_method_15_code
def yX2_free : MethodName := ⟨RX2, "free", "(I)I"⟩
def dkwX2_free_1 : List UInt8 := [154, 0, 13, 42, 5, 42, 180, 0, 61, 182, 0, 47, 191, 28, 172]
abbrev dktX2_free_1 : List UInt8 := dkwX2_free_1 ++ []
def dkwX2_free_0 : List UInt8 := [42, 3, 42, 180, 0, 100, 180, 0, 109, 4, 100, 182, 0, 96, 61, 42, 180, 0, 100, 27, 28, 182, 0, 112]
abbrev dktX2_free_0 : List UInt8 := dkwX2_free_0 ++ dktX2_free_1
theorem dksX2_free_0 : cX2_free.data.toList.drop 0 = dktX2_free_0 := by decide +kernel
theorem dksX2_free_1 : cX2_free.data.toList.drop 24 = dktX2_free_1 := dk_seg dksX2_free_0 24 rfl rfl
theorem dX2_free_0 : decode cX2_free 0 = .ok (.aload_n 0, 1) := dk_42 (dk_at dksX2_free_0 0 rfl rfl)
theorem dX2_free_1 : decode cX2_free 1 = .ok (.iconst 0, 1) := dk_3 (dk_at dksX2_free_0 1 rfl rfl)
theorem dX2_free_2 : decode cX2_free 2 = .ok (.aload_n 0, 1) := dk_42 (dk_at dksX2_free_0 2 rfl rfl)
theorem dX2_free_3 : decode cX2_free 3 = .ok (.getfield 100, 3) := dk_180 0 100 (dk_at dksX2_free_0 3 rfl rfl)
theorem dX2_free_6 : decode cX2_free 6 = .ok (.getfield 109, 3) := dk_180 0 109 (dk_at dksX2_free_0 6 rfl rfl)
theorem dX2_free_9 : decode cX2_free 9 = .ok (.iconst 1, 1) := dk_4 (dk_at dksX2_free_0 9 rfl rfl)
theorem dX2_free_10 : decode cX2_free 10 = .ok (.isub, 1) := dk_100 (dk_at dksX2_free_0 10 rfl rfl)
theorem dX2_free_11 : decode cX2_free 11 = .ok (.invokevirtual 96, 3) := dk_182 0 96 (dk_at dksX2_free_0 11 rfl rfl)
theorem dX2_free_14 : decode cX2_free 14 = .ok (.istore_n 2, 1) := dk_61 (dk_at dksX2_free_0 14 rfl rfl)
theorem dX2_free_15 : decode cX2_free 15 = .ok (.aload_n 0, 1) := dk_42 (dk_at dksX2_free_0 15 rfl rfl)
theorem dX2_free_16 : decode cX2_free 16 = .ok (.getfield 100, 3) := dk_180 0 100 (dk_at dksX2_free_0 16 rfl rfl)
theorem dX2_free_19 : decode cX2_free 19 = .ok (.iload_n 1, 1) := dk_27 (dk_at dksX2_free_0 19 rfl rfl)
theorem dX2_free_20 : decode cX2_free 20 = .ok (.iload_n 2, 1) := dk_28 (dk_at dksX2_free_0 20 rfl rfl)
theorem dX2_free_21 : decode cX2_free 21 = .ok (.invokevirtual 112, 3) := dk_182 0 112 (dk_at dksX2_free_0 21 rfl rfl)
theorem dX2_free_24 : decode cX2_free 24 = .ok (.ifCond .ne 13, 3) := dk_154 0 13 (dk_at dksX2_free_1 0 rfl rfl)
theorem dX2_free_27 : decode cX2_free 27 = .ok (.aload_n 0, 1) := dk_42 (dk_at dksX2_free_1 3 rfl rfl)
theorem dX2_free_28 : decode cX2_free 28 = .ok (.iconst 2, 1) := dk_5 (dk_at dksX2_free_1 4 rfl rfl)
theorem dX2_free_29 : decode cX2_free 29 = .ok (.aload_n 0, 1) := dk_42 (dk_at dksX2_free_1 5 rfl rfl)
theorem dX2_free_30 : decode cX2_free 30 = .ok (.getfield 61, 3) := dk_180 0 61 (dk_at dksX2_free_1 6 rfl rfl)
theorem dX2_free_33 : decode cX2_free 33 = .ok (.invokevirtual 47, 3) := dk_182 0 47 (dk_at dksX2_free_1 9 rfl rfl)
theorem dX2_free_36 : decode cX2_free 36 = .ok (.athrow, 1) := dk_191 (dk_at dksX2_free_1 12 rfl rfl)
theorem dX2_free_37 : decode cX2_free 37 = .ok (.iload_n 2, 1) := dk_28 (dk_at dksX2_free_1 13 rfl rfl)
theorem dX2_free_38 : decode cX2_free 38 = .ok (.ireturn, 1) := dk_172 (dk_at dksX2_free_1 14 rfl rfl)
abbrev cX2_name : ByteArray := prog_15_method_10_code
def yX2_name : MethodName := ⟨RX2, "name", "()Ljava/lang/String;"⟩
def dkwX2_name_2 : List UInt8 := [182, 0, 47, 191, 43, 176]
abbrev dktX2_name_2 : List UInt8 := dkwX2_name_2 ++ []
def dkwX2_name_1 : List UInt8 := [182, 0, 47, 191, 43, 182, 0, 86, 16, 6, 164, 0, 16, 42, 4, 42, 180, 0, 61, 16, 6, 96]
abbrev dktX2_name_1 : List UInt8 := dkwX2_name_1 ++ dktX2_name_2
def dkwX2_name_0 : List UInt8 := [42, 182, 0, 70, 76, 43, 178, 0, 78, 184, 0, 82, 2, 159, 0, 13, 42, 4, 42, 180, 0, 61]
abbrev dktX2_name_0 : List UInt8 := dkwX2_name_0 ++ dktX2_name_1
theorem dksX2_name_0 : cX2_name.data.toList.drop 0 = dktX2_name_0 := by decide +kernel
theorem dksX2_name_1 : cX2_name.data.toList.drop 22 = dktX2_name_1 := dk_seg dksX2_name_0 22 rfl rfl
theorem dksX2_name_2 : cX2_name.data.toList.drop 44 = dktX2_name_2 := dk_seg dksX2_name_1 22 rfl rfl
theorem dX2_name_0 : decode cX2_name 0 = .ok (.aload_n 0, 1) := dk_42 (dk_at dksX2_name_0 0 rfl rfl)
theorem dX2_name_1 : decode cX2_name 1 = .ok (.invokevirtual 70, 3) := dk_182 0 70 (dk_at dksX2_name_0 1 rfl rfl)
theorem dX2_name_4 : decode cX2_name 4 = .ok (.astore_n 1, 1) := dk_76 (dk_at dksX2_name_0 4 rfl rfl)
theorem dX2_name_5 : decode cX2_name 5 = .ok (.aload_n 1, 1) := dk_43 (dk_at dksX2_name_0 5 rfl rfl)
theorem dX2_name_6 : decode cX2_name 6 = .ok (.getstatic 78, 3) := dk_178 0 78 (dk_at dksX2_name_0 6 rfl rfl)
theorem dX2_name_9 : decode cX2_name 9 = .ok (.invokestatic 82, 3) := dk_184 0 82 (dk_at dksX2_name_0 9 rfl rfl)
theorem dX2_name_12 : decode cX2_name 12 = .ok (.iconst (-1), 1) := dk_2 (dk_at dksX2_name_0 12 rfl rfl)
theorem dX2_name_13 : decode cX2_name 13 = .ok (.if_icmp .eq 13, 3) := dk_159 0 13 (dk_at dksX2_name_0 13 rfl rfl)
theorem dX2_name_16 : decode cX2_name 16 = .ok (.aload_n 0, 1) := dk_42 (dk_at dksX2_name_0 16 rfl rfl)
theorem dX2_name_17 : decode cX2_name 17 = .ok (.iconst 1, 1) := dk_4 (dk_at dksX2_name_0 17 rfl rfl)
theorem dX2_name_18 : decode cX2_name 18 = .ok (.aload_n 0, 1) := dk_42 (dk_at dksX2_name_0 18 rfl rfl)
theorem dX2_name_19 : decode cX2_name 19 = .ok (.getfield 61, 3) := dk_180 0 61 (dk_at dksX2_name_0 19 rfl rfl)
theorem dX2_name_22 : decode cX2_name 22 = .ok (.invokevirtual 47, 3) := dk_182 0 47 (dk_at dksX2_name_1 0 rfl rfl)
theorem dX2_name_25 : decode cX2_name 25 = .ok (.athrow, 1) := dk_191 (dk_at dksX2_name_1 3 rfl rfl)
theorem dX2_name_26 : decode cX2_name 26 = .ok (.aload_n 1, 1) := dk_43 (dk_at dksX2_name_1 4 rfl rfl)
theorem dX2_name_27 : decode cX2_name 27 = .ok (.invokevirtual 86, 3) := dk_182 0 86 (dk_at dksX2_name_1 5 rfl rfl)
theorem dX2_name_30 : decode cX2_name 30 = .ok (.bipush 6, 2) := dk_16 6 (dk_at dksX2_name_1 8 rfl rfl)
theorem dX2_name_32 : decode cX2_name 32 = .ok (.if_icmp .le 16, 3) := dk_164 0 16 (dk_at dksX2_name_1 10 rfl rfl)
theorem dX2_name_35 : decode cX2_name 35 = .ok (.aload_n 0, 1) := dk_42 (dk_at dksX2_name_1 13 rfl rfl)
theorem dX2_name_36 : decode cX2_name 36 = .ok (.iconst 1, 1) := dk_4 (dk_at dksX2_name_1 14 rfl rfl)
theorem dX2_name_37 : decode cX2_name 37 = .ok (.aload_n 0, 1) := dk_42 (dk_at dksX2_name_1 15 rfl rfl)
theorem dX2_name_38 : decode cX2_name 38 = .ok (.getfield 61, 3) := dk_180 0 61 (dk_at dksX2_name_1 16 rfl rfl)
theorem dX2_name_41 : decode cX2_name 41 = .ok (.bipush 6, 2) := dk_16 6 (dk_at dksX2_name_1 19 rfl rfl)
theorem dX2_name_43 : decode cX2_name 43 = .ok (.iadd, 1) := dk_96 (dk_at dksX2_name_1 21 rfl rfl)
theorem dX2_name_44 : decode cX2_name 44 = .ok (.invokevirtual 47, 3) := dk_182 0 47 (dk_at dksX2_name_2 0 rfl rfl)
theorem dX2_name_47 : decode cX2_name 47 = .ok (.athrow, 1) := dk_191 (dk_at dksX2_name_2 3 rfl rfl)
theorem dX2_name_48 : decode cX2_name 48 = .ok (.aload_n 1, 1) := dk_43 (dk_at dksX2_name_2 4 rfl rfl)
theorem dX2_name_49 : decode cX2_name 49 = .ok (.areturn, 1) := dk_176 (dk_at dksX2_name_2 5 rfl rfl)
abbrev cX2_more : ByteArray := prog_15_method_19_code
def yX2_more : MethodName := ⟨RX2, "more", "(Ljava/lang/String;I)V"⟩
def dkwX2_more_12 : List UInt8 := [16, 100, 182, 0, 96, 181, 0, 240, 167, 0, 10, 42, 4, 28, 182, 0, 47, 191, 177]
abbrev dktX2_more_12 : List UInt8 := dkwX2_more_12 ++ []
def dkwX2_more_11 : List UInt8 := [181, 0, 205, 42, 180, 0, 100, 42, 182, 0, 236, 181, 0, 233, 167, 0, 27, 42, 180, 0, 100, 42, 3]
abbrev dktX2_more_11 : List UInt8 := dkwX2_more_11 ++ dktX2_more_12
def dkwX2_more_10 : List UInt8 := [42, 180, 0, 100, 180, 0, 233, 198, 0, 7, 4, 167, 0, 4, 3, 28, 182, 0, 133, 42, 16, 63]
abbrev dktX2_more_10 : List UInt8 := dkwX2_more_10 ++ dktX2_more_11
def dkwX2_more_9 : List UInt8 := [180, 0, 100, 42, 42, 180, 0, 100, 180, 0, 231, 28, 16, 127, 182, 0, 225, 181, 0, 231, 167, 0, 67, 42]
abbrev dktX2_more_9 : List UInt8 := dkwX2_more_9 ++ dktX2_more_10
def dkwX2_more_8 : List UInt8 := [180, 0, 100, 42, 42, 180, 0, 100, 180, 0, 229, 28, 16, 63, 182, 0, 225, 181, 0, 229, 167, 0, 91, 42]
abbrev dktX2_more_8 : List UInt8 := dkwX2_more_8 ++ dktX2_more_9
def dkwX2_more_7 : List UInt8 := [42, 180, 0, 100, 42, 42, 180, 0, 100, 180, 0, 222, 28, 4, 182, 0, 225, 181, 0, 222, 167, 0, 115, 42]
abbrev dktX2_more_7 : List UInt8 := dkwX2_more_7 ++ dktX2_more_8
def dkwX2_more_6 : List UInt8 := [170, 0, 0, 0, 0, 162, 0, 0, 0, 0, 0, 0, 0, 4, 0, 0, 0, 34, 0, 0, 0, 57, 0, 0, 0, 81, 0, 0, 0, 105, 0, 0, 0, 145]
abbrev dktX2_more_6 : List UInt8 := dkwX2_more_6 ++ dktX2_more_7
def dkwX2_more_5 : List UInt8 := [21, 4]
abbrev dktX2_more_5 : List UInt8 := dkwX2_more_5 ++ dktX2_more_6
def dkwX2_more_4 : List UInt8 := [182, 0, 74, 153, 0, 21, 6, 54, 4, 167, 0, 15, 45, 18, 220, 182, 0, 74, 153, 0, 6, 7, 54, 4]
abbrev dktX2_more_4 : List UInt8 := dkwX2_more_4 ++ dktX2_more_5
def dkwX2_more_3 : List UInt8 := [4, 54, 4, 167, 0, 45, 45, 18, 216, 182, 0, 74, 153, 0, 36, 5, 54, 4, 167, 0, 30, 45, 18, 218]
abbrev dktX2_more_3 : List UInt8 := dkwX2_more_3 ++ dktX2_more_4
def dkwX2_more_2 : List UInt8 := [45, 18, 212, 182, 0, 74, 153, 0, 66, 3, 54, 4, 167, 0, 60, 45, 18, 214, 182, 0, 74, 153, 0, 51]
abbrev dktX2_more_2 : List UInt8 := dkwX2_more_2 ++ dktX2_more_3
def dkwX2_more_1 : List UInt8 := [171, 0, 0, 0, 0, 0, 123, 0, 0, 0, 5, 0, 46, 175, 168, 0, 0, 0, 66, 0, 54, 105, 59, 0, 0, 0, 81, 6, 80, 163, 105, 0, 0, 0, 51, 6, 138, 211, 39, 0, 0, 0, 96, 6, 147, 177, 214, 0, 0, 0, 111]
abbrev dktX2_more_1 : List UInt8 := dkwX2_more_1 ++ dktX2_more_2
def dkwX2_more_0 : List UInt8 := [43, 78, 2, 54, 4, 45, 182, 0, 145]
abbrev dktX2_more_0 : List UInt8 := dkwX2_more_0 ++ dktX2_more_1
theorem dksX2_more_0 : cX2_more.data.toList.drop 0 = dktX2_more_0 := by decide +kernel
theorem dksX2_more_1 : cX2_more.data.toList.drop 9 = dktX2_more_1 := dk_seg dksX2_more_0 9 rfl rfl
theorem dksX2_more_2 : cX2_more.data.toList.drop 60 = dktX2_more_2 := dk_seg dksX2_more_1 51 rfl rfl
theorem dksX2_more_3 : cX2_more.data.toList.drop 84 = dktX2_more_3 := dk_seg dksX2_more_2 24 rfl rfl
theorem dksX2_more_4 : cX2_more.data.toList.drop 108 = dktX2_more_4 := dk_seg dksX2_more_3 24 rfl rfl
theorem dksX2_more_5 : cX2_more.data.toList.drop 132 = dktX2_more_5 := dk_seg dksX2_more_4 24 rfl rfl
theorem dksX2_more_6 : cX2_more.data.toList.drop 134 = dktX2_more_6 := dk_seg dksX2_more_5 2 rfl rfl
theorem dksX2_more_7 : cX2_more.data.toList.drop 168 = dktX2_more_7 := dk_seg dksX2_more_6 34 rfl rfl
theorem dksX2_more_8 : cX2_more.data.toList.drop 192 = dktX2_more_8 := dk_seg dksX2_more_7 24 rfl rfl
theorem dksX2_more_9 : cX2_more.data.toList.drop 216 = dktX2_more_9 := dk_seg dksX2_more_8 24 rfl rfl
theorem dksX2_more_10 : cX2_more.data.toList.drop 240 = dktX2_more_10 := dk_seg dksX2_more_9 24 rfl rfl
theorem dksX2_more_11 : cX2_more.data.toList.drop 262 = dktX2_more_11 := dk_seg dksX2_more_10 22 rfl rfl
theorem dksX2_more_12 : cX2_more.data.toList.drop 285 = dktX2_more_12 := dk_seg dksX2_more_11 23 rfl rfl
theorem dX2_more_0 : decode cX2_more 0 = .ok (.aload_n 1, 1) := dk_43 (dk_at dksX2_more_0 0 rfl rfl)
theorem dX2_more_1 : decode cX2_more 1 = .ok (.astore_n 3, 1) := dk_78 (dk_at dksX2_more_0 1 rfl rfl)
theorem dX2_more_2 : decode cX2_more 2 = .ok (.iconst (-1), 1) := dk_2 (dk_at dksX2_more_0 2 rfl rfl)
theorem dX2_more_3 : decode cX2_more 3 = .ok (.istore 4, 2) := dk_54 4 (dk_at dksX2_more_0 3 rfl rfl)
theorem dX2_more_5 : decode cX2_more 5 = .ok (.aload_n 3, 1) := dk_45 (dk_at dksX2_more_0 5 rfl rfl)
theorem dX2_more_6 : decode cX2_more 6 = .ok (.invokevirtual 145, 3) := dk_182 0 145 (dk_at dksX2_more_0 6 rfl rfl)
theorem dX2_more_9 : decode cX2_more 9 = .ok (.lookupswitch 123 #[(3059624, 66), (3565883, 81), (105948009, 51), (109761319, 96), (110342614, 111)], 51) := by decide +kernel
theorem dX2_more_60 : decode cX2_more 60 = .ok (.aload_n 3, 1) := dk_45 (dk_at dksX2_more_2 0 rfl rfl)
theorem dX2_more_61 : decode cX2_more 61 = .ok (.ldc 212, 2) := dk_18 212 (dk_at dksX2_more_2 1 rfl rfl)
theorem dX2_more_63 : decode cX2_more 63 = .ok (.invokevirtual 74, 3) := dk_182 0 74 (dk_at dksX2_more_2 3 rfl rfl)
theorem dX2_more_66 : decode cX2_more 66 = .ok (.ifCond .eq 66, 3) := dk_153 0 66 (dk_at dksX2_more_2 6 rfl rfl)
theorem dX2_more_69 : decode cX2_more 69 = .ok (.iconst 0, 1) := dk_3 (dk_at dksX2_more_2 9 rfl rfl)
theorem dX2_more_70 : decode cX2_more 70 = .ok (.istore 4, 2) := dk_54 4 (dk_at dksX2_more_2 10 rfl rfl)
theorem dX2_more_72 : decode cX2_more 72 = .ok (.goto 60, 3) := dk_167 0 60 (dk_at dksX2_more_2 12 rfl rfl)
theorem dX2_more_75 : decode cX2_more 75 = .ok (.aload_n 3, 1) := dk_45 (dk_at dksX2_more_2 15 rfl rfl)
theorem dX2_more_76 : decode cX2_more 76 = .ok (.ldc 214, 2) := dk_18 214 (dk_at dksX2_more_2 16 rfl rfl)
theorem dX2_more_78 : decode cX2_more 78 = .ok (.invokevirtual 74, 3) := dk_182 0 74 (dk_at dksX2_more_2 18 rfl rfl)
theorem dX2_more_81 : decode cX2_more 81 = .ok (.ifCond .eq 51, 3) := dk_153 0 51 (dk_at dksX2_more_2 21 rfl rfl)
theorem dX2_more_84 : decode cX2_more 84 = .ok (.iconst 1, 1) := dk_4 (dk_at dksX2_more_3 0 rfl rfl)
theorem dX2_more_85 : decode cX2_more 85 = .ok (.istore 4, 2) := dk_54 4 (dk_at dksX2_more_3 1 rfl rfl)
theorem dX2_more_87 : decode cX2_more 87 = .ok (.goto 45, 3) := dk_167 0 45 (dk_at dksX2_more_3 3 rfl rfl)
theorem dX2_more_90 : decode cX2_more 90 = .ok (.aload_n 3, 1) := dk_45 (dk_at dksX2_more_3 6 rfl rfl)
theorem dX2_more_91 : decode cX2_more 91 = .ok (.ldc 216, 2) := dk_18 216 (dk_at dksX2_more_3 7 rfl rfl)
theorem dX2_more_93 : decode cX2_more 93 = .ok (.invokevirtual 74, 3) := dk_182 0 74 (dk_at dksX2_more_3 9 rfl rfl)
theorem dX2_more_96 : decode cX2_more 96 = .ok (.ifCond .eq 36, 3) := dk_153 0 36 (dk_at dksX2_more_3 12 rfl rfl)
theorem dX2_more_99 : decode cX2_more 99 = .ok (.iconst 2, 1) := dk_5 (dk_at dksX2_more_3 15 rfl rfl)
theorem dX2_more_100 : decode cX2_more 100 = .ok (.istore 4, 2) := dk_54 4 (dk_at dksX2_more_3 16 rfl rfl)
theorem dX2_more_102 : decode cX2_more 102 = .ok (.goto 30, 3) := dk_167 0 30 (dk_at dksX2_more_3 18 rfl rfl)
theorem dX2_more_105 : decode cX2_more 105 = .ok (.aload_n 3, 1) := dk_45 (dk_at dksX2_more_3 21 rfl rfl)
theorem dX2_more_106 : decode cX2_more 106 = .ok (.ldc 218, 2) := dk_18 218 (dk_at dksX2_more_3 22 rfl rfl)
theorem dX2_more_108 : decode cX2_more 108 = .ok (.invokevirtual 74, 3) := dk_182 0 74 (dk_at dksX2_more_4 0 rfl rfl)
theorem dX2_more_111 : decode cX2_more 111 = .ok (.ifCond .eq 21, 3) := dk_153 0 21 (dk_at dksX2_more_4 3 rfl rfl)
theorem dX2_more_114 : decode cX2_more 114 = .ok (.iconst 3, 1) := dk_6 (dk_at dksX2_more_4 6 rfl rfl)
theorem dX2_more_115 : decode cX2_more 115 = .ok (.istore 4, 2) := dk_54 4 (dk_at dksX2_more_4 7 rfl rfl)
theorem dX2_more_117 : decode cX2_more 117 = .ok (.goto 15, 3) := dk_167 0 15 (dk_at dksX2_more_4 9 rfl rfl)
theorem dX2_more_120 : decode cX2_more 120 = .ok (.aload_n 3, 1) := dk_45 (dk_at dksX2_more_4 12 rfl rfl)
theorem dX2_more_121 : decode cX2_more 121 = .ok (.ldc 220, 2) := dk_18 220 (dk_at dksX2_more_4 13 rfl rfl)
theorem dX2_more_123 : decode cX2_more 123 = .ok (.invokevirtual 74, 3) := dk_182 0 74 (dk_at dksX2_more_4 15 rfl rfl)
theorem dX2_more_126 : decode cX2_more 126 = .ok (.ifCond .eq 6, 3) := dk_153 0 6 (dk_at dksX2_more_4 18 rfl rfl)
theorem dX2_more_129 : decode cX2_more 129 = .ok (.iconst 4, 1) := dk_7 (dk_at dksX2_more_4 21 rfl rfl)
theorem dX2_more_130 : decode cX2_more 130 = .ok (.istore 4, 2) := dk_54 4 (dk_at dksX2_more_4 22 rfl rfl)
theorem dX2_more_132 : decode cX2_more 132 = .ok (.iload 4, 2) := dk_21 4 (dk_at dksX2_more_5 0 rfl rfl)
theorem dX2_more_134 : decode cX2_more 134 = .ok (.tableswitch 162 0 4 #[34, 57, 81, 105, 145], 34) := by decide +kernel
theorem dX2_more_168 : decode cX2_more 168 = .ok (.aload_n 0, 1) := dk_42 (dk_at dksX2_more_7 0 rfl rfl)
theorem dX2_more_169 : decode cX2_more 169 = .ok (.getfield 100, 3) := dk_180 0 100 (dk_at dksX2_more_7 1 rfl rfl)
theorem dX2_more_172 : decode cX2_more 172 = .ok (.aload_n 0, 1) := dk_42 (dk_at dksX2_more_7 4 rfl rfl)
theorem dX2_more_173 : decode cX2_more 173 = .ok (.aload_n 0, 1) := dk_42 (dk_at dksX2_more_7 5 rfl rfl)
theorem dX2_more_174 : decode cX2_more 174 = .ok (.getfield 100, 3) := dk_180 0 100 (dk_at dksX2_more_7 6 rfl rfl)
theorem dX2_more_177 : decode cX2_more 177 = .ok (.getfield 222, 3) := dk_180 0 222 (dk_at dksX2_more_7 9 rfl rfl)
theorem dX2_more_180 : decode cX2_more 180 = .ok (.iload_n 2, 1) := dk_28 (dk_at dksX2_more_7 12 rfl rfl)
theorem dX2_more_181 : decode cX2_more 181 = .ok (.iconst 1, 1) := dk_4 (dk_at dksX2_more_7 13 rfl rfl)
theorem dX2_more_182 : decode cX2_more 182 = .ok (.invokevirtual 225, 3) := dk_182 0 225 (dk_at dksX2_more_7 14 rfl rfl)
theorem dX2_more_185 : decode cX2_more 185 = .ok (.putfield 222, 3) := dk_181 0 222 (dk_at dksX2_more_7 17 rfl rfl)
theorem dX2_more_188 : decode cX2_more 188 = .ok (.goto 115, 3) := dk_167 0 115 (dk_at dksX2_more_7 20 rfl rfl)
theorem dX2_more_191 : decode cX2_more 191 = .ok (.aload_n 0, 1) := dk_42 (dk_at dksX2_more_7 23 rfl rfl)
theorem dX2_more_192 : decode cX2_more 192 = .ok (.getfield 100, 3) := dk_180 0 100 (dk_at dksX2_more_8 0 rfl rfl)
theorem dX2_more_195 : decode cX2_more 195 = .ok (.aload_n 0, 1) := dk_42 (dk_at dksX2_more_8 3 rfl rfl)
theorem dX2_more_196 : decode cX2_more 196 = .ok (.aload_n 0, 1) := dk_42 (dk_at dksX2_more_8 4 rfl rfl)
theorem dX2_more_197 : decode cX2_more 197 = .ok (.getfield 100, 3) := dk_180 0 100 (dk_at dksX2_more_8 5 rfl rfl)
theorem dX2_more_200 : decode cX2_more 200 = .ok (.getfield 229, 3) := dk_180 0 229 (dk_at dksX2_more_8 8 rfl rfl)
theorem dX2_more_203 : decode cX2_more 203 = .ok (.iload_n 2, 1) := dk_28 (dk_at dksX2_more_8 11 rfl rfl)
theorem dX2_more_204 : decode cX2_more 204 = .ok (.bipush 63, 2) := dk_16 63 (dk_at dksX2_more_8 12 rfl rfl)
theorem dX2_more_206 : decode cX2_more 206 = .ok (.invokevirtual 225, 3) := dk_182 0 225 (dk_at dksX2_more_8 14 rfl rfl)
theorem dX2_more_209 : decode cX2_more 209 = .ok (.putfield 229, 3) := dk_181 0 229 (dk_at dksX2_more_8 17 rfl rfl)
theorem dX2_more_212 : decode cX2_more 212 = .ok (.goto 91, 3) := dk_167 0 91 (dk_at dksX2_more_8 20 rfl rfl)
theorem dX2_more_215 : decode cX2_more 215 = .ok (.aload_n 0, 1) := dk_42 (dk_at dksX2_more_8 23 rfl rfl)
theorem dX2_more_216 : decode cX2_more 216 = .ok (.getfield 100, 3) := dk_180 0 100 (dk_at dksX2_more_9 0 rfl rfl)
theorem dX2_more_219 : decode cX2_more 219 = .ok (.aload_n 0, 1) := dk_42 (dk_at dksX2_more_9 3 rfl rfl)
theorem dX2_more_220 : decode cX2_more 220 = .ok (.aload_n 0, 1) := dk_42 (dk_at dksX2_more_9 4 rfl rfl)
theorem dX2_more_221 : decode cX2_more 221 = .ok (.getfield 100, 3) := dk_180 0 100 (dk_at dksX2_more_9 5 rfl rfl)
theorem dX2_more_224 : decode cX2_more 224 = .ok (.getfield 231, 3) := dk_180 0 231 (dk_at dksX2_more_9 8 rfl rfl)
theorem dX2_more_227 : decode cX2_more 227 = .ok (.iload_n 2, 1) := dk_28 (dk_at dksX2_more_9 11 rfl rfl)
theorem dX2_more_228 : decode cX2_more 228 = .ok (.bipush 127, 2) := dk_16 127 (dk_at dksX2_more_9 12 rfl rfl)
theorem dX2_more_230 : decode cX2_more 230 = .ok (.invokevirtual 225, 3) := dk_182 0 225 (dk_at dksX2_more_9 14 rfl rfl)
theorem dX2_more_233 : decode cX2_more 233 = .ok (.putfield 231, 3) := dk_181 0 231 (dk_at dksX2_more_9 17 rfl rfl)
theorem dX2_more_236 : decode cX2_more 236 = .ok (.goto 67, 3) := dk_167 0 67 (dk_at dksX2_more_9 20 rfl rfl)
theorem dX2_more_239 : decode cX2_more 239 = .ok (.aload_n 0, 1) := dk_42 (dk_at dksX2_more_9 23 rfl rfl)
theorem dX2_more_240 : decode cX2_more 240 = .ok (.aload_n 0, 1) := dk_42 (dk_at dksX2_more_10 0 rfl rfl)
theorem dX2_more_241 : decode cX2_more 241 = .ok (.getfield 100, 3) := dk_180 0 100 (dk_at dksX2_more_10 1 rfl rfl)
theorem dX2_more_244 : decode cX2_more 244 = .ok (.getfield 233, 3) := dk_180 0 233 (dk_at dksX2_more_10 4 rfl rfl)
theorem dX2_more_247 : decode cX2_more 247 = .ok (.ifnull 7, 3) := dk_198 0 7 (dk_at dksX2_more_10 7 rfl rfl)
theorem dX2_more_250 : decode cX2_more 250 = .ok (.iconst 1, 1) := dk_4 (dk_at dksX2_more_10 10 rfl rfl)
theorem dX2_more_251 : decode cX2_more 251 = .ok (.goto 4, 3) := dk_167 0 4 (dk_at dksX2_more_10 11 rfl rfl)
theorem dX2_more_254 : decode cX2_more 254 = .ok (.iconst 0, 1) := dk_3 (dk_at dksX2_more_10 14 rfl rfl)
theorem dX2_more_255 : decode cX2_more 255 = .ok (.iload_n 2, 1) := dk_28 (dk_at dksX2_more_10 15 rfl rfl)
theorem dX2_more_256 : decode cX2_more 256 = .ok (.invokevirtual 133, 3) := dk_182 0 133 (dk_at dksX2_more_10 16 rfl rfl)
theorem dX2_more_259 : decode cX2_more 259 = .ok (.aload_n 0, 1) := dk_42 (dk_at dksX2_more_10 19 rfl rfl)
theorem dX2_more_260 : decode cX2_more 260 = .ok (.bipush 63, 2) := dk_16 63 (dk_at dksX2_more_10 20 rfl rfl)
theorem dX2_more_262 : decode cX2_more 262 = .ok (.putfield 205, 3) := dk_181 0 205 (dk_at dksX2_more_11 0 rfl rfl)
theorem dX2_more_265 : decode cX2_more 265 = .ok (.aload_n 0, 1) := dk_42 (dk_at dksX2_more_11 3 rfl rfl)
theorem dX2_more_266 : decode cX2_more 266 = .ok (.getfield 100, 3) := dk_180 0 100 (dk_at dksX2_more_11 4 rfl rfl)
theorem dX2_more_269 : decode cX2_more 269 = .ok (.aload_n 0, 1) := dk_42 (dk_at dksX2_more_11 7 rfl rfl)
theorem dX2_more_270 : decode cX2_more 270 = .ok (.invokevirtual 236, 3) := dk_182 0 236 (dk_at dksX2_more_11 8 rfl rfl)
theorem dX2_more_273 : decode cX2_more 273 = .ok (.putfield 233, 3) := dk_181 0 233 (dk_at dksX2_more_11 11 rfl rfl)
theorem dX2_more_276 : decode cX2_more 276 = .ok (.goto 27, 3) := dk_167 0 27 (dk_at dksX2_more_11 14 rfl rfl)
theorem dX2_more_279 : decode cX2_more 279 = .ok (.aload_n 0, 1) := dk_42 (dk_at dksX2_more_11 17 rfl rfl)
theorem dX2_more_280 : decode cX2_more 280 = .ok (.getfield 100, 3) := dk_180 0 100 (dk_at dksX2_more_11 18 rfl rfl)
theorem dX2_more_283 : decode cX2_more 283 = .ok (.aload_n 0, 1) := dk_42 (dk_at dksX2_more_11 21 rfl rfl)
theorem dX2_more_284 : decode cX2_more 284 = .ok (.iconst 0, 1) := dk_3 (dk_at dksX2_more_11 22 rfl rfl)
theorem dX2_more_285 : decode cX2_more 285 = .ok (.bipush 100, 2) := dk_16 100 (dk_at dksX2_more_12 0 rfl rfl)
theorem dX2_more_287 : decode cX2_more 287 = .ok (.invokevirtual 96, 3) := dk_182 0 96 (dk_at dksX2_more_12 2 rfl rfl)
theorem dX2_more_290 : decode cX2_more 290 = .ok (.putfield 240, 3) := dk_181 0 240 (dk_at dksX2_more_12 5 rfl rfl)
theorem dX2_more_293 : decode cX2_more 293 = .ok (.goto 10, 3) := dk_167 0 10 (dk_at dksX2_more_12 8 rfl rfl)
theorem dX2_more_296 : decode cX2_more 296 = .ok (.aload_n 0, 1) := dk_42 (dk_at dksX2_more_12 11 rfl rfl)
theorem dX2_more_297 : decode cX2_more 297 = .ok (.iconst 1, 1) := dk_4 (dk_at dksX2_more_12 12 rfl rfl)
theorem dX2_more_298 : decode cX2_more 298 = .ok (.iload_n 2, 1) := dk_28 (dk_at dksX2_more_12 13 rfl rfl)
theorem dX2_more_299 : decode cX2_more 299 = .ok (.invokevirtual 47, 3) := dk_182 0 47 (dk_at dksX2_more_12 14 rfl rfl)
theorem dX2_more_302 : decode cX2_more 302 = .ok (.athrow, 1) := dk_191 (dk_at dksX2_more_12 17 rfl rfl)
theorem dX2_more_303 : decode cX2_more 303 = .ok (.return_, 1) := dk_177 (dk_at dksX2_more_12 18 rfl rfl)
abbrev cX2_once : ByteArray := prog_15_method_18_code
def yX2_once : MethodName := ⟨RX2, "once", "(LMarginFolk$Value;II)LMarginFolk$Value;"⟩
def dkwX2_once_0 : List UInt8 := [42, 43, 198, 0, 7, 4, 167, 0, 4, 3, 28, 182, 0, 133, 42, 29, 181, 0, 205, 42, 182, 0, 208, 176]
abbrev dktX2_once_0 : List UInt8 := dkwX2_once_0 ++ []
theorem dksX2_once_0 : cX2_once.data.toList.drop 0 = dktX2_once_0 := by decide +kernel
theorem dX2_once_0 : decode cX2_once 0 = .ok (.aload_n 0, 1) := dk_42 (dk_at dksX2_once_0 0 rfl rfl)
theorem dX2_once_1 : decode cX2_once 1 = .ok (.aload_n 1, 1) := dk_43 (dk_at dksX2_once_0 1 rfl rfl)
theorem dX2_once_2 : decode cX2_once 2 = .ok (.ifnull 7, 3) := dk_198 0 7 (dk_at dksX2_once_0 2 rfl rfl)
theorem dX2_once_5 : decode cX2_once 5 = .ok (.iconst 1, 1) := dk_4 (dk_at dksX2_once_0 5 rfl rfl)
theorem dX2_once_6 : decode cX2_once 6 = .ok (.goto 4, 3) := dk_167 0 4 (dk_at dksX2_once_0 6 rfl rfl)
theorem dX2_once_9 : decode cX2_once 9 = .ok (.iconst 0, 1) := dk_3 (dk_at dksX2_once_0 9 rfl rfl)
theorem dX2_once_10 : decode cX2_once 10 = .ok (.iload_n 2, 1) := dk_28 (dk_at dksX2_once_0 10 rfl rfl)
theorem dX2_once_11 : decode cX2_once 11 = .ok (.invokevirtual 133, 3) := dk_182 0 133 (dk_at dksX2_once_0 11 rfl rfl)
theorem dX2_once_14 : decode cX2_once 14 = .ok (.aload_n 0, 1) := dk_42 (dk_at dksX2_once_0 14 rfl rfl)
theorem dX2_once_15 : decode cX2_once 15 = .ok (.iload_n 3, 1) := dk_29 (dk_at dksX2_once_0 15 rfl rfl)
theorem dX2_once_16 : decode cX2_once 16 = .ok (.putfield 205, 3) := dk_181 0 205 (dk_at dksX2_once_0 16 rfl rfl)
theorem dX2_once_19 : decode cX2_once 19 = .ok (.aload_n 0, 1) := dk_42 (dk_at dksX2_once_0 19 rfl rfl)
theorem dX2_once_20 : decode cX2_once 20 = .ok (.invokevirtual 208, 3) := dk_182 0 208 (dk_at dksX2_once_0 20 rfl rfl)
theorem dX2_once_23 : decode cX2_once 23 = .ok (.areturn, 1) := dk_176 (dk_at dksX2_once_0 23 rfl rfl)
abbrev cX2_sum : ByteArray := prog_15_method_21_code
def yX2_sum : MethodName := ⟨RX2, "sum", "()LMarginFolk$Value;"⟩
def dkwX2_sum_3 : List UInt8 := [167, 255, 206, 43, 176]
abbrev dktX2_sum_3 : List UInt8 := dkwX2_sum_3 ++ []
def dkwX2_sum_2 : List UInt8 := [16, 45, 182, 0, 251, 153, 0, 16, 43, 16, 45, 42, 182, 0, 245, 182, 0, 248, 167, 255, 211, 3, 61]
abbrev dktX2_sum_2 : List UInt8 := dkwX2_sum_2 ++ dktX2_sum_3
def dkwX2_sum_1 : List UInt8 := [42, 16, 43, 182, 0, 251, 153, 0, 16, 43, 16, 43, 42, 182, 0, 245, 182, 0, 248, 167, 255, 233, 42]
abbrev dktX2_sum_1 : List UInt8 := dkwX2_sum_1 ++ dktX2_sum_2
def dkwX2_sum_0 : List UInt8 := [187, 0, 242, 89, 183, 0, 244, 76, 43, 16, 43, 42, 182, 0, 245, 182, 0, 248, 4, 61, 28, 153, 0, 52]
abbrev dktX2_sum_0 : List UInt8 := dkwX2_sum_0 ++ dktX2_sum_1
theorem dksX2_sum_0 : cX2_sum.data.toList.drop 0 = dktX2_sum_0 := by decide +kernel
theorem dksX2_sum_1 : cX2_sum.data.toList.drop 24 = dktX2_sum_1 := dk_seg dksX2_sum_0 24 rfl rfl
theorem dksX2_sum_2 : cX2_sum.data.toList.drop 47 = dktX2_sum_2 := dk_seg dksX2_sum_1 23 rfl rfl
theorem dksX2_sum_3 : cX2_sum.data.toList.drop 70 = dktX2_sum_3 := dk_seg dksX2_sum_2 23 rfl rfl
theorem dX2_sum_0 : decode cX2_sum 0 = .ok (.new 242, 3) := dk_187 0 242 (dk_at dksX2_sum_0 0 rfl rfl)
theorem dX2_sum_3 : decode cX2_sum 3 = .ok (.dup, 1) := dk_89 (dk_at dksX2_sum_0 3 rfl rfl)
theorem dX2_sum_4 : decode cX2_sum 4 = .ok (.invokespecial 244, 3) := dk_183 0 244 (dk_at dksX2_sum_0 4 rfl rfl)
theorem dX2_sum_7 : decode cX2_sum 7 = .ok (.astore_n 1, 1) := dk_76 (dk_at dksX2_sum_0 7 rfl rfl)
theorem dX2_sum_8 : decode cX2_sum 8 = .ok (.aload_n 1, 1) := dk_43 (dk_at dksX2_sum_0 8 rfl rfl)
theorem dX2_sum_9 : decode cX2_sum 9 = .ok (.bipush 43, 2) := dk_16 43 (dk_at dksX2_sum_0 9 rfl rfl)
theorem dX2_sum_11 : decode cX2_sum 11 = .ok (.aload_n 0, 1) := dk_42 (dk_at dksX2_sum_0 11 rfl rfl)
theorem dX2_sum_12 : decode cX2_sum 12 = .ok (.invokevirtual 245, 3) := dk_182 0 245 (dk_at dksX2_sum_0 12 rfl rfl)
theorem dX2_sum_15 : decode cX2_sum 15 = .ok (.invokevirtual 248, 3) := dk_182 0 248 (dk_at dksX2_sum_0 15 rfl rfl)
theorem dX2_sum_18 : decode cX2_sum 18 = .ok (.iconst 1, 1) := dk_4 (dk_at dksX2_sum_0 18 rfl rfl)
theorem dX2_sum_19 : decode cX2_sum 19 = .ok (.istore_n 2, 1) := dk_61 (dk_at dksX2_sum_0 19 rfl rfl)
theorem dX2_sum_20 : decode cX2_sum 20 = .ok (.iload_n 2, 1) := dk_28 (dk_at dksX2_sum_0 20 rfl rfl)
theorem dX2_sum_21 : decode cX2_sum 21 = .ok (.ifCond .eq 52, 3) := dk_153 0 52 (dk_at dksX2_sum_0 21 rfl rfl)
theorem dX2_sum_24 : decode cX2_sum 24 = .ok (.aload_n 0, 1) := dk_42 (dk_at dksX2_sum_1 0 rfl rfl)
theorem dX2_sum_25 : decode cX2_sum 25 = .ok (.bipush 43, 2) := dk_16 43 (dk_at dksX2_sum_1 1 rfl rfl)
theorem dX2_sum_27 : decode cX2_sum 27 = .ok (.invokevirtual 251, 3) := dk_182 0 251 (dk_at dksX2_sum_1 3 rfl rfl)
theorem dX2_sum_30 : decode cX2_sum 30 = .ok (.ifCond .eq 16, 3) := dk_153 0 16 (dk_at dksX2_sum_1 6 rfl rfl)
theorem dX2_sum_33 : decode cX2_sum 33 = .ok (.aload_n 1, 1) := dk_43 (dk_at dksX2_sum_1 9 rfl rfl)
theorem dX2_sum_34 : decode cX2_sum 34 = .ok (.bipush 43, 2) := dk_16 43 (dk_at dksX2_sum_1 10 rfl rfl)
theorem dX2_sum_36 : decode cX2_sum 36 = .ok (.aload_n 0, 1) := dk_42 (dk_at dksX2_sum_1 12 rfl rfl)
theorem dX2_sum_37 : decode cX2_sum 37 = .ok (.invokevirtual 245, 3) := dk_182 0 245 (dk_at dksX2_sum_1 13 rfl rfl)
theorem dX2_sum_40 : decode cX2_sum 40 = .ok (.invokevirtual 248, 3) := dk_182 0 248 (dk_at dksX2_sum_1 16 rfl rfl)
theorem dX2_sum_43 : decode cX2_sum 43 = .ok (.goto (-23), 3) := dk_167 255 233 (dk_at dksX2_sum_1 19 rfl rfl)
theorem dX2_sum_46 : decode cX2_sum 46 = .ok (.aload_n 0, 1) := dk_42 (dk_at dksX2_sum_1 22 rfl rfl)
theorem dX2_sum_47 : decode cX2_sum 47 = .ok (.bipush 45, 2) := dk_16 45 (dk_at dksX2_sum_2 0 rfl rfl)
theorem dX2_sum_49 : decode cX2_sum 49 = .ok (.invokevirtual 251, 3) := dk_182 0 251 (dk_at dksX2_sum_2 2 rfl rfl)
theorem dX2_sum_52 : decode cX2_sum 52 = .ok (.ifCond .eq 16, 3) := dk_153 0 16 (dk_at dksX2_sum_2 5 rfl rfl)
theorem dX2_sum_55 : decode cX2_sum 55 = .ok (.aload_n 1, 1) := dk_43 (dk_at dksX2_sum_2 8 rfl rfl)
theorem dX2_sum_56 : decode cX2_sum 56 = .ok (.bipush 45, 2) := dk_16 45 (dk_at dksX2_sum_2 9 rfl rfl)
theorem dX2_sum_58 : decode cX2_sum 58 = .ok (.aload_n 0, 1) := dk_42 (dk_at dksX2_sum_2 11 rfl rfl)
theorem dX2_sum_59 : decode cX2_sum 59 = .ok (.invokevirtual 245, 3) := dk_182 0 245 (dk_at dksX2_sum_2 12 rfl rfl)
theorem dX2_sum_62 : decode cX2_sum 62 = .ok (.invokevirtual 248, 3) := dk_182 0 248 (dk_at dksX2_sum_2 15 rfl rfl)
theorem dX2_sum_65 : decode cX2_sum 65 = .ok (.goto (-45), 3) := dk_167 255 211 (dk_at dksX2_sum_2 18 rfl rfl)
theorem dX2_sum_68 : decode cX2_sum 68 = .ok (.iconst 0, 1) := dk_3 (dk_at dksX2_sum_2 21 rfl rfl)
theorem dX2_sum_69 : decode cX2_sum 69 = .ok (.istore_n 2, 1) := dk_61 (dk_at dksX2_sum_2 22 rfl rfl)
theorem dX2_sum_70 : decode cX2_sum 70 = .ok (.goto (-50), 3) := dk_167 255 206 (dk_at dksX2_sum_3 0 rfl rfl)
theorem dX2_sum_73 : decode cX2_sum 73 = .ok (.aload_n 1, 1) := dk_43 (dk_at dksX2_sum_3 3 rfl rfl)
theorem dX2_sum_74 : decode cX2_sum 74 = .ok (.areturn, 1) := dk_176 (dk_at dksX2_sum_3 4 rfl rfl)
abbrev cX2_product : ByteArray := prog_15_method_22_code
def yX2_product : MethodName := ⟨RX2, "product", "()LMarginFolk$Value;"⟩
def dkwX2_product_3 : List UInt8 := [167, 255, 206, 43, 176]
abbrev dktX2_product_3 : List UInt8 := dkwX2_product_3 ++ []
def dkwX2_product_2 : List UInt8 := [16, 47, 182, 0, 251, 153, 0, 16, 43, 16, 47, 42, 182, 0, 254, 182, 0, 248, 167, 255, 211, 3, 61]
abbrev dktX2_product_2 : List UInt8 := dkwX2_product_2 ++ dktX2_product_3
def dkwX2_product_1 : List UInt8 := [42, 16, 42, 182, 0, 251, 153, 0, 16, 43, 16, 42, 42, 182, 0, 254, 182, 0, 248, 167, 255, 233, 42]
abbrev dktX2_product_1 : List UInt8 := dkwX2_product_1 ++ dktX2_product_2
def dkwX2_product_0 : List UInt8 := [187, 0, 242, 89, 183, 0, 244, 76, 43, 16, 42, 42, 182, 0, 254, 182, 0, 248, 4, 61, 28, 153, 0, 52]
abbrev dktX2_product_0 : List UInt8 := dkwX2_product_0 ++ dktX2_product_1
theorem dksX2_product_0 : cX2_product.data.toList.drop 0 = dktX2_product_0 := by decide +kernel
theorem dksX2_product_1 : cX2_product.data.toList.drop 24 = dktX2_product_1 := dk_seg dksX2_product_0 24 rfl rfl
theorem dksX2_product_2 : cX2_product.data.toList.drop 47 = dktX2_product_2 := dk_seg dksX2_product_1 23 rfl rfl
theorem dksX2_product_3 : cX2_product.data.toList.drop 70 = dktX2_product_3 := dk_seg dksX2_product_2 23 rfl rfl
theorem dX2_product_0 : decode cX2_product 0 = .ok (.new 242, 3) := dk_187 0 242 (dk_at dksX2_product_0 0 rfl rfl)
theorem dX2_product_3 : decode cX2_product 3 = .ok (.dup, 1) := dk_89 (dk_at dksX2_product_0 3 rfl rfl)
theorem dX2_product_4 : decode cX2_product 4 = .ok (.invokespecial 244, 3) := dk_183 0 244 (dk_at dksX2_product_0 4 rfl rfl)
theorem dX2_product_7 : decode cX2_product 7 = .ok (.astore_n 1, 1) := dk_76 (dk_at dksX2_product_0 7 rfl rfl)
theorem dX2_product_8 : decode cX2_product 8 = .ok (.aload_n 1, 1) := dk_43 (dk_at dksX2_product_0 8 rfl rfl)
theorem dX2_product_9 : decode cX2_product 9 = .ok (.bipush 42, 2) := dk_16 42 (dk_at dksX2_product_0 9 rfl rfl)
theorem dX2_product_11 : decode cX2_product 11 = .ok (.aload_n 0, 1) := dk_42 (dk_at dksX2_product_0 11 rfl rfl)
theorem dX2_product_12 : decode cX2_product 12 = .ok (.invokevirtual 254, 3) := dk_182 0 254 (dk_at dksX2_product_0 12 rfl rfl)
theorem dX2_product_15 : decode cX2_product 15 = .ok (.invokevirtual 248, 3) := dk_182 0 248 (dk_at dksX2_product_0 15 rfl rfl)
theorem dX2_product_18 : decode cX2_product 18 = .ok (.iconst 1, 1) := dk_4 (dk_at dksX2_product_0 18 rfl rfl)
theorem dX2_product_19 : decode cX2_product 19 = .ok (.istore_n 2, 1) := dk_61 (dk_at dksX2_product_0 19 rfl rfl)
theorem dX2_product_20 : decode cX2_product 20 = .ok (.iload_n 2, 1) := dk_28 (dk_at dksX2_product_0 20 rfl rfl)
theorem dX2_product_21 : decode cX2_product 21 = .ok (.ifCond .eq 52, 3) := dk_153 0 52 (dk_at dksX2_product_0 21 rfl rfl)
theorem dX2_product_24 : decode cX2_product 24 = .ok (.aload_n 0, 1) := dk_42 (dk_at dksX2_product_1 0 rfl rfl)
theorem dX2_product_25 : decode cX2_product 25 = .ok (.bipush 42, 2) := dk_16 42 (dk_at dksX2_product_1 1 rfl rfl)
theorem dX2_product_27 : decode cX2_product 27 = .ok (.invokevirtual 251, 3) := dk_182 0 251 (dk_at dksX2_product_1 3 rfl rfl)
theorem dX2_product_30 : decode cX2_product 30 = .ok (.ifCond .eq 16, 3) := dk_153 0 16 (dk_at dksX2_product_1 6 rfl rfl)
theorem dX2_product_33 : decode cX2_product 33 = .ok (.aload_n 1, 1) := dk_43 (dk_at dksX2_product_1 9 rfl rfl)
theorem dX2_product_34 : decode cX2_product 34 = .ok (.bipush 42, 2) := dk_16 42 (dk_at dksX2_product_1 10 rfl rfl)
theorem dX2_product_36 : decode cX2_product 36 = .ok (.aload_n 0, 1) := dk_42 (dk_at dksX2_product_1 12 rfl rfl)
theorem dX2_product_37 : decode cX2_product 37 = .ok (.invokevirtual 254, 3) := dk_182 0 254 (dk_at dksX2_product_1 13 rfl rfl)
theorem dX2_product_40 : decode cX2_product 40 = .ok (.invokevirtual 248, 3) := dk_182 0 248 (dk_at dksX2_product_1 16 rfl rfl)
theorem dX2_product_43 : decode cX2_product 43 = .ok (.goto (-23), 3) := dk_167 255 233 (dk_at dksX2_product_1 19 rfl rfl)
theorem dX2_product_46 : decode cX2_product 46 = .ok (.aload_n 0, 1) := dk_42 (dk_at dksX2_product_1 22 rfl rfl)
theorem dX2_product_47 : decode cX2_product 47 = .ok (.bipush 47, 2) := dk_16 47 (dk_at dksX2_product_2 0 rfl rfl)
theorem dX2_product_49 : decode cX2_product 49 = .ok (.invokevirtual 251, 3) := dk_182 0 251 (dk_at dksX2_product_2 2 rfl rfl)
theorem dX2_product_52 : decode cX2_product 52 = .ok (.ifCond .eq 16, 3) := dk_153 0 16 (dk_at dksX2_product_2 5 rfl rfl)
theorem dX2_product_55 : decode cX2_product 55 = .ok (.aload_n 1, 1) := dk_43 (dk_at dksX2_product_2 8 rfl rfl)
theorem dX2_product_56 : decode cX2_product 56 = .ok (.bipush 47, 2) := dk_16 47 (dk_at dksX2_product_2 9 rfl rfl)
theorem dX2_product_58 : decode cX2_product 58 = .ok (.aload_n 0, 1) := dk_42 (dk_at dksX2_product_2 11 rfl rfl)
theorem dX2_product_59 : decode cX2_product 59 = .ok (.invokevirtual 254, 3) := dk_182 0 254 (dk_at dksX2_product_2 12 rfl rfl)
theorem dX2_product_62 : decode cX2_product 62 = .ok (.invokevirtual 248, 3) := dk_182 0 248 (dk_at dksX2_product_2 15 rfl rfl)
theorem dX2_product_65 : decode cX2_product 65 = .ok (.goto (-45), 3) := dk_167 255 211 (dk_at dksX2_product_2 18 rfl rfl)
theorem dX2_product_68 : decode cX2_product 68 = .ok (.iconst 0, 1) := dk_3 (dk_at dksX2_product_2 21 rfl rfl)
theorem dX2_product_69 : decode cX2_product 69 = .ok (.istore_n 2, 1) := dk_61 (dk_at dksX2_product_2 22 rfl rfl)
theorem dX2_product_70 : decode cX2_product 70 = .ok (.goto (-50), 3) := dk_167 255 206 (dk_at dksX2_product_3 0 rfl rfl)
theorem dX2_product_73 : decode cX2_product 73 = .ok (.aload_n 1, 1) := dk_43 (dk_at dksX2_product_3 3 rfl rfl)
theorem dX2_product_74 : decode cX2_product 74 = .ok (.areturn, 1) := dk_176 (dk_at dksX2_product_3 4 rfl rfl)
abbrev cX2_atom : ByteArray := prog_15_method_25_code
def yX2_atom : MethodName := ⟨RX2, "atom", "()LMarginFolk$Value;"⟩
def dkwX2_atom_7 : List UInt8 := [182, 1, 8, 176]
abbrev dktX2_atom_7 : List UInt8 := dkwX2_atom_7 ++ []
def dkwX2_atom_6 : List UInt8 := [180, 0, 61, 182, 0, 47, 191, 42, 43, 19, 1, 33, 182, 0, 74, 153, 0, 7, 4, 167, 0, 4, 5]
abbrev dktX2_atom_6 : List UInt8 := dkwX2_atom_6 ++ dktX2_atom_7
def dkwX2_atom_5 : List UInt8 := [19, 1, 33, 182, 0, 74, 154, 0, 23, 43, 19, 1, 35, 182, 0, 74, 154, 0, 13, 42, 4, 42]
abbrev dktX2_atom_5 : List UInt8 := dkwX2_atom_5 ++ dktX2_atom_6
def dkwX2_atom_4 : List UInt8 := [178, 1, 27, 184, 0, 82, 167, 0, 4, 2, 61, 28, 2, 159, 0, 9, 42, 28, 182, 1, 30, 176, 43]
abbrev dktX2_atom_4 : List UInt8 := dkwX2_atom_4 ++ dktX2_atom_5
def dkwX2_atom_3 : List UInt8 := [153, 0, 12, 187, 1, 23, 89, 28, 183, 1, 25, 176, 42, 180, 0, 205, 17, 1, 191, 160, 0, 13, 43]
abbrev dktX2_atom_3 : List UInt8 := dkwX2_atom_3 ++ dktX2_atom_4
def dkwX2_atom_2 : List UInt8 := [76, 43, 178, 1, 17, 184, 0, 82, 61, 28, 2, 159, 0, 23, 42, 180, 0, 205, 28, 184, 1, 20]
abbrev dktX2_atom_2 : List UInt8 := dkwX2_atom_2 ++ dktX2_atom_3
def dkwX2_atom_1 : List UInt8 := [153, 0, 20, 187, 1, 12, 89, 42, 3, 17, 39, 15, 182, 0, 96, 133, 183, 1, 14, 176, 42, 182, 0, 70]
abbrev dktX2_atom_1 : List UInt8 := dkwX2_atom_1 ++ dktX2_atom_2
def dkwX2_atom_0 : List UInt8 := [42, 182, 0, 43, 16, 40, 160, 0, 9, 42, 3, 182, 1, 8, 176, 42, 182, 0, 43, 184, 0, 55]
abbrev dktX2_atom_0 : List UInt8 := dkwX2_atom_0 ++ dktX2_atom_1
theorem dksX2_atom_0 : cX2_atom.data.toList.drop 0 = dktX2_atom_0 := by decide +kernel
theorem dksX2_atom_1 : cX2_atom.data.toList.drop 22 = dktX2_atom_1 := dk_seg dksX2_atom_0 22 rfl rfl
theorem dksX2_atom_2 : cX2_atom.data.toList.drop 46 = dktX2_atom_2 := dk_seg dksX2_atom_1 24 rfl rfl
theorem dksX2_atom_3 : cX2_atom.data.toList.drop 68 = dktX2_atom_3 := dk_seg dksX2_atom_2 22 rfl rfl
theorem dksX2_atom_4 : cX2_atom.data.toList.drop 91 = dktX2_atom_4 := dk_seg dksX2_atom_3 23 rfl rfl
theorem dksX2_atom_5 : cX2_atom.data.toList.drop 114 = dktX2_atom_5 := dk_seg dksX2_atom_4 23 rfl rfl
theorem dksX2_atom_6 : cX2_atom.data.toList.drop 136 = dktX2_atom_6 := dk_seg dksX2_atom_5 22 rfl rfl
theorem dksX2_atom_7 : cX2_atom.data.toList.drop 159 = dktX2_atom_7 := dk_seg dksX2_atom_6 23 rfl rfl
theorem dX2_atom_0 : decode cX2_atom 0 = .ok (.aload_n 0, 1) := dk_42 (dk_at dksX2_atom_0 0 rfl rfl)
theorem dX2_atom_1 : decode cX2_atom 1 = .ok (.invokevirtual 43, 3) := dk_182 0 43 (dk_at dksX2_atom_0 1 rfl rfl)
theorem dX2_atom_4 : decode cX2_atom 4 = .ok (.bipush 40, 2) := dk_16 40 (dk_at dksX2_atom_0 4 rfl rfl)
theorem dX2_atom_6 : decode cX2_atom 6 = .ok (.if_icmp .ne 9, 3) := dk_160 0 9 (dk_at dksX2_atom_0 6 rfl rfl)
theorem dX2_atom_9 : decode cX2_atom 9 = .ok (.aload_n 0, 1) := dk_42 (dk_at dksX2_atom_0 9 rfl rfl)
theorem dX2_atom_10 : decode cX2_atom 10 = .ok (.iconst 0, 1) := dk_3 (dk_at dksX2_atom_0 10 rfl rfl)
theorem dX2_atom_11 : decode cX2_atom 11 = .ok (.invokevirtual 264, 3) := dk_182 1 8 (dk_at dksX2_atom_0 11 rfl rfl)
theorem dX2_atom_14 : decode cX2_atom 14 = .ok (.areturn, 1) := dk_176 (dk_at dksX2_atom_0 14 rfl rfl)
theorem dX2_atom_15 : decode cX2_atom 15 = .ok (.aload_n 0, 1) := dk_42 (dk_at dksX2_atom_0 15 rfl rfl)
theorem dX2_atom_16 : decode cX2_atom 16 = .ok (.invokevirtual 43, 3) := dk_182 0 43 (dk_at dksX2_atom_0 16 rfl rfl)
theorem dX2_atom_19 : decode cX2_atom 19 = .ok (.invokestatic 55, 3) := dk_184 0 55 (dk_at dksX2_atom_0 19 rfl rfl)
theorem dX2_atom_22 : decode cX2_atom 22 = .ok (.ifCond .eq 20, 3) := dk_153 0 20 (dk_at dksX2_atom_1 0 rfl rfl)
theorem dX2_atom_25 : decode cX2_atom 25 = .ok (.new 268, 3) := dk_187 1 12 (dk_at dksX2_atom_1 3 rfl rfl)
theorem dX2_atom_28 : decode cX2_atom 28 = .ok (.dup, 1) := dk_89 (dk_at dksX2_atom_1 6 rfl rfl)
theorem dX2_atom_29 : decode cX2_atom 29 = .ok (.aload_n 0, 1) := dk_42 (dk_at dksX2_atom_1 7 rfl rfl)
theorem dX2_atom_30 : decode cX2_atom 30 = .ok (.iconst 0, 1) := dk_3 (dk_at dksX2_atom_1 8 rfl rfl)
theorem dX2_atom_31 : decode cX2_atom 31 = .ok (.sipush 9999, 3) := dk_17 39 15 (dk_at dksX2_atom_1 9 rfl rfl)
theorem dX2_atom_34 : decode cX2_atom 34 = .ok (.invokevirtual 96, 3) := dk_182 0 96 (dk_at dksX2_atom_1 12 rfl rfl)
theorem dX2_atom_37 : decode cX2_atom 37 = .ok (.i2l, 1) := dk_133 (dk_at dksX2_atom_1 15 rfl rfl)
theorem dX2_atom_38 : decode cX2_atom 38 = .ok (.invokespecial 270, 3) := dk_183 1 14 (dk_at dksX2_atom_1 16 rfl rfl)
theorem dX2_atom_41 : decode cX2_atom 41 = .ok (.areturn, 1) := dk_176 (dk_at dksX2_atom_1 19 rfl rfl)
theorem dX2_atom_42 : decode cX2_atom 42 = .ok (.aload_n 0, 1) := dk_42 (dk_at dksX2_atom_1 20 rfl rfl)
theorem dX2_atom_43 : decode cX2_atom 43 = .ok (.invokevirtual 70, 3) := dk_182 0 70 (dk_at dksX2_atom_1 21 rfl rfl)
theorem dX2_atom_46 : decode cX2_atom 46 = .ok (.astore_n 1, 1) := dk_76 (dk_at dksX2_atom_2 0 rfl rfl)
theorem dX2_atom_47 : decode cX2_atom 47 = .ok (.aload_n 1, 1) := dk_43 (dk_at dksX2_atom_2 1 rfl rfl)
theorem dX2_atom_48 : decode cX2_atom 48 = .ok (.getstatic 273, 3) := dk_178 1 17 (dk_at dksX2_atom_2 2 rfl rfl)
theorem dX2_atom_51 : decode cX2_atom 51 = .ok (.invokestatic 82, 3) := dk_184 0 82 (dk_at dksX2_atom_2 5 rfl rfl)
theorem dX2_atom_54 : decode cX2_atom 54 = .ok (.istore_n 2, 1) := dk_61 (dk_at dksX2_atom_2 8 rfl rfl)
theorem dX2_atom_55 : decode cX2_atom 55 = .ok (.iload_n 2, 1) := dk_28 (dk_at dksX2_atom_2 9 rfl rfl)
theorem dX2_atom_56 : decode cX2_atom 56 = .ok (.iconst (-1), 1) := dk_2 (dk_at dksX2_atom_2 10 rfl rfl)
theorem dX2_atom_57 : decode cX2_atom 57 = .ok (.if_icmp .eq 23, 3) := dk_159 0 23 (dk_at dksX2_atom_2 11 rfl rfl)
theorem dX2_atom_60 : decode cX2_atom 60 = .ok (.aload_n 0, 1) := dk_42 (dk_at dksX2_atom_2 14 rfl rfl)
theorem dX2_atom_61 : decode cX2_atom 61 = .ok (.getfield 205, 3) := dk_180 0 205 (dk_at dksX2_atom_2 15 rfl rfl)
theorem dX2_atom_64 : decode cX2_atom 64 = .ok (.iload_n 2, 1) := dk_28 (dk_at dksX2_atom_2 18 rfl rfl)
theorem dX2_atom_65 : decode cX2_atom 65 = .ok (.invokestatic 276, 3) := dk_184 1 20 (dk_at dksX2_atom_2 19 rfl rfl)
theorem dX2_atom_68 : decode cX2_atom 68 = .ok (.ifCond .eq 12, 3) := dk_153 0 12 (dk_at dksX2_atom_3 0 rfl rfl)
theorem dX2_atom_71 : decode cX2_atom 71 = .ok (.new 279, 3) := dk_187 1 23 (dk_at dksX2_atom_3 3 rfl rfl)
theorem dX2_atom_74 : decode cX2_atom 74 = .ok (.dup, 1) := dk_89 (dk_at dksX2_atom_3 6 rfl rfl)
theorem dX2_atom_75 : decode cX2_atom 75 = .ok (.iload_n 2, 1) := dk_28 (dk_at dksX2_atom_3 7 rfl rfl)
theorem dX2_atom_76 : decode cX2_atom 76 = .ok (.invokespecial 281, 3) := dk_183 1 25 (dk_at dksX2_atom_3 8 rfl rfl)
theorem dX2_atom_79 : decode cX2_atom 79 = .ok (.areturn, 1) := dk_176 (dk_at dksX2_atom_3 11 rfl rfl)
theorem dX2_atom_80 : decode cX2_atom 80 = .ok (.aload_n 0, 1) := dk_42 (dk_at dksX2_atom_3 12 rfl rfl)
theorem dX2_atom_81 : decode cX2_atom 81 = .ok (.getfield 205, 3) := dk_180 0 205 (dk_at dksX2_atom_3 13 rfl rfl)
theorem dX2_atom_84 : decode cX2_atom 84 = .ok (.sipush 447, 3) := dk_17 1 191 (dk_at dksX2_atom_3 16 rfl rfl)
theorem dX2_atom_87 : decode cX2_atom 87 = .ok (.if_icmp .ne 13, 3) := dk_160 0 13 (dk_at dksX2_atom_3 19 rfl rfl)
theorem dX2_atom_90 : decode cX2_atom 90 = .ok (.aload_n 1, 1) := dk_43 (dk_at dksX2_atom_3 22 rfl rfl)
theorem dX2_atom_91 : decode cX2_atom 91 = .ok (.getstatic 283, 3) := dk_178 1 27 (dk_at dksX2_atom_4 0 rfl rfl)
theorem dX2_atom_94 : decode cX2_atom 94 = .ok (.invokestatic 82, 3) := dk_184 0 82 (dk_at dksX2_atom_4 3 rfl rfl)
theorem dX2_atom_97 : decode cX2_atom 97 = .ok (.goto 4, 3) := dk_167 0 4 (dk_at dksX2_atom_4 6 rfl rfl)
theorem dX2_atom_100 : decode cX2_atom 100 = .ok (.iconst (-1), 1) := dk_2 (dk_at dksX2_atom_4 9 rfl rfl)
theorem dX2_atom_101 : decode cX2_atom 101 = .ok (.istore_n 2, 1) := dk_61 (dk_at dksX2_atom_4 10 rfl rfl)
theorem dX2_atom_102 : decode cX2_atom 102 = .ok (.iload_n 2, 1) := dk_28 (dk_at dksX2_atom_4 11 rfl rfl)
theorem dX2_atom_103 : decode cX2_atom 103 = .ok (.iconst (-1), 1) := dk_2 (dk_at dksX2_atom_4 12 rfl rfl)
theorem dX2_atom_104 : decode cX2_atom 104 = .ok (.if_icmp .eq 9, 3) := dk_159 0 9 (dk_at dksX2_atom_4 13 rfl rfl)
theorem dX2_atom_107 : decode cX2_atom 107 = .ok (.aload_n 0, 1) := dk_42 (dk_at dksX2_atom_4 16 rfl rfl)
theorem dX2_atom_108 : decode cX2_atom 108 = .ok (.iload_n 2, 1) := dk_28 (dk_at dksX2_atom_4 17 rfl rfl)
theorem dX2_atom_109 : decode cX2_atom 109 = .ok (.invokevirtual 286, 3) := dk_182 1 30 (dk_at dksX2_atom_4 18 rfl rfl)
theorem dX2_atom_112 : decode cX2_atom 112 = .ok (.areturn, 1) := dk_176 (dk_at dksX2_atom_4 21 rfl rfl)
theorem dX2_atom_113 : decode cX2_atom 113 = .ok (.aload_n 1, 1) := dk_43 (dk_at dksX2_atom_4 22 rfl rfl)
theorem dX2_atom_114 : decode cX2_atom 114 = .ok (.ldc_w 289, 3) := dk_19 1 33 (dk_at dksX2_atom_5 0 rfl rfl)
theorem dX2_atom_117 : decode cX2_atom 117 = .ok (.invokevirtual 74, 3) := dk_182 0 74 (dk_at dksX2_atom_5 3 rfl rfl)
theorem dX2_atom_120 : decode cX2_atom 120 = .ok (.ifCond .ne 23, 3) := dk_154 0 23 (dk_at dksX2_atom_5 6 rfl rfl)
theorem dX2_atom_123 : decode cX2_atom 123 = .ok (.aload_n 1, 1) := dk_43 (dk_at dksX2_atom_5 9 rfl rfl)
theorem dX2_atom_124 : decode cX2_atom 124 = .ok (.ldc_w 291, 3) := dk_19 1 35 (dk_at dksX2_atom_5 10 rfl rfl)
theorem dX2_atom_127 : decode cX2_atom 127 = .ok (.invokevirtual 74, 3) := dk_182 0 74 (dk_at dksX2_atom_5 13 rfl rfl)
theorem dX2_atom_130 : decode cX2_atom 130 = .ok (.ifCond .ne 13, 3) := dk_154 0 13 (dk_at dksX2_atom_5 16 rfl rfl)
theorem dX2_atom_133 : decode cX2_atom 133 = .ok (.aload_n 0, 1) := dk_42 (dk_at dksX2_atom_5 19 rfl rfl)
theorem dX2_atom_134 : decode cX2_atom 134 = .ok (.iconst 1, 1) := dk_4 (dk_at dksX2_atom_5 20 rfl rfl)
theorem dX2_atom_135 : decode cX2_atom 135 = .ok (.aload_n 0, 1) := dk_42 (dk_at dksX2_atom_5 21 rfl rfl)
theorem dX2_atom_136 : decode cX2_atom 136 = .ok (.getfield 61, 3) := dk_180 0 61 (dk_at dksX2_atom_6 0 rfl rfl)
theorem dX2_atom_139 : decode cX2_atom 139 = .ok (.invokevirtual 47, 3) := dk_182 0 47 (dk_at dksX2_atom_6 3 rfl rfl)
theorem dX2_atom_142 : decode cX2_atom 142 = .ok (.athrow, 1) := dk_191 (dk_at dksX2_atom_6 6 rfl rfl)
theorem dX2_atom_143 : decode cX2_atom 143 = .ok (.aload_n 0, 1) := dk_42 (dk_at dksX2_atom_6 7 rfl rfl)
theorem dX2_atom_144 : decode cX2_atom 144 = .ok (.aload_n 1, 1) := dk_43 (dk_at dksX2_atom_6 8 rfl rfl)
theorem dX2_atom_145 : decode cX2_atom 145 = .ok (.ldc_w 289, 3) := dk_19 1 33 (dk_at dksX2_atom_6 9 rfl rfl)
theorem dX2_atom_148 : decode cX2_atom 148 = .ok (.invokevirtual 74, 3) := dk_182 0 74 (dk_at dksX2_atom_6 12 rfl rfl)
theorem dX2_atom_151 : decode cX2_atom 151 = .ok (.ifCond .eq 7, 3) := dk_153 0 7 (dk_at dksX2_atom_6 15 rfl rfl)
theorem dX2_atom_154 : decode cX2_atom 154 = .ok (.iconst 1, 1) := dk_4 (dk_at dksX2_atom_6 18 rfl rfl)
theorem dX2_atom_155 : decode cX2_atom 155 = .ok (.goto 4, 3) := dk_167 0 4 (dk_at dksX2_atom_6 19 rfl rfl)
theorem dX2_atom_158 : decode cX2_atom 158 = .ok (.iconst 2, 1) := dk_5 (dk_at dksX2_atom_6 22 rfl rfl)
theorem dX2_atom_159 : decode cX2_atom 159 = .ok (.invokevirtual 264, 3) := dk_182 1 8 (dk_at dksX2_atom_7 0 rfl rfl)
theorem dX2_atom_162 : decode cX2_atom 162 = .ok (.areturn, 1) := dk_176 (dk_at dksX2_atom_7 3 rfl rfl)
abbrev cX2_within : ByteArray := prog_15_method_24_code
def yX2_within : MethodName := ⟨RX2, "within", "(I)LMarginFolk$Value;"⟩
def dkwX2_within_4 : List UInt8 := [176]
abbrev dktX2_within_4 : List UInt8 := dkwX2_within_4 ++ []
def dkwX2_within_3 : List UInt8 := [182, 0, 208, 183, 1, 5, 78, 42, 16, 41, 182, 0, 126, 42, 89, 180, 0, 117, 4, 100, 181, 0, 117, 45]
abbrev dktX2_within_3 : List UInt8 := dkwX2_within_3 ++ dktX2_within_4
def dkwX2_within_2 : List UInt8 := [42, 16, 44, 182, 0, 126, 187, 1, 3, 89, 27, 5, 160, 0, 7, 4, 167, 0, 4, 3, 44, 42]
abbrev dktX2_within_2 : List UInt8 := dkwX2_within_2 ++ dktX2_within_3
def dkwX2_within_1 : List UInt8 := [182, 1, 1, 42, 89, 180, 0, 36, 4, 96, 181, 0, 36, 42, 182, 0, 208, 77, 44, 78, 27, 158, 0, 32]
abbrev dktX2_within_1 : List UInt8 := dkwX2_within_1 ++ dktX2_within_2
def dkwX2_within_0 : List UInt8 := [42, 182, 0, 43, 16, 40, 159, 0, 13, 42, 4, 42, 180, 0, 36, 182, 0, 47, 191, 42, 42, 180, 0, 36]
abbrev dktX2_within_0 : List UInt8 := dkwX2_within_0 ++ dktX2_within_1
theorem dksX2_within_0 : cX2_within.data.toList.drop 0 = dktX2_within_0 := by decide +kernel
theorem dksX2_within_1 : cX2_within.data.toList.drop 24 = dktX2_within_1 := dk_seg dksX2_within_0 24 rfl rfl
theorem dksX2_within_2 : cX2_within.data.toList.drop 48 = dktX2_within_2 := dk_seg dksX2_within_1 24 rfl rfl
theorem dksX2_within_3 : cX2_within.data.toList.drop 70 = dktX2_within_3 := dk_seg dksX2_within_2 22 rfl rfl
theorem dksX2_within_4 : cX2_within.data.toList.drop 94 = dktX2_within_4 := dk_seg dksX2_within_3 24 rfl rfl
theorem dX2_within_0 : decode cX2_within 0 = .ok (.aload_n 0, 1) := dk_42 (dk_at dksX2_within_0 0 rfl rfl)
theorem dX2_within_1 : decode cX2_within 1 = .ok (.invokevirtual 43, 3) := dk_182 0 43 (dk_at dksX2_within_0 1 rfl rfl)
theorem dX2_within_4 : decode cX2_within 4 = .ok (.bipush 40, 2) := dk_16 40 (dk_at dksX2_within_0 4 rfl rfl)
theorem dX2_within_6 : decode cX2_within 6 = .ok (.if_icmp .eq 13, 3) := dk_159 0 13 (dk_at dksX2_within_0 6 rfl rfl)
theorem dX2_within_9 : decode cX2_within 9 = .ok (.aload_n 0, 1) := dk_42 (dk_at dksX2_within_0 9 rfl rfl)
theorem dX2_within_10 : decode cX2_within 10 = .ok (.iconst 1, 1) := dk_4 (dk_at dksX2_within_0 10 rfl rfl)
theorem dX2_within_11 : decode cX2_within 11 = .ok (.aload_n 0, 1) := dk_42 (dk_at dksX2_within_0 11 rfl rfl)
theorem dX2_within_12 : decode cX2_within 12 = .ok (.getfield 36, 3) := dk_180 0 36 (dk_at dksX2_within_0 12 rfl rfl)
theorem dX2_within_15 : decode cX2_within 15 = .ok (.invokevirtual 47, 3) := dk_182 0 47 (dk_at dksX2_within_0 15 rfl rfl)
theorem dX2_within_18 : decode cX2_within 18 = .ok (.athrow, 1) := dk_191 (dk_at dksX2_within_0 18 rfl rfl)
theorem dX2_within_19 : decode cX2_within 19 = .ok (.aload_n 0, 1) := dk_42 (dk_at dksX2_within_0 19 rfl rfl)
theorem dX2_within_20 : decode cX2_within 20 = .ok (.aload_n 0, 1) := dk_42 (dk_at dksX2_within_0 20 rfl rfl)
theorem dX2_within_21 : decode cX2_within 21 = .ok (.getfield 36, 3) := dk_180 0 36 (dk_at dksX2_within_0 21 rfl rfl)
theorem dX2_within_24 : decode cX2_within 24 = .ok (.invokevirtual 257, 3) := dk_182 1 1 (dk_at dksX2_within_1 0 rfl rfl)
theorem dX2_within_27 : decode cX2_within 27 = .ok (.aload_n 0, 1) := dk_42 (dk_at dksX2_within_1 3 rfl rfl)
theorem dX2_within_28 : decode cX2_within 28 = .ok (.dup, 1) := dk_89 (dk_at dksX2_within_1 4 rfl rfl)
theorem dX2_within_29 : decode cX2_within 29 = .ok (.getfield 36, 3) := dk_180 0 36 (dk_at dksX2_within_1 5 rfl rfl)
theorem dX2_within_32 : decode cX2_within 32 = .ok (.iconst 1, 1) := dk_4 (dk_at dksX2_within_1 8 rfl rfl)
theorem dX2_within_33 : decode cX2_within 33 = .ok (.iadd, 1) := dk_96 (dk_at dksX2_within_1 9 rfl rfl)
theorem dX2_within_34 : decode cX2_within 34 = .ok (.putfield 36, 3) := dk_181 0 36 (dk_at dksX2_within_1 10 rfl rfl)
theorem dX2_within_37 : decode cX2_within 37 = .ok (.aload_n 0, 1) := dk_42 (dk_at dksX2_within_1 13 rfl rfl)
theorem dX2_within_38 : decode cX2_within 38 = .ok (.invokevirtual 208, 3) := dk_182 0 208 (dk_at dksX2_within_1 14 rfl rfl)
theorem dX2_within_41 : decode cX2_within 41 = .ok (.astore_n 2, 1) := dk_77 (dk_at dksX2_within_1 17 rfl rfl)
theorem dX2_within_42 : decode cX2_within 42 = .ok (.aload_n 2, 1) := dk_44 (dk_at dksX2_within_1 18 rfl rfl)
theorem dX2_within_43 : decode cX2_within 43 = .ok (.astore_n 3, 1) := dk_78 (dk_at dksX2_within_1 19 rfl rfl)
theorem dX2_within_44 : decode cX2_within 44 = .ok (.iload_n 1, 1) := dk_27 (dk_at dksX2_within_1 20 rfl rfl)
theorem dX2_within_45 : decode cX2_within 45 = .ok (.ifCond .le 32, 3) := dk_158 0 32 (dk_at dksX2_within_1 21 rfl rfl)
theorem dX2_within_48 : decode cX2_within 48 = .ok (.aload_n 0, 1) := dk_42 (dk_at dksX2_within_2 0 rfl rfl)
theorem dX2_within_49 : decode cX2_within 49 = .ok (.bipush 44, 2) := dk_16 44 (dk_at dksX2_within_2 1 rfl rfl)
theorem dX2_within_51 : decode cX2_within 51 = .ok (.invokevirtual 126, 3) := dk_182 0 126 (dk_at dksX2_within_2 3 rfl rfl)
theorem dX2_within_54 : decode cX2_within 54 = .ok (.new 259, 3) := dk_187 1 3 (dk_at dksX2_within_2 6 rfl rfl)
theorem dX2_within_57 : decode cX2_within 57 = .ok (.dup, 1) := dk_89 (dk_at dksX2_within_2 9 rfl rfl)
theorem dX2_within_58 : decode cX2_within 58 = .ok (.iload_n 1, 1) := dk_27 (dk_at dksX2_within_2 10 rfl rfl)
theorem dX2_within_59 : decode cX2_within 59 = .ok (.iconst 2, 1) := dk_5 (dk_at dksX2_within_2 11 rfl rfl)
theorem dX2_within_60 : decode cX2_within 60 = .ok (.if_icmp .ne 7, 3) := dk_160 0 7 (dk_at dksX2_within_2 12 rfl rfl)
theorem dX2_within_63 : decode cX2_within 63 = .ok (.iconst 1, 1) := dk_4 (dk_at dksX2_within_2 15 rfl rfl)
theorem dX2_within_64 : decode cX2_within 64 = .ok (.goto 4, 3) := dk_167 0 4 (dk_at dksX2_within_2 16 rfl rfl)
theorem dX2_within_67 : decode cX2_within 67 = .ok (.iconst 0, 1) := dk_3 (dk_at dksX2_within_2 19 rfl rfl)
theorem dX2_within_68 : decode cX2_within 68 = .ok (.aload_n 2, 1) := dk_44 (dk_at dksX2_within_2 20 rfl rfl)
theorem dX2_within_69 : decode cX2_within 69 = .ok (.aload_n 0, 1) := dk_42 (dk_at dksX2_within_2 21 rfl rfl)
theorem dX2_within_70 : decode cX2_within 70 = .ok (.invokevirtual 208, 3) := dk_182 0 208 (dk_at dksX2_within_3 0 rfl rfl)
theorem dX2_within_73 : decode cX2_within 73 = .ok (.invokespecial 261, 3) := dk_183 1 5 (dk_at dksX2_within_3 3 rfl rfl)
theorem dX2_within_76 : decode cX2_within 76 = .ok (.astore_n 3, 1) := dk_78 (dk_at dksX2_within_3 6 rfl rfl)
theorem dX2_within_77 : decode cX2_within 77 = .ok (.aload_n 0, 1) := dk_42 (dk_at dksX2_within_3 7 rfl rfl)
theorem dX2_within_78 : decode cX2_within 78 = .ok (.bipush 41, 2) := dk_16 41 (dk_at dksX2_within_3 8 rfl rfl)
theorem dX2_within_80 : decode cX2_within 80 = .ok (.invokevirtual 126, 3) := dk_182 0 126 (dk_at dksX2_within_3 10 rfl rfl)
theorem dX2_within_83 : decode cX2_within 83 = .ok (.aload_n 0, 1) := dk_42 (dk_at dksX2_within_3 13 rfl rfl)
theorem dX2_within_84 : decode cX2_within 84 = .ok (.dup, 1) := dk_89 (dk_at dksX2_within_3 14 rfl rfl)
theorem dX2_within_85 : decode cX2_within 85 = .ok (.getfield 117, 3) := dk_180 0 117 (dk_at dksX2_within_3 15 rfl rfl)
theorem dX2_within_88 : decode cX2_within 88 = .ok (.iconst 1, 1) := dk_4 (dk_at dksX2_within_3 18 rfl rfl)
theorem dX2_within_89 : decode cX2_within 89 = .ok (.isub, 1) := dk_100 (dk_at dksX2_within_3 19 rfl rfl)
theorem dX2_within_90 : decode cX2_within 90 = .ok (.putfield 117, 3) := dk_181 0 117 (dk_at dksX2_within_3 20 rfl rfl)
theorem dX2_within_93 : decode cX2_within 93 = .ok (.aload_n 3, 1) := dk_45 (dk_at dksX2_within_3 23 rfl rfl)
theorem dX2_within_94 : decode cX2_within 94 = .ok (.areturn, 1) := dk_176 (dk_at dksX2_within_4 0 rfl rfl)
abbrev cX2_opens : ByteArray := prog_15_method_23_code
def yX2_opens : MethodName := ⟨RX2, "opens", "(I)V"⟩
def dkwX2_opens_1 : List UInt8 := [181, 0, 117, 177]
abbrev dktX2_opens_1 : List UInt8 := dkwX2_opens_1 ++ []
def dkwX2_opens_0 : List UInt8 := [42, 180, 0, 117, 16, 6, 160, 0, 10, 42, 7, 27, 182, 0, 47, 191, 42, 89, 180, 0, 117, 4, 96]
abbrev dktX2_opens_0 : List UInt8 := dkwX2_opens_0 ++ dktX2_opens_1
theorem dksX2_opens_0 : cX2_opens.data.toList.drop 0 = dktX2_opens_0 := by decide +kernel
theorem dksX2_opens_1 : cX2_opens.data.toList.drop 23 = dktX2_opens_1 := dk_seg dksX2_opens_0 23 rfl rfl
theorem dX2_opens_0 : decode cX2_opens 0 = .ok (.aload_n 0, 1) := dk_42 (dk_at dksX2_opens_0 0 rfl rfl)
theorem dX2_opens_1 : decode cX2_opens 1 = .ok (.getfield 117, 3) := dk_180 0 117 (dk_at dksX2_opens_0 1 rfl rfl)
theorem dX2_opens_4 : decode cX2_opens 4 = .ok (.bipush 6, 2) := dk_16 6 (dk_at dksX2_opens_0 4 rfl rfl)
theorem dX2_opens_6 : decode cX2_opens 6 = .ok (.if_icmp .ne 10, 3) := dk_160 0 10 (dk_at dksX2_opens_0 6 rfl rfl)
theorem dX2_opens_9 : decode cX2_opens 9 = .ok (.aload_n 0, 1) := dk_42 (dk_at dksX2_opens_0 9 rfl rfl)
theorem dX2_opens_10 : decode cX2_opens 10 = .ok (.iconst 4, 1) := dk_7 (dk_at dksX2_opens_0 10 rfl rfl)
theorem dX2_opens_11 : decode cX2_opens 11 = .ok (.iload_n 1, 1) := dk_27 (dk_at dksX2_opens_0 11 rfl rfl)
theorem dX2_opens_12 : decode cX2_opens 12 = .ok (.invokevirtual 47, 3) := dk_182 0 47 (dk_at dksX2_opens_0 12 rfl rfl)
theorem dX2_opens_15 : decode cX2_opens 15 = .ok (.athrow, 1) := dk_191 (dk_at dksX2_opens_0 15 rfl rfl)
theorem dX2_opens_16 : decode cX2_opens 16 = .ok (.aload_n 0, 1) := dk_42 (dk_at dksX2_opens_0 16 rfl rfl)
theorem dX2_opens_17 : decode cX2_opens 17 = .ok (.dup, 1) := dk_89 (dk_at dksX2_opens_0 17 rfl rfl)
theorem dX2_opens_18 : decode cX2_opens 18 = .ok (.getfield 117, 3) := dk_180 0 117 (dk_at dksX2_opens_0 18 rfl rfl)
theorem dX2_opens_21 : decode cX2_opens 21 = .ok (.iconst 1, 1) := dk_4 (dk_at dksX2_opens_0 21 rfl rfl)
theorem dX2_opens_22 : decode cX2_opens 22 = .ok (.iadd, 1) := dk_96 (dk_at dksX2_opens_0 22 rfl rfl)
theorem dX2_opens_23 : decode cX2_opens 23 = .ok (.putfield 117, 3) := dk_181 0 117 (dk_at dksX2_opens_1 0 rfl rfl)
theorem dX2_opens_26 : decode cX2_opens 26 = .ok (.return_, 1) := dk_177 (dk_at dksX2_opens_1 3 rfl rfl)
abbrev cX2_looked : ByteArray := prog_15_method_29_code
def yX2_looked : MethodName := ⟨RX2, "looked", "(I)LMarginFolk$Value;"⟩
def dkwX2_looked_1 : List UInt8 := [77, 42, 89, 180, 0, 117, 4, 100, 181, 0, 117, 44, 176]
abbrev dktX2_looked_1 : List UInt8 := dkwX2_looked_1 ++ []
def dkwX2_looked_0 : List UInt8 := [42, 42, 180, 0, 61, 182, 1, 1, 187, 1, 76, 89, 42, 180, 0, 3, 27, 42, 182, 0, 254, 183, 1, 78]
abbrev dktX2_looked_0 : List UInt8 := dkwX2_looked_0 ++ dktX2_looked_1
theorem dksX2_looked_0 : cX2_looked.data.toList.drop 0 = dktX2_looked_0 := by decide +kernel
theorem dksX2_looked_1 : cX2_looked.data.toList.drop 24 = dktX2_looked_1 := dk_seg dksX2_looked_0 24 rfl rfl
theorem dX2_looked_0 : decode cX2_looked 0 = .ok (.aload_n 0, 1) := dk_42 (dk_at dksX2_looked_0 0 rfl rfl)
theorem dX2_looked_1 : decode cX2_looked 1 = .ok (.aload_n 0, 1) := dk_42 (dk_at dksX2_looked_0 1 rfl rfl)
theorem dX2_looked_2 : decode cX2_looked 2 = .ok (.getfield 61, 3) := dk_180 0 61 (dk_at dksX2_looked_0 2 rfl rfl)
theorem dX2_looked_5 : decode cX2_looked 5 = .ok (.invokevirtual 257, 3) := dk_182 1 1 (dk_at dksX2_looked_0 5 rfl rfl)
theorem dX2_looked_8 : decode cX2_looked 8 = .ok (.new 332, 3) := dk_187 1 76 (dk_at dksX2_looked_0 8 rfl rfl)
theorem dX2_looked_11 : decode cX2_looked 11 = .ok (.dup, 1) := dk_89 (dk_at dksX2_looked_0 11 rfl rfl)
theorem dX2_looked_12 : decode cX2_looked 12 = .ok (.aload_n 0, 1) := dk_42 (dk_at dksX2_looked_0 12 rfl rfl)
theorem dX2_looked_13 : decode cX2_looked 13 = .ok (.getfield 3, 3) := dk_180 0 3 (dk_at dksX2_looked_0 13 rfl rfl)
theorem dX2_looked_16 : decode cX2_looked 16 = .ok (.iload_n 1, 1) := dk_27 (dk_at dksX2_looked_0 16 rfl rfl)
theorem dX2_looked_17 : decode cX2_looked 17 = .ok (.aload_n 0, 1) := dk_42 (dk_at dksX2_looked_0 17 rfl rfl)
theorem dX2_looked_18 : decode cX2_looked 18 = .ok (.invokevirtual 254, 3) := dk_182 0 254 (dk_at dksX2_looked_0 18 rfl rfl)
theorem dX2_looked_21 : decode cX2_looked 21 = .ok (.invokespecial 334, 3) := dk_183 1 78 (dk_at dksX2_looked_0 21 rfl rfl)
theorem dX2_looked_24 : decode cX2_looked 24 = .ok (.astore_n 2, 1) := dk_77 (dk_at dksX2_looked_1 0 rfl rfl)
theorem dX2_looked_25 : decode cX2_looked 25 = .ok (.aload_n 0, 1) := dk_42 (dk_at dksX2_looked_1 1 rfl rfl)
theorem dX2_looked_26 : decode cX2_looked 26 = .ok (.dup, 1) := dk_89 (dk_at dksX2_looked_1 2 rfl rfl)
theorem dX2_looked_27 : decode cX2_looked 27 = .ok (.getfield 117, 3) := dk_180 0 117 (dk_at dksX2_looked_1 3 rfl rfl)
theorem dX2_looked_30 : decode cX2_looked 30 = .ok (.iconst 1, 1) := dk_4 (dk_at dksX2_looked_1 6 rfl rfl)
theorem dX2_looked_31 : decode cX2_looked 31 = .ok (.isub, 1) := dk_100 (dk_at dksX2_looked_1 7 rfl rfl)
theorem dX2_looked_32 : decode cX2_looked 32 = .ok (.putfield 117, 3) := dk_181 0 117 (dk_at dksX2_looked_1 8 rfl rfl)
theorem dX2_looked_35 : decode cX2_looked 35 = .ok (.aload_n 2, 1) := dk_44 (dk_at dksX2_looked_1 11 rfl rfl)
theorem dX2_looked_36 : decode cX2_looked 36 = .ok (.areturn, 1) := dk_176 (dk_at dksX2_looked_1 12 rfl rfl)
abbrev cX2_takes : ByteArray := prog_15_method_20_code
def yX2_takes : MethodName := ⟨RX2, "takes", "(I)Z"⟩
def dkwX2_takes_1 : List UInt8 := [167, 0, 4, 3, 96, 181, 0, 36, 28, 172]
abbrev dktX2_takes_1 : List UInt8 := dkwX2_takes_1 ++ []
def dkwX2_takes_0 : List UInt8 := [42, 182, 0, 43, 27, 160, 0, 7, 4, 167, 0, 4, 3, 61, 42, 89, 180, 0, 36, 28, 153, 0, 7, 4]
abbrev dktX2_takes_0 : List UInt8 := dkwX2_takes_0 ++ dktX2_takes_1
theorem dksX2_takes_0 : cX2_takes.data.toList.drop 0 = dktX2_takes_0 := by decide +kernel
theorem dksX2_takes_1 : cX2_takes.data.toList.drop 24 = dktX2_takes_1 := dk_seg dksX2_takes_0 24 rfl rfl
theorem dX2_takes_0 : decode cX2_takes 0 = .ok (.aload_n 0, 1) := dk_42 (dk_at dksX2_takes_0 0 rfl rfl)
theorem dX2_takes_1 : decode cX2_takes 1 = .ok (.invokevirtual 43, 3) := dk_182 0 43 (dk_at dksX2_takes_0 1 rfl rfl)
theorem dX2_takes_4 : decode cX2_takes 4 = .ok (.iload_n 1, 1) := dk_27 (dk_at dksX2_takes_0 4 rfl rfl)
theorem dX2_takes_5 : decode cX2_takes 5 = .ok (.if_icmp .ne 7, 3) := dk_160 0 7 (dk_at dksX2_takes_0 5 rfl rfl)
theorem dX2_takes_8 : decode cX2_takes 8 = .ok (.iconst 1, 1) := dk_4 (dk_at dksX2_takes_0 8 rfl rfl)
theorem dX2_takes_9 : decode cX2_takes 9 = .ok (.goto 4, 3) := dk_167 0 4 (dk_at dksX2_takes_0 9 rfl rfl)
theorem dX2_takes_12 : decode cX2_takes 12 = .ok (.iconst 0, 1) := dk_3 (dk_at dksX2_takes_0 12 rfl rfl)
theorem dX2_takes_13 : decode cX2_takes 13 = .ok (.istore_n 2, 1) := dk_61 (dk_at dksX2_takes_0 13 rfl rfl)
theorem dX2_takes_14 : decode cX2_takes 14 = .ok (.aload_n 0, 1) := dk_42 (dk_at dksX2_takes_0 14 rfl rfl)
theorem dX2_takes_15 : decode cX2_takes 15 = .ok (.dup, 1) := dk_89 (dk_at dksX2_takes_0 15 rfl rfl)
theorem dX2_takes_16 : decode cX2_takes 16 = .ok (.getfield 36, 3) := dk_180 0 36 (dk_at dksX2_takes_0 16 rfl rfl)
theorem dX2_takes_19 : decode cX2_takes 19 = .ok (.iload_n 2, 1) := dk_28 (dk_at dksX2_takes_0 19 rfl rfl)
theorem dX2_takes_20 : decode cX2_takes 20 = .ok (.ifCond .eq 7, 3) := dk_153 0 7 (dk_at dksX2_takes_0 20 rfl rfl)
theorem dX2_takes_23 : decode cX2_takes 23 = .ok (.iconst 1, 1) := dk_4 (dk_at dksX2_takes_0 23 rfl rfl)
theorem dX2_takes_24 : decode cX2_takes 24 = .ok (.goto 4, 3) := dk_167 0 4 (dk_at dksX2_takes_1 0 rfl rfl)
theorem dX2_takes_27 : decode cX2_takes 27 = .ok (.iconst 0, 1) := dk_3 (dk_at dksX2_takes_1 3 rfl rfl)
theorem dX2_takes_28 : decode cX2_takes 28 = .ok (.iadd, 1) := dk_96 (dk_at dksX2_takes_1 4 rfl rfl)
theorem dX2_takes_29 : decode cX2_takes 29 = .ok (.putfield 36, 3) := dk_181 0 36 (dk_at dksX2_takes_1 5 rfl rfl)
theorem dX2_takes_32 : decode cX2_takes 32 = .ok (.iload_n 2, 1) := dk_28 (dk_at dksX2_takes_1 8 rfl rfl)
theorem dX2_takes_33 : decode cX2_takes 33 = .ok (.ireturn, 1) := dk_172 (dk_at dksX2_takes_1 9 rfl rfl)
abbrev cX2_test : ByteArray := prog_15_method_26_code
def yX2_test : MethodName := ⟨RX2, "test", "()LMarginFolk$Test;"⟩
def dkwX2_test_2 : List UInt8 := [167, 255, 232, 43, 176]
abbrev dktX2_test_2 : List UInt8 := dkwX2_test_2 ++ []
def dkwX2_test_1 : List UInt8 := [19, 1, 48, 182, 1, 50, 153, 0, 20, 43, 180, 1, 42, 42, 182, 1, 45, 185, 0, 202, 2, 0, 87]
abbrev dktX2_test_1 : List UInt8 := dkwX2_test_1 ++ dktX2_test_2
def dkwX2_test_0 : List UInt8 := [187, 1, 37, 89, 3, 183, 1, 39, 76, 43, 180, 1, 42, 42, 182, 1, 45, 185, 0, 202, 2, 0, 87, 42]
abbrev dktX2_test_0 : List UInt8 := dkwX2_test_0 ++ dktX2_test_1
theorem dksX2_test_0 : cX2_test.data.toList.drop 0 = dktX2_test_0 := by decide +kernel
theorem dksX2_test_1 : cX2_test.data.toList.drop 24 = dktX2_test_1 := dk_seg dksX2_test_0 24 rfl rfl
theorem dksX2_test_2 : cX2_test.data.toList.drop 47 = dktX2_test_2 := dk_seg dksX2_test_1 23 rfl rfl
theorem dX2_test_0 : decode cX2_test 0 = .ok (.new 293, 3) := dk_187 1 37 (dk_at dksX2_test_0 0 rfl rfl)
theorem dX2_test_3 : decode cX2_test 3 = .ok (.dup, 1) := dk_89 (dk_at dksX2_test_0 3 rfl rfl)
theorem dX2_test_4 : decode cX2_test 4 = .ok (.iconst 0, 1) := dk_3 (dk_at dksX2_test_0 4 rfl rfl)
theorem dX2_test_5 : decode cX2_test 5 = .ok (.invokespecial 295, 3) := dk_183 1 39 (dk_at dksX2_test_0 5 rfl rfl)
theorem dX2_test_8 : decode cX2_test 8 = .ok (.astore_n 1, 1) := dk_76 (dk_at dksX2_test_0 8 rfl rfl)
theorem dX2_test_9 : decode cX2_test 9 = .ok (.aload_n 1, 1) := dk_43 (dk_at dksX2_test_0 9 rfl rfl)
theorem dX2_test_10 : decode cX2_test 10 = .ok (.getfield 298, 3) := dk_180 1 42 (dk_at dksX2_test_0 10 rfl rfl)
theorem dX2_test_13 : decode cX2_test 13 = .ok (.aload_n 0, 1) := dk_42 (dk_at dksX2_test_0 13 rfl rfl)
theorem dX2_test_14 : decode cX2_test 14 = .ok (.invokevirtual 301, 3) := dk_182 1 45 (dk_at dksX2_test_0 14 rfl rfl)
theorem dX2_test_17 : decode cX2_test 17 = .ok (.invokeinterface 202 2, 5) := by decide +kernel
theorem dX2_test_22 : decode cX2_test 22 = .ok (.pop, 1) := dk_87 (dk_at dksX2_test_0 22 rfl rfl)
theorem dX2_test_23 : decode cX2_test 23 = .ok (.aload_n 0, 1) := dk_42 (dk_at dksX2_test_0 23 rfl rfl)
theorem dX2_test_24 : decode cX2_test 24 = .ok (.ldc_w 304, 3) := dk_19 1 48 (dk_at dksX2_test_1 0 rfl rfl)
theorem dX2_test_27 : decode cX2_test 27 = .ok (.invokevirtual 306, 3) := dk_182 1 50 (dk_at dksX2_test_1 3 rfl rfl)
theorem dX2_test_30 : decode cX2_test 30 = .ok (.ifCond .eq 20, 3) := dk_153 0 20 (dk_at dksX2_test_1 6 rfl rfl)
theorem dX2_test_33 : decode cX2_test 33 = .ok (.aload_n 1, 1) := dk_43 (dk_at dksX2_test_1 9 rfl rfl)
theorem dX2_test_34 : decode cX2_test 34 = .ok (.getfield 298, 3) := dk_180 1 42 (dk_at dksX2_test_1 10 rfl rfl)
theorem dX2_test_37 : decode cX2_test 37 = .ok (.aload_n 0, 1) := dk_42 (dk_at dksX2_test_1 13 rfl rfl)
theorem dX2_test_38 : decode cX2_test 38 = .ok (.invokevirtual 301, 3) := dk_182 1 45 (dk_at dksX2_test_1 14 rfl rfl)
theorem dX2_test_41 : decode cX2_test 41 = .ok (.invokeinterface 202 2, 5) := by decide +kernel
theorem dX2_test_46 : decode cX2_test 46 = .ok (.pop, 1) := dk_87 (dk_at dksX2_test_1 22 rfl rfl)
theorem dX2_test_47 : decode cX2_test 47 = .ok (.goto (-24), 3) := dk_167 255 232 (dk_at dksX2_test_2 0 rfl rfl)
theorem dX2_test_50 : decode cX2_test 50 = .ok (.aload_n 1, 1) := dk_43 (dk_at dksX2_test_2 3 rfl rfl)
theorem dX2_test_51 : decode cX2_test 51 = .ok (.areturn, 1) := dk_176 (dk_at dksX2_test_2 4 rfl rfl)
abbrev cX2_both : ByteArray := prog_15_method_27_code
def yX2_both : MethodName := ⟨RX2, "both", "()LMarginFolk$Test;"⟩
def dkwX2_both_2 : List UInt8 := [167, 255, 232, 43, 176]
abbrev dktX2_both_2 : List UInt8 := dkwX2_both_2 ++ []
def dkwX2_both_1 : List UInt8 := [19, 1, 57, 182, 1, 50, 153, 0, 20, 43, 180, 1, 42, 42, 182, 1, 54, 185, 0, 202, 2, 0, 87]
abbrev dktX2_both_1 : List UInt8 := dkwX2_both_1 ++ dktX2_both_2
def dkwX2_both_0 : List UInt8 := [187, 1, 37, 89, 4, 183, 1, 39, 76, 43, 180, 1, 42, 42, 182, 1, 54, 185, 0, 202, 2, 0, 87, 42]
abbrev dktX2_both_0 : List UInt8 := dkwX2_both_0 ++ dktX2_both_1
theorem dksX2_both_0 : cX2_both.data.toList.drop 0 = dktX2_both_0 := by decide +kernel
theorem dksX2_both_1 : cX2_both.data.toList.drop 24 = dktX2_both_1 := dk_seg dksX2_both_0 24 rfl rfl
theorem dksX2_both_2 : cX2_both.data.toList.drop 47 = dktX2_both_2 := dk_seg dksX2_both_1 23 rfl rfl
theorem dX2_both_0 : decode cX2_both 0 = .ok (.new 293, 3) := dk_187 1 37 (dk_at dksX2_both_0 0 rfl rfl)
theorem dX2_both_3 : decode cX2_both 3 = .ok (.dup, 1) := dk_89 (dk_at dksX2_both_0 3 rfl rfl)
theorem dX2_both_4 : decode cX2_both 4 = .ok (.iconst 1, 1) := dk_4 (dk_at dksX2_both_0 4 rfl rfl)
theorem dX2_both_5 : decode cX2_both 5 = .ok (.invokespecial 295, 3) := dk_183 1 39 (dk_at dksX2_both_0 5 rfl rfl)
theorem dX2_both_8 : decode cX2_both 8 = .ok (.astore_n 1, 1) := dk_76 (dk_at dksX2_both_0 8 rfl rfl)
theorem dX2_both_9 : decode cX2_both 9 = .ok (.aload_n 1, 1) := dk_43 (dk_at dksX2_both_0 9 rfl rfl)
theorem dX2_both_10 : decode cX2_both 10 = .ok (.getfield 298, 3) := dk_180 1 42 (dk_at dksX2_both_0 10 rfl rfl)
theorem dX2_both_13 : decode cX2_both 13 = .ok (.aload_n 0, 1) := dk_42 (dk_at dksX2_both_0 13 rfl rfl)
theorem dX2_both_14 : decode cX2_both 14 = .ok (.invokevirtual 310, 3) := dk_182 1 54 (dk_at dksX2_both_0 14 rfl rfl)
theorem dX2_both_17 : decode cX2_both 17 = .ok (.invokeinterface 202 2, 5) := by decide +kernel
theorem dX2_both_22 : decode cX2_both 22 = .ok (.pop, 1) := dk_87 (dk_at dksX2_both_0 22 rfl rfl)
theorem dX2_both_23 : decode cX2_both 23 = .ok (.aload_n 0, 1) := dk_42 (dk_at dksX2_both_0 23 rfl rfl)
theorem dX2_both_24 : decode cX2_both 24 = .ok (.ldc_w 313, 3) := dk_19 1 57 (dk_at dksX2_both_1 0 rfl rfl)
theorem dX2_both_27 : decode cX2_both 27 = .ok (.invokevirtual 306, 3) := dk_182 1 50 (dk_at dksX2_both_1 3 rfl rfl)
theorem dX2_both_30 : decode cX2_both 30 = .ok (.ifCond .eq 20, 3) := dk_153 0 20 (dk_at dksX2_both_1 6 rfl rfl)
theorem dX2_both_33 : decode cX2_both 33 = .ok (.aload_n 1, 1) := dk_43 (dk_at dksX2_both_1 9 rfl rfl)
theorem dX2_both_34 : decode cX2_both 34 = .ok (.getfield 298, 3) := dk_180 1 42 (dk_at dksX2_both_1 10 rfl rfl)
theorem dX2_both_37 : decode cX2_both 37 = .ok (.aload_n 0, 1) := dk_42 (dk_at dksX2_both_1 13 rfl rfl)
theorem dX2_both_38 : decode cX2_both 38 = .ok (.invokevirtual 310, 3) := dk_182 1 54 (dk_at dksX2_both_1 14 rfl rfl)
theorem dX2_both_41 : decode cX2_both 41 = .ok (.invokeinterface 202 2, 5) := by decide +kernel
theorem dX2_both_46 : decode cX2_both 46 = .ok (.pop, 1) := dk_87 (dk_at dksX2_both_1 22 rfl rfl)
theorem dX2_both_47 : decode cX2_both 47 = .ok (.goto (-24), 3) := dk_167 255 232 (dk_at dksX2_both_2 0 rfl rfl)
theorem dX2_both_50 : decode cX2_both 50 = .ok (.aload_n 1, 1) := dk_43 (dk_at dksX2_both_2 3 rfl rfl)
theorem dX2_both_51 : decode cX2_both 51 = .ok (.areturn, 1) := dk_176 (dk_at dksX2_both_2 4 rfl rfl)
abbrev cX2_fact : ByteArray := prog_15_method_28_code
def yX2_fact : MethodName := ⟨RX2, "fact", "()LMarginFolk$Test;"⟩
def dkwX2_fact_7 : List UInt8 := [183, 1, 73, 176]
abbrev dktX2_fact_7 : List UInt8 := dkwX2_fact_7 ++ []
def dkwX2_fact_6 : List UInt8 := [182, 0, 47, 191, 42, 89, 180, 0, 36, 4, 96, 181, 0, 36, 187, 1, 71, 89, 43, 28, 42, 182, 0, 208]
abbrev dktX2_fact_6 : List UInt8 := dkwX2_fact_6 ++ dktX2_fact_7
def dkwX2_fact_5 : List UInt8 := [28, 16, 60, 159, 0, 25, 28, 16, 62, 159, 0, 19, 28, 16, 61, 159, 0, 13, 42, 4, 42, 180, 0, 36]
abbrev dktX2_fact_5 : List UInt8 := dkwX2_fact_5 ++ dktX2_fact_6
def dkwX2_fact_4 : List UInt8 := [182, 1, 50, 153, 0, 11, 187, 1, 68, 89, 183, 1, 70, 176, 42, 182, 0, 208, 76, 42, 182, 0, 43, 61]
abbrev dktX2_fact_4 : List UInt8 := dkwX2_fact_4 ++ dktX2_fact_5
def dkwX2_fact_3 : List UInt8 := [42, 182, 1, 54, 183, 1, 63, 76, 42, 89, 180, 0, 117, 4, 100, 181, 0, 117, 43, 176, 42, 19, 1, 66]
abbrev dktX2_fact_3 : List UInt8 := dkwX2_fact_3 ++ dktX2_fact_4
def dkwX2_fact_2 : List UInt8 := [43, 176, 42, 19, 1, 59, 182, 1, 50, 153, 0, 35, 42, 42, 180, 0, 61, 182, 1, 1, 187, 1, 61, 89]
abbrev dktX2_fact_2 : List UInt8 := dkwX2_fact_2 ++ dktX2_fact_3
def dkwX2_fact_1 : List UInt8 := [181, 0, 36, 42, 182, 0, 236, 76, 42, 16, 93, 182, 0, 126, 42, 89, 180, 0, 117, 4, 100, 181, 0, 117]
abbrev dktX2_fact_1 : List UInt8 := dkwX2_fact_1 ++ dktX2_fact_2
def dkwX2_fact_0 : List UInt8 := [42, 182, 0, 43, 16, 91, 160, 0, 44, 42, 42, 180, 0, 36, 182, 1, 1, 42, 89, 180, 0, 36, 4, 96]
abbrev dktX2_fact_0 : List UInt8 := dkwX2_fact_0 ++ dktX2_fact_1
theorem dksX2_fact_0 : cX2_fact.data.toList.drop 0 = dktX2_fact_0 := by decide +kernel
theorem dksX2_fact_1 : cX2_fact.data.toList.drop 24 = dktX2_fact_1 := dk_seg dksX2_fact_0 24 rfl rfl
theorem dksX2_fact_2 : cX2_fact.data.toList.drop 48 = dktX2_fact_2 := dk_seg dksX2_fact_1 24 rfl rfl
theorem dksX2_fact_3 : cX2_fact.data.toList.drop 72 = dktX2_fact_3 := dk_seg dksX2_fact_2 24 rfl rfl
theorem dksX2_fact_4 : cX2_fact.data.toList.drop 96 = dktX2_fact_4 := dk_seg dksX2_fact_3 24 rfl rfl
theorem dksX2_fact_5 : cX2_fact.data.toList.drop 120 = dktX2_fact_5 := dk_seg dksX2_fact_4 24 rfl rfl
theorem dksX2_fact_6 : cX2_fact.data.toList.drop 144 = dktX2_fact_6 := dk_seg dksX2_fact_5 24 rfl rfl
theorem dksX2_fact_7 : cX2_fact.data.toList.drop 168 = dktX2_fact_7 := dk_seg dksX2_fact_6 24 rfl rfl
theorem dX2_fact_0 : decode cX2_fact 0 = .ok (.aload_n 0, 1) := dk_42 (dk_at dksX2_fact_0 0 rfl rfl)
theorem dX2_fact_1 : decode cX2_fact 1 = .ok (.invokevirtual 43, 3) := dk_182 0 43 (dk_at dksX2_fact_0 1 rfl rfl)
theorem dX2_fact_4 : decode cX2_fact 4 = .ok (.bipush 91, 2) := dk_16 91 (dk_at dksX2_fact_0 4 rfl rfl)
theorem dX2_fact_6 : decode cX2_fact 6 = .ok (.if_icmp .ne 44, 3) := dk_160 0 44 (dk_at dksX2_fact_0 6 rfl rfl)
theorem dX2_fact_9 : decode cX2_fact 9 = .ok (.aload_n 0, 1) := dk_42 (dk_at dksX2_fact_0 9 rfl rfl)
theorem dX2_fact_10 : decode cX2_fact 10 = .ok (.aload_n 0, 1) := dk_42 (dk_at dksX2_fact_0 10 rfl rfl)
theorem dX2_fact_11 : decode cX2_fact 11 = .ok (.getfield 36, 3) := dk_180 0 36 (dk_at dksX2_fact_0 11 rfl rfl)
theorem dX2_fact_14 : decode cX2_fact 14 = .ok (.invokevirtual 257, 3) := dk_182 1 1 (dk_at dksX2_fact_0 14 rfl rfl)
theorem dX2_fact_17 : decode cX2_fact 17 = .ok (.aload_n 0, 1) := dk_42 (dk_at dksX2_fact_0 17 rfl rfl)
theorem dX2_fact_18 : decode cX2_fact 18 = .ok (.dup, 1) := dk_89 (dk_at dksX2_fact_0 18 rfl rfl)
theorem dX2_fact_19 : decode cX2_fact 19 = .ok (.getfield 36, 3) := dk_180 0 36 (dk_at dksX2_fact_0 19 rfl rfl)
theorem dX2_fact_22 : decode cX2_fact 22 = .ok (.iconst 1, 1) := dk_4 (dk_at dksX2_fact_0 22 rfl rfl)
theorem dX2_fact_23 : decode cX2_fact 23 = .ok (.iadd, 1) := dk_96 (dk_at dksX2_fact_0 23 rfl rfl)
theorem dX2_fact_24 : decode cX2_fact 24 = .ok (.putfield 36, 3) := dk_181 0 36 (dk_at dksX2_fact_1 0 rfl rfl)
theorem dX2_fact_27 : decode cX2_fact 27 = .ok (.aload_n 0, 1) := dk_42 (dk_at dksX2_fact_1 3 rfl rfl)
theorem dX2_fact_28 : decode cX2_fact 28 = .ok (.invokevirtual 236, 3) := dk_182 0 236 (dk_at dksX2_fact_1 4 rfl rfl)
theorem dX2_fact_31 : decode cX2_fact 31 = .ok (.astore_n 1, 1) := dk_76 (dk_at dksX2_fact_1 7 rfl rfl)
theorem dX2_fact_32 : decode cX2_fact 32 = .ok (.aload_n 0, 1) := dk_42 (dk_at dksX2_fact_1 8 rfl rfl)
theorem dX2_fact_33 : decode cX2_fact 33 = .ok (.bipush 93, 2) := dk_16 93 (dk_at dksX2_fact_1 9 rfl rfl)
theorem dX2_fact_35 : decode cX2_fact 35 = .ok (.invokevirtual 126, 3) := dk_182 0 126 (dk_at dksX2_fact_1 11 rfl rfl)
theorem dX2_fact_38 : decode cX2_fact 38 = .ok (.aload_n 0, 1) := dk_42 (dk_at dksX2_fact_1 14 rfl rfl)
theorem dX2_fact_39 : decode cX2_fact 39 = .ok (.dup, 1) := dk_89 (dk_at dksX2_fact_1 15 rfl rfl)
theorem dX2_fact_40 : decode cX2_fact 40 = .ok (.getfield 117, 3) := dk_180 0 117 (dk_at dksX2_fact_1 16 rfl rfl)
theorem dX2_fact_43 : decode cX2_fact 43 = .ok (.iconst 1, 1) := dk_4 (dk_at dksX2_fact_1 19 rfl rfl)
theorem dX2_fact_44 : decode cX2_fact 44 = .ok (.isub, 1) := dk_100 (dk_at dksX2_fact_1 20 rfl rfl)
theorem dX2_fact_45 : decode cX2_fact 45 = .ok (.putfield 117, 3) := dk_181 0 117 (dk_at dksX2_fact_1 21 rfl rfl)
theorem dX2_fact_48 : decode cX2_fact 48 = .ok (.aload_n 1, 1) := dk_43 (dk_at dksX2_fact_2 0 rfl rfl)
theorem dX2_fact_49 : decode cX2_fact 49 = .ok (.areturn, 1) := dk_176 (dk_at dksX2_fact_2 1 rfl rfl)
theorem dX2_fact_50 : decode cX2_fact 50 = .ok (.aload_n 0, 1) := dk_42 (dk_at dksX2_fact_2 2 rfl rfl)
theorem dX2_fact_51 : decode cX2_fact 51 = .ok (.ldc_w 315, 3) := dk_19 1 59 (dk_at dksX2_fact_2 3 rfl rfl)
theorem dX2_fact_54 : decode cX2_fact 54 = .ok (.invokevirtual 306, 3) := dk_182 1 50 (dk_at dksX2_fact_2 6 rfl rfl)
theorem dX2_fact_57 : decode cX2_fact 57 = .ok (.ifCond .eq 35, 3) := dk_153 0 35 (dk_at dksX2_fact_2 9 rfl rfl)
theorem dX2_fact_60 : decode cX2_fact 60 = .ok (.aload_n 0, 1) := dk_42 (dk_at dksX2_fact_2 12 rfl rfl)
theorem dX2_fact_61 : decode cX2_fact 61 = .ok (.aload_n 0, 1) := dk_42 (dk_at dksX2_fact_2 13 rfl rfl)
theorem dX2_fact_62 : decode cX2_fact 62 = .ok (.getfield 61, 3) := dk_180 0 61 (dk_at dksX2_fact_2 14 rfl rfl)
theorem dX2_fact_65 : decode cX2_fact 65 = .ok (.invokevirtual 257, 3) := dk_182 1 1 (dk_at dksX2_fact_2 17 rfl rfl)
theorem dX2_fact_68 : decode cX2_fact 68 = .ok (.new 317, 3) := dk_187 1 61 (dk_at dksX2_fact_2 20 rfl rfl)
theorem dX2_fact_71 : decode cX2_fact 71 = .ok (.dup, 1) := dk_89 (dk_at dksX2_fact_2 23 rfl rfl)
theorem dX2_fact_72 : decode cX2_fact 72 = .ok (.aload_n 0, 1) := dk_42 (dk_at dksX2_fact_3 0 rfl rfl)
theorem dX2_fact_73 : decode cX2_fact 73 = .ok (.invokevirtual 310, 3) := dk_182 1 54 (dk_at dksX2_fact_3 1 rfl rfl)
theorem dX2_fact_76 : decode cX2_fact 76 = .ok (.invokespecial 319, 3) := dk_183 1 63 (dk_at dksX2_fact_3 4 rfl rfl)
theorem dX2_fact_79 : decode cX2_fact 79 = .ok (.astore_n 1, 1) := dk_76 (dk_at dksX2_fact_3 7 rfl rfl)
theorem dX2_fact_80 : decode cX2_fact 80 = .ok (.aload_n 0, 1) := dk_42 (dk_at dksX2_fact_3 8 rfl rfl)
theorem dX2_fact_81 : decode cX2_fact 81 = .ok (.dup, 1) := dk_89 (dk_at dksX2_fact_3 9 rfl rfl)
theorem dX2_fact_82 : decode cX2_fact 82 = .ok (.getfield 117, 3) := dk_180 0 117 (dk_at dksX2_fact_3 10 rfl rfl)
theorem dX2_fact_85 : decode cX2_fact 85 = .ok (.iconst 1, 1) := dk_4 (dk_at dksX2_fact_3 13 rfl rfl)
theorem dX2_fact_86 : decode cX2_fact 86 = .ok (.isub, 1) := dk_100 (dk_at dksX2_fact_3 14 rfl rfl)
theorem dX2_fact_87 : decode cX2_fact 87 = .ok (.putfield 117, 3) := dk_181 0 117 (dk_at dksX2_fact_3 15 rfl rfl)
theorem dX2_fact_90 : decode cX2_fact 90 = .ok (.aload_n 1, 1) := dk_43 (dk_at dksX2_fact_3 18 rfl rfl)
theorem dX2_fact_91 : decode cX2_fact 91 = .ok (.areturn, 1) := dk_176 (dk_at dksX2_fact_3 19 rfl rfl)
theorem dX2_fact_92 : decode cX2_fact 92 = .ok (.aload_n 0, 1) := dk_42 (dk_at dksX2_fact_3 20 rfl rfl)
theorem dX2_fact_93 : decode cX2_fact 93 = .ok (.ldc_w 322, 3) := dk_19 1 66 (dk_at dksX2_fact_3 21 rfl rfl)
theorem dX2_fact_96 : decode cX2_fact 96 = .ok (.invokevirtual 306, 3) := dk_182 1 50 (dk_at dksX2_fact_4 0 rfl rfl)
theorem dX2_fact_99 : decode cX2_fact 99 = .ok (.ifCond .eq 11, 3) := dk_153 0 11 (dk_at dksX2_fact_4 3 rfl rfl)
theorem dX2_fact_102 : decode cX2_fact 102 = .ok (.new 324, 3) := dk_187 1 68 (dk_at dksX2_fact_4 6 rfl rfl)
theorem dX2_fact_105 : decode cX2_fact 105 = .ok (.dup, 1) := dk_89 (dk_at dksX2_fact_4 9 rfl rfl)
theorem dX2_fact_106 : decode cX2_fact 106 = .ok (.invokespecial 326, 3) := dk_183 1 70 (dk_at dksX2_fact_4 10 rfl rfl)
theorem dX2_fact_109 : decode cX2_fact 109 = .ok (.areturn, 1) := dk_176 (dk_at dksX2_fact_4 13 rfl rfl)
theorem dX2_fact_110 : decode cX2_fact 110 = .ok (.aload_n 0, 1) := dk_42 (dk_at dksX2_fact_4 14 rfl rfl)
theorem dX2_fact_111 : decode cX2_fact 111 = .ok (.invokevirtual 208, 3) := dk_182 0 208 (dk_at dksX2_fact_4 15 rfl rfl)
theorem dX2_fact_114 : decode cX2_fact 114 = .ok (.astore_n 1, 1) := dk_76 (dk_at dksX2_fact_4 18 rfl rfl)
theorem dX2_fact_115 : decode cX2_fact 115 = .ok (.aload_n 0, 1) := dk_42 (dk_at dksX2_fact_4 19 rfl rfl)
theorem dX2_fact_116 : decode cX2_fact 116 = .ok (.invokevirtual 43, 3) := dk_182 0 43 (dk_at dksX2_fact_4 20 rfl rfl)
theorem dX2_fact_119 : decode cX2_fact 119 = .ok (.istore_n 2, 1) := dk_61 (dk_at dksX2_fact_4 23 rfl rfl)
theorem dX2_fact_120 : decode cX2_fact 120 = .ok (.iload_n 2, 1) := dk_28 (dk_at dksX2_fact_5 0 rfl rfl)
theorem dX2_fact_121 : decode cX2_fact 121 = .ok (.bipush 60, 2) := dk_16 60 (dk_at dksX2_fact_5 1 rfl rfl)
theorem dX2_fact_123 : decode cX2_fact 123 = .ok (.if_icmp .eq 25, 3) := dk_159 0 25 (dk_at dksX2_fact_5 3 rfl rfl)
theorem dX2_fact_126 : decode cX2_fact 126 = .ok (.iload_n 2, 1) := dk_28 (dk_at dksX2_fact_5 6 rfl rfl)
theorem dX2_fact_127 : decode cX2_fact 127 = .ok (.bipush 62, 2) := dk_16 62 (dk_at dksX2_fact_5 7 rfl rfl)
theorem dX2_fact_129 : decode cX2_fact 129 = .ok (.if_icmp .eq 19, 3) := dk_159 0 19 (dk_at dksX2_fact_5 9 rfl rfl)
theorem dX2_fact_132 : decode cX2_fact 132 = .ok (.iload_n 2, 1) := dk_28 (dk_at dksX2_fact_5 12 rfl rfl)
theorem dX2_fact_133 : decode cX2_fact 133 = .ok (.bipush 61, 2) := dk_16 61 (dk_at dksX2_fact_5 13 rfl rfl)
theorem dX2_fact_135 : decode cX2_fact 135 = .ok (.if_icmp .eq 13, 3) := dk_159 0 13 (dk_at dksX2_fact_5 15 rfl rfl)
theorem dX2_fact_138 : decode cX2_fact 138 = .ok (.aload_n 0, 1) := dk_42 (dk_at dksX2_fact_5 18 rfl rfl)
theorem dX2_fact_139 : decode cX2_fact 139 = .ok (.iconst 1, 1) := dk_4 (dk_at dksX2_fact_5 19 rfl rfl)
theorem dX2_fact_140 : decode cX2_fact 140 = .ok (.aload_n 0, 1) := dk_42 (dk_at dksX2_fact_5 20 rfl rfl)
theorem dX2_fact_141 : decode cX2_fact 141 = .ok (.getfield 36, 3) := dk_180 0 36 (dk_at dksX2_fact_5 21 rfl rfl)
theorem dX2_fact_144 : decode cX2_fact 144 = .ok (.invokevirtual 47, 3) := dk_182 0 47 (dk_at dksX2_fact_6 0 rfl rfl)
theorem dX2_fact_147 : decode cX2_fact 147 = .ok (.athrow, 1) := dk_191 (dk_at dksX2_fact_6 3 rfl rfl)
theorem dX2_fact_148 : decode cX2_fact 148 = .ok (.aload_n 0, 1) := dk_42 (dk_at dksX2_fact_6 4 rfl rfl)
theorem dX2_fact_149 : decode cX2_fact 149 = .ok (.dup, 1) := dk_89 (dk_at dksX2_fact_6 5 rfl rfl)
theorem dX2_fact_150 : decode cX2_fact 150 = .ok (.getfield 36, 3) := dk_180 0 36 (dk_at dksX2_fact_6 6 rfl rfl)
theorem dX2_fact_153 : decode cX2_fact 153 = .ok (.iconst 1, 1) := dk_4 (dk_at dksX2_fact_6 9 rfl rfl)
theorem dX2_fact_154 : decode cX2_fact 154 = .ok (.iadd, 1) := dk_96 (dk_at dksX2_fact_6 10 rfl rfl)
theorem dX2_fact_155 : decode cX2_fact 155 = .ok (.putfield 36, 3) := dk_181 0 36 (dk_at dksX2_fact_6 11 rfl rfl)
theorem dX2_fact_158 : decode cX2_fact 158 = .ok (.new 327, 3) := dk_187 1 71 (dk_at dksX2_fact_6 14 rfl rfl)
theorem dX2_fact_161 : decode cX2_fact 161 = .ok (.dup, 1) := dk_89 (dk_at dksX2_fact_6 17 rfl rfl)
theorem dX2_fact_162 : decode cX2_fact 162 = .ok (.aload_n 1, 1) := dk_43 (dk_at dksX2_fact_6 18 rfl rfl)
theorem dX2_fact_163 : decode cX2_fact 163 = .ok (.iload_n 2, 1) := dk_28 (dk_at dksX2_fact_6 19 rfl rfl)
theorem dX2_fact_164 : decode cX2_fact 164 = .ok (.aload_n 0, 1) := dk_42 (dk_at dksX2_fact_6 20 rfl rfl)
theorem dX2_fact_165 : decode cX2_fact 165 = .ok (.invokevirtual 208, 3) := dk_182 0 208 (dk_at dksX2_fact_6 21 rfl rfl)
theorem dX2_fact_168 : decode cX2_fact 168 = .ok (.invokespecial 329, 3) := dk_183 1 73 (dk_at dksX2_fact_7 0 rfl rfl)
theorem dX2_fact_171 : decode cX2_fact 171 = .ok (.areturn, 1) := dk_176 (dk_at dksX2_fact_7 3 rfl rfl)
abbrev cX2_passes : ByteArray := prog_15_method_9_code
def yX2_passes : MethodName := ⟨RX2, "passes", "(Ljava/lang/String;)Z"⟩
def dkwX2_passes_1 : List UInt8 := [182, 0, 74, 153, 0, 5, 4, 172, 42, 28, 181, 0, 36, 3, 172]
abbrev dktX2_passes_1 : List UInt8 := dkwX2_passes_1 ++ []
def dkwX2_passes_0 : List UInt8 := [42, 180, 0, 36, 61, 42, 182, 0, 43, 184, 0, 51, 154, 0, 5, 3, 172, 42, 182, 0, 70, 43]
abbrev dktX2_passes_0 : List UInt8 := dkwX2_passes_0 ++ dktX2_passes_1
theorem dksX2_passes_0 : cX2_passes.data.toList.drop 0 = dktX2_passes_0 := by decide +kernel
theorem dksX2_passes_1 : cX2_passes.data.toList.drop 22 = dktX2_passes_1 := dk_seg dksX2_passes_0 22 rfl rfl
theorem dX2_passes_0 : decode cX2_passes 0 = .ok (.aload_n 0, 1) := dk_42 (dk_at dksX2_passes_0 0 rfl rfl)
theorem dX2_passes_1 : decode cX2_passes 1 = .ok (.getfield 36, 3) := dk_180 0 36 (dk_at dksX2_passes_0 1 rfl rfl)
theorem dX2_passes_4 : decode cX2_passes 4 = .ok (.istore_n 2, 1) := dk_61 (dk_at dksX2_passes_0 4 rfl rfl)
theorem dX2_passes_5 : decode cX2_passes 5 = .ok (.aload_n 0, 1) := dk_42 (dk_at dksX2_passes_0 5 rfl rfl)
theorem dX2_passes_6 : decode cX2_passes 6 = .ok (.invokevirtual 43, 3) := dk_182 0 43 (dk_at dksX2_passes_0 6 rfl rfl)
theorem dX2_passes_9 : decode cX2_passes 9 = .ok (.invokestatic 51, 3) := dk_184 0 51 (dk_at dksX2_passes_0 9 rfl rfl)
theorem dX2_passes_12 : decode cX2_passes 12 = .ok (.ifCond .ne 5, 3) := dk_154 0 5 (dk_at dksX2_passes_0 12 rfl rfl)
theorem dX2_passes_15 : decode cX2_passes 15 = .ok (.iconst 0, 1) := dk_3 (dk_at dksX2_passes_0 15 rfl rfl)
theorem dX2_passes_16 : decode cX2_passes 16 = .ok (.ireturn, 1) := dk_172 (dk_at dksX2_passes_0 16 rfl rfl)
theorem dX2_passes_17 : decode cX2_passes 17 = .ok (.aload_n 0, 1) := dk_42 (dk_at dksX2_passes_0 17 rfl rfl)
theorem dX2_passes_18 : decode cX2_passes 18 = .ok (.invokevirtual 70, 3) := dk_182 0 70 (dk_at dksX2_passes_0 18 rfl rfl)
theorem dX2_passes_21 : decode cX2_passes 21 = .ok (.aload_n 1, 1) := dk_43 (dk_at dksX2_passes_0 21 rfl rfl)
theorem dX2_passes_22 : decode cX2_passes 22 = .ok (.invokevirtual 74, 3) := dk_182 0 74 (dk_at dksX2_passes_1 0 rfl rfl)
theorem dX2_passes_25 : decode cX2_passes 25 = .ok (.ifCond .eq 5, 3) := dk_153 0 5 (dk_at dksX2_passes_1 3 rfl rfl)
theorem dX2_passes_28 : decode cX2_passes 28 = .ok (.iconst 1, 1) := dk_4 (dk_at dksX2_passes_1 6 rfl rfl)
theorem dX2_passes_29 : decode cX2_passes 29 = .ok (.ireturn, 1) := dk_172 (dk_at dksX2_passes_1 7 rfl rfl)
theorem dX2_passes_30 : decode cX2_passes 30 = .ok (.aload_n 0, 1) := dk_42 (dk_at dksX2_passes_1 8 rfl rfl)
theorem dX2_passes_31 : decode cX2_passes 31 = .ok (.iload_n 2, 1) := dk_28 (dk_at dksX2_passes_1 9 rfl rfl)
theorem dX2_passes_32 : decode cX2_passes 32 = .ok (.putfield 36, 3) := dk_181 0 36 (dk_at dksX2_passes_1 10 rfl rfl)
theorem dX2_passes_35 : decode cX2_passes 35 = .ok (.iconst 0, 1) := dk_3 (dk_at dksX2_passes_1 13 rfl rfl)
theorem dX2_passes_36 : decode cX2_passes 36 = .ok (.ireturn, 1) := dk_172 (dk_at dksX2_passes_1 14 rfl rfl)
abbrev cX2_question : ByteArray := prog_15_method_30_code
def yX2_question : MethodName := ⟨RX2, "question", "(I)LMarginFolk$Question;"⟩
def dkwX2_question_4 : List UInt8 := [42, 180, 0, 36, 182, 0, 47, 191, 45, 176]
abbrev dktX2_question_4 : List UInt8 := dkwX2_question_4 ++ []
def dkwX2_question_3 : List UInt8 := [187, 1, 84, 89, 28, 1, 42, 182, 0, 208, 183, 1, 86, 78, 42, 182, 0, 43, 2, 159, 0, 13, 42, 4]
abbrev dktX2_question_3 : List UInt8 := dkwX2_question_3 ++ dktX2_question_4
def dkwX2_question_2 : List UInt8 := [191, 28, 6, 162, 0, 19, 187, 1, 84, 89, 28, 42, 182, 0, 236, 1, 183, 1, 86, 167, 0, 16]
abbrev dktX2_question_2 : List UInt8 := dkwX2_question_2 ++ dktX2_question_3
def dkwX2_question_1 : List UInt8 := [182, 0, 70, 178, 1, 81, 184, 0, 82, 61, 28, 2, 160, 0, 13, 42, 4, 42, 180, 0, 61, 182, 0, 47]
abbrev dktX2_question_1 : List UInt8 := dkwX2_question_1 ++ dktX2_question_2
def dkwX2_question_0 : List UInt8 := [42, 27, 181, 0, 29, 42, 3, 181, 0, 36, 42, 3, 181, 0, 117, 42, 17, 1, 191, 181, 0, 205, 42]
abbrev dktX2_question_0 : List UInt8 := dkwX2_question_0 ++ dktX2_question_1
theorem dksX2_question_0 : cX2_question.data.toList.drop 0 = dktX2_question_0 := by decide +kernel
theorem dksX2_question_1 : cX2_question.data.toList.drop 23 = dktX2_question_1 := dk_seg dksX2_question_0 23 rfl rfl
theorem dksX2_question_2 : cX2_question.data.toList.drop 47 = dktX2_question_2 := dk_seg dksX2_question_1 24 rfl rfl
theorem dksX2_question_3 : cX2_question.data.toList.drop 69 = dktX2_question_3 := dk_seg dksX2_question_2 22 rfl rfl
theorem dksX2_question_4 : cX2_question.data.toList.drop 93 = dktX2_question_4 := dk_seg dksX2_question_3 24 rfl rfl
theorem dX2_question_0 : decode cX2_question 0 = .ok (.aload_n 0, 1) := dk_42 (dk_at dksX2_question_0 0 rfl rfl)
theorem dX2_question_1 : decode cX2_question 1 = .ok (.iload_n 1, 1) := dk_27 (dk_at dksX2_question_0 1 rfl rfl)
theorem dX2_question_2 : decode cX2_question 2 = .ok (.putfield 29, 3) := dk_181 0 29 (dk_at dksX2_question_0 2 rfl rfl)
theorem dX2_question_5 : decode cX2_question 5 = .ok (.aload_n 0, 1) := dk_42 (dk_at dksX2_question_0 5 rfl rfl)
theorem dX2_question_6 : decode cX2_question 6 = .ok (.iconst 0, 1) := dk_3 (dk_at dksX2_question_0 6 rfl rfl)
theorem dX2_question_7 : decode cX2_question 7 = .ok (.putfield 36, 3) := dk_181 0 36 (dk_at dksX2_question_0 7 rfl rfl)
theorem dX2_question_10 : decode cX2_question 10 = .ok (.aload_n 0, 1) := dk_42 (dk_at dksX2_question_0 10 rfl rfl)
theorem dX2_question_11 : decode cX2_question 11 = .ok (.iconst 0, 1) := dk_3 (dk_at dksX2_question_0 11 rfl rfl)
theorem dX2_question_12 : decode cX2_question 12 = .ok (.putfield 117, 3) := dk_181 0 117 (dk_at dksX2_question_0 12 rfl rfl)
theorem dX2_question_15 : decode cX2_question 15 = .ok (.aload_n 0, 1) := dk_42 (dk_at dksX2_question_0 15 rfl rfl)
theorem dX2_question_16 : decode cX2_question 16 = .ok (.sipush 447, 3) := dk_17 1 191 (dk_at dksX2_question_0 16 rfl rfl)
theorem dX2_question_19 : decode cX2_question 19 = .ok (.putfield 205, 3) := dk_181 0 205 (dk_at dksX2_question_0 19 rfl rfl)
theorem dX2_question_22 : decode cX2_question 22 = .ok (.aload_n 0, 1) := dk_42 (dk_at dksX2_question_0 22 rfl rfl)
theorem dX2_question_23 : decode cX2_question 23 = .ok (.invokevirtual 70, 3) := dk_182 0 70 (dk_at dksX2_question_1 0 rfl rfl)
theorem dX2_question_26 : decode cX2_question 26 = .ok (.getstatic 337, 3) := dk_178 1 81 (dk_at dksX2_question_1 3 rfl rfl)
theorem dX2_question_29 : decode cX2_question 29 = .ok (.invokestatic 82, 3) := dk_184 0 82 (dk_at dksX2_question_1 6 rfl rfl)
theorem dX2_question_32 : decode cX2_question 32 = .ok (.istore_n 2, 1) := dk_61 (dk_at dksX2_question_1 9 rfl rfl)
theorem dX2_question_33 : decode cX2_question 33 = .ok (.iload_n 2, 1) := dk_28 (dk_at dksX2_question_1 10 rfl rfl)
theorem dX2_question_34 : decode cX2_question 34 = .ok (.iconst (-1), 1) := dk_2 (dk_at dksX2_question_1 11 rfl rfl)
theorem dX2_question_35 : decode cX2_question 35 = .ok (.if_icmp .ne 13, 3) := dk_160 0 13 (dk_at dksX2_question_1 12 rfl rfl)
theorem dX2_question_38 : decode cX2_question 38 = .ok (.aload_n 0, 1) := dk_42 (dk_at dksX2_question_1 15 rfl rfl)
theorem dX2_question_39 : decode cX2_question 39 = .ok (.iconst 1, 1) := dk_4 (dk_at dksX2_question_1 16 rfl rfl)
theorem dX2_question_40 : decode cX2_question 40 = .ok (.aload_n 0, 1) := dk_42 (dk_at dksX2_question_1 17 rfl rfl)
theorem dX2_question_41 : decode cX2_question 41 = .ok (.getfield 61, 3) := dk_180 0 61 (dk_at dksX2_question_1 18 rfl rfl)
theorem dX2_question_44 : decode cX2_question 44 = .ok (.invokevirtual 47, 3) := dk_182 0 47 (dk_at dksX2_question_1 21 rfl rfl)
theorem dX2_question_47 : decode cX2_question 47 = .ok (.athrow, 1) := dk_191 (dk_at dksX2_question_2 0 rfl rfl)
theorem dX2_question_48 : decode cX2_question 48 = .ok (.iload_n 2, 1) := dk_28 (dk_at dksX2_question_2 1 rfl rfl)
theorem dX2_question_49 : decode cX2_question 49 = .ok (.iconst 3, 1) := dk_6 (dk_at dksX2_question_2 2 rfl rfl)
theorem dX2_question_50 : decode cX2_question 50 = .ok (.if_icmp .ge 19, 3) := dk_162 0 19 (dk_at dksX2_question_2 3 rfl rfl)
theorem dX2_question_53 : decode cX2_question 53 = .ok (.new 340, 3) := dk_187 1 84 (dk_at dksX2_question_2 6 rfl rfl)
theorem dX2_question_56 : decode cX2_question 56 = .ok (.dup, 1) := dk_89 (dk_at dksX2_question_2 9 rfl rfl)
theorem dX2_question_57 : decode cX2_question 57 = .ok (.iload_n 2, 1) := dk_28 (dk_at dksX2_question_2 10 rfl rfl)
theorem dX2_question_58 : decode cX2_question 58 = .ok (.aload_n 0, 1) := dk_42 (dk_at dksX2_question_2 11 rfl rfl)
theorem dX2_question_59 : decode cX2_question 59 = .ok (.invokevirtual 236, 3) := dk_182 0 236 (dk_at dksX2_question_2 12 rfl rfl)
theorem dX2_question_62 : decode cX2_question 62 = .ok (.aconst_null, 1) := dk_1 (dk_at dksX2_question_2 15 rfl rfl)
theorem dX2_question_63 : decode cX2_question 63 = .ok (.invokespecial 342, 3) := dk_183 1 86 (dk_at dksX2_question_2 16 rfl rfl)
theorem dX2_question_66 : decode cX2_question 66 = .ok (.goto 16, 3) := dk_167 0 16 (dk_at dksX2_question_2 19 rfl rfl)
theorem dX2_question_69 : decode cX2_question 69 = .ok (.new 340, 3) := dk_187 1 84 (dk_at dksX2_question_3 0 rfl rfl)
theorem dX2_question_72 : decode cX2_question 72 = .ok (.dup, 1) := dk_89 (dk_at dksX2_question_3 3 rfl rfl)
theorem dX2_question_73 : decode cX2_question 73 = .ok (.iload_n 2, 1) := dk_28 (dk_at dksX2_question_3 4 rfl rfl)
theorem dX2_question_74 : decode cX2_question 74 = .ok (.aconst_null, 1) := dk_1 (dk_at dksX2_question_3 5 rfl rfl)
theorem dX2_question_75 : decode cX2_question 75 = .ok (.aload_n 0, 1) := dk_42 (dk_at dksX2_question_3 6 rfl rfl)
theorem dX2_question_76 : decode cX2_question 76 = .ok (.invokevirtual 208, 3) := dk_182 0 208 (dk_at dksX2_question_3 7 rfl rfl)
theorem dX2_question_79 : decode cX2_question 79 = .ok (.invokespecial 342, 3) := dk_183 1 86 (dk_at dksX2_question_3 10 rfl rfl)
theorem dX2_question_82 : decode cX2_question 82 = .ok (.astore_n 3, 1) := dk_78 (dk_at dksX2_question_3 13 rfl rfl)
theorem dX2_question_83 : decode cX2_question 83 = .ok (.aload_n 0, 1) := dk_42 (dk_at dksX2_question_3 14 rfl rfl)
theorem dX2_question_84 : decode cX2_question 84 = .ok (.invokevirtual 43, 3) := dk_182 0 43 (dk_at dksX2_question_3 15 rfl rfl)
theorem dX2_question_87 : decode cX2_question 87 = .ok (.iconst (-1), 1) := dk_2 (dk_at dksX2_question_3 18 rfl rfl)
theorem dX2_question_88 : decode cX2_question 88 = .ok (.if_icmp .eq 13, 3) := dk_159 0 13 (dk_at dksX2_question_3 19 rfl rfl)
theorem dX2_question_91 : decode cX2_question 91 = .ok (.aload_n 0, 1) := dk_42 (dk_at dksX2_question_3 22 rfl rfl)
theorem dX2_question_92 : decode cX2_question 92 = .ok (.iconst 1, 1) := dk_4 (dk_at dksX2_question_3 23 rfl rfl)
theorem dX2_question_93 : decode cX2_question 93 = .ok (.aload_n 0, 1) := dk_42 (dk_at dksX2_question_4 0 rfl rfl)
theorem dX2_question_94 : decode cX2_question 94 = .ok (.getfield 36, 3) := dk_180 0 36 (dk_at dksX2_question_4 1 rfl rfl)
theorem dX2_question_97 : decode cX2_question 97 = .ok (.invokevirtual 47, 3) := dk_182 0 47 (dk_at dksX2_question_4 4 rfl rfl)
theorem dX2_question_100 : decode cX2_question 100 = .ok (.athrow, 1) := dk_191 (dk_at dksX2_question_4 7 rfl rfl)
theorem dX2_question_101 : decode cX2_question 101 = .ok (.aload_n 3, 1) := dk_45 (dk_at dksX2_question_4 8 rfl rfl)
theorem dX2_question_102 : decode cX2_question 102 = .ok (.areturn, 1) := dk_176 (dk_at dksX2_question_4 9 rfl rfl)
theorem q157 : (Jvm.Cond.initialized "MarginFolk$Reader") ∈ lw_all := lw_g (lw_at lw_m1 6 rfl) rfl
theorem q234 : (Jvm.Cond.fieldLinkNest "MarginFolk$Reader" (130 : Nat) "MarginFolk$Folio" "statements" "I" "MarginFolk") ∈ lw_tbl := lw_at lw_m1 83 rfl
theorem q235 : (Jvm.Cond.fieldLinkNest "MarginFolk$Reader" (104 : Nat) "MarginFolk$Folio" "leaves" "I" "MarginFolk") ∈ lw_tbl := lw_at lw_m1 84 rfl
theorem q238 : (Jvm.Cond.fieldLinkNest "MarginFolk$Reader" (109 : Nat) "MarginFolk$Folio" "cells" "I" "MarginFolk") ∈ lw_tbl := lw_at lw_m1 87 rfl
theorem q240 : (Jvm.Cond.fieldLinkNest "MarginFolk$Reader" (154 : Nat) "MarginFolk$Folio" "glosses" "I" "MarginFolk") ∈ lw_tbl := lw_at lw_m1 89 rfl
theorem q241 : (Jvm.Cond.fieldLinkNest "MarginFolk$Reader" (166 : Nat) "MarginFolk$Folio" "worms" "I" "MarginFolk") ∈ lw_tbl := lw_at lw_m1 90 rfl
theorem q243 : (Jvm.Cond.fieldLinkNest "MarginFolk$Reader" (240 : Nat) "MarginFolk$Folio" "thumb" "I" "MarginFolk") ∈ lw_tbl := lw_at lw_m1 92 rfl
theorem q247 : (Jvm.Cond.fieldLinkNest "MarginFolk$Reader" (160 : Nat) "MarginFolk$Folio" "gloss" "[I" "MarginFolk") ∈ lw_tbl := lw_at lw_m1 96 rfl
theorem q249 : (Jvm.Cond.fieldLinkNest "MarginFolk$Reader" (169 : Nat) "MarginFolk$Folio" "wormFrom" "[I" "MarginFolk") ∈ lw_tbl := lw_at lw_m1 98 rfl
theorem q252 : (Jvm.Cond.fieldLinkNest "MarginFolk$Reader" (172 : Nat) "MarginFolk$Folio" "wormTo" "[I" "MarginFolk") ∈ lw_tbl := lw_at lw_m1 101 rfl
theorem q255 : (Jvm.Cond.fieldLinkNest "MarginFolk$Reader" (175 : Nat) "MarginFolk$Folio" "wormCell" "[I" "MarginFolk") ∈ lw_tbl := lw_at lw_m1 104 rfl
theorem q259 : (Jvm.Cond.fieldLinkNest "MarginFolk$Reader" (178 : Nat) "MarginFolk$Folio" "beings" "Ljava/util/List;" "MarginFolk") ∈ lw_tbl := lw_at lw_m1 108 rfl
theorem q260 : (Jvm.Cond.fieldLinkNest "MarginFolk$Reader" (222 : Nat) "MarginFolk$Folio" "opens" "LMarginFolk$Value;" "MarginFolk") ∈ lw_tbl := lw_at lw_m1 109 rfl
theorem q263 : (Jvm.Cond.fieldLinkNest "MarginFolk$Reader" (229 : Nat) "MarginFolk$Folio" "corn" "LMarginFolk$Value;" "MarginFolk") ∈ lw_tbl := lw_at lw_m1 112 rfl
theorem q265 : (Jvm.Cond.fieldLinkNest "MarginFolk$Reader" (231 : Nat) "MarginFolk$Folio" "toll" "LMarginFolk$Value;" "MarginFolk") ∈ lw_tbl := lw_at lw_m1 114 rfl
theorem q267 : (Jvm.Cond.fieldLinkNest "MarginFolk$Reader" (233 : Nat) "MarginFolk$Folio" "steps" "LMarginFolk$Test;" "MarginFolk") ∈ lw_tbl := lw_at lw_m1 116 rfl
theorem q300 : (Jvm.Cond.instantiable "MarginFolk$Reader" (8 : Nat)) ∈ lw_all := lw_g (lw_at lw_m1 149 rfl) rfl
theorem q302 : (Jvm.Cond.instanceMethod ({ cls := "MarginFolk$Reader", name := "<init>", desc := "(LMarginFolk;)V" } : Jvm.MethodName)) ∈ lw_all := lw_g (lw_at lw_m1 151 rfl) rfl
theorem q303 : (Jvm.Cond.code ({ cls := "MarginFolk$Reader", name := "<init>", desc := "(LMarginFolk;)V" } : Jvm.MethodName) prog_15_method_1_code (2 : Nat) (Option.none : Option Jvm.ClassFile.FieldType)) ∈ lw_all := lw_g (lw_at lw_m1 152 rfl) rfl
theorem q304 : (Jvm.Cond.methodLink "MarginFolk$Reader" (9 : Nat) ({ cls := "java/lang/Object", name := "<init>", desc := "()V" } : Jvm.MethodName)) ∈ lw_all := lw_g (lw_at lw_m1 153 rfl) rfl
theorem q305 : (Jvm.Cond.classLink "MarginFolk$Reader" (15 : Nat) "MarginFolk$Fault") ∈ lw_all := lw_g (lw_at lw_m1 154 rfl) rfl
theorem q344 : (Jvm.Cond.methodLink "MarginFolk$Reader" (17 : Nat) ({ cls := "MarginFolk$Fault", name := "<init>", desc := "()V" } : Jvm.MethodName)) ∈ lw_all := lw_g (lw_at lw_m1 193 rfl) rfl
theorem q356 : (Jvm.Cond.fieldLinkNest "MarginFolk$Reader" (22 : Nat) "MarginFolk$Fault" "kind" "I" "MarginFolk") ∈ lw_tbl := lw_at lw_m1 205 rfl
theorem q358 : (Jvm.Cond.fieldLinkNest "MarginFolk$Reader" (26 : Nat) "MarginFolk$Fault" "place" "I" "MarginFolk") ∈ lw_tbl := lw_at lw_m1 207 rfl
theorem q378 : (Jvm.Cond.fieldLink "MarginFolk$Reader" (18 : Nat) "MarginFolk$Reader" "fault" "LMarginFolk$Fault;") ∈ lw_all := lw_g (lw_at lw_m1 227 rfl) rfl
theorem q379 : (Jvm.Cond.fieldLink "MarginFolk$Reader" (29 : Nat) "MarginFolk$Reader" "size" "I") ∈ lw_all := lw_g (lw_at lw_m1 228 rfl) rfl
theorem q380 : (Jvm.Cond.fieldLink "MarginFolk$Reader" (36 : Nat) "MarginFolk$Reader" "at" "I") ∈ lw_all := lw_g (lw_at lw_m1 229 rfl) rfl
theorem q381 : (Jvm.Cond.fieldLink "MarginFolk$Reader" (61 : Nat) "MarginFolk$Reader" "from" "I") ∈ lw_all := lw_g (lw_at lw_m1 230 rfl) rfl
theorem q382 : (Jvm.Cond.fieldLink "MarginFolk$Reader" (117 : Nat) "MarginFolk$Reader" "open" "I") ∈ lw_all := lw_g (lw_at lw_m1 231 rfl) rfl
theorem q383 : (Jvm.Cond.fieldLink "MarginFolk$Reader" (205 : Nat) "MarginFolk$Reader" "context" "I") ∈ lw_all := lw_g (lw_at lw_m1 232 rfl) rfl
theorem q384 : (Jvm.Cond.fieldLink "MarginFolk$Reader" (100 : Nat) "MarginFolk$Reader" "to" "LMarginFolk$Folio;") ∈ lw_all := lw_g (lw_at lw_m1 233 rfl) rfl
theorem q385 : (Jvm.Cond.fieldLink "MarginFolk$Reader" (3 : Nat) "MarginFolk$Reader" "this$0" "LMarginFolk;") ∈ lw_all := lw_g (lw_at lw_m1 234 rfl) rfl
theorem q386 : (Jvm.Cond.laysFinal "MarginFolk$Reader" "MarginFolk$Reader" "fault" "LMarginFolk$Fault;") ∈ lw_all := lw_g (lw_at lw_m1 235 rfl) rfl
theorem q387 : (Jvm.Cond.soleField "MarginFolk$Reader" "fault") ∈ lw_all := lw_g (lw_at lw_m1 236 rfl) rfl
theorem q388 : (Jvm.Cond.lays "MarginFolk$Reader" "MarginFolk$Reader" "size" "I") ∈ lw_all := lw_g (lw_at lw_m1 237 rfl) rfl
theorem q389 : (Jvm.Cond.soleField "MarginFolk$Reader" "size") ∈ lw_all := lw_g (lw_at lw_m1 238 rfl) rfl
theorem q390 : (Jvm.Cond.lays "MarginFolk$Reader" "MarginFolk$Reader" "at" "I") ∈ lw_all := lw_g (lw_at lw_m1 239 rfl) rfl
theorem q391 : (Jvm.Cond.soleField "MarginFolk$Reader" "at") ∈ lw_all := lw_g (lw_at lw_m2 0 rfl) rfl
theorem q392 : (Jvm.Cond.lays "MarginFolk$Reader" "MarginFolk$Reader" "from" "I") ∈ lw_all := lw_g (lw_at lw_m2 1 rfl) rfl
theorem q393 : (Jvm.Cond.soleField "MarginFolk$Reader" "from") ∈ lw_all := lw_g (lw_at lw_m2 2 rfl) rfl
theorem q394 : (Jvm.Cond.lays "MarginFolk$Reader" "MarginFolk$Reader" "open" "I") ∈ lw_all := lw_g (lw_at lw_m2 3 rfl) rfl
theorem q395 : (Jvm.Cond.soleField "MarginFolk$Reader" "open") ∈ lw_all := lw_g (lw_at lw_m2 4 rfl) rfl
theorem q396 : (Jvm.Cond.lays "MarginFolk$Reader" "MarginFolk$Reader" "context" "I") ∈ lw_all := lw_g (lw_at lw_m2 5 rfl) rfl
theorem q397 : (Jvm.Cond.soleField "MarginFolk$Reader" "context") ∈ lw_all := lw_g (lw_at lw_m2 6 rfl) rfl
theorem q398 : (Jvm.Cond.lays "MarginFolk$Reader" "MarginFolk$Reader" "to" "LMarginFolk$Folio;") ∈ lw_all := lw_g (lw_at lw_m2 7 rfl) rfl
theorem q399 : (Jvm.Cond.soleField "MarginFolk$Reader" "to") ∈ lw_all := lw_g (lw_at lw_m2 8 rfl) rfl
theorem q400 : (Jvm.Cond.laysFinal "MarginFolk$Reader" "MarginFolk$Reader" "this$0" "LMarginFolk;") ∈ lw_all := lw_g (lw_at lw_m2 9 rfl) rfl
theorem q401 : (Jvm.Cond.soleField "MarginFolk$Reader" "this$0") ∈ lw_all := lw_g (lw_at lw_m2 10 rfl) rfl
theorem q402 : (Jvm.Cond.superclass "MarginFolk$Reader" "java/lang/Object") ∈ lw_all := lw_g (lw_at lw_m2 11 rfl) rfl
theorem q475 : (Jvm.Cond.fieldLinkNest "MarginFolk$Reader" (32 : Nat) "MarginFolk" "tape" "[B" "MarginFolk") ∈ lw_tbl := lw_at lw_m2 84 rfl
theorem q579 : (Jvm.Cond.instanceMethod ({ cls := "MarginFolk$Reader", name := "all", desc := "(I)LMarginFolk$Folio;" } : Jvm.MethodName)) ∈ lw_all := lw_g (lw_at lw_m2 188 rfl) rfl
theorem q580 : (Jvm.Cond.selects "MarginFolk$Reader" ({ cls := "MarginFolk$Reader", name := "all", desc := "(I)LMarginFolk$Folio;" } : Jvm.MethodName) ({ cls := "MarginFolk$Reader", name := "all", desc := "(I)LMarginFolk$Folio;" } : Jvm.MethodName)) ∈ lw_all := lw_g (lw_at lw_m2 189 rfl) rfl
theorem q581 : (Jvm.Cond.code ({ cls := "MarginFolk$Reader", name := "all", desc := "(I)LMarginFolk$Folio;" } : Jvm.MethodName) prog_15_method_16_code (3 : Nat) (Option.some (Jvm.ClassFile.FieldType.object "MarginFolk$Folio"))) ∈ lw_all := lw_g (lw_at lw_m2 190 rfl) rfl
theorem q582 : (Jvm.Cond.classLink "MarginFolk$Reader" (105 : Nat) "MarginFolk$Folio") ∈ lw_all := lw_g (lw_at lw_m2 191 rfl) rfl
theorem q583 : (Jvm.Cond.methodLinkNest "MarginFolk$Reader" (116 : Nat) ({ cls := "MarginFolk$Folio", name := "<init>", desc := "()V" } : Jvm.MethodName) "MarginFolk") ∈ lw_tbl := lw_at lw_m2 192 rfl
theorem q584 : (Jvm.Cond.stringRef "MarginFolk$Reader" (120 : Nat) "folio") ∈ lw_tbl := lw_at lw_m2 193 rfl
theorem q585 : (Jvm.Cond.methodLink "MarginFolk$Reader" (93 : Nat) ({ cls := "MarginFolk$Reader", name := "word", desc := "(Ljava/lang/String;)V" } : Jvm.MethodName)) ∈ lw_all := lw_g (lw_at lw_m2 194 rfl) rfl
theorem q586 : (Jvm.Cond.privateMethod ({ cls := "MarginFolk$Reader", name := "word", desc := "(Ljava/lang/String;)V" } : Jvm.MethodName)) ∈ lw_tbl := lw_at lw_m2 195 rfl
theorem q587 : (Jvm.Cond.instanceMethod ({ cls := "MarginFolk$Reader", name := "word", desc := "(Ljava/lang/String;)V" } : Jvm.MethodName)) ∈ lw_all := lw_g (lw_at lw_m2 196 rfl) rfl
theorem q588 : (Jvm.Cond.code ({ cls := "MarginFolk$Reader", name := "word", desc := "(Ljava/lang/String;)V" } : Jvm.MethodName) prog_15_method_8_code (2 : Nat) (Option.none : Option Jvm.ClassFile.FieldType)) ∈ lw_all := lw_g (lw_at lw_m2 197 rfl) rfl
theorem q589 : (Jvm.Cond.methodLink "MarginFolk$Reader" (70 : Nat) ({ cls := "MarginFolk$Reader", name := "word", desc := "()Ljava/lang/String;" } : Jvm.MethodName)) ∈ lw_all := lw_g (lw_at lw_m2 198 rfl) rfl
theorem q590 : (Jvm.Cond.privateMethod ({ cls := "MarginFolk$Reader", name := "word", desc := "()Ljava/lang/String;" } : Jvm.MethodName)) ∈ lw_tbl := lw_at lw_m2 199 rfl
theorem q591 : (Jvm.Cond.instanceMethod ({ cls := "MarginFolk$Reader", name := "word", desc := "()Ljava/lang/String;" } : Jvm.MethodName)) ∈ lw_all := lw_g (lw_at lw_m2 200 rfl) rfl
theorem q592 : (Jvm.Cond.code ({ cls := "MarginFolk$Reader", name := "word", desc := "()Ljava/lang/String;" } : Jvm.MethodName) prog_15_method_7_code (3 : Nat) (Option.some (Jvm.ClassFile.FieldType.object "java/lang/String"))) ∈ lw_all := lw_g (lw_at lw_m2 201 rfl) rfl
theorem q593 : (Jvm.Cond.methodLink "MarginFolk$Reader" (43 : Nat) ({ cls := "MarginFolk$Reader", name := "here", desc := "()I" } : Jvm.MethodName)) ∈ lw_all := lw_g (lw_at lw_m2 202 rfl) rfl
theorem q594 : (Jvm.Cond.privateMethod ({ cls := "MarginFolk$Reader", name := "here", desc := "()I" } : Jvm.MethodName)) ∈ lw_tbl := lw_at lw_m2 203 rfl
theorem q595 : (Jvm.Cond.instanceMethod ({ cls := "MarginFolk$Reader", name := "here", desc := "()I" } : Jvm.MethodName)) ∈ lw_all := lw_g (lw_at lw_m2 204 rfl) rfl
theorem q596 : (Jvm.Cond.code ({ cls := "MarginFolk$Reader", name := "here", desc := "()I" } : Jvm.MethodName) prog_15_method_4_code (1 : Nat) (Option.some Jvm.ClassFile.FieldType.int)) ∈ lw_all := lw_g (lw_at lw_m2 205 rfl) rfl
theorem q597 : (Jvm.Cond.methodLink "MarginFolk$Reader" (39 : Nat) ({ cls := "MarginFolk$Reader", name := "byteAt", desc := "(I)I" } : Jvm.MethodName)) ∈ lw_all := lw_g (lw_at lw_m2 206 rfl) rfl
theorem q598 : (Jvm.Cond.privateMethod ({ cls := "MarginFolk$Reader", name := "byteAt", desc := "(I)I" } : Jvm.MethodName)) ∈ lw_tbl := lw_at lw_m2 207 rfl
theorem q599 : (Jvm.Cond.instanceMethod ({ cls := "MarginFolk$Reader", name := "byteAt", desc := "(I)I" } : Jvm.MethodName)) ∈ lw_all := lw_g (lw_at lw_m2 208 rfl) rfl
theorem q600 : (Jvm.Cond.code ({ cls := "MarginFolk$Reader", name := "byteAt", desc := "(I)I" } : Jvm.MethodName) prog_15_method_3_code (2 : Nat) (Option.some Jvm.ClassFile.FieldType.int)) ∈ lw_all := lw_g (lw_at lw_m2 209 rfl) rfl
theorem q601 : (Jvm.Cond.methodLinkNest "MarginFolk$Reader" (51 : Nat) ({ cls := "MarginFolk", name := "isLetter", desc := "(I)Z" } : Jvm.MethodName) "MarginFolk") ∈ lw_tbl := lw_at lw_m2 210 rfl
theorem q604 : (Jvm.Cond.methodLink "MarginFolk$Reader" (47 : Nat) ({ cls := "MarginFolk$Reader", name := "wrong", desc := "(II)LMarginFolk$Fault;" } : Jvm.MethodName)) ∈ lw_all := lw_g (lw_at lw_m2 213 rfl) rfl
theorem q605 : (Jvm.Cond.privateMethod ({ cls := "MarginFolk$Reader", name := "wrong", desc := "(II)LMarginFolk$Fault;" } : Jvm.MethodName)) ∈ lw_tbl := lw_at lw_m2 214 rfl
theorem q606 : (Jvm.Cond.instanceMethod ({ cls := "MarginFolk$Reader", name := "wrong", desc := "(II)LMarginFolk$Fault;" } : Jvm.MethodName)) ∈ lw_all := lw_g (lw_at lw_m2 215 rfl) rfl
theorem q607 : (Jvm.Cond.code ({ cls := "MarginFolk$Reader", name := "wrong", desc := "(II)LMarginFolk$Fault;" } : Jvm.MethodName) prog_15_method_2_code (3 : Nat) (Option.some (Jvm.ClassFile.FieldType.object "MarginFolk$Fault"))) ∈ lw_all := lw_g (lw_at lw_m2 216 rfl) rfl
theorem q608 : (Jvm.Cond.methodLink "MarginFolk$Reader" (58 : Nat) ({ cls := "MarginFolk$Reader", name := "parted", desc := "()V" } : Jvm.MethodName)) ∈ lw_all := lw_g (lw_at lw_m2 217 rfl) rfl
theorem q609 : (Jvm.Cond.privateMethod ({ cls := "MarginFolk$Reader", name := "parted", desc := "()V" } : Jvm.MethodName)) ∈ lw_tbl := lw_at lw_m2 218 rfl
theorem q610 : (Jvm.Cond.instanceMethod ({ cls := "MarginFolk$Reader", name := "parted", desc := "()V" } : Jvm.MethodName)) ∈ lw_all := lw_g (lw_at lw_m2 219 rfl) rfl
theorem q611 : (Jvm.Cond.code ({ cls := "MarginFolk$Reader", name := "parted", desc := "()V" } : Jvm.MethodName) prog_15_method_6_code (1 : Nat) (Option.none : Option Jvm.ClassFile.FieldType)) ∈ lw_all := lw_g (lw_at lw_m2 220 rfl) rfl
theorem q612 : (Jvm.Cond.methodLinkNest "MarginFolk$Reader" (55 : Nat) ({ cls := "MarginFolk", name := "isDigit", desc := "(I)Z" } : Jvm.MethodName) "MarginFolk") ∈ lw_tbl := lw_at lw_m2 221 rfl
theorem q615 : (Jvm.Cond.methodLink "MarginFolk$Reader" (64 : Nat) ({ cls := "java/lang/String", name := "valueOf", desc := "([C)Ljava/lang/String;" } : Jvm.MethodName)) ∈ lw_all := lw_g (lw_at lw_m2 224 rfl) rfl
theorem q693 : (Jvm.Cond.methodLink "MarginFolk$Reader" (74 : Nat) ({ cls := "java/lang/String", name := "equals", desc := "(Ljava/lang/Object;)Z" } : Jvm.MethodName)) ∈ lw_all := lw_g (lw_at lw_m3 62 rfl) rfl
theorem q700 : (Jvm.Cond.methodLink "MarginFolk$Reader" (96 : Nat) ({ cls := "MarginFolk$Reader", name := "number", desc := "(II)I" } : Jvm.MethodName)) ∈ lw_all := lw_g (lw_at lw_m3 69 rfl) rfl
theorem q701 : (Jvm.Cond.privateMethod ({ cls := "MarginFolk$Reader", name := "number", desc := "(II)I" } : Jvm.MethodName)) ∈ lw_tbl := lw_at lw_m3 70 rfl
theorem q702 : (Jvm.Cond.instanceMethod ({ cls := "MarginFolk$Reader", name := "number", desc := "(II)I" } : Jvm.MethodName)) ∈ lw_all := lw_g (lw_at lw_m3 71 rfl) rfl
theorem q703 : (Jvm.Cond.code ({ cls := "MarginFolk$Reader", name := "number", desc := "(II)I" } : Jvm.MethodName) prog_15_method_11_code (4 : Nat) (Option.some Jvm.ClassFile.FieldType.int)) ∈ lw_all := lw_g (lw_at lw_m3 72 rfl) rfl
theorem q704 : (Jvm.Cond.methodLinkNest "MarginFolk$Reader" (89 : Nat) ({ cls := "MarginFolk", name := "is", desc := "(III)Z" } : Jvm.MethodName) "MarginFolk") ∈ lw_tbl := lw_at lw_m3 73 rfl
theorem q707 : (Jvm.Cond.stringRef "MarginFolk$Reader" (122 : Nat) "cells") ∈ lw_tbl := lw_at lw_m3 76 rfl
theorem q708 : (Jvm.Cond.methodLink "MarginFolk$Reader" (123 : Nat) ({ cls := "MarginFolk$Reader", name := "number", desc := "(Ljava/lang/String;II)I" } : Jvm.MethodName)) ∈ lw_all := lw_g (lw_at lw_m3 77 rfl) rfl
theorem q709 : (Jvm.Cond.privateMethod ({ cls := "MarginFolk$Reader", name := "number", desc := "(Ljava/lang/String;II)I" } : Jvm.MethodName)) ∈ lw_tbl := lw_at lw_m3 78 rfl
theorem q710 : (Jvm.Cond.instanceMethod ({ cls := "MarginFolk$Reader", name := "number", desc := "(Ljava/lang/String;II)I" } : Jvm.MethodName)) ∈ lw_all := lw_g (lw_at lw_m3 79 rfl) rfl
theorem q711 : (Jvm.Cond.code ({ cls := "MarginFolk$Reader", name := "number", desc := "(Ljava/lang/String;II)I" } : Jvm.MethodName) prog_15_method_12_code (4 : Nat) (Option.some Jvm.ClassFile.FieldType.int)) ∈ lw_all := lw_g (lw_at lw_m3 80 rfl) rfl
theorem q712 : (Jvm.Cond.methodLink "MarginFolk$Reader" (126 : Nat) ({ cls := "MarginFolk$Reader", name := "must", desc := "(I)V" } : Jvm.MethodName)) ∈ lw_all := lw_g (lw_at lw_m3 81 rfl) rfl
theorem q713 : (Jvm.Cond.privateMethod ({ cls := "MarginFolk$Reader", name := "must", desc := "(I)V" } : Jvm.MethodName)) ∈ lw_tbl := lw_at lw_m3 82 rfl
theorem q714 : (Jvm.Cond.instanceMethod ({ cls := "MarginFolk$Reader", name := "must", desc := "(I)V" } : Jvm.MethodName)) ∈ lw_all := lw_g (lw_at lw_m3 83 rfl) rfl
theorem q715 : (Jvm.Cond.code ({ cls := "MarginFolk$Reader", name := "must", desc := "(I)V" } : Jvm.MethodName) prog_15_method_5_code (2 : Nat) (Option.none : Option Jvm.ClassFile.FieldType)) ∈ lw_all := lw_g (lw_at lw_m3 84 rfl) rfl
theorem q716 : (Jvm.Cond.methodLink "MarginFolk$Reader" (133 : Nat) ({ cls := "MarginFolk$Reader", name := "most", desc := "(ZI)V" } : Jvm.MethodName)) ∈ lw_all := lw_g (lw_at lw_m3 85 rfl) rfl
theorem q717 : (Jvm.Cond.privateMethod ({ cls := "MarginFolk$Reader", name := "most", desc := "(ZI)V" } : Jvm.MethodName)) ∈ lw_tbl := lw_at lw_m3 86 rfl
theorem q718 : (Jvm.Cond.instanceMethod ({ cls := "MarginFolk$Reader", name := "most", desc := "(ZI)V" } : Jvm.MethodName)) ∈ lw_all := lw_g (lw_at lw_m3 87 rfl) rfl
theorem q719 : (Jvm.Cond.code ({ cls := "MarginFolk$Reader", name := "most", desc := "(ZI)V" } : Jvm.MethodName) prog_15_method_13_code (3 : Nat) (Option.none : Option Jvm.ClassFile.FieldType)) ∈ lw_all := lw_g (lw_at lw_m3 88 rfl) rfl
theorem q720 : (Jvm.Cond.methodLink "MarginFolk$Reader" (137 : Nat) ({ cls := "MarginFolk$Reader", name := "places", desc := "(Ljava/lang/String;I)Z" } : Jvm.MethodName)) ∈ lw_all := lw_g (lw_at lw_m3 89 rfl) rfl
theorem q721 : (Jvm.Cond.privateMethod ({ cls := "MarginFolk$Reader", name := "places", desc := "(Ljava/lang/String;I)Z" } : Jvm.MethodName)) ∈ lw_tbl := lw_at lw_m3 90 rfl
theorem q722 : (Jvm.Cond.instanceMethod ({ cls := "MarginFolk$Reader", name := "places", desc := "(Ljava/lang/String;I)Z" } : Jvm.MethodName)) ∈ lw_all := lw_g (lw_at lw_m3 91 rfl) rfl
theorem q723 : (Jvm.Cond.code ({ cls := "MarginFolk$Reader", name := "places", desc := "(Ljava/lang/String;I)Z" } : Jvm.MethodName) prog_15_method_17_code (11 : Nat) (Option.some Jvm.ClassFile.FieldType.boolean)) ∈ lw_all := lw_g (lw_at lw_m3 92 rfl) rfl
theorem q724 : (Jvm.Cond.methodLink "MarginFolk$Reader" (145 : Nat) ({ cls := "java/lang/String", name := "hashCode", desc := "()I" } : Jvm.MethodName)) ∈ lw_all := lw_g (lw_at lw_m3 93 rfl) rfl
theorem q777 : (Jvm.Cond.stringRef "MarginFolk$Reader" (148 : Nat) "gloss") ∈ lw_tbl := lw_at lw_m3 146 rfl
theorem q778 : (Jvm.Cond.stringRef "MarginFolk$Reader" (150 : Nat) "worm") ∈ lw_tbl := lw_at lw_m3 147 rfl
theorem q779 : (Jvm.Cond.stringRef "MarginFolk$Reader" (152 : Nat) "being") ∈ lw_tbl := lw_at lw_m3 148 rfl
theorem q780 : (Jvm.Cond.methodLink "MarginFolk$Reader" (157 : Nat) ({ cls := "MarginFolk$Reader", name := "leaf", desc := "()I" } : Jvm.MethodName)) ∈ lw_all := lw_g (lw_at lw_m3 149 rfl) rfl
theorem q781 : (Jvm.Cond.privateMethod ({ cls := "MarginFolk$Reader", name := "leaf", desc := "()I" } : Jvm.MethodName)) ∈ lw_tbl := lw_at lw_m3 150 rfl
theorem q782 : (Jvm.Cond.instanceMethod ({ cls := "MarginFolk$Reader", name := "leaf", desc := "()I" } : Jvm.MethodName)) ∈ lw_all := lw_g (lw_at lw_m3 151 rfl) rfl
theorem q783 : (Jvm.Cond.code ({ cls := "MarginFolk$Reader", name := "leaf", desc := "()I" } : Jvm.MethodName) prog_15_method_14_code (1 : Nat) (Option.some Jvm.ClassFile.FieldType.int)) ∈ lw_all := lw_g (lw_at lw_m3 152 rfl) rfl
theorem q784 : (Jvm.Cond.methodLink "MarginFolk$Reader" (163 : Nat) ({ cls := "MarginFolk$Reader", name := "free", desc := "(I)I" } : Jvm.MethodName)) ∈ lw_all := lw_g (lw_at lw_m3 153 rfl) rfl
theorem q785 : (Jvm.Cond.privateMethod ({ cls := "MarginFolk$Reader", name := "free", desc := "(I)I" } : Jvm.MethodName)) ∈ lw_tbl := lw_at lw_m3 154 rfl
theorem q786 : (Jvm.Cond.instanceMethod ({ cls := "MarginFolk$Reader", name := "free", desc := "(I)I" } : Jvm.MethodName)) ∈ lw_all := lw_g (lw_at lw_m3 155 rfl) rfl
theorem q787 : (Jvm.Cond.code ({ cls := "MarginFolk$Reader", name := "free", desc := "(I)I" } : Jvm.MethodName) prog_15_method_15_code (3 : Nat) (Option.some Jvm.ClassFile.FieldType.int)) ∈ lw_all := lw_g (lw_at lw_m3 156 rfl) rfl
theorem q788 : (Jvm.Cond.methodLink "MarginFolk$Reader" (112 : Nat) ({ cls := "MarginFolk$Folio", name := "isFree", desc := "(II)Z" } : Jvm.MethodName)) ∈ lw_all := lw_g (lw_at lw_m3 157 rfl) rfl
theorem q825 : (Jvm.Cond.interfaceEntry "MarginFolk$Reader" (182 : Nat)) ∈ lw_tbl := lw_at lw_m3 194 rfl
theorem q826 : (Jvm.Cond.methodLink "MarginFolk$Reader" (182 : Nat) ({ cls := "java/util/List", name := "size", desc := "()I" } : Jvm.MethodName)) ∈ lw_all := lw_g (lw_at lw_m3 195 rfl) rfl
theorem q827 : (Jvm.Cond.methodLink "MarginFolk$Reader" (186 : Nat) ({ cls := "MarginFolk$Reader", name := "name", desc := "()Ljava/lang/String;" } : Jvm.MethodName)) ∈ lw_all := lw_g (lw_at lw_m3 196 rfl) rfl
theorem q828 : (Jvm.Cond.privateMethod ({ cls := "MarginFolk$Reader", name := "name", desc := "()Ljava/lang/String;" } : Jvm.MethodName)) ∈ lw_tbl := lw_at lw_m3 197 rfl
theorem q829 : (Jvm.Cond.instanceMethod ({ cls := "MarginFolk$Reader", name := "name", desc := "()Ljava/lang/String;" } : Jvm.MethodName)) ∈ lw_all := lw_g (lw_at lw_m3 198 rfl) rfl
theorem q830 : (Jvm.Cond.code ({ cls := "MarginFolk$Reader", name := "name", desc := "()Ljava/lang/String;" } : Jvm.MethodName) prog_15_method_10_code (2 : Nat) (Option.some (Jvm.ClassFile.FieldType.object "java/lang/String"))) ∈ lw_all := lw_g (lw_at lw_m3 199 rfl) rfl
theorem q831 : (Jvm.Cond.fieldLinkNest "MarginFolk$Reader" (78 : Nat) "MarginFolk" "OWN" "[Ljava/lang/String;" "MarginFolk") ∈ lw_tbl := lw_at lw_m3 200 rfl
theorem q833 : (Jvm.Cond.methodLinkNest "MarginFolk$Reader" (82 : Nat) ({ cls := "MarginFolk", name := "find", desc := "(Ljava/lang/String;[Ljava/lang/String;)I" } : Jvm.MethodName) "MarginFolk") ∈ lw_tbl := lw_at lw_m3 202 rfl
theorem q837 : (Jvm.Cond.methodLink "MarginFolk$Reader" (86 : Nat) ({ cls := "java/lang/String", name := "length", desc := "()I" } : Jvm.MethodName)) ∈ lw_all := lw_g (lw_at lw_m3 206 rfl) rfl
theorem q845 : (Jvm.Cond.methodLink "MarginFolk$Reader" (189 : Nat) ({ cls := "MarginFolk$Folio", name := "find", desc := "(Ljava/lang/String;)I" } : Jvm.MethodName)) ∈ lw_all := lw_g (lw_at lw_m3 214 rfl) rfl
theorem q850 : (Jvm.Cond.stringRef "MarginFolk$Reader" (192 : Nat) "on") ∈ lw_tbl := lw_at lw_m3 219 rfl
theorem q851 : (Jvm.Cond.stringRef "MarginFolk$Reader" (194 : Nat) "at") ∈ lw_tbl := lw_at lw_m3 220 rfl
theorem q852 : (Jvm.Cond.classLink "MarginFolk$Reader" (195 : Nat) "MarginFolk$Being") ∈ lw_all := lw_g (lw_at lw_m3 221 rfl) rfl
theorem q854 : (Jvm.Cond.stringRef "MarginFolk$Reader" (197 : Nat) "trade") ∈ lw_tbl := lw_at lw_m3 223 rfl
theorem q855 : (Jvm.Cond.methodLink "MarginFolk$Reader" (199 : Nat) ({ cls := "MarginFolk$Being", name := "<init>", desc := "(Ljava/lang/String;III)V" } : Jvm.MethodName)) ∈ lw_all := lw_g (lw_at lw_m3 224 rfl) rfl
theorem q879 : (Jvm.Cond.interfaceEntry "MarginFolk$Reader" (202 : Nat)) ∈ lw_tbl := lw_at lw_m4 8 rfl
theorem q880 : (Jvm.Cond.methodLink "MarginFolk$Reader" (202 : Nat) ({ cls := "java/util/List", name := "add", desc := "(Ljava/lang/Object;)Z" } : Jvm.MethodName)) ∈ lw_all := lw_g (lw_at lw_m4 9 rfl) rfl
theorem q932 : (Jvm.Cond.selects "MarginFolk$Reader" ({ cls := "java/lang/Object", name := "getClass", desc := "()Ljava/lang/Class;" } : Jvm.MethodName) ({ cls := "java/lang/Object", name := "getClass", desc := "()Ljava/lang/Class;" } : Jvm.MethodName)) ∈ lw_all := lw_g (lw_at lw_m4 61 rfl) rfl
theorem q953 : (Jvm.Cond.methodLink "MarginFolk$Reader" (141 : Nat) ({ cls := "MarginFolk$Reader", name := "more", desc := "(Ljava/lang/String;I)V" } : Jvm.MethodName)) ∈ lw_all := lw_g (lw_at lw_m4 82 rfl) rfl
theorem q954 : (Jvm.Cond.privateMethod ({ cls := "MarginFolk$Reader", name := "more", desc := "(Ljava/lang/String;I)V" } : Jvm.MethodName)) ∈ lw_tbl := lw_at lw_m4 83 rfl
theorem q955 : (Jvm.Cond.instanceMethod ({ cls := "MarginFolk$Reader", name := "more", desc := "(Ljava/lang/String;I)V" } : Jvm.MethodName)) ∈ lw_all := lw_g (lw_at lw_m4 84 rfl) rfl
theorem q956 : (Jvm.Cond.code ({ cls := "MarginFolk$Reader", name := "more", desc := "(Ljava/lang/String;I)V" } : Jvm.MethodName) prog_15_method_19_code (5 : Nat) (Option.none : Option Jvm.ClassFile.FieldType)) ∈ lw_all := lw_g (lw_at lw_m4 85 rfl) rfl
theorem q957 : (Jvm.Cond.stringRef "MarginFolk$Reader" (212 : Nat) "opens") ∈ lw_tbl := lw_at lw_m4 86 rfl
theorem q958 : (Jvm.Cond.stringRef "MarginFolk$Reader" (214 : Nat) "corn") ∈ lw_tbl := lw_at lw_m4 87 rfl
theorem q959 : (Jvm.Cond.stringRef "MarginFolk$Reader" (216 : Nat) "toll") ∈ lw_tbl := lw_at lw_m4 88 rfl
theorem q960 : (Jvm.Cond.stringRef "MarginFolk$Reader" (218 : Nat) "steps") ∈ lw_tbl := lw_at lw_m4 89 rfl
theorem q961 : (Jvm.Cond.stringRef "MarginFolk$Reader" (220 : Nat) "thumb") ∈ lw_tbl := lw_at lw_m4 90 rfl
theorem q962 : (Jvm.Cond.methodLink "MarginFolk$Reader" (225 : Nat) ({ cls := "MarginFolk$Reader", name := "once", desc := "(LMarginFolk$Value;II)LMarginFolk$Value;" } : Jvm.MethodName)) ∈ lw_all := lw_g (lw_at lw_m4 91 rfl) rfl
theorem q963 : (Jvm.Cond.privateMethod ({ cls := "MarginFolk$Reader", name := "once", desc := "(LMarginFolk$Value;II)LMarginFolk$Value;" } : Jvm.MethodName)) ∈ lw_tbl := lw_at lw_m4 92 rfl
theorem q964 : (Jvm.Cond.instanceMethod ({ cls := "MarginFolk$Reader", name := "once", desc := "(LMarginFolk$Value;II)LMarginFolk$Value;" } : Jvm.MethodName)) ∈ lw_all := lw_g (lw_at lw_m4 93 rfl) rfl
theorem q965 : (Jvm.Cond.code ({ cls := "MarginFolk$Reader", name := "once", desc := "(LMarginFolk$Value;II)LMarginFolk$Value;" } : Jvm.MethodName) prog_15_method_18_code (4 : Nat) (Option.some (Jvm.ClassFile.FieldType.object "MarginFolk$Value"))) ∈ lw_all := lw_g (lw_at lw_m4 94 rfl) rfl
theorem q966 : (Jvm.Cond.methodLink "MarginFolk$Reader" (208 : Nat) ({ cls := "MarginFolk$Reader", name := "sum", desc := "()LMarginFolk$Value;" } : Jvm.MethodName)) ∈ lw_all := lw_g (lw_at lw_m4 95 rfl) rfl
theorem q967 : (Jvm.Cond.privateMethod ({ cls := "MarginFolk$Reader", name := "sum", desc := "()LMarginFolk$Value;" } : Jvm.MethodName)) ∈ lw_tbl := lw_at lw_m4 96 rfl
theorem q968 : (Jvm.Cond.instanceMethod ({ cls := "MarginFolk$Reader", name := "sum", desc := "()LMarginFolk$Value;" } : Jvm.MethodName)) ∈ lw_all := lw_g (lw_at lw_m4 97 rfl) rfl
theorem q969 : (Jvm.Cond.code ({ cls := "MarginFolk$Reader", name := "sum", desc := "()LMarginFolk$Value;" } : Jvm.MethodName) prog_15_method_21_code (3 : Nat) (Option.some (Jvm.ClassFile.FieldType.object "MarginFolk$Value"))) ∈ lw_all := lw_g (lw_at lw_m4 98 rfl) rfl
theorem q970 : (Jvm.Cond.classLink "MarginFolk$Reader" (242 : Nat) "MarginFolk$Chain") ∈ lw_all := lw_g (lw_at lw_m4 99 rfl) rfl
theorem q972 : (Jvm.Cond.methodLinkNest "MarginFolk$Reader" (244 : Nat) ({ cls := "MarginFolk$Chain", name := "<init>", desc := "()V" } : Jvm.MethodName) "MarginFolk") ∈ lw_tbl := lw_at lw_m4 101 rfl
theorem q1011 : (Jvm.Cond.methodLink "MarginFolk$Reader" (245 : Nat) ({ cls := "MarginFolk$Reader", name := "product", desc := "()LMarginFolk$Value;" } : Jvm.MethodName)) ∈ lw_all := lw_g (lw_at lw_m4 140 rfl) rfl
theorem q1012 : (Jvm.Cond.privateMethod ({ cls := "MarginFolk$Reader", name := "product", desc := "()LMarginFolk$Value;" } : Jvm.MethodName)) ∈ lw_tbl := lw_at lw_m4 141 rfl
theorem q1013 : (Jvm.Cond.instanceMethod ({ cls := "MarginFolk$Reader", name := "product", desc := "()LMarginFolk$Value;" } : Jvm.MethodName)) ∈ lw_all := lw_g (lw_at lw_m4 142 rfl) rfl
theorem q1014 : (Jvm.Cond.code ({ cls := "MarginFolk$Reader", name := "product", desc := "()LMarginFolk$Value;" } : Jvm.MethodName) prog_15_method_22_code (3 : Nat) (Option.some (Jvm.ClassFile.FieldType.object "MarginFolk$Value"))) ∈ lw_all := lw_g (lw_at lw_m4 143 rfl) rfl
theorem q1015 : (Jvm.Cond.methodLink "MarginFolk$Reader" (254 : Nat) ({ cls := "MarginFolk$Reader", name := "atom", desc := "()LMarginFolk$Value;" } : Jvm.MethodName)) ∈ lw_all := lw_g (lw_at lw_m4 144 rfl) rfl
theorem q1016 : (Jvm.Cond.privateMethod ({ cls := "MarginFolk$Reader", name := "atom", desc := "()LMarginFolk$Value;" } : Jvm.MethodName)) ∈ lw_tbl := lw_at lw_m4 145 rfl
theorem q1017 : (Jvm.Cond.instanceMethod ({ cls := "MarginFolk$Reader", name := "atom", desc := "()LMarginFolk$Value;" } : Jvm.MethodName)) ∈ lw_all := lw_g (lw_at lw_m4 146 rfl) rfl
theorem q1018 : (Jvm.Cond.code ({ cls := "MarginFolk$Reader", name := "atom", desc := "()LMarginFolk$Value;" } : Jvm.MethodName) prog_15_method_25_code (3 : Nat) (Option.some (Jvm.ClassFile.FieldType.object "MarginFolk$Value"))) ∈ lw_all := lw_g (lw_at lw_m4 147 rfl) rfl
theorem q1019 : (Jvm.Cond.methodLink "MarginFolk$Reader" (264 : Nat) ({ cls := "MarginFolk$Reader", name := "within", desc := "(I)LMarginFolk$Value;" } : Jvm.MethodName)) ∈ lw_all := lw_g (lw_at lw_m4 148 rfl) rfl
theorem q1020 : (Jvm.Cond.privateMethod ({ cls := "MarginFolk$Reader", name := "within", desc := "(I)LMarginFolk$Value;" } : Jvm.MethodName)) ∈ lw_tbl := lw_at lw_m4 149 rfl
theorem q1021 : (Jvm.Cond.instanceMethod ({ cls := "MarginFolk$Reader", name := "within", desc := "(I)LMarginFolk$Value;" } : Jvm.MethodName)) ∈ lw_all := lw_g (lw_at lw_m4 150 rfl) rfl
theorem q1022 : (Jvm.Cond.code ({ cls := "MarginFolk$Reader", name := "within", desc := "(I)LMarginFolk$Value;" } : Jvm.MethodName) prog_15_method_24_code (4 : Nat) (Option.some (Jvm.ClassFile.FieldType.object "MarginFolk$Value"))) ∈ lw_all := lw_g (lw_at lw_m4 151 rfl) rfl
theorem q1023 : (Jvm.Cond.methodLink "MarginFolk$Reader" (257 : Nat) ({ cls := "MarginFolk$Reader", name := "opens", desc := "(I)V" } : Jvm.MethodName)) ∈ lw_all := lw_g (lw_at lw_m4 152 rfl) rfl
theorem q1024 : (Jvm.Cond.privateMethod ({ cls := "MarginFolk$Reader", name := "opens", desc := "(I)V" } : Jvm.MethodName)) ∈ lw_tbl := lw_at lw_m4 153 rfl
theorem q1025 : (Jvm.Cond.instanceMethod ({ cls := "MarginFolk$Reader", name := "opens", desc := "(I)V" } : Jvm.MethodName)) ∈ lw_all := lw_g (lw_at lw_m4 154 rfl) rfl
theorem q1026 : (Jvm.Cond.code ({ cls := "MarginFolk$Reader", name := "opens", desc := "(I)V" } : Jvm.MethodName) prog_15_method_23_code (2 : Nat) (Option.none : Option Jvm.ClassFile.FieldType)) ∈ lw_all := lw_g (lw_at lw_m4 155 rfl) rfl
theorem q1027 : (Jvm.Cond.classLink "MarginFolk$Reader" (259 : Nat) "MarginFolk$Pair") ∈ lw_all := lw_g (lw_at lw_m4 156 rfl) rfl
theorem q1029 : (Jvm.Cond.methodLink "MarginFolk$Reader" (261 : Nat) ({ cls := "MarginFolk$Pair", name := "<init>", desc := "(ZLMarginFolk$Value;LMarginFolk$Value;)V" } : Jvm.MethodName)) ∈ lw_all := lw_g (lw_at lw_m4 158 rfl) rfl
theorem q1043 : (Jvm.Cond.classLink "MarginFolk$Reader" (268 : Nat) "MarginFolk$Fixed") ∈ lw_all := lw_g (lw_at lw_m4 172 rfl) rfl
theorem q1045 : (Jvm.Cond.methodLink "MarginFolk$Reader" (270 : Nat) ({ cls := "MarginFolk$Fixed", name := "<init>", desc := "(J)V" } : Jvm.MethodName)) ∈ lw_all := lw_g (lw_at lw_m4 174 rfl) rfl
theorem q1053 : (Jvm.Cond.fieldLinkNest "MarginFolk$Reader" (273 : Nat) "MarginFolk" "ASKED" "[Ljava/lang/String;" "MarginFolk") ∈ lw_tbl := lw_at lw_m4 182 rfl
theorem q1055 : (Jvm.Cond.methodLinkNest "MarginFolk$Reader" (276 : Nat) ({ cls := "MarginFolk", name := "has", desc := "(II)Z" } : Jvm.MethodName) "MarginFolk") ∈ lw_tbl := lw_at lw_m4 184 rfl
theorem q1056 : (Jvm.Cond.classLink "MarginFolk$Reader" (279 : Nat) "MarginFolk$Asked") ∈ lw_all := lw_g (lw_at lw_m4 185 rfl) rfl
theorem q1058 : (Jvm.Cond.methodLink "MarginFolk$Reader" (281 : Nat) ({ cls := "MarginFolk$Asked", name := "<init>", desc := "(I)V" } : Jvm.MethodName)) ∈ lw_all := lw_g (lw_at lw_m4 187 rfl) rfl
theorem q1066 : (Jvm.Cond.fieldLinkNest "MarginFolk$Reader" (283 : Nat) "MarginFolk" "LOOKED" "[Ljava/lang/String;" "MarginFolk") ∈ lw_tbl := lw_at lw_m4 195 rfl
theorem q1068 : (Jvm.Cond.methodLink "MarginFolk$Reader" (286 : Nat) ({ cls := "MarginFolk$Reader", name := "looked", desc := "(I)LMarginFolk$Value;" } : Jvm.MethodName)) ∈ lw_all := lw_g (lw_at lw_m4 197 rfl) rfl
theorem q1069 : (Jvm.Cond.privateMethod ({ cls := "MarginFolk$Reader", name := "looked", desc := "(I)LMarginFolk$Value;" } : Jvm.MethodName)) ∈ lw_tbl := lw_at lw_m4 198 rfl
theorem q1070 : (Jvm.Cond.instanceMethod ({ cls := "MarginFolk$Reader", name := "looked", desc := "(I)LMarginFolk$Value;" } : Jvm.MethodName)) ∈ lw_all := lw_g (lw_at lw_m4 199 rfl) rfl
theorem q1071 : (Jvm.Cond.code ({ cls := "MarginFolk$Reader", name := "looked", desc := "(I)LMarginFolk$Value;" } : Jvm.MethodName) prog_15_method_29_code (3 : Nat) (Option.some (Jvm.ClassFile.FieldType.object "MarginFolk$Value"))) ∈ lw_all := lw_g (lw_at lw_m4 200 rfl) rfl
theorem q1072 : (Jvm.Cond.classLink "MarginFolk$Reader" (332 : Nat) "MarginFolk$Looked") ∈ lw_all := lw_g (lw_at lw_m4 201 rfl) rfl
theorem q1074 : (Jvm.Cond.methodLink "MarginFolk$Reader" (334 : Nat) ({ cls := "MarginFolk$Looked", name := "<init>", desc := "(LMarginFolk;ILMarginFolk$Value;)V" } : Jvm.MethodName)) ∈ lw_all := lw_g (lw_at lw_m4 203 rfl) rfl
theorem q1088 : (Jvm.Cond.stringRef "MarginFolk$Reader" (289 : Nat) "min") ∈ lw_tbl := lw_at lw_m4 217 rfl
theorem q1089 : (Jvm.Cond.stringRef "MarginFolk$Reader" (291 : Nat) "max") ∈ lw_tbl := lw_at lw_m4 218 rfl
theorem q1090 : (Jvm.Cond.methodLink "MarginFolk$Reader" (248 : Nat) ({ cls := "MarginFolk$Chain", name := "add", desc := "(CLMarginFolk$Value;)V" } : Jvm.MethodName)) ∈ lw_all := lw_g (lw_at lw_m4 219 rfl) rfl
theorem q1151 : (Jvm.Cond.methodLink "MarginFolk$Reader" (251 : Nat) ({ cls := "MarginFolk$Reader", name := "takes", desc := "(I)Z" } : Jvm.MethodName)) ∈ lw_all := lw_g (lw_at lw_m5 40 rfl) rfl
theorem q1152 : (Jvm.Cond.privateMethod ({ cls := "MarginFolk$Reader", name := "takes", desc := "(I)Z" } : Jvm.MethodName)) ∈ lw_tbl := lw_at lw_m5 41 rfl
theorem q1153 : (Jvm.Cond.instanceMethod ({ cls := "MarginFolk$Reader", name := "takes", desc := "(I)Z" } : Jvm.MethodName)) ∈ lw_all := lw_g (lw_at lw_m5 42 rfl) rfl
theorem q1154 : (Jvm.Cond.code ({ cls := "MarginFolk$Reader", name := "takes", desc := "(I)Z" } : Jvm.MethodName) prog_15_method_20_code (3 : Nat) (Option.some Jvm.ClassFile.FieldType.boolean)) ∈ lw_all := lw_g (lw_at lw_m5 43 rfl) rfl
theorem q1155 : (Jvm.Cond.methodLink "MarginFolk$Reader" (236 : Nat) ({ cls := "MarginFolk$Reader", name := "test", desc := "()LMarginFolk$Test;" } : Jvm.MethodName)) ∈ lw_all := lw_g (lw_at lw_m5 44 rfl) rfl
theorem q1156 : (Jvm.Cond.privateMethod ({ cls := "MarginFolk$Reader", name := "test", desc := "()LMarginFolk$Test;" } : Jvm.MethodName)) ∈ lw_tbl := lw_at lw_m5 45 rfl
theorem q1157 : (Jvm.Cond.instanceMethod ({ cls := "MarginFolk$Reader", name := "test", desc := "()LMarginFolk$Test;" } : Jvm.MethodName)) ∈ lw_all := lw_g (lw_at lw_m5 46 rfl) rfl
theorem q1158 : (Jvm.Cond.code ({ cls := "MarginFolk$Reader", name := "test", desc := "()LMarginFolk$Test;" } : Jvm.MethodName) prog_15_method_26_code (2 : Nat) (Option.some (Jvm.ClassFile.FieldType.object "MarginFolk$Test"))) ∈ lw_all := lw_g (lw_at lw_m5 47 rfl) rfl
theorem q1159 : (Jvm.Cond.classLink "MarginFolk$Reader" (293 : Nat) "MarginFolk$Facts") ∈ lw_all := lw_g (lw_at lw_m5 48 rfl) rfl
theorem q1161 : (Jvm.Cond.methodLink "MarginFolk$Reader" (295 : Nat) ({ cls := "MarginFolk$Facts", name := "<init>", desc := "(Z)V" } : Jvm.MethodName)) ∈ lw_all := lw_g (lw_at lw_m5 50 rfl) rfl
theorem q1171 : (Jvm.Cond.fieldLinkNest "MarginFolk$Reader" (298 : Nat) "MarginFolk$Facts" "tests" "Ljava/util/List;" "MarginFolk") ∈ lw_tbl := lw_at lw_m5 60 rfl
theorem q1178 : (Jvm.Cond.methodLink "MarginFolk$Reader" (301 : Nat) ({ cls := "MarginFolk$Reader", name := "both", desc := "()LMarginFolk$Test;" } : Jvm.MethodName)) ∈ lw_all := lw_g (lw_at lw_m5 67 rfl) rfl
theorem q1179 : (Jvm.Cond.privateMethod ({ cls := "MarginFolk$Reader", name := "both", desc := "()LMarginFolk$Test;" } : Jvm.MethodName)) ∈ lw_tbl := lw_at lw_m5 68 rfl
theorem q1180 : (Jvm.Cond.instanceMethod ({ cls := "MarginFolk$Reader", name := "both", desc := "()LMarginFolk$Test;" } : Jvm.MethodName)) ∈ lw_all := lw_g (lw_at lw_m5 69 rfl) rfl
theorem q1181 : (Jvm.Cond.code ({ cls := "MarginFolk$Reader", name := "both", desc := "()LMarginFolk$Test;" } : Jvm.MethodName) prog_15_method_27_code (2 : Nat) (Option.some (Jvm.ClassFile.FieldType.object "MarginFolk$Test"))) ∈ lw_all := lw_g (lw_at lw_m5 70 rfl) rfl
theorem q1182 : (Jvm.Cond.methodLink "MarginFolk$Reader" (310 : Nat) ({ cls := "MarginFolk$Reader", name := "fact", desc := "()LMarginFolk$Test;" } : Jvm.MethodName)) ∈ lw_all := lw_g (lw_at lw_m5 71 rfl) rfl
theorem q1183 : (Jvm.Cond.privateMethod ({ cls := "MarginFolk$Reader", name := "fact", desc := "()LMarginFolk$Test;" } : Jvm.MethodName)) ∈ lw_tbl := lw_at lw_m5 72 rfl
theorem q1184 : (Jvm.Cond.instanceMethod ({ cls := "MarginFolk$Reader", name := "fact", desc := "()LMarginFolk$Test;" } : Jvm.MethodName)) ∈ lw_all := lw_g (lw_at lw_m5 73 rfl) rfl
theorem q1185 : (Jvm.Cond.code ({ cls := "MarginFolk$Reader", name := "fact", desc := "()LMarginFolk$Test;" } : Jvm.MethodName) prog_15_method_28_code (3 : Nat) (Option.some (Jvm.ClassFile.FieldType.object "MarginFolk$Test"))) ∈ lw_all := lw_g (lw_at lw_m5 74 rfl) rfl
theorem q1186 : (Jvm.Cond.stringRef "MarginFolk$Reader" (315 : Nat) "not") ∈ lw_tbl := lw_at lw_m5 75 rfl
theorem q1187 : (Jvm.Cond.methodLink "MarginFolk$Reader" (306 : Nat) ({ cls := "MarginFolk$Reader", name := "passes", desc := "(Ljava/lang/String;)Z" } : Jvm.MethodName)) ∈ lw_all := lw_g (lw_at lw_m5 76 rfl) rfl
theorem q1188 : (Jvm.Cond.privateMethod ({ cls := "MarginFolk$Reader", name := "passes", desc := "(Ljava/lang/String;)Z" } : Jvm.MethodName)) ∈ lw_tbl := lw_at lw_m5 77 rfl
theorem q1189 : (Jvm.Cond.instanceMethod ({ cls := "MarginFolk$Reader", name := "passes", desc := "(Ljava/lang/String;)Z" } : Jvm.MethodName)) ∈ lw_all := lw_g (lw_at lw_m5 78 rfl) rfl
theorem q1190 : (Jvm.Cond.code ({ cls := "MarginFolk$Reader", name := "passes", desc := "(Ljava/lang/String;)Z" } : Jvm.MethodName) prog_15_method_9_code (3 : Nat) (Option.some Jvm.ClassFile.FieldType.boolean)) ∈ lw_all := lw_g (lw_at lw_m5 79 rfl) rfl
theorem q1191 : (Jvm.Cond.classLink "MarginFolk$Reader" (317 : Nat) "MarginFolk$Not") ∈ lw_all := lw_g (lw_at lw_m5 80 rfl) rfl
theorem q1193 : (Jvm.Cond.methodLink "MarginFolk$Reader" (319 : Nat) ({ cls := "MarginFolk$Not", name := "<init>", desc := "(LMarginFolk$Test;)V" } : Jvm.MethodName)) ∈ lw_all := lw_g (lw_at lw_m5 82 rfl) rfl
theorem q1201 : (Jvm.Cond.stringRef "MarginFolk$Reader" (322 : Nat) "all") ∈ lw_tbl := lw_at lw_m5 90 rfl
theorem q1202 : (Jvm.Cond.classLink "MarginFolk$Reader" (324 : Nat) "MarginFolk$All") ∈ lw_all := lw_g (lw_at lw_m5 91 rfl) rfl
theorem q1204 : (Jvm.Cond.methodLinkNest "MarginFolk$Reader" (326 : Nat) ({ cls := "MarginFolk$All", name := "<init>", desc := "()V" } : Jvm.MethodName) "MarginFolk") ∈ lw_tbl := lw_at lw_m5 93 rfl
theorem q1209 : (Jvm.Cond.classLink "MarginFolk$Reader" (327 : Nat) "MarginFolk$Than") ∈ lw_all := lw_g (lw_at lw_m5 98 rfl) rfl
theorem q1211 : (Jvm.Cond.methodLink "MarginFolk$Reader" (329 : Nat) ({ cls := "MarginFolk$Than", name := "<init>", desc := "(LMarginFolk$Value;ILMarginFolk$Value;)V" } : Jvm.MethodName)) ∈ lw_all := lw_g (lw_at lw_m5 100 rfl) rfl
theorem q1225 : (Jvm.Cond.stringRef "MarginFolk$Reader" (313 : Nat) "and") ∈ lw_tbl := lw_at lw_m5 114 rfl
theorem q1226 : (Jvm.Cond.stringRef "MarginFolk$Reader" (304 : Nat) "or") ∈ lw_tbl := lw_at lw_m5 115 rfl
theorem q1605 : (Jvm.Cond.instanceMethod ({ cls := "MarginFolk$Reader", name := "question", desc := "(I)LMarginFolk$Question;" } : Jvm.MethodName)) ∈ lw_all := lw_g (lw_at lw_m7 14 rfl) rfl
theorem q1606 : (Jvm.Cond.selects "MarginFolk$Reader" ({ cls := "MarginFolk$Reader", name := "question", desc := "(I)LMarginFolk$Question;" } : Jvm.MethodName) ({ cls := "MarginFolk$Reader", name := "question", desc := "(I)LMarginFolk$Question;" } : Jvm.MethodName)) ∈ lw_all := lw_g (lw_at lw_m7 15 rfl) rfl
theorem q1607 : (Jvm.Cond.code ({ cls := "MarginFolk$Reader", name := "question", desc := "(I)LMarginFolk$Question;" } : Jvm.MethodName) prog_15_method_30_code (4 : Nat) (Option.some (Jvm.ClassFile.FieldType.object "MarginFolk$Question"))) ∈ lw_all := lw_g (lw_at lw_m7 16 rfl) rfl
theorem q1608 : (Jvm.Cond.fieldLinkNest "MarginFolk$Reader" (337 : Nat) "MarginFolk" "TOLD_OF" "[Ljava/lang/String;" "MarginFolk") ∈ lw_tbl := lw_at lw_m7 17 rfl
theorem q1610 : (Jvm.Cond.classLink "MarginFolk$Reader" (340 : Nat) "MarginFolk$Question") ∈ lw_all := lw_g (lw_at lw_m7 19 rfl) rfl
theorem q1612 : (Jvm.Cond.methodLink "MarginFolk$Reader" (342 : Nat) ({ cls := "MarginFolk$Question", name := "<init>", desc := "(ILMarginFolk$Test;LMarginFolk$Value;)V" } : Jvm.MethodName)) ∈ lw_all := lw_g (lw_at lw_m7 21 rfl) rfl
theorem q2551 : (Jvm.Cond.castable "MarginFolk$Reader" "java/lang/Object") ∈ lw_tbl := lw_at lw_m11 0 rfl
theorem in_X2 : ∀ w ∈ wsX20, w ∈ lw_all := lw_in wsX20 [386, 388, 390, 392, 394, 396, 398, 400] (by decide +kernel) (by decide +kernel)
/-! MarginFolk$Fault -/
set_option maxRecDepth 100000
def RX3 : String := "MarginFolk$Fault"
def TX3 : u_T := fun k => match k with
  | 0 => ("java/lang/Throwable", "cause", "Ljava/lang/Throwable;", false)
  | 1 => ("java/lang/Throwable", "stackTrace", "[Ljava/lang/StackTraceElement;", false)
  | 2 => ("java/lang/Throwable", "suppressedExceptions", "Ljava/util/List;", false)
  | 3 => ("java/lang/Throwable", "detailMessage", "Ljava/lang/String;", false)
  | 4 => ("java/lang/Throwable", "backtrace", "Ljava/lang/Object;", false)
  | 5 => ("java/lang/Throwable", "depth", "I", false)
  | 6 => ("MarginFolk$Fault", "kind", "I", false)
  | _ => ("MarginFolk$Fault", "place", "I", false)
def tyX3 : Nat → FieldType := fun k => match k with
  | 0 => .object "java/lang/Throwable"
  | 1 => .array (.object "java/lang/StackTraceElement")
  | 2 => .object "java/util/List"
  | 3 => .object "java/lang/String"
  | 4 => .object "java/lang/Object"
  | 5 => .int
  | 6 => .int
  | _ => .int
abbrev wsX30 : List Cond := u_ws RX3 TX3 8
theorem nmX3 : ∀ a, a < 8 → ∀ b, b < 8 → a ≠ b → (TX3 a).2.1 ≠ (TX3 b).2.1 := by decide +kernel
theorem tyX3_ok : ∀ k, k < 8 → parseFieldDescriptor (TX3 k).2.2.1 = some (tyX3 k) := by decide +kernel
abbrev cX3_init : ByteArray := prog_7_method_1_code
def yX3_init : MethodName := ⟨RX3, "<init>", "()V"⟩
def dkwX3_init_0 : List UInt8 := [42, 1, 1, 3, 3, 183, 0, 1, 177]
abbrev dktX3_init_0 : List UInt8 := dkwX3_init_0 ++ []
theorem dksX3_init_0 : cX3_init.data.toList.drop 0 = dktX3_init_0 := by decide +kernel
theorem dX3_init_0 : decode cX3_init 0 = .ok (.aload_n 0, 1) := dk_42 (dk_at dksX3_init_0 0 rfl rfl)
theorem dX3_init_1 : decode cX3_init 1 = .ok (.aconst_null, 1) := dk_1 (dk_at dksX3_init_0 1 rfl rfl)
theorem dX3_init_2 : decode cX3_init 2 = .ok (.aconst_null, 1) := dk_1 (dk_at dksX3_init_0 2 rfl rfl)
theorem dX3_init_3 : decode cX3_init 3 = .ok (.iconst 0, 1) := dk_3 (dk_at dksX3_init_0 3 rfl rfl)
theorem dX3_init_4 : decode cX3_init 4 = .ok (.iconst 0, 1) := dk_3 (dk_at dksX3_init_0 4 rfl rfl)
theorem dX3_init_5 : decode cX3_init 5 = .ok (.invokespecial 1, 3) := dk_183 0 1 (dk_at dksX3_init_0 5 rfl rfl)
theorem dX3_init_8 : decode cX3_init 8 = .ok (.return_, 1) := dk_177 (dk_at dksX3_init_0 8 rfl rfl)
theorem q161 : (Jvm.Cond.initialized "MarginFolk$Fault") ∈ lw_all := lw_g (lw_at lw_m1 10 rfl) rfl
theorem q306 : (Jvm.Cond.instantiable "MarginFolk$Fault" (8 : Nat)) ∈ lw_all := lw_g (lw_at lw_m1 155 rfl) rfl
theorem q307 : (Jvm.Cond.castable "MarginFolk$Fault" "MarginFolk$Fault") ∈ lw_tbl := lw_at lw_m1 156 rfl
theorem q314 : (Jvm.Cond.selects "MarginFolk$Fault" ({ cls := "java/lang/Throwable", name := "fillInStackTrace", desc := "(I)Ljava/lang/Throwable;" } : Jvm.MethodName) ({ cls := "java/lang/Throwable", name := "fillInStackTrace", desc := "(I)Ljava/lang/Throwable;" } : Jvm.MethodName)) ∈ lw_all := lw_g (lw_at lw_m1 163 rfl) rfl
theorem q315 : (Jvm.Cond.selects "MarginFolk$Fault" ({ cls := "java/lang/Throwable", name := "fillInStackTrace", desc := "()Ljava/lang/Throwable;" } : Jvm.MethodName) ({ cls := "java/lang/Throwable", name := "fillInStackTrace", desc := "()Ljava/lang/Throwable;" } : Jvm.MethodName)) ∈ lw_all := lw_g (lw_at lw_m1 164 rfl) rfl
theorem q316 : (Jvm.Cond.lays "MarginFolk$Fault" "java/lang/Throwable" "cause" "Ljava/lang/Throwable;") ∈ lw_all := lw_g (lw_at lw_m1 165 rfl) rfl
theorem q318 : (Jvm.Cond.lays "MarginFolk$Fault" "java/lang/Throwable" "stackTrace" "[Ljava/lang/StackTraceElement;") ∈ lw_all := lw_g (lw_at lw_m1 167 rfl) rfl
theorem q320 : (Jvm.Cond.lays "MarginFolk$Fault" "java/lang/Throwable" "suppressedExceptions" "Ljava/util/List;") ∈ lw_all := lw_g (lw_at lw_m1 169 rfl) rfl
theorem q322 : (Jvm.Cond.lays "MarginFolk$Fault" "java/lang/Throwable" "detailMessage" "Ljava/lang/String;") ∈ lw_all := lw_g (lw_at lw_m1 171 rfl) rfl
theorem q324 : (Jvm.Cond.lays "MarginFolk$Fault" "java/lang/Throwable" "backtrace" "Ljava/lang/Object;") ∈ lw_all := lw_g (lw_at lw_m1 173 rfl) rfl
theorem q345 : (Jvm.Cond.instanceMethod ({ cls := "MarginFolk$Fault", name := "<init>", desc := "()V" } : Jvm.MethodName)) ∈ lw_all := lw_g (lw_at lw_m1 194 rfl) rfl
theorem q346 : (Jvm.Cond.code ({ cls := "MarginFolk$Fault", name := "<init>", desc := "()V" } : Jvm.MethodName) prog_7_method_1_code (1 : Nat) (Option.none : Option Jvm.ClassFile.FieldType)) ∈ lw_all := lw_g (lw_at lw_m1 195 rfl) rfl
theorem q347 : (Jvm.Cond.methodLink "MarginFolk$Fault" (1 : Nat) ({ cls := "java/lang/RuntimeException", name := "<init>", desc := "(Ljava/lang/String;Ljava/lang/Throwable;ZZ)V" } : Jvm.MethodName)) ∈ lw_all := lw_g (lw_at lw_m1 196 rfl) rfl
theorem q365 : (Jvm.Cond.lays "MarginFolk$Fault" "MarginFolk$Fault" "kind" "I") ∈ lw_all := lw_g (lw_at lw_m1 214 rfl) rfl
theorem q366 : (Jvm.Cond.soleField "MarginFolk$Fault" "kind") ∈ lw_all := lw_g (lw_at lw_m1 215 rfl) rfl
theorem q367 : (Jvm.Cond.lays "MarginFolk$Fault" "MarginFolk$Fault" "place" "I") ∈ lw_all := lw_g (lw_at lw_m1 216 rfl) rfl
theorem q368 : (Jvm.Cond.soleField "MarginFolk$Fault" "place") ∈ lw_all := lw_g (lw_at lw_m1 217 rfl) rfl
theorem q373 : (Jvm.Cond.lays "MarginFolk$Fault" "java/lang/Throwable" "depth" "I") ∈ lw_all := lw_g (lw_at lw_m1 222 rfl) rfl
theorem q376 : (Jvm.Cond.superclass "MarginFolk$Fault" "java/lang/RuntimeException") ∈ lw_all := lw_g (lw_at lw_m1 225 rfl) rfl
theorem q924 : (Jvm.Cond.selects "MarginFolk$Fault" ({ cls := "java/lang/Object", name := "getClass", desc := "()Ljava/lang/Class;" } : Jvm.MethodName) ({ cls := "java/lang/Object", name := "getClass", desc := "()Ljava/lang/Class;" } : Jvm.MethodName)) ∈ lw_all := lw_g (lw_at lw_m4 53 rfl) rfl
theorem q2552 : (Jvm.Cond.castable "MarginFolk$Fault" "java/lang/Object") ∈ lw_tbl := lw_at lw_m11 1 rfl
theorem in_X3 : ∀ w ∈ wsX30, w ∈ lw_all := lw_in wsX30 [316, 318, 320, 322, 324, 373, 365, 367] (by decide +kernel) (by decide +kernel)
/-! MarginFolk$Moment -/
set_option maxRecDepth 100000
def RX4 : String := "MarginFolk$Moment"
def TX4 : u_T := fun k => match k with
  | _ => ("MarginFolk$Moment", "of", "[J", true)
def tyX4 : Nat → FieldType := fun k => match k with
  | _ => .array .long
abbrev wsX40 : List Cond := u_ws RX4 TX4 1
theorem nmX4 : ∀ a, a < 1 → ∀ b, b < 1 → a ≠ b → (TX4 a).2.1 ≠ (TX4 b).2.1 := by decide +kernel
theorem tyX4_ok : ∀ k, k < 1 → parseFieldDescriptor (TX4 k).2.2.1 = some (tyX4 k) := by decide +kernel
abbrev cX4_init : ByteArray := prog_11_method_1_code
def yX4_init : MethodName := ⟨RX4, "<init>", "()V"⟩
def dkwX4_init_0 : List UInt8 := [42, 183, 0, 1, 42, 16, 9, 188, 11, 181, 0, 7, 177]
abbrev dktX4_init_0 : List UInt8 := dkwX4_init_0 ++ []
theorem dksX4_init_0 : cX4_init.data.toList.drop 0 = dktX4_init_0 := by decide +kernel
theorem dX4_init_0 : decode cX4_init 0 = .ok (.aload_n 0, 1) := dk_42 (dk_at dksX4_init_0 0 rfl rfl)
theorem dX4_init_1 : decode cX4_init 1 = .ok (.invokespecial 1, 3) := dk_183 0 1 (dk_at dksX4_init_0 1 rfl rfl)
theorem dX4_init_4 : decode cX4_init 4 = .ok (.aload_n 0, 1) := dk_42 (dk_at dksX4_init_0 4 rfl rfl)
theorem dX4_init_5 : decode cX4_init 5 = .ok (.bipush 9, 2) := dk_16 9 (dk_at dksX4_init_0 5 rfl rfl)
theorem dX4_init_7 : decode cX4_init 7 = .ok (.newarray .long, 2) := dk_188_11 (dk_at dksX4_init_0 7 rfl rfl)
theorem dX4_init_9 : decode cX4_init 9 = .ok (.putfield 7, 3) := dk_181 0 7 (dk_at dksX4_init_0 9 rfl rfl)
theorem dX4_init_12 : decode cX4_init 12 = .ok (.return_, 1) := dk_177 (dk_at dksX4_init_0 12 rfl rfl)
theorem q162 : (Jvm.Cond.initialized "MarginFolk$Moment") ∈ lw_all := lw_g (lw_at lw_m1 11 rfl) rfl
theorem q404 : (Jvm.Cond.instantiable "MarginFolk$Moment" (1 : Nat)) ∈ lw_all := lw_g (lw_at lw_m2 13 rfl) rfl
theorem q406 : (Jvm.Cond.instanceMethod ({ cls := "MarginFolk$Moment", name := "<init>", desc := "()V" } : Jvm.MethodName)) ∈ lw_all := lw_g (lw_at lw_m2 15 rfl) rfl
theorem q407 : (Jvm.Cond.code ({ cls := "MarginFolk$Moment", name := "<init>", desc := "()V" } : Jvm.MethodName) prog_11_method_1_code (1 : Nat) (Option.none : Option Jvm.ClassFile.FieldType)) ∈ lw_all := lw_g (lw_at lw_m2 16 rfl) rfl
theorem q408 : (Jvm.Cond.methodLink "MarginFolk$Moment" (1 : Nat) ({ cls := "java/lang/Object", name := "<init>", desc := "()V" } : Jvm.MethodName)) ∈ lw_all := lw_g (lw_at lw_m2 17 rfl) rfl
theorem q409 : (Jvm.Cond.fieldLink "MarginFolk$Moment" (7 : Nat) "MarginFolk$Moment" "of" "[J") ∈ lw_all := lw_g (lw_at lw_m2 18 rfl) rfl
theorem q413 : (Jvm.Cond.laysFinal "MarginFolk$Moment" "MarginFolk$Moment" "of" "[J") ∈ lw_all := lw_g (lw_at lw_m2 22 rfl) rfl
theorem q414 : (Jvm.Cond.soleField "MarginFolk$Moment" "of") ∈ lw_all := lw_g (lw_at lw_m2 23 rfl) rfl
theorem q415 : (Jvm.Cond.superclass "MarginFolk$Moment" "java/lang/Object") ∈ lw_all := lw_g (lw_at lw_m2 24 rfl) rfl
theorem q928 : (Jvm.Cond.selects "MarginFolk$Moment" ({ cls := "java/lang/Object", name := "getClass", desc := "()Ljava/lang/Class;" } : Jvm.MethodName) ({ cls := "java/lang/Object", name := "getClass", desc := "()Ljava/lang/Class;" } : Jvm.MethodName)) ∈ lw_all := lw_g (lw_at lw_m4 57 rfl) rfl
theorem q2553 : (Jvm.Cond.castable "MarginFolk$Moment" "java/lang/Object") ∈ lw_tbl := lw_at lw_m11 2 rfl
theorem in_X4 : ∀ w ∈ wsX40, w ∈ lw_all := lw_in wsX40 [413] (by decide +kernel) (by decide +kernel)
/-! MarginFolk$State -/
set_option maxRecDepth 100000
def RX5 : String := "MarginFolk$State"
def TX5 : u_T := fun k => match k with
  | 0 => ("MarginFolk$State", "day", "I", false)
  | 1 => ("MarginFolk$State", "keeps", "I", false)
  | 2 => ("MarginFolk$State", "gloss", "[I", true)
  | 3 => ("MarginFolk$State", "leaf", "[I", true)
  | 4 => ("MarginFolk$State", "cell", "[I", true)
  | 5 => ("MarginFolk$State", "purse", "[I", true)
  | 6 => ("MarginFolk$State", "met", "[I", true)
  | 7 => ("MarginFolk$State", "rows", "[[I", true)
  | 8 => ("MarginFolk$State", "pairs", "I", false)
  | 9 => ("MarginFolk$State", "metNow", "[I", true)
  | _ => ("MarginFolk$State", "this$0", "LMarginFolk;", true)
def tyX5 : Nat → FieldType := fun k => match k with
  | 0 => .int
  | 1 => .int
  | 2 => .array .int
  | 3 => .array .int
  | 4 => .array .int
  | 5 => .array .int
  | 6 => .array .int
  | 7 => .array (.array .int)
  | 8 => .int
  | 9 => .array .int
  | _ => .object "MarginFolk"
abbrev wsX50 : List Cond := u_ws RX5 TX5 11
theorem nmX5 : ∀ a, a < 11 → ∀ b, b < 11 → a ≠ b → (TX5 a).2.1 ≠ (TX5 b).2.1 := by decide +kernel
theorem tyX5_ok : ∀ k, k < 11 → parseFieldDescriptor (TX5 k).2.2.1 = some (tyX5 k) := by decide +kernel
abbrev cX5_init : ByteArray := prog_16_method_1_code
def yX5_init : MethodName := ⟨RX5, "<init>", "(LMarginFolk;)V"⟩
def dkwX5_init_2 : List UInt8 := [181, 0, 28, 42, 16, 40, 6, 197, 0, 31, 2, 181, 0, 33, 42, 16, 8, 188, 10, 181, 0, 36, 177]
abbrev dktX5_init_2 : List UInt8 := dkwX5_init_2 ++ []
def dkwX5_init_1 : List UInt8 := [181, 0, 19, 42, 16, 8, 188, 10, 181, 0, 22, 42, 16, 8, 188, 10, 181, 0, 25, 42, 16, 8, 188, 10]
abbrev dktX5_init_1 : List UInt8 := dkwX5_init_1 ++ dktX5_init_2
def dkwX5_init_0 : List UInt8 := [42, 43, 181, 0, 3, 42, 183, 0, 9, 42, 16, 6, 188, 10, 181, 0, 15, 42, 16, 8, 188, 10]
abbrev dktX5_init_0 : List UInt8 := dkwX5_init_0 ++ dktX5_init_1
theorem dksX5_init_0 : cX5_init.data.toList.drop 0 = dktX5_init_0 := by decide +kernel
theorem dksX5_init_1 : cX5_init.data.toList.drop 22 = dktX5_init_1 := dk_seg dksX5_init_0 22 rfl rfl
theorem dksX5_init_2 : cX5_init.data.toList.drop 46 = dktX5_init_2 := dk_seg dksX5_init_1 24 rfl rfl
theorem dX5_init_0 : decode cX5_init 0 = .ok (.aload_n 0, 1) := dk_42 (dk_at dksX5_init_0 0 rfl rfl)
theorem dX5_init_1 : decode cX5_init 1 = .ok (.aload_n 1, 1) := dk_43 (dk_at dksX5_init_0 1 rfl rfl)
theorem dX5_init_2 : decode cX5_init 2 = .ok (.putfield 3, 3) := dk_181 0 3 (dk_at dksX5_init_0 2 rfl rfl)
theorem dX5_init_5 : decode cX5_init 5 = .ok (.aload_n 0, 1) := dk_42 (dk_at dksX5_init_0 5 rfl rfl)
theorem dX5_init_6 : decode cX5_init 6 = .ok (.invokespecial 9, 3) := dk_183 0 9 (dk_at dksX5_init_0 6 rfl rfl)
theorem dX5_init_9 : decode cX5_init 9 = .ok (.aload_n 0, 1) := dk_42 (dk_at dksX5_init_0 9 rfl rfl)
theorem dX5_init_10 : decode cX5_init 10 = .ok (.bipush 6, 2) := dk_16 6 (dk_at dksX5_init_0 10 rfl rfl)
theorem dX5_init_12 : decode cX5_init 12 = .ok (.newarray .int, 2) := dk_188_10 (dk_at dksX5_init_0 12 rfl rfl)
theorem dX5_init_14 : decode cX5_init 14 = .ok (.putfield 15, 3) := dk_181 0 15 (dk_at dksX5_init_0 14 rfl rfl)
theorem dX5_init_17 : decode cX5_init 17 = .ok (.aload_n 0, 1) := dk_42 (dk_at dksX5_init_0 17 rfl rfl)
theorem dX5_init_18 : decode cX5_init 18 = .ok (.bipush 8, 2) := dk_16 8 (dk_at dksX5_init_0 18 rfl rfl)
theorem dX5_init_20 : decode cX5_init 20 = .ok (.newarray .int, 2) := dk_188_10 (dk_at dksX5_init_0 20 rfl rfl)
theorem dX5_init_22 : decode cX5_init 22 = .ok (.putfield 19, 3) := dk_181 0 19 (dk_at dksX5_init_1 0 rfl rfl)
theorem dX5_init_25 : decode cX5_init 25 = .ok (.aload_n 0, 1) := dk_42 (dk_at dksX5_init_1 3 rfl rfl)
theorem dX5_init_26 : decode cX5_init 26 = .ok (.bipush 8, 2) := dk_16 8 (dk_at dksX5_init_1 4 rfl rfl)
theorem dX5_init_28 : decode cX5_init 28 = .ok (.newarray .int, 2) := dk_188_10 (dk_at dksX5_init_1 6 rfl rfl)
theorem dX5_init_30 : decode cX5_init 30 = .ok (.putfield 22, 3) := dk_181 0 22 (dk_at dksX5_init_1 8 rfl rfl)
theorem dX5_init_33 : decode cX5_init 33 = .ok (.aload_n 0, 1) := dk_42 (dk_at dksX5_init_1 11 rfl rfl)
theorem dX5_init_34 : decode cX5_init 34 = .ok (.bipush 8, 2) := dk_16 8 (dk_at dksX5_init_1 12 rfl rfl)
theorem dX5_init_36 : decode cX5_init 36 = .ok (.newarray .int, 2) := dk_188_10 (dk_at dksX5_init_1 14 rfl rfl)
theorem dX5_init_38 : decode cX5_init 38 = .ok (.putfield 25, 3) := dk_181 0 25 (dk_at dksX5_init_1 16 rfl rfl)
theorem dX5_init_41 : decode cX5_init 41 = .ok (.aload_n 0, 1) := dk_42 (dk_at dksX5_init_1 19 rfl rfl)
theorem dX5_init_42 : decode cX5_init 42 = .ok (.bipush 8, 2) := dk_16 8 (dk_at dksX5_init_1 20 rfl rfl)
theorem dX5_init_44 : decode cX5_init 44 = .ok (.newarray .int, 2) := dk_188_10 (dk_at dksX5_init_1 22 rfl rfl)
theorem dX5_init_46 : decode cX5_init 46 = .ok (.putfield 28, 3) := dk_181 0 28 (dk_at dksX5_init_2 0 rfl rfl)
theorem dX5_init_49 : decode cX5_init 49 = .ok (.aload_n 0, 1) := dk_42 (dk_at dksX5_init_2 3 rfl rfl)
theorem dX5_init_50 : decode cX5_init 50 = .ok (.bipush 40, 2) := dk_16 40 (dk_at dksX5_init_2 4 rfl rfl)
theorem dX5_init_52 : decode cX5_init 52 = .ok (.iconst 3, 1) := dk_6 (dk_at dksX5_init_2 6 rfl rfl)
theorem dX5_init_53 : decode cX5_init 53 = .ok (.multianewarray 31 2, 4) := by decide +kernel
theorem dX5_init_57 : decode cX5_init 57 = .ok (.putfield 33, 3) := dk_181 0 33 (dk_at dksX5_init_2 11 rfl rfl)
theorem dX5_init_60 : decode cX5_init 60 = .ok (.aload_n 0, 1) := dk_42 (dk_at dksX5_init_2 14 rfl rfl)
theorem dX5_init_61 : decode cX5_init 61 = .ok (.bipush 8, 2) := dk_16 8 (dk_at dksX5_init_2 15 rfl rfl)
theorem dX5_init_63 : decode cX5_init 63 = .ok (.newarray .int, 2) := dk_188_10 (dk_at dksX5_init_2 17 rfl rfl)
theorem dX5_init_65 : decode cX5_init 65 = .ok (.putfield 36, 3) := dk_181 0 36 (dk_at dksX5_init_2 19 rfl rfl)
theorem dX5_init_68 : decode cX5_init 68 = .ok (.return_, 1) := dk_177 (dk_at dksX5_init_2 22 rfl rfl)
abbrev cX5_begins : ByteArray := prog_16_method_2_code
def yX5_begins : MethodName := ⟨RX5, "begins", "()V"⟩
def dkwX5_begins_4 : List UInt8 := [180, 0, 25, 27, 8, 79, 42, 180, 0, 28, 27, 3, 79, 132, 1, 1, 167, 255, 194, 177]
abbrev dktX5_begins_4 : List UInt8 := dkwX5_begins_4 ++ []
def dkwX5_begins_3 : List UInt8 := [180, 0, 61, 79, 42, 180, 0, 22, 27, 42, 180, 0, 3, 27, 182, 0, 57, 180, 0, 65, 79, 42]
abbrev dktX5_begins_3 : List UInt8 := dkwX5_begins_3 ++ dktX5_begins_4
def dkwX5_begins_2 : List UInt8 := [180, 0, 3, 182, 0, 53, 162, 0, 57, 42, 180, 0, 19, 27, 42, 180, 0, 3, 27, 182, 0, 57]
abbrev dktX5_begins_2 : List UInt8 := dkwX5_begins_2 ++ dktX5_begins_3
def dkwX5_begins_1 : List UInt8 := [180, 0, 3, 180, 0, 46, 180, 0, 50, 27, 46, 79, 132, 1, 1, 167, 255, 229, 3, 60, 27, 42]
abbrev dktX5_begins_1 : List UInt8 := dkwX5_begins_1 ++ dktX5_begins_2
def dkwX5_begins_0 : List UInt8 := [42, 3, 181, 0, 39, 42, 3, 181, 0, 43, 3, 60, 27, 16, 6, 162, 0, 27, 42, 180, 0, 15, 27, 42]
abbrev dktX5_begins_0 : List UInt8 := dkwX5_begins_0 ++ dktX5_begins_1
theorem dksX5_begins_0 : cX5_begins.data.toList.drop 0 = dktX5_begins_0 := by decide +kernel
theorem dksX5_begins_1 : cX5_begins.data.toList.drop 24 = dktX5_begins_1 := dk_seg dksX5_begins_0 24 rfl rfl
theorem dksX5_begins_2 : cX5_begins.data.toList.drop 46 = dktX5_begins_2 := dk_seg dksX5_begins_1 22 rfl rfl
theorem dksX5_begins_3 : cX5_begins.data.toList.drop 68 = dktX5_begins_3 := dk_seg dksX5_begins_2 22 rfl rfl
theorem dksX5_begins_4 : cX5_begins.data.toList.drop 90 = dktX5_begins_4 := dk_seg dksX5_begins_3 22 rfl rfl
theorem dX5_begins_0 : decode cX5_begins 0 = .ok (.aload_n 0, 1) := dk_42 (dk_at dksX5_begins_0 0 rfl rfl)
theorem dX5_begins_1 : decode cX5_begins 1 = .ok (.iconst 0, 1) := dk_3 (dk_at dksX5_begins_0 1 rfl rfl)
theorem dX5_begins_2 : decode cX5_begins 2 = .ok (.putfield 39, 3) := dk_181 0 39 (dk_at dksX5_begins_0 2 rfl rfl)
theorem dX5_begins_5 : decode cX5_begins 5 = .ok (.aload_n 0, 1) := dk_42 (dk_at dksX5_begins_0 5 rfl rfl)
theorem dX5_begins_6 : decode cX5_begins 6 = .ok (.iconst 0, 1) := dk_3 (dk_at dksX5_begins_0 6 rfl rfl)
theorem dX5_begins_7 : decode cX5_begins 7 = .ok (.putfield 43, 3) := dk_181 0 43 (dk_at dksX5_begins_0 7 rfl rfl)
theorem dX5_begins_10 : decode cX5_begins 10 = .ok (.iconst 0, 1) := dk_3 (dk_at dksX5_begins_0 10 rfl rfl)
theorem dX5_begins_11 : decode cX5_begins 11 = .ok (.istore_n 1, 1) := dk_60 (dk_at dksX5_begins_0 11 rfl rfl)
theorem dX5_begins_12 : decode cX5_begins 12 = .ok (.iload_n 1, 1) := dk_27 (dk_at dksX5_begins_0 12 rfl rfl)
theorem dX5_begins_13 : decode cX5_begins 13 = .ok (.bipush 6, 2) := dk_16 6 (dk_at dksX5_begins_0 13 rfl rfl)
theorem dX5_begins_15 : decode cX5_begins 15 = .ok (.if_icmp .ge 27, 3) := dk_162 0 27 (dk_at dksX5_begins_0 15 rfl rfl)
theorem dX5_begins_18 : decode cX5_begins 18 = .ok (.aload_n 0, 1) := dk_42 (dk_at dksX5_begins_0 18 rfl rfl)
theorem dX5_begins_19 : decode cX5_begins 19 = .ok (.getfield 15, 3) := dk_180 0 15 (dk_at dksX5_begins_0 19 rfl rfl)
theorem dX5_begins_22 : decode cX5_begins 22 = .ok (.iload_n 1, 1) := dk_27 (dk_at dksX5_begins_0 22 rfl rfl)
theorem dX5_begins_23 : decode cX5_begins 23 = .ok (.aload_n 0, 1) := dk_42 (dk_at dksX5_begins_0 23 rfl rfl)
theorem dX5_begins_24 : decode cX5_begins 24 = .ok (.getfield 3, 3) := dk_180 0 3 (dk_at dksX5_begins_1 0 rfl rfl)
theorem dX5_begins_27 : decode cX5_begins 27 = .ok (.getfield 46, 3) := dk_180 0 46 (dk_at dksX5_begins_1 3 rfl rfl)
theorem dX5_begins_30 : decode cX5_begins 30 = .ok (.getfield 50, 3) := dk_180 0 50 (dk_at dksX5_begins_1 6 rfl rfl)
theorem dX5_begins_33 : decode cX5_begins 33 = .ok (.iload_n 1, 1) := dk_27 (dk_at dksX5_begins_1 9 rfl rfl)
theorem dX5_begins_34 : decode cX5_begins 34 = .ok (.iaload, 1) := dk_46 (dk_at dksX5_begins_1 10 rfl rfl)
theorem dX5_begins_35 : decode cX5_begins 35 = .ok (.iastore, 1) := dk_79 (dk_at dksX5_begins_1 11 rfl rfl)
theorem dX5_begins_36 : decode cX5_begins 36 = .ok (.iinc 1 1, 3) := dk_132 1 1 (dk_at dksX5_begins_1 12 rfl rfl)
theorem dX5_begins_39 : decode cX5_begins 39 = .ok (.goto (-27), 3) := dk_167 255 229 (dk_at dksX5_begins_1 15 rfl rfl)
theorem dX5_begins_42 : decode cX5_begins 42 = .ok (.iconst 0, 1) := dk_3 (dk_at dksX5_begins_1 18 rfl rfl)
theorem dX5_begins_43 : decode cX5_begins 43 = .ok (.istore_n 1, 1) := dk_60 (dk_at dksX5_begins_1 19 rfl rfl)
theorem dX5_begins_44 : decode cX5_begins 44 = .ok (.iload_n 1, 1) := dk_27 (dk_at dksX5_begins_1 20 rfl rfl)
theorem dX5_begins_45 : decode cX5_begins 45 = .ok (.aload_n 0, 1) := dk_42 (dk_at dksX5_begins_1 21 rfl rfl)
theorem dX5_begins_46 : decode cX5_begins 46 = .ok (.getfield 3, 3) := dk_180 0 3 (dk_at dksX5_begins_2 0 rfl rfl)
theorem dX5_begins_49 : decode cX5_begins 49 = .ok (.invokevirtual 53, 3) := dk_182 0 53 (dk_at dksX5_begins_2 3 rfl rfl)
theorem dX5_begins_52 : decode cX5_begins 52 = .ok (.if_icmp .ge 57, 3) := dk_162 0 57 (dk_at dksX5_begins_2 6 rfl rfl)
theorem dX5_begins_55 : decode cX5_begins 55 = .ok (.aload_n 0, 1) := dk_42 (dk_at dksX5_begins_2 9 rfl rfl)
theorem dX5_begins_56 : decode cX5_begins 56 = .ok (.getfield 19, 3) := dk_180 0 19 (dk_at dksX5_begins_2 10 rfl rfl)
theorem dX5_begins_59 : decode cX5_begins 59 = .ok (.iload_n 1, 1) := dk_27 (dk_at dksX5_begins_2 13 rfl rfl)
theorem dX5_begins_60 : decode cX5_begins 60 = .ok (.aload_n 0, 1) := dk_42 (dk_at dksX5_begins_2 14 rfl rfl)
theorem dX5_begins_61 : decode cX5_begins 61 = .ok (.getfield 3, 3) := dk_180 0 3 (dk_at dksX5_begins_2 15 rfl rfl)
theorem dX5_begins_64 : decode cX5_begins 64 = .ok (.iload_n 1, 1) := dk_27 (dk_at dksX5_begins_2 18 rfl rfl)
theorem dX5_begins_65 : decode cX5_begins 65 = .ok (.invokevirtual 57, 3) := dk_182 0 57 (dk_at dksX5_begins_2 19 rfl rfl)
theorem dX5_begins_68 : decode cX5_begins 68 = .ok (.getfield 61, 3) := dk_180 0 61 (dk_at dksX5_begins_3 0 rfl rfl)
theorem dX5_begins_71 : decode cX5_begins 71 = .ok (.iastore, 1) := dk_79 (dk_at dksX5_begins_3 3 rfl rfl)
theorem dX5_begins_72 : decode cX5_begins 72 = .ok (.aload_n 0, 1) := dk_42 (dk_at dksX5_begins_3 4 rfl rfl)
theorem dX5_begins_73 : decode cX5_begins 73 = .ok (.getfield 22, 3) := dk_180 0 22 (dk_at dksX5_begins_3 5 rfl rfl)
theorem dX5_begins_76 : decode cX5_begins 76 = .ok (.iload_n 1, 1) := dk_27 (dk_at dksX5_begins_3 8 rfl rfl)
theorem dX5_begins_77 : decode cX5_begins 77 = .ok (.aload_n 0, 1) := dk_42 (dk_at dksX5_begins_3 9 rfl rfl)
theorem dX5_begins_78 : decode cX5_begins 78 = .ok (.getfield 3, 3) := dk_180 0 3 (dk_at dksX5_begins_3 10 rfl rfl)
theorem dX5_begins_81 : decode cX5_begins 81 = .ok (.iload_n 1, 1) := dk_27 (dk_at dksX5_begins_3 13 rfl rfl)
theorem dX5_begins_82 : decode cX5_begins 82 = .ok (.invokevirtual 57, 3) := dk_182 0 57 (dk_at dksX5_begins_3 14 rfl rfl)
theorem dX5_begins_85 : decode cX5_begins 85 = .ok (.getfield 65, 3) := dk_180 0 65 (dk_at dksX5_begins_3 17 rfl rfl)
theorem dX5_begins_88 : decode cX5_begins 88 = .ok (.iastore, 1) := dk_79 (dk_at dksX5_begins_3 20 rfl rfl)
theorem dX5_begins_89 : decode cX5_begins 89 = .ok (.aload_n 0, 1) := dk_42 (dk_at dksX5_begins_3 21 rfl rfl)
theorem dX5_begins_90 : decode cX5_begins 90 = .ok (.getfield 25, 3) := dk_180 0 25 (dk_at dksX5_begins_4 0 rfl rfl)
theorem dX5_begins_93 : decode cX5_begins 93 = .ok (.iload_n 1, 1) := dk_27 (dk_at dksX5_begins_4 3 rfl rfl)
theorem dX5_begins_94 : decode cX5_begins 94 = .ok (.iconst 5, 1) := dk_8 (dk_at dksX5_begins_4 4 rfl rfl)
theorem dX5_begins_95 : decode cX5_begins 95 = .ok (.iastore, 1) := dk_79 (dk_at dksX5_begins_4 5 rfl rfl)
theorem dX5_begins_96 : decode cX5_begins 96 = .ok (.aload_n 0, 1) := dk_42 (dk_at dksX5_begins_4 6 rfl rfl)
theorem dX5_begins_97 : decode cX5_begins 97 = .ok (.getfield 28, 3) := dk_180 0 28 (dk_at dksX5_begins_4 7 rfl rfl)
theorem dX5_begins_100 : decode cX5_begins 100 = .ok (.iload_n 1, 1) := dk_27 (dk_at dksX5_begins_4 10 rfl rfl)
theorem dX5_begins_101 : decode cX5_begins 101 = .ok (.iconst 0, 1) := dk_3 (dk_at dksX5_begins_4 11 rfl rfl)
theorem dX5_begins_102 : decode cX5_begins 102 = .ok (.iastore, 1) := dk_79 (dk_at dksX5_begins_4 12 rfl rfl)
theorem dX5_begins_103 : decode cX5_begins 103 = .ok (.iinc 1 1, 3) := dk_132 1 1 (dk_at dksX5_begins_4 13 rfl rfl)
theorem dX5_begins_106 : decode cX5_begins 106 = .ok (.goto (-62), 3) := dk_167 255 194 (dk_at dksX5_begins_4 16 rfl rfl)
theorem dX5_begins_109 : decode cX5_begins 109 = .ok (.return_, 1) := dk_177 (dk_at dksX5_begins_4 19 rfl rfl)
abbrev cX5_meet : ByteArray := prog_16_method_6_code
def yX5_meet : MethodName := ⟨RX5, "meet", "(III)Z"⟩
def dkwX5_meet_3 : List UInt8 := [28, 46, 182, 0, 90, 160, 0, 7, 4, 167, 0, 4, 3, 172]
abbrev dktX5_meet_3 : List UInt8 := dkwX5_meet_3 ++ []
def dkwX5_meet_2 : List UInt8 := [184, 0, 84, 29, 182, 0, 87, 153, 0, 29, 42, 180, 0, 22, 27, 46, 42, 180, 0, 3, 42, 180, 0, 22]
abbrev dktX5_meet_2 : List UInt8 := dkwX5_meet_2 ++ dktX5_meet_3
def dkwX5_meet_1 : List UInt8 := [3, 54, 4, 21, 4, 153, 0, 55, 42, 180, 0, 3, 42, 180, 0, 19, 27, 46, 42, 180, 0, 19, 28, 46]
abbrev dktX5_meet_1 : List UInt8 := dkwX5_meet_1 ++ dktX5_meet_2
def dkwX5_meet_0 : List UInt8 := [42, 180, 0, 19, 27, 46, 42, 180, 0, 19, 28, 46, 100, 184, 0, 78, 4, 160, 0, 7, 4, 167, 0, 4]
abbrev dktX5_meet_0 : List UInt8 := dkwX5_meet_0 ++ dktX5_meet_1
theorem dksX5_meet_0 : cX5_meet.data.toList.drop 0 = dktX5_meet_0 := by decide +kernel
theorem dksX5_meet_1 : cX5_meet.data.toList.drop 24 = dktX5_meet_1 := dk_seg dksX5_meet_0 24 rfl rfl
theorem dksX5_meet_2 : cX5_meet.data.toList.drop 48 = dktX5_meet_2 := dk_seg dksX5_meet_1 24 rfl rfl
theorem dksX5_meet_3 : cX5_meet.data.toList.drop 72 = dktX5_meet_3 := dk_seg dksX5_meet_2 24 rfl rfl
theorem dX5_meet_0 : decode cX5_meet 0 = .ok (.aload_n 0, 1) := dk_42 (dk_at dksX5_meet_0 0 rfl rfl)
theorem dX5_meet_1 : decode cX5_meet 1 = .ok (.getfield 19, 3) := dk_180 0 19 (dk_at dksX5_meet_0 1 rfl rfl)
theorem dX5_meet_4 : decode cX5_meet 4 = .ok (.iload_n 1, 1) := dk_27 (dk_at dksX5_meet_0 4 rfl rfl)
theorem dX5_meet_5 : decode cX5_meet 5 = .ok (.iaload, 1) := dk_46 (dk_at dksX5_meet_0 5 rfl rfl)
theorem dX5_meet_6 : decode cX5_meet 6 = .ok (.aload_n 0, 1) := dk_42 (dk_at dksX5_meet_0 6 rfl rfl)
theorem dX5_meet_7 : decode cX5_meet 7 = .ok (.getfield 19, 3) := dk_180 0 19 (dk_at dksX5_meet_0 7 rfl rfl)
theorem dX5_meet_10 : decode cX5_meet 10 = .ok (.iload_n 2, 1) := dk_28 (dk_at dksX5_meet_0 10 rfl rfl)
theorem dX5_meet_11 : decode cX5_meet 11 = .ok (.iaload, 1) := dk_46 (dk_at dksX5_meet_0 11 rfl rfl)
theorem dX5_meet_12 : decode cX5_meet 12 = .ok (.isub, 1) := dk_100 (dk_at dksX5_meet_0 12 rfl rfl)
theorem dX5_meet_13 : decode cX5_meet 13 = .ok (.invokestatic 78, 3) := dk_184 0 78 (dk_at dksX5_meet_0 13 rfl rfl)
theorem dX5_meet_16 : decode cX5_meet 16 = .ok (.iconst 1, 1) := dk_4 (dk_at dksX5_meet_0 16 rfl rfl)
theorem dX5_meet_17 : decode cX5_meet 17 = .ok (.if_icmp .ne 7, 3) := dk_160 0 7 (dk_at dksX5_meet_0 17 rfl rfl)
theorem dX5_meet_20 : decode cX5_meet 20 = .ok (.iconst 1, 1) := dk_4 (dk_at dksX5_meet_0 20 rfl rfl)
theorem dX5_meet_21 : decode cX5_meet 21 = .ok (.goto 4, 3) := dk_167 0 4 (dk_at dksX5_meet_0 21 rfl rfl)
theorem dX5_meet_24 : decode cX5_meet 24 = .ok (.iconst 0, 1) := dk_3 (dk_at dksX5_meet_1 0 rfl rfl)
theorem dX5_meet_25 : decode cX5_meet 25 = .ok (.istore 4, 2) := dk_54 4 (dk_at dksX5_meet_1 1 rfl rfl)
theorem dX5_meet_27 : decode cX5_meet 27 = .ok (.iload 4, 2) := dk_21 4 (dk_at dksX5_meet_1 3 rfl rfl)
theorem dX5_meet_29 : decode cX5_meet 29 = .ok (.ifCond .eq 55, 3) := dk_153 0 55 (dk_at dksX5_meet_1 5 rfl rfl)
theorem dX5_meet_32 : decode cX5_meet 32 = .ok (.aload_n 0, 1) := dk_42 (dk_at dksX5_meet_1 8 rfl rfl)
theorem dX5_meet_33 : decode cX5_meet 33 = .ok (.getfield 3, 3) := dk_180 0 3 (dk_at dksX5_meet_1 9 rfl rfl)
theorem dX5_meet_36 : decode cX5_meet 36 = .ok (.aload_n 0, 1) := dk_42 (dk_at dksX5_meet_1 12 rfl rfl)
theorem dX5_meet_37 : decode cX5_meet 37 = .ok (.getfield 19, 3) := dk_180 0 19 (dk_at dksX5_meet_1 13 rfl rfl)
theorem dX5_meet_40 : decode cX5_meet 40 = .ok (.iload_n 1, 1) := dk_27 (dk_at dksX5_meet_1 16 rfl rfl)
theorem dX5_meet_41 : decode cX5_meet 41 = .ok (.iaload, 1) := dk_46 (dk_at dksX5_meet_1 17 rfl rfl)
theorem dX5_meet_42 : decode cX5_meet 42 = .ok (.aload_n 0, 1) := dk_42 (dk_at dksX5_meet_1 18 rfl rfl)
theorem dX5_meet_43 : decode cX5_meet 43 = .ok (.getfield 19, 3) := dk_180 0 19 (dk_at dksX5_meet_1 19 rfl rfl)
theorem dX5_meet_46 : decode cX5_meet 46 = .ok (.iload_n 2, 1) := dk_28 (dk_at dksX5_meet_1 22 rfl rfl)
theorem dX5_meet_47 : decode cX5_meet 47 = .ok (.iaload, 1) := dk_46 (dk_at dksX5_meet_1 23 rfl rfl)
theorem dX5_meet_48 : decode cX5_meet 48 = .ok (.invokestatic 84, 3) := dk_184 0 84 (dk_at dksX5_meet_2 0 rfl rfl)
theorem dX5_meet_51 : decode cX5_meet 51 = .ok (.iload_n 3, 1) := dk_29 (dk_at dksX5_meet_2 3 rfl rfl)
theorem dX5_meet_52 : decode cX5_meet 52 = .ok (.invokevirtual 87, 3) := dk_182 0 87 (dk_at dksX5_meet_2 4 rfl rfl)
theorem dX5_meet_55 : decode cX5_meet 55 = .ok (.ifCond .eq 29, 3) := dk_153 0 29 (dk_at dksX5_meet_2 7 rfl rfl)
theorem dX5_meet_58 : decode cX5_meet 58 = .ok (.aload_n 0, 1) := dk_42 (dk_at dksX5_meet_2 10 rfl rfl)
theorem dX5_meet_59 : decode cX5_meet 59 = .ok (.getfield 22, 3) := dk_180 0 22 (dk_at dksX5_meet_2 11 rfl rfl)
theorem dX5_meet_62 : decode cX5_meet 62 = .ok (.iload_n 1, 1) := dk_27 (dk_at dksX5_meet_2 14 rfl rfl)
theorem dX5_meet_63 : decode cX5_meet 63 = .ok (.iaload, 1) := dk_46 (dk_at dksX5_meet_2 15 rfl rfl)
theorem dX5_meet_64 : decode cX5_meet 64 = .ok (.aload_n 0, 1) := dk_42 (dk_at dksX5_meet_2 16 rfl rfl)
theorem dX5_meet_65 : decode cX5_meet 65 = .ok (.getfield 3, 3) := dk_180 0 3 (dk_at dksX5_meet_2 17 rfl rfl)
theorem dX5_meet_68 : decode cX5_meet 68 = .ok (.aload_n 0, 1) := dk_42 (dk_at dksX5_meet_2 20 rfl rfl)
theorem dX5_meet_69 : decode cX5_meet 69 = .ok (.getfield 22, 3) := dk_180 0 22 (dk_at dksX5_meet_2 21 rfl rfl)
theorem dX5_meet_72 : decode cX5_meet 72 = .ok (.iload_n 2, 1) := dk_28 (dk_at dksX5_meet_3 0 rfl rfl)
theorem dX5_meet_73 : decode cX5_meet 73 = .ok (.iaload, 1) := dk_46 (dk_at dksX5_meet_3 1 rfl rfl)
theorem dX5_meet_74 : decode cX5_meet 74 = .ok (.invokevirtual 90, 3) := dk_182 0 90 (dk_at dksX5_meet_3 2 rfl rfl)
theorem dX5_meet_77 : decode cX5_meet 77 = .ok (.if_icmp .ne 7, 3) := dk_160 0 7 (dk_at dksX5_meet_3 5 rfl rfl)
theorem dX5_meet_80 : decode cX5_meet 80 = .ok (.iconst 1, 1) := dk_4 (dk_at dksX5_meet_3 8 rfl rfl)
theorem dX5_meet_81 : decode cX5_meet 81 = .ok (.goto 4, 3) := dk_167 0 4 (dk_at dksX5_meet_3 9 rfl rfl)
theorem dX5_meet_84 : decode cX5_meet 84 = .ok (.iconst 0, 1) := dk_3 (dk_at dksX5_meet_3 12 rfl rfl)
theorem dX5_meet_85 : decode cX5_meet 85 = .ok (.ireturn, 1) := dk_172 (dk_at dksX5_meet_3 13 rfl rfl)
abbrev cX5_purses : ByteArray := prog_16_method_15_code
def yX5_purses : MethodName := ⟨RX5, "purses", "()I"⟩
def dkwX5_purses_1 : List UInt8 := [132, 2, 1, 167, 255, 233, 27, 172]
abbrev dktX5_purses_1 : List UInt8 := dkwX5_purses_1 ++ []
def dkwX5_purses_0 : List UInt8 := [3, 60, 3, 61, 28, 42, 180, 0, 3, 182, 0, 53, 162, 0, 18, 27, 42, 180, 0, 25, 28, 46, 96, 60]
abbrev dktX5_purses_0 : List UInt8 := dkwX5_purses_0 ++ dktX5_purses_1
theorem dksX5_purses_0 : cX5_purses.data.toList.drop 0 = dktX5_purses_0 := by decide +kernel
theorem dksX5_purses_1 : cX5_purses.data.toList.drop 24 = dktX5_purses_1 := dk_seg dksX5_purses_0 24 rfl rfl
theorem dX5_purses_0 : decode cX5_purses 0 = .ok (.iconst 0, 1) := dk_3 (dk_at dksX5_purses_0 0 rfl rfl)
theorem dX5_purses_1 : decode cX5_purses 1 = .ok (.istore_n 1, 1) := dk_60 (dk_at dksX5_purses_0 1 rfl rfl)
theorem dX5_purses_2 : decode cX5_purses 2 = .ok (.iconst 0, 1) := dk_3 (dk_at dksX5_purses_0 2 rfl rfl)
theorem dX5_purses_3 : decode cX5_purses 3 = .ok (.istore_n 2, 1) := dk_61 (dk_at dksX5_purses_0 3 rfl rfl)
theorem dX5_purses_4 : decode cX5_purses 4 = .ok (.iload_n 2, 1) := dk_28 (dk_at dksX5_purses_0 4 rfl rfl)
theorem dX5_purses_5 : decode cX5_purses 5 = .ok (.aload_n 0, 1) := dk_42 (dk_at dksX5_purses_0 5 rfl rfl)
theorem dX5_purses_6 : decode cX5_purses 6 = .ok (.getfield 3, 3) := dk_180 0 3 (dk_at dksX5_purses_0 6 rfl rfl)
theorem dX5_purses_9 : decode cX5_purses 9 = .ok (.invokevirtual 53, 3) := dk_182 0 53 (dk_at dksX5_purses_0 9 rfl rfl)
theorem dX5_purses_12 : decode cX5_purses 12 = .ok (.if_icmp .ge 18, 3) := dk_162 0 18 (dk_at dksX5_purses_0 12 rfl rfl)
theorem dX5_purses_15 : decode cX5_purses 15 = .ok (.iload_n 1, 1) := dk_27 (dk_at dksX5_purses_0 15 rfl rfl)
theorem dX5_purses_16 : decode cX5_purses 16 = .ok (.aload_n 0, 1) := dk_42 (dk_at dksX5_purses_0 16 rfl rfl)
theorem dX5_purses_17 : decode cX5_purses 17 = .ok (.getfield 25, 3) := dk_180 0 25 (dk_at dksX5_purses_0 17 rfl rfl)
theorem dX5_purses_20 : decode cX5_purses 20 = .ok (.iload_n 2, 1) := dk_28 (dk_at dksX5_purses_0 20 rfl rfl)
theorem dX5_purses_21 : decode cX5_purses 21 = .ok (.iaload, 1) := dk_46 (dk_at dksX5_purses_0 21 rfl rfl)
theorem dX5_purses_22 : decode cX5_purses 22 = .ok (.iadd, 1) := dk_96 (dk_at dksX5_purses_0 22 rfl rfl)
theorem dX5_purses_23 : decode cX5_purses 23 = .ok (.istore_n 1, 1) := dk_60 (dk_at dksX5_purses_0 23 rfl rfl)
theorem dX5_purses_24 : decode cX5_purses 24 = .ok (.iinc 2 1, 3) := dk_132 2 1 (dk_at dksX5_purses_1 0 rfl rfl)
theorem dX5_purses_27 : decode cX5_purses 27 = .ok (.goto (-23), 3) := dk_167 255 233 (dk_at dksX5_purses_1 3 rfl rfl)
theorem dX5_purses_30 : decode cX5_purses 30 = .ok (.iload_n 1, 1) := dk_27 (dk_at dksX5_purses_1 6 rfl rfl)
theorem dX5_purses_31 : decode cX5_purses 31 = .ok (.ireturn, 1) := dk_172 (dk_at dksX5_purses_1 7 rfl rfl)
abbrev cX5_who : ByteArray := prog_16_method_4_code
def yX5_who : MethodName := ⟨RX5, "who", "(II)I"⟩
def dkwX5_who_1 : List UInt8 := [180, 0, 22, 29, 46, 28, 160, 0, 5, 29, 172, 132, 3, 1, 167, 255, 220, 2, 172]
abbrev dktX5_who_1 : List UInt8 := dkwX5_who_1 ++ []
def dkwX5_who_0 : List UInt8 := [3, 62, 29, 42, 180, 0, 3, 182, 0, 53, 162, 0, 31, 42, 180, 0, 19, 29, 46, 27, 160, 0, 15, 42]
abbrev dktX5_who_0 : List UInt8 := dkwX5_who_0 ++ dktX5_who_1
theorem dksX5_who_0 : cX5_who.data.toList.drop 0 = dktX5_who_0 := by decide +kernel
theorem dksX5_who_1 : cX5_who.data.toList.drop 24 = dktX5_who_1 := dk_seg dksX5_who_0 24 rfl rfl
theorem dX5_who_0 : decode cX5_who 0 = .ok (.iconst 0, 1) := dk_3 (dk_at dksX5_who_0 0 rfl rfl)
theorem dX5_who_1 : decode cX5_who 1 = .ok (.istore_n 3, 1) := dk_62 (dk_at dksX5_who_0 1 rfl rfl)
theorem dX5_who_2 : decode cX5_who 2 = .ok (.iload_n 3, 1) := dk_29 (dk_at dksX5_who_0 2 rfl rfl)
theorem dX5_who_3 : decode cX5_who 3 = .ok (.aload_n 0, 1) := dk_42 (dk_at dksX5_who_0 3 rfl rfl)
theorem dX5_who_4 : decode cX5_who 4 = .ok (.getfield 3, 3) := dk_180 0 3 (dk_at dksX5_who_0 4 rfl rfl)
theorem dX5_who_7 : decode cX5_who 7 = .ok (.invokevirtual 53, 3) := dk_182 0 53 (dk_at dksX5_who_0 7 rfl rfl)
theorem dX5_who_10 : decode cX5_who 10 = .ok (.if_icmp .ge 31, 3) := dk_162 0 31 (dk_at dksX5_who_0 10 rfl rfl)
theorem dX5_who_13 : decode cX5_who 13 = .ok (.aload_n 0, 1) := dk_42 (dk_at dksX5_who_0 13 rfl rfl)
theorem dX5_who_14 : decode cX5_who 14 = .ok (.getfield 19, 3) := dk_180 0 19 (dk_at dksX5_who_0 14 rfl rfl)
theorem dX5_who_17 : decode cX5_who 17 = .ok (.iload_n 3, 1) := dk_29 (dk_at dksX5_who_0 17 rfl rfl)
theorem dX5_who_18 : decode cX5_who 18 = .ok (.iaload, 1) := dk_46 (dk_at dksX5_who_0 18 rfl rfl)
theorem dX5_who_19 : decode cX5_who 19 = .ok (.iload_n 1, 1) := dk_27 (dk_at dksX5_who_0 19 rfl rfl)
theorem dX5_who_20 : decode cX5_who 20 = .ok (.if_icmp .ne 15, 3) := dk_160 0 15 (dk_at dksX5_who_0 20 rfl rfl)
theorem dX5_who_23 : decode cX5_who 23 = .ok (.aload_n 0, 1) := dk_42 (dk_at dksX5_who_0 23 rfl rfl)
theorem dX5_who_24 : decode cX5_who 24 = .ok (.getfield 22, 3) := dk_180 0 22 (dk_at dksX5_who_1 0 rfl rfl)
theorem dX5_who_27 : decode cX5_who 27 = .ok (.iload_n 3, 1) := dk_29 (dk_at dksX5_who_1 3 rfl rfl)
theorem dX5_who_28 : decode cX5_who 28 = .ok (.iaload, 1) := dk_46 (dk_at dksX5_who_1 4 rfl rfl)
theorem dX5_who_29 : decode cX5_who 29 = .ok (.iload_n 2, 1) := dk_28 (dk_at dksX5_who_1 5 rfl rfl)
theorem dX5_who_30 : decode cX5_who 30 = .ok (.if_icmp .ne 5, 3) := dk_160 0 5 (dk_at dksX5_who_1 6 rfl rfl)
theorem dX5_who_33 : decode cX5_who 33 = .ok (.iload_n 3, 1) := dk_29 (dk_at dksX5_who_1 9 rfl rfl)
theorem dX5_who_34 : decode cX5_who 34 = .ok (.ireturn, 1) := dk_172 (dk_at dksX5_who_1 10 rfl rfl)
theorem dX5_who_35 : decode cX5_who 35 = .ok (.iinc 3 1, 3) := dk_132 3 1 (dk_at dksX5_who_1 11 rfl rfl)
theorem dX5_who_38 : decode cX5_who 38 = .ok (.goto (-36), 3) := dk_167 255 220 (dk_at dksX5_who_1 14 rfl rfl)
theorem dX5_who_41 : decode cX5_who 41 = .ok (.iconst (-1), 1) := dk_2 (dk_at dksX5_who_1 17 rfl rfl)
theorem dX5_who_42 : decode cX5_who 42 = .ok (.ireturn, 1) := dk_172 (dk_at dksX5_who_1 18 rfl rfl)
abbrev cX5_pairs : ByteArray := prog_16_method_7_code
def yX5_pairs : MethodName := ⟨RX5, "pairs", "(I)I"⟩
def dkwX5_pairs_2 : List UInt8 := [167, 0, 4, 3, 96, 61, 132, 4, 1, 167, 255, 222, 132, 3, 1, 167, 255, 200, 28, 172]
abbrev dktX5_pairs_2 : List UInt8 := dkwX5_pairs_2 ++ []
def dkwX5_pairs_1 : List UInt8 := [180, 0, 3, 182, 0, 53, 162, 0, 28, 28, 42, 29, 21, 4, 27, 182, 0, 93, 153, 0, 7, 4]
abbrev dktX5_pairs_1 : List UInt8 := dkwX5_pairs_1 ++ dktX5_pairs_2
def dkwX5_pairs_0 : List UInt8 := [3, 61, 3, 62, 29, 42, 180, 0, 3, 182, 0, 53, 162, 0, 51, 29, 4, 96, 54, 4, 21, 4, 42]
abbrev dktX5_pairs_0 : List UInt8 := dkwX5_pairs_0 ++ dktX5_pairs_1
theorem dksX5_pairs_0 : cX5_pairs.data.toList.drop 0 = dktX5_pairs_0 := by decide +kernel
theorem dksX5_pairs_1 : cX5_pairs.data.toList.drop 23 = dktX5_pairs_1 := dk_seg dksX5_pairs_0 23 rfl rfl
theorem dksX5_pairs_2 : cX5_pairs.data.toList.drop 45 = dktX5_pairs_2 := dk_seg dksX5_pairs_1 22 rfl rfl
theorem dX5_pairs_0 : decode cX5_pairs 0 = .ok (.iconst 0, 1) := dk_3 (dk_at dksX5_pairs_0 0 rfl rfl)
theorem dX5_pairs_1 : decode cX5_pairs 1 = .ok (.istore_n 2, 1) := dk_61 (dk_at dksX5_pairs_0 1 rfl rfl)
theorem dX5_pairs_2 : decode cX5_pairs 2 = .ok (.iconst 0, 1) := dk_3 (dk_at dksX5_pairs_0 2 rfl rfl)
theorem dX5_pairs_3 : decode cX5_pairs 3 = .ok (.istore_n 3, 1) := dk_62 (dk_at dksX5_pairs_0 3 rfl rfl)
theorem dX5_pairs_4 : decode cX5_pairs 4 = .ok (.iload_n 3, 1) := dk_29 (dk_at dksX5_pairs_0 4 rfl rfl)
theorem dX5_pairs_5 : decode cX5_pairs 5 = .ok (.aload_n 0, 1) := dk_42 (dk_at dksX5_pairs_0 5 rfl rfl)
theorem dX5_pairs_6 : decode cX5_pairs 6 = .ok (.getfield 3, 3) := dk_180 0 3 (dk_at dksX5_pairs_0 6 rfl rfl)
theorem dX5_pairs_9 : decode cX5_pairs 9 = .ok (.invokevirtual 53, 3) := dk_182 0 53 (dk_at dksX5_pairs_0 9 rfl rfl)
theorem dX5_pairs_12 : decode cX5_pairs 12 = .ok (.if_icmp .ge 51, 3) := dk_162 0 51 (dk_at dksX5_pairs_0 12 rfl rfl)
theorem dX5_pairs_15 : decode cX5_pairs 15 = .ok (.iload_n 3, 1) := dk_29 (dk_at dksX5_pairs_0 15 rfl rfl)
theorem dX5_pairs_16 : decode cX5_pairs 16 = .ok (.iconst 1, 1) := dk_4 (dk_at dksX5_pairs_0 16 rfl rfl)
theorem dX5_pairs_17 : decode cX5_pairs 17 = .ok (.iadd, 1) := dk_96 (dk_at dksX5_pairs_0 17 rfl rfl)
theorem dX5_pairs_18 : decode cX5_pairs 18 = .ok (.istore 4, 2) := dk_54 4 (dk_at dksX5_pairs_0 18 rfl rfl)
theorem dX5_pairs_20 : decode cX5_pairs 20 = .ok (.iload 4, 2) := dk_21 4 (dk_at dksX5_pairs_0 20 rfl rfl)
theorem dX5_pairs_22 : decode cX5_pairs 22 = .ok (.aload_n 0, 1) := dk_42 (dk_at dksX5_pairs_0 22 rfl rfl)
theorem dX5_pairs_23 : decode cX5_pairs 23 = .ok (.getfield 3, 3) := dk_180 0 3 (dk_at dksX5_pairs_1 0 rfl rfl)
theorem dX5_pairs_26 : decode cX5_pairs 26 = .ok (.invokevirtual 53, 3) := dk_182 0 53 (dk_at dksX5_pairs_1 3 rfl rfl)
theorem dX5_pairs_29 : decode cX5_pairs 29 = .ok (.if_icmp .ge 28, 3) := dk_162 0 28 (dk_at dksX5_pairs_1 6 rfl rfl)
theorem dX5_pairs_32 : decode cX5_pairs 32 = .ok (.iload_n 2, 1) := dk_28 (dk_at dksX5_pairs_1 9 rfl rfl)
theorem dX5_pairs_33 : decode cX5_pairs 33 = .ok (.aload_n 0, 1) := dk_42 (dk_at dksX5_pairs_1 10 rfl rfl)
theorem dX5_pairs_34 : decode cX5_pairs 34 = .ok (.iload_n 3, 1) := dk_29 (dk_at dksX5_pairs_1 11 rfl rfl)
theorem dX5_pairs_35 : decode cX5_pairs 35 = .ok (.iload 4, 2) := dk_21 4 (dk_at dksX5_pairs_1 12 rfl rfl)
theorem dX5_pairs_37 : decode cX5_pairs 37 = .ok (.iload_n 1, 1) := dk_27 (dk_at dksX5_pairs_1 14 rfl rfl)
theorem dX5_pairs_38 : decode cX5_pairs 38 = .ok (.invokevirtual 93, 3) := dk_182 0 93 (dk_at dksX5_pairs_1 15 rfl rfl)
theorem dX5_pairs_41 : decode cX5_pairs 41 = .ok (.ifCond .eq 7, 3) := dk_153 0 7 (dk_at dksX5_pairs_1 18 rfl rfl)
theorem dX5_pairs_44 : decode cX5_pairs 44 = .ok (.iconst 1, 1) := dk_4 (dk_at dksX5_pairs_1 21 rfl rfl)
theorem dX5_pairs_45 : decode cX5_pairs 45 = .ok (.goto 4, 3) := dk_167 0 4 (dk_at dksX5_pairs_2 0 rfl rfl)
theorem dX5_pairs_48 : decode cX5_pairs 48 = .ok (.iconst 0, 1) := dk_3 (dk_at dksX5_pairs_2 3 rfl rfl)
theorem dX5_pairs_49 : decode cX5_pairs 49 = .ok (.iadd, 1) := dk_96 (dk_at dksX5_pairs_2 4 rfl rfl)
theorem dX5_pairs_50 : decode cX5_pairs 50 = .ok (.istore_n 2, 1) := dk_61 (dk_at dksX5_pairs_2 5 rfl rfl)
theorem dX5_pairs_51 : decode cX5_pairs 51 = .ok (.iinc 4 1, 3) := dk_132 4 1 (dk_at dksX5_pairs_2 6 rfl rfl)
theorem dX5_pairs_54 : decode cX5_pairs 54 = .ok (.goto (-34), 3) := dk_167 255 222 (dk_at dksX5_pairs_2 9 rfl rfl)
theorem dX5_pairs_57 : decode cX5_pairs 57 = .ok (.iinc 3 1, 3) := dk_132 3 1 (dk_at dksX5_pairs_2 12 rfl rfl)
theorem dX5_pairs_60 : decode cX5_pairs 60 = .ok (.goto (-56), 3) := dk_167 255 200 (dk_at dksX5_pairs_2 15 rfl rfl)
theorem dX5_pairs_63 : decode cX5_pairs 63 = .ok (.iload_n 2, 1) := dk_28 (dk_at dksX5_pairs_2 18 rfl rfl)
theorem dX5_pairs_64 : decode cX5_pairs 64 = .ok (.ireturn, 1) := dk_172 (dk_at dksX5_pairs_2 19 rfl rfl)
abbrev cX5_copy : ByteArray := prog_16_method_3_code
def yX5_copy : MethodName := ⟨RX5, "copy", "(LMarginFolk$State;)LMarginFolk$State;"⟩
def dkwX5_copy_6 : List UInt8 := [28, 50, 29, 46, 79, 132, 3, 1, 167, 255, 232, 132, 2, 1, 167, 255, 216, 42, 176]
abbrev dktX5_copy_6 : List UInt8 := dkwX5_copy_6 ++ []
def dkwX5_copy_5 : List UInt8 := [180, 0, 43, 162, 0, 38, 3, 62, 29, 6, 162, 0, 25, 42, 180, 0, 33, 28, 50, 29, 43, 180, 0, 33]
abbrev dktX5_copy_5 : List UInt8 := dkwX5_copy_5 ++ dktX5_copy_6
def dkwX5_copy_4 : List UInt8 := [43, 180, 0, 28, 28, 46, 79, 42, 180, 0, 36, 28, 3, 79, 132, 2, 1, 167, 255, 192, 3, 61, 28, 42]
abbrev dktX5_copy_4 : List UInt8 := dkwX5_copy_4 ++ dktX5_copy_5
def dkwX5_copy_3 : List UInt8 := [43, 180, 0, 22, 28, 46, 79, 42, 180, 0, 25, 28, 43, 180, 0, 25, 28, 46, 79, 42, 180, 0, 28, 28]
abbrev dktX5_copy_3 : List UInt8 := dkwX5_copy_3 ++ dktX5_copy_4
def dkwX5_copy_2 : List UInt8 := [61, 28, 16, 8, 162, 0, 64, 42, 180, 0, 19, 28, 43, 180, 0, 19, 28, 46, 79, 42, 180, 0, 22, 28]
abbrev dktX5_copy_2 : List UInt8 := dkwX5_copy_2 ++ dktX5_copy_3
def dkwX5_copy_1 : List UInt8 := [16, 6, 162, 0, 21, 42, 180, 0, 15, 28, 43, 180, 0, 15, 28, 46, 79, 132, 2, 1, 167, 255, 235, 3]
abbrev dktX5_copy_1 : List UInt8 := dkwX5_copy_1 ++ dktX5_copy_2
def dkwX5_copy_0 : List UInt8 := [42, 43, 180, 0, 39, 181, 0, 39, 42, 43, 180, 0, 43, 181, 0, 43, 42, 3, 181, 0, 67, 3, 61, 28]
abbrev dktX5_copy_0 : List UInt8 := dkwX5_copy_0 ++ dktX5_copy_1
theorem dksX5_copy_0 : cX5_copy.data.toList.drop 0 = dktX5_copy_0 := by decide +kernel
theorem dksX5_copy_1 : cX5_copy.data.toList.drop 24 = dktX5_copy_1 := dk_seg dksX5_copy_0 24 rfl rfl
theorem dksX5_copy_2 : cX5_copy.data.toList.drop 48 = dktX5_copy_2 := dk_seg dksX5_copy_1 24 rfl rfl
theorem dksX5_copy_3 : cX5_copy.data.toList.drop 72 = dktX5_copy_3 := dk_seg dksX5_copy_2 24 rfl rfl
theorem dksX5_copy_4 : cX5_copy.data.toList.drop 96 = dktX5_copy_4 := dk_seg dksX5_copy_3 24 rfl rfl
theorem dksX5_copy_5 : cX5_copy.data.toList.drop 120 = dktX5_copy_5 := dk_seg dksX5_copy_4 24 rfl rfl
theorem dksX5_copy_6 : cX5_copy.data.toList.drop 144 = dktX5_copy_6 := dk_seg dksX5_copy_5 24 rfl rfl
theorem dX5_copy_0 : decode cX5_copy 0 = .ok (.aload_n 0, 1) := dk_42 (dk_at dksX5_copy_0 0 rfl rfl)
theorem dX5_copy_1 : decode cX5_copy 1 = .ok (.aload_n 1, 1) := dk_43 (dk_at dksX5_copy_0 1 rfl rfl)
theorem dX5_copy_2 : decode cX5_copy 2 = .ok (.getfield 39, 3) := dk_180 0 39 (dk_at dksX5_copy_0 2 rfl rfl)
theorem dX5_copy_5 : decode cX5_copy 5 = .ok (.putfield 39, 3) := dk_181 0 39 (dk_at dksX5_copy_0 5 rfl rfl)
theorem dX5_copy_8 : decode cX5_copy 8 = .ok (.aload_n 0, 1) := dk_42 (dk_at dksX5_copy_0 8 rfl rfl)
theorem dX5_copy_9 : decode cX5_copy 9 = .ok (.aload_n 1, 1) := dk_43 (dk_at dksX5_copy_0 9 rfl rfl)
theorem dX5_copy_10 : decode cX5_copy 10 = .ok (.getfield 43, 3) := dk_180 0 43 (dk_at dksX5_copy_0 10 rfl rfl)
theorem dX5_copy_13 : decode cX5_copy 13 = .ok (.putfield 43, 3) := dk_181 0 43 (dk_at dksX5_copy_0 13 rfl rfl)
theorem dX5_copy_16 : decode cX5_copy 16 = .ok (.aload_n 0, 1) := dk_42 (dk_at dksX5_copy_0 16 rfl rfl)
theorem dX5_copy_17 : decode cX5_copy 17 = .ok (.iconst 0, 1) := dk_3 (dk_at dksX5_copy_0 17 rfl rfl)
theorem dX5_copy_18 : decode cX5_copy 18 = .ok (.putfield 67, 3) := dk_181 0 67 (dk_at dksX5_copy_0 18 rfl rfl)
theorem dX5_copy_21 : decode cX5_copy 21 = .ok (.iconst 0, 1) := dk_3 (dk_at dksX5_copy_0 21 rfl rfl)
theorem dX5_copy_22 : decode cX5_copy 22 = .ok (.istore_n 2, 1) := dk_61 (dk_at dksX5_copy_0 22 rfl rfl)
theorem dX5_copy_23 : decode cX5_copy 23 = .ok (.iload_n 2, 1) := dk_28 (dk_at dksX5_copy_0 23 rfl rfl)
theorem dX5_copy_24 : decode cX5_copy 24 = .ok (.bipush 6, 2) := dk_16 6 (dk_at dksX5_copy_1 0 rfl rfl)
theorem dX5_copy_26 : decode cX5_copy 26 = .ok (.if_icmp .ge 21, 3) := dk_162 0 21 (dk_at dksX5_copy_1 2 rfl rfl)
theorem dX5_copy_29 : decode cX5_copy 29 = .ok (.aload_n 0, 1) := dk_42 (dk_at dksX5_copy_1 5 rfl rfl)
theorem dX5_copy_30 : decode cX5_copy 30 = .ok (.getfield 15, 3) := dk_180 0 15 (dk_at dksX5_copy_1 6 rfl rfl)
theorem dX5_copy_33 : decode cX5_copy 33 = .ok (.iload_n 2, 1) := dk_28 (dk_at dksX5_copy_1 9 rfl rfl)
theorem dX5_copy_34 : decode cX5_copy 34 = .ok (.aload_n 1, 1) := dk_43 (dk_at dksX5_copy_1 10 rfl rfl)
theorem dX5_copy_35 : decode cX5_copy 35 = .ok (.getfield 15, 3) := dk_180 0 15 (dk_at dksX5_copy_1 11 rfl rfl)
theorem dX5_copy_38 : decode cX5_copy 38 = .ok (.iload_n 2, 1) := dk_28 (dk_at dksX5_copy_1 14 rfl rfl)
theorem dX5_copy_39 : decode cX5_copy 39 = .ok (.iaload, 1) := dk_46 (dk_at dksX5_copy_1 15 rfl rfl)
theorem dX5_copy_40 : decode cX5_copy 40 = .ok (.iastore, 1) := dk_79 (dk_at dksX5_copy_1 16 rfl rfl)
theorem dX5_copy_41 : decode cX5_copy 41 = .ok (.iinc 2 1, 3) := dk_132 2 1 (dk_at dksX5_copy_1 17 rfl rfl)
theorem dX5_copy_44 : decode cX5_copy 44 = .ok (.goto (-21), 3) := dk_167 255 235 (dk_at dksX5_copy_1 20 rfl rfl)
theorem dX5_copy_47 : decode cX5_copy 47 = .ok (.iconst 0, 1) := dk_3 (dk_at dksX5_copy_1 23 rfl rfl)
theorem dX5_copy_48 : decode cX5_copy 48 = .ok (.istore_n 2, 1) := dk_61 (dk_at dksX5_copy_2 0 rfl rfl)
theorem dX5_copy_49 : decode cX5_copy 49 = .ok (.iload_n 2, 1) := dk_28 (dk_at dksX5_copy_2 1 rfl rfl)
theorem dX5_copy_50 : decode cX5_copy 50 = .ok (.bipush 8, 2) := dk_16 8 (dk_at dksX5_copy_2 2 rfl rfl)
theorem dX5_copy_52 : decode cX5_copy 52 = .ok (.if_icmp .ge 64, 3) := dk_162 0 64 (dk_at dksX5_copy_2 4 rfl rfl)
theorem dX5_copy_55 : decode cX5_copy 55 = .ok (.aload_n 0, 1) := dk_42 (dk_at dksX5_copy_2 7 rfl rfl)
theorem dX5_copy_56 : decode cX5_copy 56 = .ok (.getfield 19, 3) := dk_180 0 19 (dk_at dksX5_copy_2 8 rfl rfl)
theorem dX5_copy_59 : decode cX5_copy 59 = .ok (.iload_n 2, 1) := dk_28 (dk_at dksX5_copy_2 11 rfl rfl)
theorem dX5_copy_60 : decode cX5_copy 60 = .ok (.aload_n 1, 1) := dk_43 (dk_at dksX5_copy_2 12 rfl rfl)
theorem dX5_copy_61 : decode cX5_copy 61 = .ok (.getfield 19, 3) := dk_180 0 19 (dk_at dksX5_copy_2 13 rfl rfl)
theorem dX5_copy_64 : decode cX5_copy 64 = .ok (.iload_n 2, 1) := dk_28 (dk_at dksX5_copy_2 16 rfl rfl)
theorem dX5_copy_65 : decode cX5_copy 65 = .ok (.iaload, 1) := dk_46 (dk_at dksX5_copy_2 17 rfl rfl)
theorem dX5_copy_66 : decode cX5_copy 66 = .ok (.iastore, 1) := dk_79 (dk_at dksX5_copy_2 18 rfl rfl)
theorem dX5_copy_67 : decode cX5_copy 67 = .ok (.aload_n 0, 1) := dk_42 (dk_at dksX5_copy_2 19 rfl rfl)
theorem dX5_copy_68 : decode cX5_copy 68 = .ok (.getfield 22, 3) := dk_180 0 22 (dk_at dksX5_copy_2 20 rfl rfl)
theorem dX5_copy_71 : decode cX5_copy 71 = .ok (.iload_n 2, 1) := dk_28 (dk_at dksX5_copy_2 23 rfl rfl)
theorem dX5_copy_72 : decode cX5_copy 72 = .ok (.aload_n 1, 1) := dk_43 (dk_at dksX5_copy_3 0 rfl rfl)
theorem dX5_copy_73 : decode cX5_copy 73 = .ok (.getfield 22, 3) := dk_180 0 22 (dk_at dksX5_copy_3 1 rfl rfl)
theorem dX5_copy_76 : decode cX5_copy 76 = .ok (.iload_n 2, 1) := dk_28 (dk_at dksX5_copy_3 4 rfl rfl)
theorem dX5_copy_77 : decode cX5_copy 77 = .ok (.iaload, 1) := dk_46 (dk_at dksX5_copy_3 5 rfl rfl)
theorem dX5_copy_78 : decode cX5_copy 78 = .ok (.iastore, 1) := dk_79 (dk_at dksX5_copy_3 6 rfl rfl)
theorem dX5_copy_79 : decode cX5_copy 79 = .ok (.aload_n 0, 1) := dk_42 (dk_at dksX5_copy_3 7 rfl rfl)
theorem dX5_copy_80 : decode cX5_copy 80 = .ok (.getfield 25, 3) := dk_180 0 25 (dk_at dksX5_copy_3 8 rfl rfl)
theorem dX5_copy_83 : decode cX5_copy 83 = .ok (.iload_n 2, 1) := dk_28 (dk_at dksX5_copy_3 11 rfl rfl)
theorem dX5_copy_84 : decode cX5_copy 84 = .ok (.aload_n 1, 1) := dk_43 (dk_at dksX5_copy_3 12 rfl rfl)
theorem dX5_copy_85 : decode cX5_copy 85 = .ok (.getfield 25, 3) := dk_180 0 25 (dk_at dksX5_copy_3 13 rfl rfl)
theorem dX5_copy_88 : decode cX5_copy 88 = .ok (.iload_n 2, 1) := dk_28 (dk_at dksX5_copy_3 16 rfl rfl)
theorem dX5_copy_89 : decode cX5_copy 89 = .ok (.iaload, 1) := dk_46 (dk_at dksX5_copy_3 17 rfl rfl)
theorem dX5_copy_90 : decode cX5_copy 90 = .ok (.iastore, 1) := dk_79 (dk_at dksX5_copy_3 18 rfl rfl)
theorem dX5_copy_91 : decode cX5_copy 91 = .ok (.aload_n 0, 1) := dk_42 (dk_at dksX5_copy_3 19 rfl rfl)
theorem dX5_copy_92 : decode cX5_copy 92 = .ok (.getfield 28, 3) := dk_180 0 28 (dk_at dksX5_copy_3 20 rfl rfl)
theorem dX5_copy_95 : decode cX5_copy 95 = .ok (.iload_n 2, 1) := dk_28 (dk_at dksX5_copy_3 23 rfl rfl)
theorem dX5_copy_96 : decode cX5_copy 96 = .ok (.aload_n 1, 1) := dk_43 (dk_at dksX5_copy_4 0 rfl rfl)
theorem dX5_copy_97 : decode cX5_copy 97 = .ok (.getfield 28, 3) := dk_180 0 28 (dk_at dksX5_copy_4 1 rfl rfl)
theorem dX5_copy_100 : decode cX5_copy 100 = .ok (.iload_n 2, 1) := dk_28 (dk_at dksX5_copy_4 4 rfl rfl)
theorem dX5_copy_101 : decode cX5_copy 101 = .ok (.iaload, 1) := dk_46 (dk_at dksX5_copy_4 5 rfl rfl)
theorem dX5_copy_102 : decode cX5_copy 102 = .ok (.iastore, 1) := dk_79 (dk_at dksX5_copy_4 6 rfl rfl)
theorem dX5_copy_103 : decode cX5_copy 103 = .ok (.aload_n 0, 1) := dk_42 (dk_at dksX5_copy_4 7 rfl rfl)
theorem dX5_copy_104 : decode cX5_copy 104 = .ok (.getfield 36, 3) := dk_180 0 36 (dk_at dksX5_copy_4 8 rfl rfl)
theorem dX5_copy_107 : decode cX5_copy 107 = .ok (.iload_n 2, 1) := dk_28 (dk_at dksX5_copy_4 11 rfl rfl)
theorem dX5_copy_108 : decode cX5_copy 108 = .ok (.iconst 0, 1) := dk_3 (dk_at dksX5_copy_4 12 rfl rfl)
theorem dX5_copy_109 : decode cX5_copy 109 = .ok (.iastore, 1) := dk_79 (dk_at dksX5_copy_4 13 rfl rfl)
theorem dX5_copy_110 : decode cX5_copy 110 = .ok (.iinc 2 1, 3) := dk_132 2 1 (dk_at dksX5_copy_4 14 rfl rfl)
theorem dX5_copy_113 : decode cX5_copy 113 = .ok (.goto (-64), 3) := dk_167 255 192 (dk_at dksX5_copy_4 17 rfl rfl)
theorem dX5_copy_116 : decode cX5_copy 116 = .ok (.iconst 0, 1) := dk_3 (dk_at dksX5_copy_4 20 rfl rfl)
theorem dX5_copy_117 : decode cX5_copy 117 = .ok (.istore_n 2, 1) := dk_61 (dk_at dksX5_copy_4 21 rfl rfl)
theorem dX5_copy_118 : decode cX5_copy 118 = .ok (.iload_n 2, 1) := dk_28 (dk_at dksX5_copy_4 22 rfl rfl)
theorem dX5_copy_119 : decode cX5_copy 119 = .ok (.aload_n 0, 1) := dk_42 (dk_at dksX5_copy_4 23 rfl rfl)
theorem dX5_copy_120 : decode cX5_copy 120 = .ok (.getfield 43, 3) := dk_180 0 43 (dk_at dksX5_copy_5 0 rfl rfl)
theorem dX5_copy_123 : decode cX5_copy 123 = .ok (.if_icmp .ge 38, 3) := dk_162 0 38 (dk_at dksX5_copy_5 3 rfl rfl)
theorem dX5_copy_126 : decode cX5_copy 126 = .ok (.iconst 0, 1) := dk_3 (dk_at dksX5_copy_5 6 rfl rfl)
theorem dX5_copy_127 : decode cX5_copy 127 = .ok (.istore_n 3, 1) := dk_62 (dk_at dksX5_copy_5 7 rfl rfl)
theorem dX5_copy_128 : decode cX5_copy 128 = .ok (.iload_n 3, 1) := dk_29 (dk_at dksX5_copy_5 8 rfl rfl)
theorem dX5_copy_129 : decode cX5_copy 129 = .ok (.iconst 3, 1) := dk_6 (dk_at dksX5_copy_5 9 rfl rfl)
theorem dX5_copy_130 : decode cX5_copy 130 = .ok (.if_icmp .ge 25, 3) := dk_162 0 25 (dk_at dksX5_copy_5 10 rfl rfl)
theorem dX5_copy_133 : decode cX5_copy 133 = .ok (.aload_n 0, 1) := dk_42 (dk_at dksX5_copy_5 13 rfl rfl)
theorem dX5_copy_134 : decode cX5_copy 134 = .ok (.getfield 33, 3) := dk_180 0 33 (dk_at dksX5_copy_5 14 rfl rfl)
theorem dX5_copy_137 : decode cX5_copy 137 = .ok (.iload_n 2, 1) := dk_28 (dk_at dksX5_copy_5 17 rfl rfl)
theorem dX5_copy_138 : decode cX5_copy 138 = .ok (.aaload, 1) := dk_50 (dk_at dksX5_copy_5 18 rfl rfl)
theorem dX5_copy_139 : decode cX5_copy 139 = .ok (.iload_n 3, 1) := dk_29 (dk_at dksX5_copy_5 19 rfl rfl)
theorem dX5_copy_140 : decode cX5_copy 140 = .ok (.aload_n 1, 1) := dk_43 (dk_at dksX5_copy_5 20 rfl rfl)
theorem dX5_copy_141 : decode cX5_copy 141 = .ok (.getfield 33, 3) := dk_180 0 33 (dk_at dksX5_copy_5 21 rfl rfl)
theorem dX5_copy_144 : decode cX5_copy 144 = .ok (.iload_n 2, 1) := dk_28 (dk_at dksX5_copy_6 0 rfl rfl)
theorem dX5_copy_145 : decode cX5_copy 145 = .ok (.aaload, 1) := dk_50 (dk_at dksX5_copy_6 1 rfl rfl)
theorem dX5_copy_146 : decode cX5_copy 146 = .ok (.iload_n 3, 1) := dk_29 (dk_at dksX5_copy_6 2 rfl rfl)
theorem dX5_copy_147 : decode cX5_copy 147 = .ok (.iaload, 1) := dk_46 (dk_at dksX5_copy_6 3 rfl rfl)
theorem dX5_copy_148 : decode cX5_copy 148 = .ok (.iastore, 1) := dk_79 (dk_at dksX5_copy_6 4 rfl rfl)
theorem dX5_copy_149 : decode cX5_copy 149 = .ok (.iinc 3 1, 3) := dk_132 3 1 (dk_at dksX5_copy_6 5 rfl rfl)
theorem dX5_copy_152 : decode cX5_copy 152 = .ok (.goto (-24), 3) := dk_167 255 232 (dk_at dksX5_copy_6 8 rfl rfl)
theorem dX5_copy_155 : decode cX5_copy 155 = .ok (.iinc 2 1, 3) := dk_132 2 1 (dk_at dksX5_copy_6 11 rfl rfl)
theorem dX5_copy_158 : decode cX5_copy 158 = .ok (.goto (-40), 3) := dk_167 255 216 (dk_at dksX5_copy_6 14 rfl rfl)
theorem dX5_copy_161 : decode cX5_copy 161 = .ok (.aload_n 0, 1) := dk_42 (dk_at dksX5_copy_6 17 rfl rfl)
theorem dX5_copy_162 : decode cX5_copy 162 = .ok (.areturn, 1) := dk_176 (dk_at dksX5_copy_6 18 rfl rfl)
abbrev cX5_passes : ByteArray := prog_16_method_13_code
def yX5_passes : MethodName := ⟨RX5, "passes", "(I)V"⟩
def dkwX5_passes_9 : List UInt8 := [167, 255, 138, 42, 89, 180, 0, 39, 4, 96, 181, 0, 39, 177]
abbrev dktX5_passes_9 : List UInt8 := dkwX5_passes_9 ++ []
def dkwX5_passes_8 : List UInt8 := [180, 0, 97, 182, 0, 168, 153, 0, 13, 42, 180, 0, 22, 28, 92, 46, 4, 96, 79, 132, 2, 1]
abbrev dktX5_passes_8 : List UInt8 := dkwX5_passes_8 ++ dktX5_passes_9
def dkwX5_passes_7 : List UInt8 := [167, 0, 4, 3, 62, 29, 153, 0, 36, 42, 180, 0, 3, 180, 0, 46, 180, 0, 158, 42, 180, 0, 3]
abbrev dktX5_passes_7 : List UInt8 := dkwX5_passes_7 ++ dktX5_passes_8
def dkwX5_passes_6 : List UInt8 := [42, 42, 180, 0, 19, 28, 46, 42, 180, 0, 22, 28, 46, 4, 96, 182, 0, 165, 153, 0, 7, 4]
abbrev dktX5_passes_6 : List UInt8 := dkwX5_passes_6 ++ dktX5_passes_7
def dkwX5_passes_5 : List UInt8 := [182, 0, 113, 42, 180, 0, 22, 28, 46, 4, 96, 42, 180, 0, 3, 180, 0, 46, 180, 0, 162, 162, 0, 28]
abbrev dktX5_passes_5 : List UInt8 := dkwX5_passes_5 ++ dktX5_passes_6
def dkwX5_passes_4 : List UInt8 := [182, 0, 53, 162, 0, 113, 42, 180, 0, 3, 180, 0, 46, 180, 0, 158, 198, 0, 100, 42, 28, 27]
abbrev dktX5_passes_4 : List UInt8 := dkwX5_passes_4 ++ dktX5_passes_5
def dkwX5_passes_3 : List UInt8 := [162, 0, 15, 42, 28, 27, 182, 0, 155, 132, 2, 1, 167, 255, 236, 3, 61, 28, 42, 180, 0, 3]
abbrev dktX5_passes_3 : List UInt8 := dkwX5_passes_3 ++ dktX5_passes_4
def dkwX5_passes_2 : List UInt8 := [132, 3, 1, 167, 255, 225, 132, 2, 1, 167, 255, 204, 3, 61, 28, 42, 180, 0, 3, 182, 0, 53]
abbrev dktX5_passes_2 : List UInt8 := dkwX5_passes_2 ++ dktX5_passes_3
def dkwX5_passes_1 : List UInt8 := [182, 0, 53, 162, 0, 26, 42, 28, 29, 27, 182, 0, 93, 153, 0, 10, 42, 28, 29, 27, 182, 0, 152]
abbrev dktX5_passes_1 : List UInt8 := dkwX5_passes_1 ++ dktX5_passes_2
def dkwX5_passes_0 : List UInt8 := [3, 61, 28, 42, 180, 0, 3, 182, 0, 53, 162, 0, 47, 28, 4, 96, 62, 29, 42, 180, 0, 3]
abbrev dktX5_passes_0 : List UInt8 := dkwX5_passes_0 ++ dktX5_passes_1
theorem dksX5_passes_0 : cX5_passes.data.toList.drop 0 = dktX5_passes_0 := by decide +kernel
theorem dksX5_passes_1 : cX5_passes.data.toList.drop 22 = dktX5_passes_1 := dk_seg dksX5_passes_0 22 rfl rfl
theorem dksX5_passes_2 : cX5_passes.data.toList.drop 45 = dktX5_passes_2 := dk_seg dksX5_passes_1 23 rfl rfl
theorem dksX5_passes_3 : cX5_passes.data.toList.drop 67 = dktX5_passes_3 := dk_seg dksX5_passes_2 22 rfl rfl
theorem dksX5_passes_4 : cX5_passes.data.toList.drop 89 = dktX5_passes_4 := dk_seg dksX5_passes_3 22 rfl rfl
theorem dksX5_passes_5 : cX5_passes.data.toList.drop 111 = dktX5_passes_5 := dk_seg dksX5_passes_4 22 rfl rfl
theorem dksX5_passes_6 : cX5_passes.data.toList.drop 135 = dktX5_passes_6 := dk_seg dksX5_passes_5 24 rfl rfl
theorem dksX5_passes_7 : cX5_passes.data.toList.drop 157 = dktX5_passes_7 := dk_seg dksX5_passes_6 22 rfl rfl
theorem dksX5_passes_8 : cX5_passes.data.toList.drop 180 = dktX5_passes_8 := dk_seg dksX5_passes_7 23 rfl rfl
theorem dksX5_passes_9 : cX5_passes.data.toList.drop 202 = dktX5_passes_9 := dk_seg dksX5_passes_8 22 rfl rfl
theorem dX5_passes_0 : decode cX5_passes 0 = .ok (.iconst 0, 1) := dk_3 (dk_at dksX5_passes_0 0 rfl rfl)
theorem dX5_passes_1 : decode cX5_passes 1 = .ok (.istore_n 2, 1) := dk_61 (dk_at dksX5_passes_0 1 rfl rfl)
theorem dX5_passes_2 : decode cX5_passes 2 = .ok (.iload_n 2, 1) := dk_28 (dk_at dksX5_passes_0 2 rfl rfl)
theorem dX5_passes_3 : decode cX5_passes 3 = .ok (.aload_n 0, 1) := dk_42 (dk_at dksX5_passes_0 3 rfl rfl)
theorem dX5_passes_4 : decode cX5_passes 4 = .ok (.getfield 3, 3) := dk_180 0 3 (dk_at dksX5_passes_0 4 rfl rfl)
theorem dX5_passes_7 : decode cX5_passes 7 = .ok (.invokevirtual 53, 3) := dk_182 0 53 (dk_at dksX5_passes_0 7 rfl rfl)
theorem dX5_passes_10 : decode cX5_passes 10 = .ok (.if_icmp .ge 47, 3) := dk_162 0 47 (dk_at dksX5_passes_0 10 rfl rfl)
theorem dX5_passes_13 : decode cX5_passes 13 = .ok (.iload_n 2, 1) := dk_28 (dk_at dksX5_passes_0 13 rfl rfl)
theorem dX5_passes_14 : decode cX5_passes 14 = .ok (.iconst 1, 1) := dk_4 (dk_at dksX5_passes_0 14 rfl rfl)
theorem dX5_passes_15 : decode cX5_passes 15 = .ok (.iadd, 1) := dk_96 (dk_at dksX5_passes_0 15 rfl rfl)
theorem dX5_passes_16 : decode cX5_passes 16 = .ok (.istore_n 3, 1) := dk_62 (dk_at dksX5_passes_0 16 rfl rfl)
theorem dX5_passes_17 : decode cX5_passes 17 = .ok (.iload_n 3, 1) := dk_29 (dk_at dksX5_passes_0 17 rfl rfl)
theorem dX5_passes_18 : decode cX5_passes 18 = .ok (.aload_n 0, 1) := dk_42 (dk_at dksX5_passes_0 18 rfl rfl)
theorem dX5_passes_19 : decode cX5_passes 19 = .ok (.getfield 3, 3) := dk_180 0 3 (dk_at dksX5_passes_0 19 rfl rfl)
theorem dX5_passes_22 : decode cX5_passes 22 = .ok (.invokevirtual 53, 3) := dk_182 0 53 (dk_at dksX5_passes_1 0 rfl rfl)
theorem dX5_passes_25 : decode cX5_passes 25 = .ok (.if_icmp .ge 26, 3) := dk_162 0 26 (dk_at dksX5_passes_1 3 rfl rfl)
theorem dX5_passes_28 : decode cX5_passes 28 = .ok (.aload_n 0, 1) := dk_42 (dk_at dksX5_passes_1 6 rfl rfl)
theorem dX5_passes_29 : decode cX5_passes 29 = .ok (.iload_n 2, 1) := dk_28 (dk_at dksX5_passes_1 7 rfl rfl)
theorem dX5_passes_30 : decode cX5_passes 30 = .ok (.iload_n 3, 1) := dk_29 (dk_at dksX5_passes_1 8 rfl rfl)
theorem dX5_passes_31 : decode cX5_passes 31 = .ok (.iload_n 1, 1) := dk_27 (dk_at dksX5_passes_1 9 rfl rfl)
theorem dX5_passes_32 : decode cX5_passes 32 = .ok (.invokevirtual 93, 3) := dk_182 0 93 (dk_at dksX5_passes_1 10 rfl rfl)
theorem dX5_passes_35 : decode cX5_passes 35 = .ok (.ifCond .eq 10, 3) := dk_153 0 10 (dk_at dksX5_passes_1 13 rfl rfl)
theorem dX5_passes_38 : decode cX5_passes 38 = .ok (.aload_n 0, 1) := dk_42 (dk_at dksX5_passes_1 16 rfl rfl)
theorem dX5_passes_39 : decode cX5_passes 39 = .ok (.iload_n 2, 1) := dk_28 (dk_at dksX5_passes_1 17 rfl rfl)
theorem dX5_passes_40 : decode cX5_passes 40 = .ok (.iload_n 3, 1) := dk_29 (dk_at dksX5_passes_1 18 rfl rfl)
theorem dX5_passes_41 : decode cX5_passes 41 = .ok (.iload_n 1, 1) := dk_27 (dk_at dksX5_passes_1 19 rfl rfl)
theorem dX5_passes_42 : decode cX5_passes 42 = .ok (.invokevirtual 152, 3) := dk_182 0 152 (dk_at dksX5_passes_1 20 rfl rfl)
theorem dX5_passes_45 : decode cX5_passes 45 = .ok (.iinc 3 1, 3) := dk_132 3 1 (dk_at dksX5_passes_2 0 rfl rfl)
theorem dX5_passes_48 : decode cX5_passes 48 = .ok (.goto (-31), 3) := dk_167 255 225 (dk_at dksX5_passes_2 3 rfl rfl)
theorem dX5_passes_51 : decode cX5_passes 51 = .ok (.iinc 2 1, 3) := dk_132 2 1 (dk_at dksX5_passes_2 6 rfl rfl)
theorem dX5_passes_54 : decode cX5_passes 54 = .ok (.goto (-52), 3) := dk_167 255 204 (dk_at dksX5_passes_2 9 rfl rfl)
theorem dX5_passes_57 : decode cX5_passes 57 = .ok (.iconst 0, 1) := dk_3 (dk_at dksX5_passes_2 12 rfl rfl)
theorem dX5_passes_58 : decode cX5_passes 58 = .ok (.istore_n 2, 1) := dk_61 (dk_at dksX5_passes_2 13 rfl rfl)
theorem dX5_passes_59 : decode cX5_passes 59 = .ok (.iload_n 2, 1) := dk_28 (dk_at dksX5_passes_2 14 rfl rfl)
theorem dX5_passes_60 : decode cX5_passes 60 = .ok (.aload_n 0, 1) := dk_42 (dk_at dksX5_passes_2 15 rfl rfl)
theorem dX5_passes_61 : decode cX5_passes 61 = .ok (.getfield 3, 3) := dk_180 0 3 (dk_at dksX5_passes_2 16 rfl rfl)
theorem dX5_passes_64 : decode cX5_passes 64 = .ok (.invokevirtual 53, 3) := dk_182 0 53 (dk_at dksX5_passes_2 19 rfl rfl)
theorem dX5_passes_67 : decode cX5_passes 67 = .ok (.if_icmp .ge 15, 3) := dk_162 0 15 (dk_at dksX5_passes_3 0 rfl rfl)
theorem dX5_passes_70 : decode cX5_passes 70 = .ok (.aload_n 0, 1) := dk_42 (dk_at dksX5_passes_3 3 rfl rfl)
theorem dX5_passes_71 : decode cX5_passes 71 = .ok (.iload_n 2, 1) := dk_28 (dk_at dksX5_passes_3 4 rfl rfl)
theorem dX5_passes_72 : decode cX5_passes 72 = .ok (.iload_n 1, 1) := dk_27 (dk_at dksX5_passes_3 5 rfl rfl)
theorem dX5_passes_73 : decode cX5_passes 73 = .ok (.invokevirtual 155, 3) := dk_182 0 155 (dk_at dksX5_passes_3 6 rfl rfl)
theorem dX5_passes_76 : decode cX5_passes 76 = .ok (.iinc 2 1, 3) := dk_132 2 1 (dk_at dksX5_passes_3 9 rfl rfl)
theorem dX5_passes_79 : decode cX5_passes 79 = .ok (.goto (-20), 3) := dk_167 255 236 (dk_at dksX5_passes_3 12 rfl rfl)
theorem dX5_passes_82 : decode cX5_passes 82 = .ok (.iconst 0, 1) := dk_3 (dk_at dksX5_passes_3 15 rfl rfl)
theorem dX5_passes_83 : decode cX5_passes 83 = .ok (.istore_n 2, 1) := dk_61 (dk_at dksX5_passes_3 16 rfl rfl)
theorem dX5_passes_84 : decode cX5_passes 84 = .ok (.iload_n 2, 1) := dk_28 (dk_at dksX5_passes_3 17 rfl rfl)
theorem dX5_passes_85 : decode cX5_passes 85 = .ok (.aload_n 0, 1) := dk_42 (dk_at dksX5_passes_3 18 rfl rfl)
theorem dX5_passes_86 : decode cX5_passes 86 = .ok (.getfield 3, 3) := dk_180 0 3 (dk_at dksX5_passes_3 19 rfl rfl)
theorem dX5_passes_89 : decode cX5_passes 89 = .ok (.invokevirtual 53, 3) := dk_182 0 53 (dk_at dksX5_passes_4 0 rfl rfl)
theorem dX5_passes_92 : decode cX5_passes 92 = .ok (.if_icmp .ge 113, 3) := dk_162 0 113 (dk_at dksX5_passes_4 3 rfl rfl)
theorem dX5_passes_95 : decode cX5_passes 95 = .ok (.aload_n 0, 1) := dk_42 (dk_at dksX5_passes_4 6 rfl rfl)
theorem dX5_passes_96 : decode cX5_passes 96 = .ok (.getfield 3, 3) := dk_180 0 3 (dk_at dksX5_passes_4 7 rfl rfl)
theorem dX5_passes_99 : decode cX5_passes 99 = .ok (.getfield 46, 3) := dk_180 0 46 (dk_at dksX5_passes_4 10 rfl rfl)
theorem dX5_passes_102 : decode cX5_passes 102 = .ok (.getfield 158, 3) := dk_180 0 158 (dk_at dksX5_passes_4 13 rfl rfl)
theorem dX5_passes_105 : decode cX5_passes 105 = .ok (.ifnull 100, 3) := dk_198 0 100 (dk_at dksX5_passes_4 16 rfl rfl)
theorem dX5_passes_108 : decode cX5_passes 108 = .ok (.aload_n 0, 1) := dk_42 (dk_at dksX5_passes_4 19 rfl rfl)
theorem dX5_passes_109 : decode cX5_passes 109 = .ok (.iload_n 2, 1) := dk_28 (dk_at dksX5_passes_4 20 rfl rfl)
theorem dX5_passes_110 : decode cX5_passes 110 = .ok (.iload_n 1, 1) := dk_27 (dk_at dksX5_passes_4 21 rfl rfl)
theorem dX5_passes_111 : decode cX5_passes 111 = .ok (.invokevirtual 113, 3) := dk_182 0 113 (dk_at dksX5_passes_5 0 rfl rfl)
theorem dX5_passes_114 : decode cX5_passes 114 = .ok (.aload_n 0, 1) := dk_42 (dk_at dksX5_passes_5 3 rfl rfl)
theorem dX5_passes_115 : decode cX5_passes 115 = .ok (.getfield 22, 3) := dk_180 0 22 (dk_at dksX5_passes_5 4 rfl rfl)
theorem dX5_passes_118 : decode cX5_passes 118 = .ok (.iload_n 2, 1) := dk_28 (dk_at dksX5_passes_5 7 rfl rfl)
theorem dX5_passes_119 : decode cX5_passes 119 = .ok (.iaload, 1) := dk_46 (dk_at dksX5_passes_5 8 rfl rfl)
theorem dX5_passes_120 : decode cX5_passes 120 = .ok (.iconst 1, 1) := dk_4 (dk_at dksX5_passes_5 9 rfl rfl)
theorem dX5_passes_121 : decode cX5_passes 121 = .ok (.iadd, 1) := dk_96 (dk_at dksX5_passes_5 10 rfl rfl)
theorem dX5_passes_122 : decode cX5_passes 122 = .ok (.aload_n 0, 1) := dk_42 (dk_at dksX5_passes_5 11 rfl rfl)
theorem dX5_passes_123 : decode cX5_passes 123 = .ok (.getfield 3, 3) := dk_180 0 3 (dk_at dksX5_passes_5 12 rfl rfl)
theorem dX5_passes_126 : decode cX5_passes 126 = .ok (.getfield 46, 3) := dk_180 0 46 (dk_at dksX5_passes_5 15 rfl rfl)
theorem dX5_passes_129 : decode cX5_passes 129 = .ok (.getfield 162, 3) := dk_180 0 162 (dk_at dksX5_passes_5 18 rfl rfl)
theorem dX5_passes_132 : decode cX5_passes 132 = .ok (.if_icmp .ge 28, 3) := dk_162 0 28 (dk_at dksX5_passes_5 21 rfl rfl)
theorem dX5_passes_135 : decode cX5_passes 135 = .ok (.aload_n 0, 1) := dk_42 (dk_at dksX5_passes_6 0 rfl rfl)
theorem dX5_passes_136 : decode cX5_passes 136 = .ok (.aload_n 0, 1) := dk_42 (dk_at dksX5_passes_6 1 rfl rfl)
theorem dX5_passes_137 : decode cX5_passes 137 = .ok (.getfield 19, 3) := dk_180 0 19 (dk_at dksX5_passes_6 2 rfl rfl)
theorem dX5_passes_140 : decode cX5_passes 140 = .ok (.iload_n 2, 1) := dk_28 (dk_at dksX5_passes_6 5 rfl rfl)
theorem dX5_passes_141 : decode cX5_passes 141 = .ok (.iaload, 1) := dk_46 (dk_at dksX5_passes_6 6 rfl rfl)
theorem dX5_passes_142 : decode cX5_passes 142 = .ok (.aload_n 0, 1) := dk_42 (dk_at dksX5_passes_6 7 rfl rfl)
theorem dX5_passes_143 : decode cX5_passes 143 = .ok (.getfield 22, 3) := dk_180 0 22 (dk_at dksX5_passes_6 8 rfl rfl)
theorem dX5_passes_146 : decode cX5_passes 146 = .ok (.iload_n 2, 1) := dk_28 (dk_at dksX5_passes_6 11 rfl rfl)
theorem dX5_passes_147 : decode cX5_passes 147 = .ok (.iaload, 1) := dk_46 (dk_at dksX5_passes_6 12 rfl rfl)
theorem dX5_passes_148 : decode cX5_passes 148 = .ok (.iconst 1, 1) := dk_4 (dk_at dksX5_passes_6 13 rfl rfl)
theorem dX5_passes_149 : decode cX5_passes 149 = .ok (.iadd, 1) := dk_96 (dk_at dksX5_passes_6 14 rfl rfl)
theorem dX5_passes_150 : decode cX5_passes 150 = .ok (.invokevirtual 165, 3) := dk_182 0 165 (dk_at dksX5_passes_6 15 rfl rfl)
theorem dX5_passes_153 : decode cX5_passes 153 = .ok (.ifCond .eq 7, 3) := dk_153 0 7 (dk_at dksX5_passes_6 18 rfl rfl)
theorem dX5_passes_156 : decode cX5_passes 156 = .ok (.iconst 1, 1) := dk_4 (dk_at dksX5_passes_6 21 rfl rfl)
theorem dX5_passes_157 : decode cX5_passes 157 = .ok (.goto 4, 3) := dk_167 0 4 (dk_at dksX5_passes_7 0 rfl rfl)
theorem dX5_passes_160 : decode cX5_passes 160 = .ok (.iconst 0, 1) := dk_3 (dk_at dksX5_passes_7 3 rfl rfl)
theorem dX5_passes_161 : decode cX5_passes 161 = .ok (.istore_n 3, 1) := dk_62 (dk_at dksX5_passes_7 4 rfl rfl)
theorem dX5_passes_162 : decode cX5_passes 162 = .ok (.iload_n 3, 1) := dk_29 (dk_at dksX5_passes_7 5 rfl rfl)
theorem dX5_passes_163 : decode cX5_passes 163 = .ok (.ifCond .eq 36, 3) := dk_153 0 36 (dk_at dksX5_passes_7 6 rfl rfl)
theorem dX5_passes_166 : decode cX5_passes 166 = .ok (.aload_n 0, 1) := dk_42 (dk_at dksX5_passes_7 9 rfl rfl)
theorem dX5_passes_167 : decode cX5_passes 167 = .ok (.getfield 3, 3) := dk_180 0 3 (dk_at dksX5_passes_7 10 rfl rfl)
theorem dX5_passes_170 : decode cX5_passes 170 = .ok (.getfield 46, 3) := dk_180 0 46 (dk_at dksX5_passes_7 13 rfl rfl)
theorem dX5_passes_173 : decode cX5_passes 173 = .ok (.getfield 158, 3) := dk_180 0 158 (dk_at dksX5_passes_7 16 rfl rfl)
theorem dX5_passes_176 : decode cX5_passes 176 = .ok (.aload_n 0, 1) := dk_42 (dk_at dksX5_passes_7 19 rfl rfl)
theorem dX5_passes_177 : decode cX5_passes 177 = .ok (.getfield 3, 3) := dk_180 0 3 (dk_at dksX5_passes_7 20 rfl rfl)
theorem dX5_passes_180 : decode cX5_passes 180 = .ok (.getfield 97, 3) := dk_180 0 97 (dk_at dksX5_passes_8 0 rfl rfl)
theorem dX5_passes_183 : decode cX5_passes 183 = .ok (.invokevirtual 168, 3) := dk_182 0 168 (dk_at dksX5_passes_8 3 rfl rfl)
theorem dX5_passes_186 : decode cX5_passes 186 = .ok (.ifCond .eq 13, 3) := dk_153 0 13 (dk_at dksX5_passes_8 6 rfl rfl)
theorem dX5_passes_189 : decode cX5_passes 189 = .ok (.aload_n 0, 1) := dk_42 (dk_at dksX5_passes_8 9 rfl rfl)
theorem dX5_passes_190 : decode cX5_passes 190 = .ok (.getfield 22, 3) := dk_180 0 22 (dk_at dksX5_passes_8 10 rfl rfl)
theorem dX5_passes_193 : decode cX5_passes 193 = .ok (.iload_n 2, 1) := dk_28 (dk_at dksX5_passes_8 13 rfl rfl)
theorem dX5_passes_194 : decode cX5_passes 194 = .ok (.dup2, 1) := dk_92 (dk_at dksX5_passes_8 14 rfl rfl)
theorem dX5_passes_195 : decode cX5_passes 195 = .ok (.iaload, 1) := dk_46 (dk_at dksX5_passes_8 15 rfl rfl)
theorem dX5_passes_196 : decode cX5_passes 196 = .ok (.iconst 1, 1) := dk_4 (dk_at dksX5_passes_8 16 rfl rfl)
theorem dX5_passes_197 : decode cX5_passes 197 = .ok (.iadd, 1) := dk_96 (dk_at dksX5_passes_8 17 rfl rfl)
theorem dX5_passes_198 : decode cX5_passes 198 = .ok (.iastore, 1) := dk_79 (dk_at dksX5_passes_8 18 rfl rfl)
theorem dX5_passes_199 : decode cX5_passes 199 = .ok (.iinc 2 1, 3) := dk_132 2 1 (dk_at dksX5_passes_8 19 rfl rfl)
theorem dX5_passes_202 : decode cX5_passes 202 = .ok (.goto (-118), 3) := dk_167 255 138 (dk_at dksX5_passes_9 0 rfl rfl)
theorem dX5_passes_205 : decode cX5_passes 205 = .ok (.aload_n 0, 1) := dk_42 (dk_at dksX5_passes_9 3 rfl rfl)
theorem dX5_passes_206 : decode cX5_passes 206 = .ok (.dup, 1) := dk_89 (dk_at dksX5_passes_9 4 rfl rfl)
theorem dX5_passes_207 : decode cX5_passes 207 = .ok (.getfield 39, 3) := dk_180 0 39 (dk_at dksX5_passes_9 5 rfl rfl)
theorem dX5_passes_210 : decode cX5_passes 210 = .ok (.iconst 1, 1) := dk_4 (dk_at dksX5_passes_9 8 rfl rfl)
theorem dX5_passes_211 : decode cX5_passes 211 = .ok (.iadd, 1) := dk_96 (dk_at dksX5_passes_9 9 rfl rfl)
theorem dX5_passes_212 : decode cX5_passes 212 = .ok (.putfield 39, 3) := dk_181 0 39 (dk_at dksX5_passes_9 10 rfl rfl)
theorem dX5_passes_215 : decode cX5_passes 215 = .ok (.return_, 1) := dk_177 (dk_at dksX5_passes_9 13 rfl rfl)
abbrev cX5_meeting : ByteArray := prog_16_method_11_code
def yX5_meeting : MethodName := ⟨RX5, "meeting", "(III)V"⟩
def dkwX5_meeting_3 : List UInt8 := [182, 0, 137, 42, 89, 180, 0, 67, 4, 96, 181, 0, 67, 177]
abbrev dktX5_meeting_3 : List UInt8 := dkwX5_meeting_3 ++ []
def dkwX5_meeting_2 : List UInt8 := [96, 79, 42, 180, 0, 36, 28, 92, 46, 4, 96, 79, 42, 27, 28, 29, 182, 0, 133, 42, 27, 28]
abbrev dktX5_meeting_2 : List UInt8 := dkwX5_meeting_2 ++ dktX5_meeting_3
def dkwX5_meeting_1 : List UInt8 := [28, 17, 39, 15, 42, 180, 0, 28, 28, 46, 4, 96, 184, 0, 84, 79, 42, 180, 0, 36, 27, 92, 46, 4]
abbrev dktX5_meeting_1 : List UInt8 := dkwX5_meeting_1 ++ dktX5_meeting_2
def dkwX5_meeting_0 : List UInt8 := [42, 180, 0, 28, 27, 17, 39, 15, 42, 180, 0, 28, 27, 46, 4, 96, 184, 0, 84, 79, 42, 180, 0, 28]
abbrev dktX5_meeting_0 : List UInt8 := dkwX5_meeting_0 ++ dktX5_meeting_1
theorem dksX5_meeting_0 : cX5_meeting.data.toList.drop 0 = dktX5_meeting_0 := by decide +kernel
theorem dksX5_meeting_1 : cX5_meeting.data.toList.drop 24 = dktX5_meeting_1 := dk_seg dksX5_meeting_0 24 rfl rfl
theorem dksX5_meeting_2 : cX5_meeting.data.toList.drop 48 = dktX5_meeting_2 := dk_seg dksX5_meeting_1 24 rfl rfl
theorem dksX5_meeting_3 : cX5_meeting.data.toList.drop 70 = dktX5_meeting_3 := dk_seg dksX5_meeting_2 22 rfl rfl
theorem dX5_meeting_0 : decode cX5_meeting 0 = .ok (.aload_n 0, 1) := dk_42 (dk_at dksX5_meeting_0 0 rfl rfl)
theorem dX5_meeting_1 : decode cX5_meeting 1 = .ok (.getfield 28, 3) := dk_180 0 28 (dk_at dksX5_meeting_0 1 rfl rfl)
theorem dX5_meeting_4 : decode cX5_meeting 4 = .ok (.iload_n 1, 1) := dk_27 (dk_at dksX5_meeting_0 4 rfl rfl)
theorem dX5_meeting_5 : decode cX5_meeting 5 = .ok (.sipush 9999, 3) := dk_17 39 15 (dk_at dksX5_meeting_0 5 rfl rfl)
theorem dX5_meeting_8 : decode cX5_meeting 8 = .ok (.aload_n 0, 1) := dk_42 (dk_at dksX5_meeting_0 8 rfl rfl)
theorem dX5_meeting_9 : decode cX5_meeting 9 = .ok (.getfield 28, 3) := dk_180 0 28 (dk_at dksX5_meeting_0 9 rfl rfl)
theorem dX5_meeting_12 : decode cX5_meeting 12 = .ok (.iload_n 1, 1) := dk_27 (dk_at dksX5_meeting_0 12 rfl rfl)
theorem dX5_meeting_13 : decode cX5_meeting 13 = .ok (.iaload, 1) := dk_46 (dk_at dksX5_meeting_0 13 rfl rfl)
theorem dX5_meeting_14 : decode cX5_meeting 14 = .ok (.iconst 1, 1) := dk_4 (dk_at dksX5_meeting_0 14 rfl rfl)
theorem dX5_meeting_15 : decode cX5_meeting 15 = .ok (.iadd, 1) := dk_96 (dk_at dksX5_meeting_0 15 rfl rfl)
theorem dX5_meeting_16 : decode cX5_meeting 16 = .ok (.invokestatic 84, 3) := dk_184 0 84 (dk_at dksX5_meeting_0 16 rfl rfl)
theorem dX5_meeting_19 : decode cX5_meeting 19 = .ok (.iastore, 1) := dk_79 (dk_at dksX5_meeting_0 19 rfl rfl)
theorem dX5_meeting_20 : decode cX5_meeting 20 = .ok (.aload_n 0, 1) := dk_42 (dk_at dksX5_meeting_0 20 rfl rfl)
theorem dX5_meeting_21 : decode cX5_meeting 21 = .ok (.getfield 28, 3) := dk_180 0 28 (dk_at dksX5_meeting_0 21 rfl rfl)
theorem dX5_meeting_24 : decode cX5_meeting 24 = .ok (.iload_n 2, 1) := dk_28 (dk_at dksX5_meeting_1 0 rfl rfl)
theorem dX5_meeting_25 : decode cX5_meeting 25 = .ok (.sipush 9999, 3) := dk_17 39 15 (dk_at dksX5_meeting_1 1 rfl rfl)
theorem dX5_meeting_28 : decode cX5_meeting 28 = .ok (.aload_n 0, 1) := dk_42 (dk_at dksX5_meeting_1 4 rfl rfl)
theorem dX5_meeting_29 : decode cX5_meeting 29 = .ok (.getfield 28, 3) := dk_180 0 28 (dk_at dksX5_meeting_1 5 rfl rfl)
theorem dX5_meeting_32 : decode cX5_meeting 32 = .ok (.iload_n 2, 1) := dk_28 (dk_at dksX5_meeting_1 8 rfl rfl)
theorem dX5_meeting_33 : decode cX5_meeting 33 = .ok (.iaload, 1) := dk_46 (dk_at dksX5_meeting_1 9 rfl rfl)
theorem dX5_meeting_34 : decode cX5_meeting 34 = .ok (.iconst 1, 1) := dk_4 (dk_at dksX5_meeting_1 10 rfl rfl)
theorem dX5_meeting_35 : decode cX5_meeting 35 = .ok (.iadd, 1) := dk_96 (dk_at dksX5_meeting_1 11 rfl rfl)
theorem dX5_meeting_36 : decode cX5_meeting 36 = .ok (.invokestatic 84, 3) := dk_184 0 84 (dk_at dksX5_meeting_1 12 rfl rfl)
theorem dX5_meeting_39 : decode cX5_meeting 39 = .ok (.iastore, 1) := dk_79 (dk_at dksX5_meeting_1 15 rfl rfl)
theorem dX5_meeting_40 : decode cX5_meeting 40 = .ok (.aload_n 0, 1) := dk_42 (dk_at dksX5_meeting_1 16 rfl rfl)
theorem dX5_meeting_41 : decode cX5_meeting 41 = .ok (.getfield 36, 3) := dk_180 0 36 (dk_at dksX5_meeting_1 17 rfl rfl)
theorem dX5_meeting_44 : decode cX5_meeting 44 = .ok (.iload_n 1, 1) := dk_27 (dk_at dksX5_meeting_1 20 rfl rfl)
theorem dX5_meeting_45 : decode cX5_meeting 45 = .ok (.dup2, 1) := dk_92 (dk_at dksX5_meeting_1 21 rfl rfl)
theorem dX5_meeting_46 : decode cX5_meeting 46 = .ok (.iaload, 1) := dk_46 (dk_at dksX5_meeting_1 22 rfl rfl)
theorem dX5_meeting_47 : decode cX5_meeting 47 = .ok (.iconst 1, 1) := dk_4 (dk_at dksX5_meeting_1 23 rfl rfl)
theorem dX5_meeting_48 : decode cX5_meeting 48 = .ok (.iadd, 1) := dk_96 (dk_at dksX5_meeting_2 0 rfl rfl)
theorem dX5_meeting_49 : decode cX5_meeting 49 = .ok (.iastore, 1) := dk_79 (dk_at dksX5_meeting_2 1 rfl rfl)
theorem dX5_meeting_50 : decode cX5_meeting 50 = .ok (.aload_n 0, 1) := dk_42 (dk_at dksX5_meeting_2 2 rfl rfl)
theorem dX5_meeting_51 : decode cX5_meeting 51 = .ok (.getfield 36, 3) := dk_180 0 36 (dk_at dksX5_meeting_2 3 rfl rfl)
theorem dX5_meeting_54 : decode cX5_meeting 54 = .ok (.iload_n 2, 1) := dk_28 (dk_at dksX5_meeting_2 6 rfl rfl)
theorem dX5_meeting_55 : decode cX5_meeting 55 = .ok (.dup2, 1) := dk_92 (dk_at dksX5_meeting_2 7 rfl rfl)
theorem dX5_meeting_56 : decode cX5_meeting 56 = .ok (.iaload, 1) := dk_46 (dk_at dksX5_meeting_2 8 rfl rfl)
theorem dX5_meeting_57 : decode cX5_meeting 57 = .ok (.iconst 1, 1) := dk_4 (dk_at dksX5_meeting_2 9 rfl rfl)
theorem dX5_meeting_58 : decode cX5_meeting 58 = .ok (.iadd, 1) := dk_96 (dk_at dksX5_meeting_2 10 rfl rfl)
theorem dX5_meeting_59 : decode cX5_meeting 59 = .ok (.iastore, 1) := dk_79 (dk_at dksX5_meeting_2 11 rfl rfl)
theorem dX5_meeting_60 : decode cX5_meeting 60 = .ok (.aload_n 0, 1) := dk_42 (dk_at dksX5_meeting_2 12 rfl rfl)
theorem dX5_meeting_61 : decode cX5_meeting 61 = .ok (.iload_n 1, 1) := dk_27 (dk_at dksX5_meeting_2 13 rfl rfl)
theorem dX5_meeting_62 : decode cX5_meeting 62 = .ok (.iload_n 2, 1) := dk_28 (dk_at dksX5_meeting_2 14 rfl rfl)
theorem dX5_meeting_63 : decode cX5_meeting 63 = .ok (.iload_n 3, 1) := dk_29 (dk_at dksX5_meeting_2 15 rfl rfl)
theorem dX5_meeting_64 : decode cX5_meeting 64 = .ok (.invokevirtual 133, 3) := dk_182 0 133 (dk_at dksX5_meeting_2 16 rfl rfl)
theorem dX5_meeting_67 : decode cX5_meeting 67 = .ok (.aload_n 0, 1) := dk_42 (dk_at dksX5_meeting_2 19 rfl rfl)
theorem dX5_meeting_68 : decode cX5_meeting 68 = .ok (.iload_n 1, 1) := dk_27 (dk_at dksX5_meeting_2 20 rfl rfl)
theorem dX5_meeting_69 : decode cX5_meeting 69 = .ok (.iload_n 2, 1) := dk_28 (dk_at dksX5_meeting_2 21 rfl rfl)
theorem dX5_meeting_70 : decode cX5_meeting 70 = .ok (.invokevirtual 137, 3) := dk_182 0 137 (dk_at dksX5_meeting_3 0 rfl rfl)
theorem dX5_meeting_73 : decode cX5_meeting 73 = .ok (.aload_n 0, 1) := dk_42 (dk_at dksX5_meeting_3 3 rfl rfl)
theorem dX5_meeting_74 : decode cX5_meeting 74 = .ok (.dup, 1) := dk_89 (dk_at dksX5_meeting_3 4 rfl rfl)
theorem dX5_meeting_75 : decode cX5_meeting 75 = .ok (.getfield 67, 3) := dk_180 0 67 (dk_at dksX5_meeting_3 5 rfl rfl)
theorem dX5_meeting_78 : decode cX5_meeting 78 = .ok (.iconst 1, 1) := dk_4 (dk_at dksX5_meeting_3 8 rfl rfl)
theorem dX5_meeting_79 : decode cX5_meeting 79 = .ok (.iadd, 1) := dk_96 (dk_at dksX5_meeting_3 9 rfl rfl)
theorem dX5_meeting_80 : decode cX5_meeting 80 = .ok (.putfield 67, 3) := dk_181 0 67 (dk_at dksX5_meeting_3 10 rfl rfl)
theorem dX5_meeting_83 : decode cX5_meeting 83 = .ok (.return_, 1) := dk_177 (dk_at dksX5_meeting_3 13 rfl rfl)
abbrev cX5_pays : ByteArray := prog_16_method_9_code
def yX5_pays : MethodName := ⟨RX5, "pays", "(III)V"⟩
def dkwX5_pays_6 : List UInt8 := [180, 0, 25, 21, 7, 46, 21, 8, 96, 184, 0, 84, 79, 177]
abbrev dktX5_pays_6 : List UInt8 := dkwX5_pays_6 ++ []
def dkwX5_pays_5 : List UInt8 := [54, 8, 42, 180, 0, 25, 21, 6, 92, 46, 21, 8, 100, 79, 42, 180, 0, 25, 21, 7, 17, 39, 15, 42]
abbrev dktX5_pays_5 : List UInt8 := dkwX5_pays_5 ++ dktX5_pays_6
def dkwX5_pays_4 : List UInt8 := [167, 0, 4, 28, 54, 7, 42, 180, 0, 25, 21, 6, 46, 133, 22, 4, 184, 0, 127, 184, 0, 130, 136]
abbrev dktX5_pays_4 : List UInt8 := dkwX5_pays_4 ++ dktX5_pays_5
def dkwX5_pays_3 : List UInt8 := [55, 4, 22, 4, 9, 148, 156, 0, 7, 28, 167, 0, 4, 27, 54, 6, 22, 4, 9, 148, 156, 0, 7, 27]
abbrev dktX5_pays_3 : List UInt8 := dkwX5_pays_3 ++ dktX5_pays_4
def dkwX5_pays_2 : List UInt8 := [167, 0, 23, 42, 180, 0, 3, 180, 0, 46, 180, 0, 117, 42, 180, 0, 3, 180, 0, 97, 182, 0, 121]
abbrev dktX5_pays_2 : List UInt8 := dkwX5_pays_2 ++ dktX5_pays_3
def dkwX5_pays_1 : List UInt8 := [182, 0, 57, 180, 0, 107, 133, 80, 42, 180, 0, 3, 180, 0, 46, 180, 0, 117, 199, 0, 7, 10]
abbrev dktX5_pays_1 : List UInt8 := dkwX5_pays_1 ++ dktX5_pays_2
def dkwX5_pays_0 : List UInt8 := [42, 27, 29, 182, 0, 113, 42, 180, 0, 3, 180, 0, 97, 180, 0, 101, 16, 6, 42, 180, 0, 3, 28]
abbrev dktX5_pays_0 : List UInt8 := dkwX5_pays_0 ++ dktX5_pays_1
theorem dksX5_pays_0 : cX5_pays.data.toList.drop 0 = dktX5_pays_0 := by decide +kernel
theorem dksX5_pays_1 : cX5_pays.data.toList.drop 23 = dktX5_pays_1 := dk_seg dksX5_pays_0 23 rfl rfl
theorem dksX5_pays_2 : cX5_pays.data.toList.drop 45 = dktX5_pays_2 := dk_seg dksX5_pays_1 22 rfl rfl
theorem dksX5_pays_3 : cX5_pays.data.toList.drop 68 = dktX5_pays_3 := dk_seg dksX5_pays_2 23 rfl rfl
theorem dksX5_pays_4 : cX5_pays.data.toList.drop 92 = dktX5_pays_4 := dk_seg dksX5_pays_3 24 rfl rfl
theorem dksX5_pays_5 : cX5_pays.data.toList.drop 115 = dktX5_pays_5 := dk_seg dksX5_pays_4 23 rfl rfl
theorem dksX5_pays_6 : cX5_pays.data.toList.drop 139 = dktX5_pays_6 := dk_seg dksX5_pays_5 24 rfl rfl
theorem dX5_pays_0 : decode cX5_pays 0 = .ok (.aload_n 0, 1) := dk_42 (dk_at dksX5_pays_0 0 rfl rfl)
theorem dX5_pays_1 : decode cX5_pays 1 = .ok (.iload_n 1, 1) := dk_27 (dk_at dksX5_pays_0 1 rfl rfl)
theorem dX5_pays_2 : decode cX5_pays 2 = .ok (.iload_n 3, 1) := dk_29 (dk_at dksX5_pays_0 2 rfl rfl)
theorem dX5_pays_3 : decode cX5_pays 3 = .ok (.invokevirtual 113, 3) := dk_182 0 113 (dk_at dksX5_pays_0 3 rfl rfl)
theorem dX5_pays_6 : decode cX5_pays 6 = .ok (.aload_n 0, 1) := dk_42 (dk_at dksX5_pays_0 6 rfl rfl)
theorem dX5_pays_7 : decode cX5_pays 7 = .ok (.getfield 3, 3) := dk_180 0 3 (dk_at dksX5_pays_0 7 rfl rfl)
theorem dX5_pays_10 : decode cX5_pays 10 = .ok (.getfield 97, 3) := dk_180 0 97 (dk_at dksX5_pays_0 10 rfl rfl)
theorem dX5_pays_13 : decode cX5_pays 13 = .ok (.getfield 101, 3) := dk_180 0 101 (dk_at dksX5_pays_0 13 rfl rfl)
theorem dX5_pays_16 : decode cX5_pays 16 = .ok (.bipush 6, 2) := dk_16 6 (dk_at dksX5_pays_0 16 rfl rfl)
theorem dX5_pays_18 : decode cX5_pays 18 = .ok (.aload_n 0, 1) := dk_42 (dk_at dksX5_pays_0 18 rfl rfl)
theorem dX5_pays_19 : decode cX5_pays 19 = .ok (.getfield 3, 3) := dk_180 0 3 (dk_at dksX5_pays_0 19 rfl rfl)
theorem dX5_pays_22 : decode cX5_pays 22 = .ok (.iload_n 2, 1) := dk_28 (dk_at dksX5_pays_0 22 rfl rfl)
theorem dX5_pays_23 : decode cX5_pays 23 = .ok (.invokevirtual 57, 3) := dk_182 0 57 (dk_at dksX5_pays_1 0 rfl rfl)
theorem dX5_pays_26 : decode cX5_pays 26 = .ok (.getfield 107, 3) := dk_180 0 107 (dk_at dksX5_pays_1 3 rfl rfl)
theorem dX5_pays_29 : decode cX5_pays 29 = .ok (.i2l, 1) := dk_133 (dk_at dksX5_pays_1 6 rfl rfl)
theorem dX5_pays_30 : decode cX5_pays 30 = .ok (.lastore, 1) := dk_80 (dk_at dksX5_pays_1 7 rfl rfl)
theorem dX5_pays_31 : decode cX5_pays 31 = .ok (.aload_n 0, 1) := dk_42 (dk_at dksX5_pays_1 8 rfl rfl)
theorem dX5_pays_32 : decode cX5_pays 32 = .ok (.getfield 3, 3) := dk_180 0 3 (dk_at dksX5_pays_1 9 rfl rfl)
theorem dX5_pays_35 : decode cX5_pays 35 = .ok (.getfield 46, 3) := dk_180 0 46 (dk_at dksX5_pays_1 12 rfl rfl)
theorem dX5_pays_38 : decode cX5_pays 38 = .ok (.getfield 117, 3) := dk_180 0 117 (dk_at dksX5_pays_1 15 rfl rfl)
theorem dX5_pays_41 : decode cX5_pays 41 = .ok (.ifnonnull 7, 3) := dk_199 0 7 (dk_at dksX5_pays_1 18 rfl rfl)
theorem dX5_pays_44 : decode cX5_pays 44 = .ok (.lconst 1, 1) := dk_10 (dk_at dksX5_pays_1 21 rfl rfl)
theorem dX5_pays_45 : decode cX5_pays 45 = .ok (.goto 23, 3) := dk_167 0 23 (dk_at dksX5_pays_2 0 rfl rfl)
theorem dX5_pays_48 : decode cX5_pays 48 = .ok (.aload_n 0, 1) := dk_42 (dk_at dksX5_pays_2 3 rfl rfl)
theorem dX5_pays_49 : decode cX5_pays 49 = .ok (.getfield 3, 3) := dk_180 0 3 (dk_at dksX5_pays_2 4 rfl rfl)
theorem dX5_pays_52 : decode cX5_pays 52 = .ok (.getfield 46, 3) := dk_180 0 46 (dk_at dksX5_pays_2 7 rfl rfl)
theorem dX5_pays_55 : decode cX5_pays 55 = .ok (.getfield 117, 3) := dk_180 0 117 (dk_at dksX5_pays_2 10 rfl rfl)
theorem dX5_pays_58 : decode cX5_pays 58 = .ok (.aload_n 0, 1) := dk_42 (dk_at dksX5_pays_2 13 rfl rfl)
theorem dX5_pays_59 : decode cX5_pays 59 = .ok (.getfield 3, 3) := dk_180 0 3 (dk_at dksX5_pays_2 14 rfl rfl)
theorem dX5_pays_62 : decode cX5_pays 62 = .ok (.getfield 97, 3) := dk_180 0 97 (dk_at dksX5_pays_2 17 rfl rfl)
theorem dX5_pays_65 : decode cX5_pays 65 = .ok (.invokevirtual 121, 3) := dk_182 0 121 (dk_at dksX5_pays_2 20 rfl rfl)
theorem dX5_pays_68 : decode cX5_pays 68 = .ok (.lstore 4, 2) := dk_55 4 (dk_at dksX5_pays_3 0 rfl rfl)
theorem dX5_pays_70 : decode cX5_pays 70 = .ok (.lload 4, 2) := dk_22 4 (dk_at dksX5_pays_3 2 rfl rfl)
theorem dX5_pays_72 : decode cX5_pays 72 = .ok (.lconst 0, 1) := dk_9 (dk_at dksX5_pays_3 4 rfl rfl)
theorem dX5_pays_73 : decode cX5_pays 73 = .ok (.lcmp, 1) := dk_148 (dk_at dksX5_pays_3 5 rfl rfl)
theorem dX5_pays_74 : decode cX5_pays 74 = .ok (.ifCond .ge 7, 3) := dk_156 0 7 (dk_at dksX5_pays_3 6 rfl rfl)
theorem dX5_pays_77 : decode cX5_pays 77 = .ok (.iload_n 2, 1) := dk_28 (dk_at dksX5_pays_3 9 rfl rfl)
theorem dX5_pays_78 : decode cX5_pays 78 = .ok (.goto 4, 3) := dk_167 0 4 (dk_at dksX5_pays_3 10 rfl rfl)
theorem dX5_pays_81 : decode cX5_pays 81 = .ok (.iload_n 1, 1) := dk_27 (dk_at dksX5_pays_3 13 rfl rfl)
theorem dX5_pays_82 : decode cX5_pays 82 = .ok (.istore 6, 2) := dk_54 6 (dk_at dksX5_pays_3 14 rfl rfl)
theorem dX5_pays_84 : decode cX5_pays 84 = .ok (.lload 4, 2) := dk_22 4 (dk_at dksX5_pays_3 16 rfl rfl)
theorem dX5_pays_86 : decode cX5_pays 86 = .ok (.lconst 0, 1) := dk_9 (dk_at dksX5_pays_3 18 rfl rfl)
theorem dX5_pays_87 : decode cX5_pays 87 = .ok (.lcmp, 1) := dk_148 (dk_at dksX5_pays_3 19 rfl rfl)
theorem dX5_pays_88 : decode cX5_pays 88 = .ok (.ifCond .ge 7, 3) := dk_156 0 7 (dk_at dksX5_pays_3 20 rfl rfl)
theorem dX5_pays_91 : decode cX5_pays 91 = .ok (.iload_n 1, 1) := dk_27 (dk_at dksX5_pays_3 23 rfl rfl)
theorem dX5_pays_92 : decode cX5_pays 92 = .ok (.goto 4, 3) := dk_167 0 4 (dk_at dksX5_pays_4 0 rfl rfl)
theorem dX5_pays_95 : decode cX5_pays 95 = .ok (.iload_n 2, 1) := dk_28 (dk_at dksX5_pays_4 3 rfl rfl)
theorem dX5_pays_96 : decode cX5_pays 96 = .ok (.istore 7, 2) := dk_54 7 (dk_at dksX5_pays_4 4 rfl rfl)
theorem dX5_pays_98 : decode cX5_pays 98 = .ok (.aload_n 0, 1) := dk_42 (dk_at dksX5_pays_4 6 rfl rfl)
theorem dX5_pays_99 : decode cX5_pays 99 = .ok (.getfield 25, 3) := dk_180 0 25 (dk_at dksX5_pays_4 7 rfl rfl)
theorem dX5_pays_102 : decode cX5_pays 102 = .ok (.iload 6, 2) := dk_21 6 (dk_at dksX5_pays_4 10 rfl rfl)
theorem dX5_pays_104 : decode cX5_pays 104 = .ok (.iaload, 1) := dk_46 (dk_at dksX5_pays_4 12 rfl rfl)
theorem dX5_pays_105 : decode cX5_pays 105 = .ok (.i2l, 1) := dk_133 (dk_at dksX5_pays_4 13 rfl rfl)
theorem dX5_pays_106 : decode cX5_pays 106 = .ok (.lload 4, 2) := dk_22 4 (dk_at dksX5_pays_4 14 rfl rfl)
theorem dX5_pays_108 : decode cX5_pays 108 = .ok (.invokestatic 127, 3) := dk_184 0 127 (dk_at dksX5_pays_4 16 rfl rfl)
theorem dX5_pays_111 : decode cX5_pays 111 = .ok (.invokestatic 130, 3) := dk_184 0 130 (dk_at dksX5_pays_4 19 rfl rfl)
theorem dX5_pays_114 : decode cX5_pays 114 = .ok (.l2i, 1) := dk_136 (dk_at dksX5_pays_4 22 rfl rfl)
theorem dX5_pays_115 : decode cX5_pays 115 = .ok (.istore 8, 2) := dk_54 8 (dk_at dksX5_pays_5 0 rfl rfl)
theorem dX5_pays_117 : decode cX5_pays 117 = .ok (.aload_n 0, 1) := dk_42 (dk_at dksX5_pays_5 2 rfl rfl)
theorem dX5_pays_118 : decode cX5_pays 118 = .ok (.getfield 25, 3) := dk_180 0 25 (dk_at dksX5_pays_5 3 rfl rfl)
theorem dX5_pays_121 : decode cX5_pays 121 = .ok (.iload 6, 2) := dk_21 6 (dk_at dksX5_pays_5 6 rfl rfl)
theorem dX5_pays_123 : decode cX5_pays 123 = .ok (.dup2, 1) := dk_92 (dk_at dksX5_pays_5 8 rfl rfl)
theorem dX5_pays_124 : decode cX5_pays 124 = .ok (.iaload, 1) := dk_46 (dk_at dksX5_pays_5 9 rfl rfl)
theorem dX5_pays_125 : decode cX5_pays 125 = .ok (.iload 8, 2) := dk_21 8 (dk_at dksX5_pays_5 10 rfl rfl)
theorem dX5_pays_127 : decode cX5_pays 127 = .ok (.isub, 1) := dk_100 (dk_at dksX5_pays_5 12 rfl rfl)
theorem dX5_pays_128 : decode cX5_pays 128 = .ok (.iastore, 1) := dk_79 (dk_at dksX5_pays_5 13 rfl rfl)
theorem dX5_pays_129 : decode cX5_pays 129 = .ok (.aload_n 0, 1) := dk_42 (dk_at dksX5_pays_5 14 rfl rfl)
theorem dX5_pays_130 : decode cX5_pays 130 = .ok (.getfield 25, 3) := dk_180 0 25 (dk_at dksX5_pays_5 15 rfl rfl)
theorem dX5_pays_133 : decode cX5_pays 133 = .ok (.iload 7, 2) := dk_21 7 (dk_at dksX5_pays_5 18 rfl rfl)
theorem dX5_pays_135 : decode cX5_pays 135 = .ok (.sipush 9999, 3) := dk_17 39 15 (dk_at dksX5_pays_5 20 rfl rfl)
theorem dX5_pays_138 : decode cX5_pays 138 = .ok (.aload_n 0, 1) := dk_42 (dk_at dksX5_pays_5 23 rfl rfl)
theorem dX5_pays_139 : decode cX5_pays 139 = .ok (.getfield 25, 3) := dk_180 0 25 (dk_at dksX5_pays_6 0 rfl rfl)
theorem dX5_pays_142 : decode cX5_pays 142 = .ok (.iload 7, 2) := dk_21 7 (dk_at dksX5_pays_6 3 rfl rfl)
theorem dX5_pays_144 : decode cX5_pays 144 = .ok (.iaload, 1) := dk_46 (dk_at dksX5_pays_6 5 rfl rfl)
theorem dX5_pays_145 : decode cX5_pays 145 = .ok (.iload 8, 2) := dk_21 8 (dk_at dksX5_pays_6 6 rfl rfl)
theorem dX5_pays_147 : decode cX5_pays 147 = .ok (.iadd, 1) := dk_96 (dk_at dksX5_pays_6 8 rfl rfl)
theorem dX5_pays_148 : decode cX5_pays 148 = .ok (.invokestatic 84, 3) := dk_184 0 84 (dk_at dksX5_pays_6 9 rfl rfl)
theorem dX5_pays_151 : decode cX5_pays 151 = .ok (.iastore, 1) := dk_79 (dk_at dksX5_pays_6 12 rfl rfl)
theorem dX5_pays_152 : decode cX5_pays 152 = .ok (.return_, 1) := dk_177 (dk_at dksX5_pays_6 13 rfl rfl)
abbrev cX5_asks : ByteArray := prog_16_method_8_code
def yX5_asks : MethodName := ⟨RX5, "asks", "(II)V"⟩
def dkwX5_asks_5 : List UInt8 := [153, 0, 7, 10, 167, 0, 4, 9, 80, 177]
abbrev dktX5_asks_5 : List UInt8 := dkwX5_asks_5 ++ []
def dkwX5_asks_4 : List UInt8 := [46, 133, 80, 42, 180, 0, 3, 180, 0, 97, 180, 0, 101, 8, 42, 180, 0, 19, 27, 46, 28, 184, 0, 110]
abbrev dktX5_asks_4 : List UInt8 := dkwX5_asks_4 ++ dktX5_asks_5
def dkwX5_asks_3 : List UInt8 := [182, 0, 57, 180, 0, 107, 133, 80, 42, 180, 0, 3, 180, 0, 97, 180, 0, 101, 7, 42, 180, 0, 25, 27]
abbrev dktX5_asks_3 : List UInt8 := dkwX5_asks_3 ++ dktX5_asks_4
def dkwX5_asks_2 : List UInt8 := [180, 0, 22, 27, 46, 133, 80, 42, 180, 0, 3, 180, 0, 97, 180, 0, 101, 6, 42, 180, 0, 3, 27]
abbrev dktX5_asks_2 : List UInt8 := dkwX5_asks_2 ++ dktX5_asks_3
def dkwX5_asks_1 : List UInt8 := [180, 0, 101, 4, 42, 180, 0, 19, 27, 46, 133, 80, 42, 180, 0, 3, 180, 0, 97, 180, 0, 101, 5, 42]
abbrev dktX5_asks_1 : List UInt8 := dkwX5_asks_1 ++ dktX5_asks_2
def dkwX5_asks_0 : List UInt8 := [42, 180, 0, 3, 180, 0, 97, 180, 0, 101, 3, 42, 180, 0, 39, 133, 80, 42, 180, 0, 3, 180, 0, 97]
abbrev dktX5_asks_0 : List UInt8 := dkwX5_asks_0 ++ dktX5_asks_1
theorem dksX5_asks_0 : cX5_asks.data.toList.drop 0 = dktX5_asks_0 := by decide +kernel
theorem dksX5_asks_1 : cX5_asks.data.toList.drop 24 = dktX5_asks_1 := dk_seg dksX5_asks_0 24 rfl rfl
theorem dksX5_asks_2 : cX5_asks.data.toList.drop 48 = dktX5_asks_2 := dk_seg dksX5_asks_1 24 rfl rfl
theorem dksX5_asks_3 : cX5_asks.data.toList.drop 71 = dktX5_asks_3 := dk_seg dksX5_asks_2 23 rfl rfl
theorem dksX5_asks_4 : cX5_asks.data.toList.drop 95 = dktX5_asks_4 := dk_seg dksX5_asks_3 24 rfl rfl
theorem dksX5_asks_5 : cX5_asks.data.toList.drop 119 = dktX5_asks_5 := dk_seg dksX5_asks_4 24 rfl rfl
theorem dX5_asks_0 : decode cX5_asks 0 = .ok (.aload_n 0, 1) := dk_42 (dk_at dksX5_asks_0 0 rfl rfl)
theorem dX5_asks_1 : decode cX5_asks 1 = .ok (.getfield 3, 3) := dk_180 0 3 (dk_at dksX5_asks_0 1 rfl rfl)
theorem dX5_asks_4 : decode cX5_asks 4 = .ok (.getfield 97, 3) := dk_180 0 97 (dk_at dksX5_asks_0 4 rfl rfl)
theorem dX5_asks_7 : decode cX5_asks 7 = .ok (.getfield 101, 3) := dk_180 0 101 (dk_at dksX5_asks_0 7 rfl rfl)
theorem dX5_asks_10 : decode cX5_asks 10 = .ok (.iconst 0, 1) := dk_3 (dk_at dksX5_asks_0 10 rfl rfl)
theorem dX5_asks_11 : decode cX5_asks 11 = .ok (.aload_n 0, 1) := dk_42 (dk_at dksX5_asks_0 11 rfl rfl)
theorem dX5_asks_12 : decode cX5_asks 12 = .ok (.getfield 39, 3) := dk_180 0 39 (dk_at dksX5_asks_0 12 rfl rfl)
theorem dX5_asks_15 : decode cX5_asks 15 = .ok (.i2l, 1) := dk_133 (dk_at dksX5_asks_0 15 rfl rfl)
theorem dX5_asks_16 : decode cX5_asks 16 = .ok (.lastore, 1) := dk_80 (dk_at dksX5_asks_0 16 rfl rfl)
theorem dX5_asks_17 : decode cX5_asks 17 = .ok (.aload_n 0, 1) := dk_42 (dk_at dksX5_asks_0 17 rfl rfl)
theorem dX5_asks_18 : decode cX5_asks 18 = .ok (.getfield 3, 3) := dk_180 0 3 (dk_at dksX5_asks_0 18 rfl rfl)
theorem dX5_asks_21 : decode cX5_asks 21 = .ok (.getfield 97, 3) := dk_180 0 97 (dk_at dksX5_asks_0 21 rfl rfl)
theorem dX5_asks_24 : decode cX5_asks 24 = .ok (.getfield 101, 3) := dk_180 0 101 (dk_at dksX5_asks_1 0 rfl rfl)
theorem dX5_asks_27 : decode cX5_asks 27 = .ok (.iconst 1, 1) := dk_4 (dk_at dksX5_asks_1 3 rfl rfl)
theorem dX5_asks_28 : decode cX5_asks 28 = .ok (.aload_n 0, 1) := dk_42 (dk_at dksX5_asks_1 4 rfl rfl)
theorem dX5_asks_29 : decode cX5_asks 29 = .ok (.getfield 19, 3) := dk_180 0 19 (dk_at dksX5_asks_1 5 rfl rfl)
theorem dX5_asks_32 : decode cX5_asks 32 = .ok (.iload_n 1, 1) := dk_27 (dk_at dksX5_asks_1 8 rfl rfl)
theorem dX5_asks_33 : decode cX5_asks 33 = .ok (.iaload, 1) := dk_46 (dk_at dksX5_asks_1 9 rfl rfl)
theorem dX5_asks_34 : decode cX5_asks 34 = .ok (.i2l, 1) := dk_133 (dk_at dksX5_asks_1 10 rfl rfl)
theorem dX5_asks_35 : decode cX5_asks 35 = .ok (.lastore, 1) := dk_80 (dk_at dksX5_asks_1 11 rfl rfl)
theorem dX5_asks_36 : decode cX5_asks 36 = .ok (.aload_n 0, 1) := dk_42 (dk_at dksX5_asks_1 12 rfl rfl)
theorem dX5_asks_37 : decode cX5_asks 37 = .ok (.getfield 3, 3) := dk_180 0 3 (dk_at dksX5_asks_1 13 rfl rfl)
theorem dX5_asks_40 : decode cX5_asks 40 = .ok (.getfield 97, 3) := dk_180 0 97 (dk_at dksX5_asks_1 16 rfl rfl)
theorem dX5_asks_43 : decode cX5_asks 43 = .ok (.getfield 101, 3) := dk_180 0 101 (dk_at dksX5_asks_1 19 rfl rfl)
theorem dX5_asks_46 : decode cX5_asks 46 = .ok (.iconst 2, 1) := dk_5 (dk_at dksX5_asks_1 22 rfl rfl)
theorem dX5_asks_47 : decode cX5_asks 47 = .ok (.aload_n 0, 1) := dk_42 (dk_at dksX5_asks_1 23 rfl rfl)
theorem dX5_asks_48 : decode cX5_asks 48 = .ok (.getfield 22, 3) := dk_180 0 22 (dk_at dksX5_asks_2 0 rfl rfl)
theorem dX5_asks_51 : decode cX5_asks 51 = .ok (.iload_n 1, 1) := dk_27 (dk_at dksX5_asks_2 3 rfl rfl)
theorem dX5_asks_52 : decode cX5_asks 52 = .ok (.iaload, 1) := dk_46 (dk_at dksX5_asks_2 4 rfl rfl)
theorem dX5_asks_53 : decode cX5_asks 53 = .ok (.i2l, 1) := dk_133 (dk_at dksX5_asks_2 5 rfl rfl)
theorem dX5_asks_54 : decode cX5_asks 54 = .ok (.lastore, 1) := dk_80 (dk_at dksX5_asks_2 6 rfl rfl)
theorem dX5_asks_55 : decode cX5_asks 55 = .ok (.aload_n 0, 1) := dk_42 (dk_at dksX5_asks_2 7 rfl rfl)
theorem dX5_asks_56 : decode cX5_asks 56 = .ok (.getfield 3, 3) := dk_180 0 3 (dk_at dksX5_asks_2 8 rfl rfl)
theorem dX5_asks_59 : decode cX5_asks 59 = .ok (.getfield 97, 3) := dk_180 0 97 (dk_at dksX5_asks_2 11 rfl rfl)
theorem dX5_asks_62 : decode cX5_asks 62 = .ok (.getfield 101, 3) := dk_180 0 101 (dk_at dksX5_asks_2 14 rfl rfl)
theorem dX5_asks_65 : decode cX5_asks 65 = .ok (.iconst 3, 1) := dk_6 (dk_at dksX5_asks_2 17 rfl rfl)
theorem dX5_asks_66 : decode cX5_asks 66 = .ok (.aload_n 0, 1) := dk_42 (dk_at dksX5_asks_2 18 rfl rfl)
theorem dX5_asks_67 : decode cX5_asks 67 = .ok (.getfield 3, 3) := dk_180 0 3 (dk_at dksX5_asks_2 19 rfl rfl)
theorem dX5_asks_70 : decode cX5_asks 70 = .ok (.iload_n 1, 1) := dk_27 (dk_at dksX5_asks_2 22 rfl rfl)
theorem dX5_asks_71 : decode cX5_asks 71 = .ok (.invokevirtual 57, 3) := dk_182 0 57 (dk_at dksX5_asks_3 0 rfl rfl)
theorem dX5_asks_74 : decode cX5_asks 74 = .ok (.getfield 107, 3) := dk_180 0 107 (dk_at dksX5_asks_3 3 rfl rfl)
theorem dX5_asks_77 : decode cX5_asks 77 = .ok (.i2l, 1) := dk_133 (dk_at dksX5_asks_3 6 rfl rfl)
theorem dX5_asks_78 : decode cX5_asks 78 = .ok (.lastore, 1) := dk_80 (dk_at dksX5_asks_3 7 rfl rfl)
theorem dX5_asks_79 : decode cX5_asks 79 = .ok (.aload_n 0, 1) := dk_42 (dk_at dksX5_asks_3 8 rfl rfl)
theorem dX5_asks_80 : decode cX5_asks 80 = .ok (.getfield 3, 3) := dk_180 0 3 (dk_at dksX5_asks_3 9 rfl rfl)
theorem dX5_asks_83 : decode cX5_asks 83 = .ok (.getfield 97, 3) := dk_180 0 97 (dk_at dksX5_asks_3 12 rfl rfl)
theorem dX5_asks_86 : decode cX5_asks 86 = .ok (.getfield 101, 3) := dk_180 0 101 (dk_at dksX5_asks_3 15 rfl rfl)
theorem dX5_asks_89 : decode cX5_asks 89 = .ok (.iconst 4, 1) := dk_7 (dk_at dksX5_asks_3 18 rfl rfl)
theorem dX5_asks_90 : decode cX5_asks 90 = .ok (.aload_n 0, 1) := dk_42 (dk_at dksX5_asks_3 19 rfl rfl)
theorem dX5_asks_91 : decode cX5_asks 91 = .ok (.getfield 25, 3) := dk_180 0 25 (dk_at dksX5_asks_3 20 rfl rfl)
theorem dX5_asks_94 : decode cX5_asks 94 = .ok (.iload_n 1, 1) := dk_27 (dk_at dksX5_asks_3 23 rfl rfl)
theorem dX5_asks_95 : decode cX5_asks 95 = .ok (.iaload, 1) := dk_46 (dk_at dksX5_asks_4 0 rfl rfl)
theorem dX5_asks_96 : decode cX5_asks 96 = .ok (.i2l, 1) := dk_133 (dk_at dksX5_asks_4 1 rfl rfl)
theorem dX5_asks_97 : decode cX5_asks 97 = .ok (.lastore, 1) := dk_80 (dk_at dksX5_asks_4 2 rfl rfl)
theorem dX5_asks_98 : decode cX5_asks 98 = .ok (.aload_n 0, 1) := dk_42 (dk_at dksX5_asks_4 3 rfl rfl)
theorem dX5_asks_99 : decode cX5_asks 99 = .ok (.getfield 3, 3) := dk_180 0 3 (dk_at dksX5_asks_4 4 rfl rfl)
theorem dX5_asks_102 : decode cX5_asks 102 = .ok (.getfield 97, 3) := dk_180 0 97 (dk_at dksX5_asks_4 7 rfl rfl)
theorem dX5_asks_105 : decode cX5_asks 105 = .ok (.getfield 101, 3) := dk_180 0 101 (dk_at dksX5_asks_4 10 rfl rfl)
theorem dX5_asks_108 : decode cX5_asks 108 = .ok (.iconst 5, 1) := dk_8 (dk_at dksX5_asks_4 13 rfl rfl)
theorem dX5_asks_109 : decode cX5_asks 109 = .ok (.aload_n 0, 1) := dk_42 (dk_at dksX5_asks_4 14 rfl rfl)
theorem dX5_asks_110 : decode cX5_asks 110 = .ok (.getfield 19, 3) := dk_180 0 19 (dk_at dksX5_asks_4 15 rfl rfl)
theorem dX5_asks_113 : decode cX5_asks 113 = .ok (.iload_n 1, 1) := dk_27 (dk_at dksX5_asks_4 18 rfl rfl)
theorem dX5_asks_114 : decode cX5_asks 114 = .ok (.iaload, 1) := dk_46 (dk_at dksX5_asks_4 19 rfl rfl)
theorem dX5_asks_115 : decode cX5_asks 115 = .ok (.iload_n 2, 1) := dk_28 (dk_at dksX5_asks_4 20 rfl rfl)
theorem dX5_asks_116 : decode cX5_asks 116 = .ok (.invokestatic 110, 3) := dk_184 0 110 (dk_at dksX5_asks_4 21 rfl rfl)
theorem dX5_asks_119 : decode cX5_asks 119 = .ok (.ifCond .eq 7, 3) := dk_153 0 7 (dk_at dksX5_asks_5 0 rfl rfl)
theorem dX5_asks_122 : decode cX5_asks 122 = .ok (.lconst 1, 1) := dk_10 (dk_at dksX5_asks_5 3 rfl rfl)
theorem dX5_asks_123 : decode cX5_asks 123 = .ok (.goto 4, 3) := dk_167 0 4 (dk_at dksX5_asks_5 4 rfl rfl)
theorem dX5_asks_126 : decode cX5_asks 126 = .ok (.lconst 0, 1) := dk_9 (dk_at dksX5_asks_5 7 rfl rfl)
theorem dX5_asks_127 : decode cX5_asks 127 = .ok (.lastore, 1) := dk_80 (dk_at dksX5_asks_5 8 rfl rfl)
theorem dX5_asks_128 : decode cX5_asks 128 = .ok (.return_, 1) := dk_177 (dk_at dksX5_asks_5 9 rfl rfl)
abbrev cX5_tells : ByteArray := prog_16_method_10_code
def yX5_tells : MethodName := ⟨RX5, "tells", "(II)V"⟩
def dkwX5_tells_5 : List UInt8 := [177]
abbrev dktX5_tells_5 : List UInt8 := dkwX5_tells_5 ++ []
def dkwX5_tells_4 : List UInt8 := [27, 79, 42, 180, 0, 33, 42, 180, 0, 43, 50, 5, 28, 79, 42, 89, 180, 0, 43, 4, 96, 181, 0, 43]
abbrev dktX5_tells_4 : List UInt8 := dkwX5_tells_4 ++ dktX5_tells_5
def dkwX5_tells_3 : List UInt8 := [180, 0, 33, 42, 180, 0, 43, 50, 3, 42, 180, 0, 39, 79, 42, 180, 0, 33, 42, 180, 0, 43, 50, 4]
abbrev dktX5_tells_3 : List UInt8 := dkwX5_tells_3 ++ dktX5_tells_4
def dkwX5_tells_2 : List UInt8 := [167, 255, 230, 42, 180, 0, 33, 16, 39, 45, 83, 42, 89, 180, 0, 43, 4, 100, 181, 0, 43, 42]
abbrev dktX5_tells_2 : List UInt8 := dkwX5_tells_2 ++ dktX5_tells_3
def dkwX5_tells_1 : List UInt8 := [162, 0, 25, 42, 180, 0, 33, 21, 4, 4, 100, 42, 180, 0, 33, 21, 4, 50, 83, 132, 4, 1]
abbrev dktX5_tells_1 : List UInt8 := dkwX5_tells_1 ++ dktX5_tells_2
def dkwX5_tells_0 : List UInt8 := [42, 180, 0, 43, 16, 40, 160, 0, 60, 42, 180, 0, 33, 3, 50, 78, 4, 54, 4, 21, 4, 16, 40]
abbrev dktX5_tells_0 : List UInt8 := dkwX5_tells_0 ++ dktX5_tells_1
theorem dksX5_tells_0 : cX5_tells.data.toList.drop 0 = dktX5_tells_0 := by decide +kernel
theorem dksX5_tells_1 : cX5_tells.data.toList.drop 23 = dktX5_tells_1 := dk_seg dksX5_tells_0 23 rfl rfl
theorem dksX5_tells_2 : cX5_tells.data.toList.drop 45 = dktX5_tells_2 := dk_seg dksX5_tells_1 22 rfl rfl
theorem dksX5_tells_3 : cX5_tells.data.toList.drop 67 = dktX5_tells_3 := dk_seg dksX5_tells_2 22 rfl rfl
theorem dksX5_tells_4 : cX5_tells.data.toList.drop 91 = dktX5_tells_4 := dk_seg dksX5_tells_3 24 rfl rfl
theorem dksX5_tells_5 : cX5_tells.data.toList.drop 115 = dktX5_tells_5 := dk_seg dksX5_tells_4 24 rfl rfl
theorem dX5_tells_0 : decode cX5_tells 0 = .ok (.aload_n 0, 1) := dk_42 (dk_at dksX5_tells_0 0 rfl rfl)
theorem dX5_tells_1 : decode cX5_tells 1 = .ok (.getfield 43, 3) := dk_180 0 43 (dk_at dksX5_tells_0 1 rfl rfl)
theorem dX5_tells_4 : decode cX5_tells 4 = .ok (.bipush 40, 2) := dk_16 40 (dk_at dksX5_tells_0 4 rfl rfl)
theorem dX5_tells_6 : decode cX5_tells 6 = .ok (.if_icmp .ne 60, 3) := dk_160 0 60 (dk_at dksX5_tells_0 6 rfl rfl)
theorem dX5_tells_9 : decode cX5_tells 9 = .ok (.aload_n 0, 1) := dk_42 (dk_at dksX5_tells_0 9 rfl rfl)
theorem dX5_tells_10 : decode cX5_tells 10 = .ok (.getfield 33, 3) := dk_180 0 33 (dk_at dksX5_tells_0 10 rfl rfl)
theorem dX5_tells_13 : decode cX5_tells 13 = .ok (.iconst 0, 1) := dk_3 (dk_at dksX5_tells_0 13 rfl rfl)
theorem dX5_tells_14 : decode cX5_tells 14 = .ok (.aaload, 1) := dk_50 (dk_at dksX5_tells_0 14 rfl rfl)
theorem dX5_tells_15 : decode cX5_tells 15 = .ok (.astore_n 3, 1) := dk_78 (dk_at dksX5_tells_0 15 rfl rfl)
theorem dX5_tells_16 : decode cX5_tells 16 = .ok (.iconst 1, 1) := dk_4 (dk_at dksX5_tells_0 16 rfl rfl)
theorem dX5_tells_17 : decode cX5_tells 17 = .ok (.istore 4, 2) := dk_54 4 (dk_at dksX5_tells_0 17 rfl rfl)
theorem dX5_tells_19 : decode cX5_tells 19 = .ok (.iload 4, 2) := dk_21 4 (dk_at dksX5_tells_0 19 rfl rfl)
theorem dX5_tells_21 : decode cX5_tells 21 = .ok (.bipush 40, 2) := dk_16 40 (dk_at dksX5_tells_0 21 rfl rfl)
theorem dX5_tells_23 : decode cX5_tells 23 = .ok (.if_icmp .ge 25, 3) := dk_162 0 25 (dk_at dksX5_tells_1 0 rfl rfl)
theorem dX5_tells_26 : decode cX5_tells 26 = .ok (.aload_n 0, 1) := dk_42 (dk_at dksX5_tells_1 3 rfl rfl)
theorem dX5_tells_27 : decode cX5_tells 27 = .ok (.getfield 33, 3) := dk_180 0 33 (dk_at dksX5_tells_1 4 rfl rfl)
theorem dX5_tells_30 : decode cX5_tells 30 = .ok (.iload 4, 2) := dk_21 4 (dk_at dksX5_tells_1 7 rfl rfl)
theorem dX5_tells_32 : decode cX5_tells 32 = .ok (.iconst 1, 1) := dk_4 (dk_at dksX5_tells_1 9 rfl rfl)
theorem dX5_tells_33 : decode cX5_tells 33 = .ok (.isub, 1) := dk_100 (dk_at dksX5_tells_1 10 rfl rfl)
theorem dX5_tells_34 : decode cX5_tells 34 = .ok (.aload_n 0, 1) := dk_42 (dk_at dksX5_tells_1 11 rfl rfl)
theorem dX5_tells_35 : decode cX5_tells 35 = .ok (.getfield 33, 3) := dk_180 0 33 (dk_at dksX5_tells_1 12 rfl rfl)
theorem dX5_tells_38 : decode cX5_tells 38 = .ok (.iload 4, 2) := dk_21 4 (dk_at dksX5_tells_1 15 rfl rfl)
theorem dX5_tells_40 : decode cX5_tells 40 = .ok (.aaload, 1) := dk_50 (dk_at dksX5_tells_1 17 rfl rfl)
theorem dX5_tells_41 : decode cX5_tells 41 = .ok (.aastore, 1) := dk_83 (dk_at dksX5_tells_1 18 rfl rfl)
theorem dX5_tells_42 : decode cX5_tells 42 = .ok (.iinc 4 1, 3) := dk_132 4 1 (dk_at dksX5_tells_1 19 rfl rfl)
theorem dX5_tells_45 : decode cX5_tells 45 = .ok (.goto (-26), 3) := dk_167 255 230 (dk_at dksX5_tells_2 0 rfl rfl)
theorem dX5_tells_48 : decode cX5_tells 48 = .ok (.aload_n 0, 1) := dk_42 (dk_at dksX5_tells_2 3 rfl rfl)
theorem dX5_tells_49 : decode cX5_tells 49 = .ok (.getfield 33, 3) := dk_180 0 33 (dk_at dksX5_tells_2 4 rfl rfl)
theorem dX5_tells_52 : decode cX5_tells 52 = .ok (.bipush 39, 2) := dk_16 39 (dk_at dksX5_tells_2 7 rfl rfl)
theorem dX5_tells_54 : decode cX5_tells 54 = .ok (.aload_n 3, 1) := dk_45 (dk_at dksX5_tells_2 9 rfl rfl)
theorem dX5_tells_55 : decode cX5_tells 55 = .ok (.aastore, 1) := dk_83 (dk_at dksX5_tells_2 10 rfl rfl)
theorem dX5_tells_56 : decode cX5_tells 56 = .ok (.aload_n 0, 1) := dk_42 (dk_at dksX5_tells_2 11 rfl rfl)
theorem dX5_tells_57 : decode cX5_tells 57 = .ok (.dup, 1) := dk_89 (dk_at dksX5_tells_2 12 rfl rfl)
theorem dX5_tells_58 : decode cX5_tells 58 = .ok (.getfield 43, 3) := dk_180 0 43 (dk_at dksX5_tells_2 13 rfl rfl)
theorem dX5_tells_61 : decode cX5_tells 61 = .ok (.iconst 1, 1) := dk_4 (dk_at dksX5_tells_2 16 rfl rfl)
theorem dX5_tells_62 : decode cX5_tells 62 = .ok (.isub, 1) := dk_100 (dk_at dksX5_tells_2 17 rfl rfl)
theorem dX5_tells_63 : decode cX5_tells 63 = .ok (.putfield 43, 3) := dk_181 0 43 (dk_at dksX5_tells_2 18 rfl rfl)
theorem dX5_tells_66 : decode cX5_tells 66 = .ok (.aload_n 0, 1) := dk_42 (dk_at dksX5_tells_2 21 rfl rfl)
theorem dX5_tells_67 : decode cX5_tells 67 = .ok (.getfield 33, 3) := dk_180 0 33 (dk_at dksX5_tells_3 0 rfl rfl)
theorem dX5_tells_70 : decode cX5_tells 70 = .ok (.aload_n 0, 1) := dk_42 (dk_at dksX5_tells_3 3 rfl rfl)
theorem dX5_tells_71 : decode cX5_tells 71 = .ok (.getfield 43, 3) := dk_180 0 43 (dk_at dksX5_tells_3 4 rfl rfl)
theorem dX5_tells_74 : decode cX5_tells 74 = .ok (.aaload, 1) := dk_50 (dk_at dksX5_tells_3 7 rfl rfl)
theorem dX5_tells_75 : decode cX5_tells 75 = .ok (.iconst 0, 1) := dk_3 (dk_at dksX5_tells_3 8 rfl rfl)
theorem dX5_tells_76 : decode cX5_tells 76 = .ok (.aload_n 0, 1) := dk_42 (dk_at dksX5_tells_3 9 rfl rfl)
theorem dX5_tells_77 : decode cX5_tells 77 = .ok (.getfield 39, 3) := dk_180 0 39 (dk_at dksX5_tells_3 10 rfl rfl)
theorem dX5_tells_80 : decode cX5_tells 80 = .ok (.iastore, 1) := dk_79 (dk_at dksX5_tells_3 13 rfl rfl)
theorem dX5_tells_81 : decode cX5_tells 81 = .ok (.aload_n 0, 1) := dk_42 (dk_at dksX5_tells_3 14 rfl rfl)
theorem dX5_tells_82 : decode cX5_tells 82 = .ok (.getfield 33, 3) := dk_180 0 33 (dk_at dksX5_tells_3 15 rfl rfl)
theorem dX5_tells_85 : decode cX5_tells 85 = .ok (.aload_n 0, 1) := dk_42 (dk_at dksX5_tells_3 18 rfl rfl)
theorem dX5_tells_86 : decode cX5_tells 86 = .ok (.getfield 43, 3) := dk_180 0 43 (dk_at dksX5_tells_3 19 rfl rfl)
theorem dX5_tells_89 : decode cX5_tells 89 = .ok (.aaload, 1) := dk_50 (dk_at dksX5_tells_3 22 rfl rfl)
theorem dX5_tells_90 : decode cX5_tells 90 = .ok (.iconst 1, 1) := dk_4 (dk_at dksX5_tells_3 23 rfl rfl)
theorem dX5_tells_91 : decode cX5_tells 91 = .ok (.iload_n 1, 1) := dk_27 (dk_at dksX5_tells_4 0 rfl rfl)
theorem dX5_tells_92 : decode cX5_tells 92 = .ok (.iastore, 1) := dk_79 (dk_at dksX5_tells_4 1 rfl rfl)
theorem dX5_tells_93 : decode cX5_tells 93 = .ok (.aload_n 0, 1) := dk_42 (dk_at dksX5_tells_4 2 rfl rfl)
theorem dX5_tells_94 : decode cX5_tells 94 = .ok (.getfield 33, 3) := dk_180 0 33 (dk_at dksX5_tells_4 3 rfl rfl)
theorem dX5_tells_97 : decode cX5_tells 97 = .ok (.aload_n 0, 1) := dk_42 (dk_at dksX5_tells_4 6 rfl rfl)
theorem dX5_tells_98 : decode cX5_tells 98 = .ok (.getfield 43, 3) := dk_180 0 43 (dk_at dksX5_tells_4 7 rfl rfl)
theorem dX5_tells_101 : decode cX5_tells 101 = .ok (.aaload, 1) := dk_50 (dk_at dksX5_tells_4 10 rfl rfl)
theorem dX5_tells_102 : decode cX5_tells 102 = .ok (.iconst 2, 1) := dk_5 (dk_at dksX5_tells_4 11 rfl rfl)
theorem dX5_tells_103 : decode cX5_tells 103 = .ok (.iload_n 2, 1) := dk_28 (dk_at dksX5_tells_4 12 rfl rfl)
theorem dX5_tells_104 : decode cX5_tells 104 = .ok (.iastore, 1) := dk_79 (dk_at dksX5_tells_4 13 rfl rfl)
theorem dX5_tells_105 : decode cX5_tells 105 = .ok (.aload_n 0, 1) := dk_42 (dk_at dksX5_tells_4 14 rfl rfl)
theorem dX5_tells_106 : decode cX5_tells 106 = .ok (.dup, 1) := dk_89 (dk_at dksX5_tells_4 15 rfl rfl)
theorem dX5_tells_107 : decode cX5_tells 107 = .ok (.getfield 43, 3) := dk_180 0 43 (dk_at dksX5_tells_4 16 rfl rfl)
theorem dX5_tells_110 : decode cX5_tells 110 = .ok (.iconst 1, 1) := dk_4 (dk_at dksX5_tells_4 19 rfl rfl)
theorem dX5_tells_111 : decode cX5_tells 111 = .ok (.iadd, 1) := dk_96 (dk_at dksX5_tells_4 20 rfl rfl)
theorem dX5_tells_112 : decode cX5_tells 112 = .ok (.putfield 43, 3) := dk_181 0 43 (dk_at dksX5_tells_4 21 rfl rfl)
theorem dX5_tells_115 : decode cX5_tells 115 = .ok (.return_, 1) := dk_177 (dk_at dksX5_tells_5 0 rfl rfl)
abbrev cX5_reaps : ByteArray := prog_16_method_12_code
def yX5_reaps : MethodName := ⟨RX5, "reaps", "(II)V"⟩
def dkwX5_reaps_3 : List UInt8 := [20, 0, 150, 42, 180, 0, 25, 27, 46, 133, 33, 97, 184, 0, 130, 184, 0, 147, 136, 79, 177]
abbrev dktX5_reaps_3 : List UInt8 := dkwX5_reaps_3 ++ []
def dkwX5_reaps_2 : List UInt8 := [182, 0, 121, 66, 20, 0, 143, 20, 0, 145, 33, 184, 0, 130, 184, 0, 147, 66, 42, 180, 0, 25, 27, 9]
abbrev dktX5_reaps_2 : List UInt8 := dkwX5_reaps_2 ++ dktX5_reaps_3
def dkwX5_reaps_1 : List UInt8 := [46, 133, 167, 0, 23, 42, 180, 0, 3, 180, 0, 46, 180, 0, 140, 42, 180, 0, 3, 180, 0, 97]
abbrev dktX5_reaps_1 : List UInt8 := dkwX5_reaps_1 ++ dktX5_reaps_2
def dkwX5_reaps_0 : List UInt8 := [42, 27, 28, 182, 0, 113, 42, 180, 0, 3, 180, 0, 46, 180, 0, 140, 199, 0, 13, 42, 180, 0, 22, 27]
abbrev dktX5_reaps_0 : List UInt8 := dkwX5_reaps_0 ++ dktX5_reaps_1
theorem dksX5_reaps_0 : cX5_reaps.data.toList.drop 0 = dktX5_reaps_0 := by decide +kernel
theorem dksX5_reaps_1 : cX5_reaps.data.toList.drop 24 = dktX5_reaps_1 := dk_seg dksX5_reaps_0 24 rfl rfl
theorem dksX5_reaps_2 : cX5_reaps.data.toList.drop 46 = dktX5_reaps_2 := dk_seg dksX5_reaps_1 22 rfl rfl
theorem dksX5_reaps_3 : cX5_reaps.data.toList.drop 70 = dktX5_reaps_3 := dk_seg dksX5_reaps_2 24 rfl rfl
theorem dX5_reaps_0 : decode cX5_reaps 0 = .ok (.aload_n 0, 1) := dk_42 (dk_at dksX5_reaps_0 0 rfl rfl)
theorem dX5_reaps_1 : decode cX5_reaps 1 = .ok (.iload_n 1, 1) := dk_27 (dk_at dksX5_reaps_0 1 rfl rfl)
theorem dX5_reaps_2 : decode cX5_reaps 2 = .ok (.iload_n 2, 1) := dk_28 (dk_at dksX5_reaps_0 2 rfl rfl)
theorem dX5_reaps_3 : decode cX5_reaps 3 = .ok (.invokevirtual 113, 3) := dk_182 0 113 (dk_at dksX5_reaps_0 3 rfl rfl)
theorem dX5_reaps_6 : decode cX5_reaps 6 = .ok (.aload_n 0, 1) := dk_42 (dk_at dksX5_reaps_0 6 rfl rfl)
theorem dX5_reaps_7 : decode cX5_reaps 7 = .ok (.getfield 3, 3) := dk_180 0 3 (dk_at dksX5_reaps_0 7 rfl rfl)
theorem dX5_reaps_10 : decode cX5_reaps 10 = .ok (.getfield 46, 3) := dk_180 0 46 (dk_at dksX5_reaps_0 10 rfl rfl)
theorem dX5_reaps_13 : decode cX5_reaps 13 = .ok (.getfield 140, 3) := dk_180 0 140 (dk_at dksX5_reaps_0 13 rfl rfl)
theorem dX5_reaps_16 : decode cX5_reaps 16 = .ok (.ifnonnull 13, 3) := dk_199 0 13 (dk_at dksX5_reaps_0 16 rfl rfl)
theorem dX5_reaps_19 : decode cX5_reaps 19 = .ok (.aload_n 0, 1) := dk_42 (dk_at dksX5_reaps_0 19 rfl rfl)
theorem dX5_reaps_20 : decode cX5_reaps 20 = .ok (.getfield 22, 3) := dk_180 0 22 (dk_at dksX5_reaps_0 20 rfl rfl)
theorem dX5_reaps_23 : decode cX5_reaps 23 = .ok (.iload_n 1, 1) := dk_27 (dk_at dksX5_reaps_0 23 rfl rfl)
theorem dX5_reaps_24 : decode cX5_reaps 24 = .ok (.iaload, 1) := dk_46 (dk_at dksX5_reaps_1 0 rfl rfl)
theorem dX5_reaps_25 : decode cX5_reaps 25 = .ok (.i2l, 1) := dk_133 (dk_at dksX5_reaps_1 1 rfl rfl)
theorem dX5_reaps_26 : decode cX5_reaps 26 = .ok (.goto 23, 3) := dk_167 0 23 (dk_at dksX5_reaps_1 2 rfl rfl)
theorem dX5_reaps_29 : decode cX5_reaps 29 = .ok (.aload_n 0, 1) := dk_42 (dk_at dksX5_reaps_1 5 rfl rfl)
theorem dX5_reaps_30 : decode cX5_reaps 30 = .ok (.getfield 3, 3) := dk_180 0 3 (dk_at dksX5_reaps_1 6 rfl rfl)
theorem dX5_reaps_33 : decode cX5_reaps 33 = .ok (.getfield 46, 3) := dk_180 0 46 (dk_at dksX5_reaps_1 9 rfl rfl)
theorem dX5_reaps_36 : decode cX5_reaps 36 = .ok (.getfield 140, 3) := dk_180 0 140 (dk_at dksX5_reaps_1 12 rfl rfl)
theorem dX5_reaps_39 : decode cX5_reaps 39 = .ok (.aload_n 0, 1) := dk_42 (dk_at dksX5_reaps_1 15 rfl rfl)
theorem dX5_reaps_40 : decode cX5_reaps 40 = .ok (.getfield 3, 3) := dk_180 0 3 (dk_at dksX5_reaps_1 16 rfl rfl)
theorem dX5_reaps_43 : decode cX5_reaps 43 = .ok (.getfield 97, 3) := dk_180 0 97 (dk_at dksX5_reaps_1 19 rfl rfl)
theorem dX5_reaps_46 : decode cX5_reaps 46 = .ok (.invokevirtual 121, 3) := dk_182 0 121 (dk_at dksX5_reaps_2 0 rfl rfl)
theorem dX5_reaps_49 : decode cX5_reaps 49 = .ok (.lstore_n 3, 1) := dk_66 (dk_at dksX5_reaps_2 3 rfl rfl)
theorem dX5_reaps_50 : decode cX5_reaps 50 = .ok (.ldc2_w 143, 3) := dk_20 0 143 (dk_at dksX5_reaps_2 4 rfl rfl)
theorem dX5_reaps_53 : decode cX5_reaps 53 = .ok (.ldc2_w 145, 3) := dk_20 0 145 (dk_at dksX5_reaps_2 7 rfl rfl)
theorem dX5_reaps_56 : decode cX5_reaps 56 = .ok (.lload_n 3, 1) := dk_33 (dk_at dksX5_reaps_2 10 rfl rfl)
theorem dX5_reaps_57 : decode cX5_reaps 57 = .ok (.invokestatic 130, 3) := dk_184 0 130 (dk_at dksX5_reaps_2 11 rfl rfl)
theorem dX5_reaps_60 : decode cX5_reaps 60 = .ok (.invokestatic 147, 3) := dk_184 0 147 (dk_at dksX5_reaps_2 14 rfl rfl)
theorem dX5_reaps_63 : decode cX5_reaps 63 = .ok (.lstore_n 3, 1) := dk_66 (dk_at dksX5_reaps_2 17 rfl rfl)
theorem dX5_reaps_64 : decode cX5_reaps 64 = .ok (.aload_n 0, 1) := dk_42 (dk_at dksX5_reaps_2 18 rfl rfl)
theorem dX5_reaps_65 : decode cX5_reaps 65 = .ok (.getfield 25, 3) := dk_180 0 25 (dk_at dksX5_reaps_2 19 rfl rfl)
theorem dX5_reaps_68 : decode cX5_reaps 68 = .ok (.iload_n 1, 1) := dk_27 (dk_at dksX5_reaps_2 22 rfl rfl)
theorem dX5_reaps_69 : decode cX5_reaps 69 = .ok (.lconst 0, 1) := dk_9 (dk_at dksX5_reaps_2 23 rfl rfl)
theorem dX5_reaps_70 : decode cX5_reaps 70 = .ok (.ldc2_w 150, 3) := dk_20 0 150 (dk_at dksX5_reaps_3 0 rfl rfl)
theorem dX5_reaps_73 : decode cX5_reaps 73 = .ok (.aload_n 0, 1) := dk_42 (dk_at dksX5_reaps_3 3 rfl rfl)
theorem dX5_reaps_74 : decode cX5_reaps 74 = .ok (.getfield 25, 3) := dk_180 0 25 (dk_at dksX5_reaps_3 4 rfl rfl)
theorem dX5_reaps_77 : decode cX5_reaps 77 = .ok (.iload_n 1, 1) := dk_27 (dk_at dksX5_reaps_3 7 rfl rfl)
theorem dX5_reaps_78 : decode cX5_reaps 78 = .ok (.iaload, 1) := dk_46 (dk_at dksX5_reaps_3 8 rfl rfl)
theorem dX5_reaps_79 : decode cX5_reaps 79 = .ok (.i2l, 1) := dk_133 (dk_at dksX5_reaps_3 9 rfl rfl)
theorem dX5_reaps_80 : decode cX5_reaps 80 = .ok (.lload_n 3, 1) := dk_33 (dk_at dksX5_reaps_3 10 rfl rfl)
theorem dX5_reaps_81 : decode cX5_reaps 81 = .ok (.ladd, 1) := dk_97 (dk_at dksX5_reaps_3 11 rfl rfl)
theorem dX5_reaps_82 : decode cX5_reaps 82 = .ok (.invokestatic 130, 3) := dk_184 0 130 (dk_at dksX5_reaps_3 12 rfl rfl)
theorem dX5_reaps_85 : decode cX5_reaps 85 = .ok (.invokestatic 147, 3) := dk_184 0 147 (dk_at dksX5_reaps_3 15 rfl rfl)
theorem dX5_reaps_88 : decode cX5_reaps 88 = .ok (.l2i, 1) := dk_136 (dk_at dksX5_reaps_3 18 rfl rfl)
theorem dX5_reaps_89 : decode cX5_reaps 89 = .ok (.iastore, 1) := dk_79 (dk_at dksX5_reaps_3 19 rfl rfl)
theorem dX5_reaps_90 : decode cX5_reaps 90 = .ok (.return_, 1) := dk_177 (dk_at dksX5_reaps_3 20 rfl rfl)
abbrev cX5_isFree : ByteArray := prog_16_method_5_code
def yX5_isFree : MethodName := ⟨RX5, "isFree", "(II)Z"⟩
def dkwX5_isFree_1 : List UInt8 := [167, 0, 4, 3, 172]
abbrev dktX5_isFree_1 : List UInt8 := dkwX5_isFree_1 ++ []
def dkwX5_isFree_0 : List UInt8 := [42, 180, 0, 15, 27, 46, 28, 184, 0, 70, 154, 0, 17, 42, 27, 28, 182, 0, 74, 2, 160, 0, 7, 4]
abbrev dktX5_isFree_0 : List UInt8 := dkwX5_isFree_0 ++ dktX5_isFree_1
theorem dksX5_isFree_0 : cX5_isFree.data.toList.drop 0 = dktX5_isFree_0 := by decide +kernel
theorem dksX5_isFree_1 : cX5_isFree.data.toList.drop 24 = dktX5_isFree_1 := dk_seg dksX5_isFree_0 24 rfl rfl
theorem dX5_isFree_0 : decode cX5_isFree 0 = .ok (.aload_n 0, 1) := dk_42 (dk_at dksX5_isFree_0 0 rfl rfl)
theorem dX5_isFree_1 : decode cX5_isFree 1 = .ok (.getfield 15, 3) := dk_180 0 15 (dk_at dksX5_isFree_0 1 rfl rfl)
theorem dX5_isFree_4 : decode cX5_isFree 4 = .ok (.iload_n 1, 1) := dk_27 (dk_at dksX5_isFree_0 4 rfl rfl)
theorem dX5_isFree_5 : decode cX5_isFree 5 = .ok (.iaload, 1) := dk_46 (dk_at dksX5_isFree_0 5 rfl rfl)
theorem dX5_isFree_6 : decode cX5_isFree 6 = .ok (.iload_n 2, 1) := dk_28 (dk_at dksX5_isFree_0 6 rfl rfl)
theorem dX5_isFree_7 : decode cX5_isFree 7 = .ok (.invokestatic 70, 3) := dk_184 0 70 (dk_at dksX5_isFree_0 7 rfl rfl)
theorem dX5_isFree_10 : decode cX5_isFree 10 = .ok (.ifCond .ne 17, 3) := dk_154 0 17 (dk_at dksX5_isFree_0 10 rfl rfl)
theorem dX5_isFree_13 : decode cX5_isFree 13 = .ok (.aload_n 0, 1) := dk_42 (dk_at dksX5_isFree_0 13 rfl rfl)
theorem dX5_isFree_14 : decode cX5_isFree 14 = .ok (.iload_n 1, 1) := dk_27 (dk_at dksX5_isFree_0 14 rfl rfl)
theorem dX5_isFree_15 : decode cX5_isFree 15 = .ok (.iload_n 2, 1) := dk_28 (dk_at dksX5_isFree_0 15 rfl rfl)
theorem dX5_isFree_16 : decode cX5_isFree 16 = .ok (.invokevirtual 74, 3) := dk_182 0 74 (dk_at dksX5_isFree_0 16 rfl rfl)
theorem dX5_isFree_19 : decode cX5_isFree 19 = .ok (.iconst (-1), 1) := dk_2 (dk_at dksX5_isFree_0 19 rfl rfl)
theorem dX5_isFree_20 : decode cX5_isFree 20 = .ok (.if_icmp .ne 7, 3) := dk_160 0 7 (dk_at dksX5_isFree_0 20 rfl rfl)
theorem dX5_isFree_23 : decode cX5_isFree 23 = .ok (.iconst 1, 1) := dk_4 (dk_at dksX5_isFree_0 23 rfl rfl)
theorem dX5_isFree_24 : decode cX5_isFree 24 = .ok (.goto 4, 3) := dk_167 0 4 (dk_at dksX5_isFree_1 0 rfl rfl)
theorem dX5_isFree_27 : decode cX5_isFree 27 = .ok (.iconst 0, 1) := dk_3 (dk_at dksX5_isFree_1 3 rfl rfl)
theorem dX5_isFree_28 : decode cX5_isFree 28 = .ok (.ireturn, 1) := dk_172 (dk_at dksX5_isFree_1 4 rfl rfl)
abbrev cX5_days : ByteArray := prog_16_method_14_code
def yX5_days : MethodName := ⟨RX5, "days", "(I)LMarginFolk$State;"⟩
def dkwX5_days_1 : List UInt8 := [132, 2, 1, 167, 255, 233, 42, 176]
abbrev dktX5_days_1 : List UInt8 := dkwX5_days_1 ++ []
def dkwX5_days_0 : List UInt8 := [3, 61, 28, 27, 162, 0, 24, 42, 42, 180, 0, 3, 42, 180, 0, 39, 182, 0, 174, 182, 0, 177]
abbrev dktX5_days_0 : List UInt8 := dkwX5_days_0 ++ dktX5_days_1
theorem dksX5_days_0 : cX5_days.data.toList.drop 0 = dktX5_days_0 := by decide +kernel
theorem dksX5_days_1 : cX5_days.data.toList.drop 22 = dktX5_days_1 := dk_seg dksX5_days_0 22 rfl rfl
theorem dX5_days_0 : decode cX5_days 0 = .ok (.iconst 0, 1) := dk_3 (dk_at dksX5_days_0 0 rfl rfl)
theorem dX5_days_1 : decode cX5_days 1 = .ok (.istore_n 2, 1) := dk_61 (dk_at dksX5_days_0 1 rfl rfl)
theorem dX5_days_2 : decode cX5_days 2 = .ok (.iload_n 2, 1) := dk_28 (dk_at dksX5_days_0 2 rfl rfl)
theorem dX5_days_3 : decode cX5_days 3 = .ok (.iload_n 1, 1) := dk_27 (dk_at dksX5_days_0 3 rfl rfl)
theorem dX5_days_4 : decode cX5_days 4 = .ok (.if_icmp .ge 24, 3) := dk_162 0 24 (dk_at dksX5_days_0 4 rfl rfl)
theorem dX5_days_7 : decode cX5_days 7 = .ok (.aload_n 0, 1) := dk_42 (dk_at dksX5_days_0 7 rfl rfl)
theorem dX5_days_8 : decode cX5_days 8 = .ok (.aload_n 0, 1) := dk_42 (dk_at dksX5_days_0 8 rfl rfl)
theorem dX5_days_9 : decode cX5_days 9 = .ok (.getfield 3, 3) := dk_180 0 3 (dk_at dksX5_days_0 9 rfl rfl)
theorem dX5_days_12 : decode cX5_days 12 = .ok (.aload_n 0, 1) := dk_42 (dk_at dksX5_days_0 12 rfl rfl)
theorem dX5_days_13 : decode cX5_days 13 = .ok (.getfield 39, 3) := dk_180 0 39 (dk_at dksX5_days_0 13 rfl rfl)
theorem dX5_days_16 : decode cX5_days 16 = .ok (.invokevirtual 174, 3) := dk_182 0 174 (dk_at dksX5_days_0 16 rfl rfl)
theorem dX5_days_19 : decode cX5_days 19 = .ok (.invokevirtual 177, 3) := dk_182 0 177 (dk_at dksX5_days_0 19 rfl rfl)
theorem dX5_days_22 : decode cX5_days 22 = .ok (.iinc 2 1, 3) := dk_132 2 1 (dk_at dksX5_days_1 0 rfl rfl)
theorem dX5_days_25 : decode cX5_days 25 = .ok (.goto (-23), 3) := dk_167 255 233 (dk_at dksX5_days_1 3 rfl rfl)
theorem dX5_days_28 : decode cX5_days 28 = .ok (.aload_n 0, 1) := dk_42 (dk_at dksX5_days_1 6 rfl rfl)
theorem dX5_days_29 : decode cX5_days 29 = .ok (.areturn, 1) := dk_176 (dk_at dksX5_days_1 7 rfl rfl)
abbrev cX5_nearest : ByteArray := prog_16_method_16_code
def yX5_nearest : MethodName := ⟨RX5, "nearest", "(II)I"⟩
def dkwX5_nearest_3 : List UInt8 := [167, 255, 187, 2, 172]
abbrev dktX5_nearest_3 : List UInt8 := dkwX5_nearest_3 ++ []
def dkwX5_nearest_2 : List UInt8 := [180, 0, 162, 162, 0, 18, 42, 27, 28, 29, 96, 182, 0, 165, 153, 0, 7, 28, 29, 96, 172, 132, 3, 1]
abbrev dktX5_nearest_2 : List UInt8 := dkwX5_nearest_2 ++ dktX5_nearest_3
def dkwX5_nearest_1 : List UInt8 := [28, 29, 100, 182, 0, 165, 153, 0, 7, 28, 29, 100, 172, 28, 29, 96, 42, 180, 0, 3, 180, 0, 46]
abbrev dktX5_nearest_1 : List UInt8 := dkwX5_nearest_1 ++ dktX5_nearest_2
def dkwX5_nearest_0 : List UInt8 := [4, 62, 29, 42, 180, 0, 3, 180, 0, 46, 180, 0, 162, 162, 0, 61, 28, 29, 100, 155, 0, 18, 42, 27]
abbrev dktX5_nearest_0 : List UInt8 := dkwX5_nearest_0 ++ dktX5_nearest_1
theorem dksX5_nearest_0 : cX5_nearest.data.toList.drop 0 = dktX5_nearest_0 := by decide +kernel
theorem dksX5_nearest_1 : cX5_nearest.data.toList.drop 24 = dktX5_nearest_1 := dk_seg dksX5_nearest_0 24 rfl rfl
theorem dksX5_nearest_2 : cX5_nearest.data.toList.drop 47 = dktX5_nearest_2 := dk_seg dksX5_nearest_1 23 rfl rfl
theorem dksX5_nearest_3 : cX5_nearest.data.toList.drop 71 = dktX5_nearest_3 := dk_seg dksX5_nearest_2 24 rfl rfl
theorem dX5_nearest_0 : decode cX5_nearest 0 = .ok (.iconst 1, 1) := dk_4 (dk_at dksX5_nearest_0 0 rfl rfl)
theorem dX5_nearest_1 : decode cX5_nearest 1 = .ok (.istore_n 3, 1) := dk_62 (dk_at dksX5_nearest_0 1 rfl rfl)
theorem dX5_nearest_2 : decode cX5_nearest 2 = .ok (.iload_n 3, 1) := dk_29 (dk_at dksX5_nearest_0 2 rfl rfl)
theorem dX5_nearest_3 : decode cX5_nearest 3 = .ok (.aload_n 0, 1) := dk_42 (dk_at dksX5_nearest_0 3 rfl rfl)
theorem dX5_nearest_4 : decode cX5_nearest 4 = .ok (.getfield 3, 3) := dk_180 0 3 (dk_at dksX5_nearest_0 4 rfl rfl)
theorem dX5_nearest_7 : decode cX5_nearest 7 = .ok (.getfield 46, 3) := dk_180 0 46 (dk_at dksX5_nearest_0 7 rfl rfl)
theorem dX5_nearest_10 : decode cX5_nearest 10 = .ok (.getfield 162, 3) := dk_180 0 162 (dk_at dksX5_nearest_0 10 rfl rfl)
theorem dX5_nearest_13 : decode cX5_nearest 13 = .ok (.if_icmp .ge 61, 3) := dk_162 0 61 (dk_at dksX5_nearest_0 13 rfl rfl)
theorem dX5_nearest_16 : decode cX5_nearest 16 = .ok (.iload_n 2, 1) := dk_28 (dk_at dksX5_nearest_0 16 rfl rfl)
theorem dX5_nearest_17 : decode cX5_nearest 17 = .ok (.iload_n 3, 1) := dk_29 (dk_at dksX5_nearest_0 17 rfl rfl)
theorem dX5_nearest_18 : decode cX5_nearest 18 = .ok (.isub, 1) := dk_100 (dk_at dksX5_nearest_0 18 rfl rfl)
theorem dX5_nearest_19 : decode cX5_nearest 19 = .ok (.ifCond .lt 18, 3) := dk_155 0 18 (dk_at dksX5_nearest_0 19 rfl rfl)
theorem dX5_nearest_22 : decode cX5_nearest 22 = .ok (.aload_n 0, 1) := dk_42 (dk_at dksX5_nearest_0 22 rfl rfl)
theorem dX5_nearest_23 : decode cX5_nearest 23 = .ok (.iload_n 1, 1) := dk_27 (dk_at dksX5_nearest_0 23 rfl rfl)
theorem dX5_nearest_24 : decode cX5_nearest 24 = .ok (.iload_n 2, 1) := dk_28 (dk_at dksX5_nearest_1 0 rfl rfl)
theorem dX5_nearest_25 : decode cX5_nearest 25 = .ok (.iload_n 3, 1) := dk_29 (dk_at dksX5_nearest_1 1 rfl rfl)
theorem dX5_nearest_26 : decode cX5_nearest 26 = .ok (.isub, 1) := dk_100 (dk_at dksX5_nearest_1 2 rfl rfl)
theorem dX5_nearest_27 : decode cX5_nearest 27 = .ok (.invokevirtual 165, 3) := dk_182 0 165 (dk_at dksX5_nearest_1 3 rfl rfl)
theorem dX5_nearest_30 : decode cX5_nearest 30 = .ok (.ifCond .eq 7, 3) := dk_153 0 7 (dk_at dksX5_nearest_1 6 rfl rfl)
theorem dX5_nearest_33 : decode cX5_nearest 33 = .ok (.iload_n 2, 1) := dk_28 (dk_at dksX5_nearest_1 9 rfl rfl)
theorem dX5_nearest_34 : decode cX5_nearest 34 = .ok (.iload_n 3, 1) := dk_29 (dk_at dksX5_nearest_1 10 rfl rfl)
theorem dX5_nearest_35 : decode cX5_nearest 35 = .ok (.isub, 1) := dk_100 (dk_at dksX5_nearest_1 11 rfl rfl)
theorem dX5_nearest_36 : decode cX5_nearest 36 = .ok (.ireturn, 1) := dk_172 (dk_at dksX5_nearest_1 12 rfl rfl)
theorem dX5_nearest_37 : decode cX5_nearest 37 = .ok (.iload_n 2, 1) := dk_28 (dk_at dksX5_nearest_1 13 rfl rfl)
theorem dX5_nearest_38 : decode cX5_nearest 38 = .ok (.iload_n 3, 1) := dk_29 (dk_at dksX5_nearest_1 14 rfl rfl)
theorem dX5_nearest_39 : decode cX5_nearest 39 = .ok (.iadd, 1) := dk_96 (dk_at dksX5_nearest_1 15 rfl rfl)
theorem dX5_nearest_40 : decode cX5_nearest 40 = .ok (.aload_n 0, 1) := dk_42 (dk_at dksX5_nearest_1 16 rfl rfl)
theorem dX5_nearest_41 : decode cX5_nearest 41 = .ok (.getfield 3, 3) := dk_180 0 3 (dk_at dksX5_nearest_1 17 rfl rfl)
theorem dX5_nearest_44 : decode cX5_nearest 44 = .ok (.getfield 46, 3) := dk_180 0 46 (dk_at dksX5_nearest_1 20 rfl rfl)
theorem dX5_nearest_47 : decode cX5_nearest 47 = .ok (.getfield 162, 3) := dk_180 0 162 (dk_at dksX5_nearest_2 0 rfl rfl)
theorem dX5_nearest_50 : decode cX5_nearest 50 = .ok (.if_icmp .ge 18, 3) := dk_162 0 18 (dk_at dksX5_nearest_2 3 rfl rfl)
theorem dX5_nearest_53 : decode cX5_nearest 53 = .ok (.aload_n 0, 1) := dk_42 (dk_at dksX5_nearest_2 6 rfl rfl)
theorem dX5_nearest_54 : decode cX5_nearest 54 = .ok (.iload_n 1, 1) := dk_27 (dk_at dksX5_nearest_2 7 rfl rfl)
theorem dX5_nearest_55 : decode cX5_nearest 55 = .ok (.iload_n 2, 1) := dk_28 (dk_at dksX5_nearest_2 8 rfl rfl)
theorem dX5_nearest_56 : decode cX5_nearest 56 = .ok (.iload_n 3, 1) := dk_29 (dk_at dksX5_nearest_2 9 rfl rfl)
theorem dX5_nearest_57 : decode cX5_nearest 57 = .ok (.iadd, 1) := dk_96 (dk_at dksX5_nearest_2 10 rfl rfl)
theorem dX5_nearest_58 : decode cX5_nearest 58 = .ok (.invokevirtual 165, 3) := dk_182 0 165 (dk_at dksX5_nearest_2 11 rfl rfl)
theorem dX5_nearest_61 : decode cX5_nearest 61 = .ok (.ifCond .eq 7, 3) := dk_153 0 7 (dk_at dksX5_nearest_2 14 rfl rfl)
theorem dX5_nearest_64 : decode cX5_nearest 64 = .ok (.iload_n 2, 1) := dk_28 (dk_at dksX5_nearest_2 17 rfl rfl)
theorem dX5_nearest_65 : decode cX5_nearest 65 = .ok (.iload_n 3, 1) := dk_29 (dk_at dksX5_nearest_2 18 rfl rfl)
theorem dX5_nearest_66 : decode cX5_nearest 66 = .ok (.iadd, 1) := dk_96 (dk_at dksX5_nearest_2 19 rfl rfl)
theorem dX5_nearest_67 : decode cX5_nearest 67 = .ok (.ireturn, 1) := dk_172 (dk_at dksX5_nearest_2 20 rfl rfl)
theorem dX5_nearest_68 : decode cX5_nearest 68 = .ok (.iinc 3 1, 3) := dk_132 3 1 (dk_at dksX5_nearest_2 21 rfl rfl)
theorem dX5_nearest_71 : decode cX5_nearest 71 = .ok (.goto (-69), 3) := dk_167 255 187 (dk_at dksX5_nearest_3 0 rfl rfl)
theorem dX5_nearest_74 : decode cX5_nearest 74 = .ok (.iconst (-1), 1) := dk_2 (dk_at dksX5_nearest_3 3 rfl rfl)
theorem dX5_nearest_75 : decode cX5_nearest 75 = .ok (.ireturn, 1) := dk_172 (dk_at dksX5_nearest_3 4 rfl rfl)
theorem q163 : (Jvm.Cond.initialized "MarginFolk$State") ∈ lw_all := lw_g (lw_at lw_m1 12 rfl) rfl
theorem q237 : (Jvm.Cond.fieldLinkNest "MarginFolk$State" (162 : Nat) "MarginFolk$Folio" "cells" "I" "MarginFolk") ∈ lw_tbl := lw_at lw_m1 86 rfl
theorem q246 : (Jvm.Cond.fieldLinkNest "MarginFolk$State" (50 : Nat) "MarginFolk$Folio" "gloss" "[I" "MarginFolk") ∈ lw_tbl := lw_at lw_m1 95 rfl
theorem q262 : (Jvm.Cond.fieldLinkNest "MarginFolk$State" (140 : Nat) "MarginFolk$Folio" "corn" "LMarginFolk$Value;" "MarginFolk") ∈ lw_tbl := lw_at lw_m1 111 rfl
theorem q264 : (Jvm.Cond.fieldLinkNest "MarginFolk$State" (117 : Nat) "MarginFolk$Folio" "toll" "LMarginFolk$Value;" "MarginFolk") ∈ lw_tbl := lw_at lw_m1 113 rfl
theorem q266 : (Jvm.Cond.fieldLinkNest "MarginFolk$State" (158 : Nat) "MarginFolk$Folio" "steps" "LMarginFolk$Test;" "MarginFolk") ∈ lw_tbl := lw_at lw_m1 115 rfl
theorem q411 : (Jvm.Cond.fieldLinkNest "MarginFolk$State" (101 : Nat) "MarginFolk$Moment" "of" "[J" "MarginFolk") ∈ lw_tbl := lw_at lw_m2 20 rfl
theorem q418 : (Jvm.Cond.instantiable "MarginFolk$State" (11 : Nat)) ∈ lw_all := lw_g (lw_at lw_m2 27 rfl) rfl
theorem q420 : (Jvm.Cond.instanceMethod ({ cls := "MarginFolk$State", name := "<init>", desc := "(LMarginFolk;)V" } : Jvm.MethodName)) ∈ lw_all := lw_g (lw_at lw_m2 29 rfl) rfl
theorem q421 : (Jvm.Cond.code ({ cls := "MarginFolk$State", name := "<init>", desc := "(LMarginFolk;)V" } : Jvm.MethodName) prog_16_method_1_code (2 : Nat) (Option.none : Option Jvm.ClassFile.FieldType)) ∈ lw_all := lw_g (lw_at lw_m2 30 rfl) rfl
theorem q422 : (Jvm.Cond.methodLink "MarginFolk$State" (9 : Nat) ({ cls := "java/lang/Object", name := "<init>", desc := "()V" } : Jvm.MethodName)) ∈ lw_all := lw_g (lw_at lw_m2 31 rfl) rfl
theorem q423 : (Jvm.Cond.classLink "MarginFolk$State" (31 : Nat) "[[I") ∈ lw_all := lw_g (lw_at lw_m2 32 rfl) rfl
theorem q425 : (Jvm.Cond.fieldLink "MarginFolk$State" (39 : Nat) "MarginFolk$State" "day" "I") ∈ lw_all := lw_g (lw_at lw_m2 34 rfl) rfl
theorem q427 : (Jvm.Cond.fieldLink "MarginFolk$State" (43 : Nat) "MarginFolk$State" "keeps" "I") ∈ lw_all := lw_g (lw_at lw_m2 36 rfl) rfl
theorem q429 : (Jvm.Cond.fieldLink "MarginFolk$State" (15 : Nat) "MarginFolk$State" "gloss" "[I") ∈ lw_all := lw_g (lw_at lw_m2 38 rfl) rfl
theorem q431 : (Jvm.Cond.fieldLink "MarginFolk$State" (19 : Nat) "MarginFolk$State" "leaf" "[I") ∈ lw_all := lw_g (lw_at lw_m2 40 rfl) rfl
theorem q433 : (Jvm.Cond.fieldLink "MarginFolk$State" (22 : Nat) "MarginFolk$State" "cell" "[I") ∈ lw_all := lw_g (lw_at lw_m2 42 rfl) rfl
theorem q435 : (Jvm.Cond.fieldLink "MarginFolk$State" (25 : Nat) "MarginFolk$State" "purse" "[I") ∈ lw_all := lw_g (lw_at lw_m2 44 rfl) rfl
theorem q437 : (Jvm.Cond.fieldLink "MarginFolk$State" (28 : Nat) "MarginFolk$State" "met" "[I") ∈ lw_all := lw_g (lw_at lw_m2 46 rfl) rfl
theorem q439 : (Jvm.Cond.fieldLink "MarginFolk$State" (33 : Nat) "MarginFolk$State" "rows" "[[I") ∈ lw_all := lw_g (lw_at lw_m2 48 rfl) rfl
theorem q441 : (Jvm.Cond.fieldLink "MarginFolk$State" (67 : Nat) "MarginFolk$State" "pairs" "I") ∈ lw_all := lw_g (lw_at lw_m2 50 rfl) rfl
theorem q443 : (Jvm.Cond.fieldLink "MarginFolk$State" (36 : Nat) "MarginFolk$State" "metNow" "[I") ∈ lw_all := lw_g (lw_at lw_m2 52 rfl) rfl
theorem q445 : (Jvm.Cond.fieldLink "MarginFolk$State" (3 : Nat) "MarginFolk$State" "this$0" "LMarginFolk;") ∈ lw_all := lw_g (lw_at lw_m2 54 rfl) rfl
theorem q446 : (Jvm.Cond.lays "MarginFolk$State" "MarginFolk$State" "day" "I") ∈ lw_all := lw_g (lw_at lw_m2 55 rfl) rfl
theorem q447 : (Jvm.Cond.soleField "MarginFolk$State" "day") ∈ lw_all := lw_g (lw_at lw_m2 56 rfl) rfl
theorem q448 : (Jvm.Cond.lays "MarginFolk$State" "MarginFolk$State" "keeps" "I") ∈ lw_all := lw_g (lw_at lw_m2 57 rfl) rfl
theorem q449 : (Jvm.Cond.soleField "MarginFolk$State" "keeps") ∈ lw_all := lw_g (lw_at lw_m2 58 rfl) rfl
theorem q450 : (Jvm.Cond.laysFinal "MarginFolk$State" "MarginFolk$State" "gloss" "[I") ∈ lw_all := lw_g (lw_at lw_m2 59 rfl) rfl
theorem q451 : (Jvm.Cond.soleField "MarginFolk$State" "gloss") ∈ lw_all := lw_g (lw_at lw_m2 60 rfl) rfl
theorem q452 : (Jvm.Cond.laysFinal "MarginFolk$State" "MarginFolk$State" "leaf" "[I") ∈ lw_all := lw_g (lw_at lw_m2 61 rfl) rfl
theorem q453 : (Jvm.Cond.soleField "MarginFolk$State" "leaf") ∈ lw_all := lw_g (lw_at lw_m2 62 rfl) rfl
theorem q454 : (Jvm.Cond.laysFinal "MarginFolk$State" "MarginFolk$State" "cell" "[I") ∈ lw_all := lw_g (lw_at lw_m2 63 rfl) rfl
theorem q455 : (Jvm.Cond.soleField "MarginFolk$State" "cell") ∈ lw_all := lw_g (lw_at lw_m2 64 rfl) rfl
theorem q456 : (Jvm.Cond.laysFinal "MarginFolk$State" "MarginFolk$State" "purse" "[I") ∈ lw_all := lw_g (lw_at lw_m2 65 rfl) rfl
theorem q457 : (Jvm.Cond.soleField "MarginFolk$State" "purse") ∈ lw_all := lw_g (lw_at lw_m2 66 rfl) rfl
theorem q458 : (Jvm.Cond.laysFinal "MarginFolk$State" "MarginFolk$State" "met" "[I") ∈ lw_all := lw_g (lw_at lw_m2 67 rfl) rfl
theorem q459 : (Jvm.Cond.soleField "MarginFolk$State" "met") ∈ lw_all := lw_g (lw_at lw_m2 68 rfl) rfl
theorem q460 : (Jvm.Cond.laysFinal "MarginFolk$State" "MarginFolk$State" "rows" "[[I") ∈ lw_all := lw_g (lw_at lw_m2 69 rfl) rfl
theorem q461 : (Jvm.Cond.soleField "MarginFolk$State" "rows") ∈ lw_all := lw_g (lw_at lw_m2 70 rfl) rfl
theorem q462 : (Jvm.Cond.lays "MarginFolk$State" "MarginFolk$State" "pairs" "I") ∈ lw_all := lw_g (lw_at lw_m2 71 rfl) rfl
theorem q463 : (Jvm.Cond.soleField "MarginFolk$State" "pairs") ∈ lw_all := lw_g (lw_at lw_m2 72 rfl) rfl
theorem q464 : (Jvm.Cond.laysFinal "MarginFolk$State" "MarginFolk$State" "metNow" "[I") ∈ lw_all := lw_g (lw_at lw_m2 73 rfl) rfl
theorem q465 : (Jvm.Cond.soleField "MarginFolk$State" "metNow") ∈ lw_all := lw_g (lw_at lw_m2 74 rfl) rfl
theorem q466 : (Jvm.Cond.laysFinal "MarginFolk$State" "MarginFolk$State" "this$0" "LMarginFolk;") ∈ lw_all := lw_g (lw_at lw_m2 75 rfl) rfl
theorem q467 : (Jvm.Cond.soleField "MarginFolk$State" "this$0") ∈ lw_all := lw_g (lw_at lw_m2 76 rfl) rfl
theorem q468 : (Jvm.Cond.superclass "MarginFolk$State" "java/lang/Object") ∈ lw_all := lw_g (lw_at lw_m2 77 rfl) rfl
theorem q473 : (Jvm.Cond.fieldLinkNest "MarginFolk$State" (46 : Nat) "MarginFolk" "folio" "LMarginFolk$Folio;" "MarginFolk") ∈ lw_tbl := lw_at lw_m2 82 rfl
theorem q482 : (Jvm.Cond.fieldLinkNest "MarginFolk$State" (97 : Nat) "MarginFolk" "moment" "LMarginFolk$Moment;" "MarginFolk") ∈ lw_tbl := lw_at lw_m2 91 rfl
theorem q862 : (Jvm.Cond.fieldLinkNest "MarginFolk$State" (61 : Nat) "MarginFolk$Being" "leaf" "I" "MarginFolk") ∈ lw_tbl := lw_at lw_m3 231 rfl
theorem q865 : (Jvm.Cond.fieldLinkNest "MarginFolk$State" (65 : Nat) "MarginFolk$Being" "cell" "I" "MarginFolk") ∈ lw_tbl := lw_at lw_m3 234 rfl
theorem q868 : (Jvm.Cond.fieldLinkNest "MarginFolk$State" (107 : Nat) "MarginFolk$Being" "trade" "I" "MarginFolk") ∈ lw_tbl := lw_at lw_m3 237 rfl
theorem q933 : (Jvm.Cond.selects "MarginFolk$State" ({ cls := "java/lang/Object", name := "getClass", desc := "()Ljava/lang/Class;" } : Jvm.MethodName) ({ cls := "java/lang/Object", name := "getClass", desc := "()Ljava/lang/Class;" } : Jvm.MethodName)) ∈ lw_all := lw_g (lw_at lw_m4 62 rfl) rfl
theorem q1228 : (Jvm.Cond.instanceMethod ({ cls := "MarginFolk$State", name := "begins", desc := "()V" } : Jvm.MethodName)) ∈ lw_all := lw_g (lw_at lw_m5 117 rfl) rfl
theorem q1229 : (Jvm.Cond.selects "MarginFolk$State" ({ cls := "MarginFolk$State", name := "begins", desc := "()V" } : Jvm.MethodName) ({ cls := "MarginFolk$State", name := "begins", desc := "()V" } : Jvm.MethodName)) ∈ lw_all := lw_g (lw_at lw_m5 118 rfl) rfl
theorem q1230 : (Jvm.Cond.code ({ cls := "MarginFolk$State", name := "begins", desc := "()V" } : Jvm.MethodName) prog_16_method_2_code (2 : Nat) (Option.none : Option Jvm.ClassFile.FieldType)) ∈ lw_all := lw_g (lw_at lw_m5 119 rfl) rfl
theorem q1231 : (Jvm.Cond.methodLinkNest "MarginFolk$State" (53 : Nat) ({ cls := "MarginFolk", name := "beings", desc := "()I" } : Jvm.MethodName) "MarginFolk") ∈ lw_tbl := lw_at lw_m5 120 rfl
theorem q1237 : (Jvm.Cond.methodLinkNest "MarginFolk$State" (57 : Nat) ({ cls := "MarginFolk", name := "beingOf", desc := "(I)LMarginFolk$Being;" } : Jvm.MethodName) "MarginFolk") ∈ lw_tbl := lw_at lw_m5 126 rfl
theorem q1300 : (Jvm.Cond.instanceMethod ({ cls := "MarginFolk$State", name := "meet", desc := "(III)Z" } : Jvm.MethodName)) ∈ lw_all := lw_g (lw_at lw_m5 189 rfl) rfl
theorem q1301 : (Jvm.Cond.selects "MarginFolk$State" ({ cls := "MarginFolk$State", name := "meet", desc := "(III)Z" } : Jvm.MethodName) ({ cls := "MarginFolk$State", name := "meet", desc := "(III)Z" } : Jvm.MethodName)) ∈ lw_all := lw_g (lw_at lw_m5 190 rfl) rfl
theorem q1302 : (Jvm.Cond.code ({ cls := "MarginFolk$State", name := "meet", desc := "(III)Z" } : Jvm.MethodName) prog_16_method_6_code (5 : Nat) (Option.some Jvm.ClassFile.FieldType.boolean)) ∈ lw_all := lw_g (lw_at lw_m5 191 rfl) rfl
theorem q1303 : (Jvm.Cond.methodLink "MarginFolk$State" (78 : Nat) ({ cls := "java/lang/Math", name := "abs", desc := "(I)I" } : Jvm.MethodName)) ∈ lw_all := lw_g (lw_at lw_m5 192 rfl) rfl
theorem q1306 : (Jvm.Cond.methodLink "MarginFolk$State" (84 : Nat) ({ cls := "java/lang/Math", name := "min", desc := "(II)I" } : Jvm.MethodName)) ∈ lw_all := lw_g (lw_at lw_m5 195 rfl) rfl
theorem q1307 : (Jvm.Cond.methodLinkNest "MarginFolk$State" (87 : Nat) ({ cls := "MarginFolk", name := "liesOn", desc := "(II)Z" } : Jvm.MethodName) "MarginFolk") ∈ lw_tbl := lw_at lw_m5 196 rfl
theorem q1314 : (Jvm.Cond.methodLinkNest "MarginFolk$State" (90 : Nat) ({ cls := "MarginFolk", name := "mirrored", desc := "(I)I" } : Jvm.MethodName) "MarginFolk") ∈ lw_tbl := lw_at lw_m5 203 rfl
theorem q1345 : (Jvm.Cond.instanceMethod ({ cls := "MarginFolk$State", name := "purses", desc := "()I" } : Jvm.MethodName)) ∈ lw_all := lw_g (lw_at lw_m5 234 rfl) rfl
theorem q1346 : (Jvm.Cond.selects "MarginFolk$State" ({ cls := "MarginFolk$State", name := "purses", desc := "()I" } : Jvm.MethodName) ({ cls := "MarginFolk$State", name := "purses", desc := "()I" } : Jvm.MethodName)) ∈ lw_all := lw_g (lw_at lw_m5 235 rfl) rfl
theorem q1347 : (Jvm.Cond.code ({ cls := "MarginFolk$State", name := "purses", desc := "()I" } : Jvm.MethodName) prog_16_method_15_code (3 : Nat) (Option.some Jvm.ClassFile.FieldType.int)) ∈ lw_all := lw_g (lw_at lw_m5 236 rfl) rfl
theorem q1388 : (Jvm.Cond.instanceMethod ({ cls := "MarginFolk$State", name := "who", desc := "(II)I" } : Jvm.MethodName)) ∈ lw_all := lw_g (lw_at lw_m6 37 rfl) rfl
theorem q1389 : (Jvm.Cond.selects "MarginFolk$State" ({ cls := "MarginFolk$State", name := "who", desc := "(II)I" } : Jvm.MethodName) ({ cls := "MarginFolk$State", name := "who", desc := "(II)I" } : Jvm.MethodName)) ∈ lw_all := lw_g (lw_at lw_m6 38 rfl) rfl
theorem q1390 : (Jvm.Cond.code ({ cls := "MarginFolk$State", name := "who", desc := "(II)I" } : Jvm.MethodName) prog_16_method_4_code (4 : Nat) (Option.some Jvm.ClassFile.FieldType.int)) ∈ lw_all := lw_g (lw_at lw_m6 39 rfl) rfl
theorem q1410 : (Jvm.Cond.instanceMethod ({ cls := "MarginFolk$State", name := "pairs", desc := "(I)I" } : Jvm.MethodName)) ∈ lw_all := lw_g (lw_at lw_m6 59 rfl) rfl
theorem q1411 : (Jvm.Cond.selects "MarginFolk$State" ({ cls := "MarginFolk$State", name := "pairs", desc := "(I)I" } : Jvm.MethodName) ({ cls := "MarginFolk$State", name := "pairs", desc := "(I)I" } : Jvm.MethodName)) ∈ lw_all := lw_g (lw_at lw_m6 60 rfl) rfl
theorem q1412 : (Jvm.Cond.code ({ cls := "MarginFolk$State", name := "pairs", desc := "(I)I" } : Jvm.MethodName) prog_16_method_7_code (5 : Nat) (Option.some Jvm.ClassFile.FieldType.int)) ∈ lw_all := lw_g (lw_at lw_m6 61 rfl) rfl
theorem q1413 : (Jvm.Cond.methodLink "MarginFolk$State" (93 : Nat) ({ cls := "MarginFolk$State", name := "meet", desc := "(III)Z" } : Jvm.MethodName)) ∈ lw_all := lw_g (lw_at lw_m6 62 rfl) rfl
theorem q1432 : (Jvm.Cond.instanceMethod ({ cls := "MarginFolk$State", name := "copy", desc := "(LMarginFolk$State;)LMarginFolk$State;" } : Jvm.MethodName)) ∈ lw_all := lw_g (lw_at lw_m6 81 rfl) rfl
theorem q1433 : (Jvm.Cond.selects "MarginFolk$State" ({ cls := "MarginFolk$State", name := "copy", desc := "(LMarginFolk$State;)LMarginFolk$State;" } : Jvm.MethodName) ({ cls := "MarginFolk$State", name := "copy", desc := "(LMarginFolk$State;)LMarginFolk$State;" } : Jvm.MethodName)) ∈ lw_all := lw_g (lw_at lw_m6 82 rfl) rfl
theorem q1434 : (Jvm.Cond.code ({ cls := "MarginFolk$State", name := "copy", desc := "(LMarginFolk$State;)LMarginFolk$State;" } : Jvm.MethodName) prog_16_method_3_code (4 : Nat) (Option.some (Jvm.ClassFile.FieldType.object "MarginFolk$State"))) ∈ lw_all := lw_g (lw_at lw_m6 83 rfl) rfl
theorem q1436 : (Jvm.Cond.instanceMethod ({ cls := "MarginFolk$State", name := "passes", desc := "(I)V" } : Jvm.MethodName)) ∈ lw_all := lw_g (lw_at lw_m6 85 rfl) rfl
theorem q1437 : (Jvm.Cond.selects "MarginFolk$State" ({ cls := "MarginFolk$State", name := "passes", desc := "(I)V" } : Jvm.MethodName) ({ cls := "MarginFolk$State", name := "passes", desc := "(I)V" } : Jvm.MethodName)) ∈ lw_all := lw_g (lw_at lw_m6 86 rfl) rfl
theorem q1438 : (Jvm.Cond.code ({ cls := "MarginFolk$State", name := "passes", desc := "(I)V" } : Jvm.MethodName) prog_16_method_13_code (4 : Nat) (Option.none : Option Jvm.ClassFile.FieldType)) ∈ lw_all := lw_g (lw_at lw_m6 87 rfl) rfl
theorem q1439 : (Jvm.Cond.methodLink "MarginFolk$State" (152 : Nat) ({ cls := "MarginFolk$State", name := "meeting", desc := "(III)V" } : Jvm.MethodName)) ∈ lw_all := lw_g (lw_at lw_m6 88 rfl) rfl
theorem q1440 : (Jvm.Cond.privateMethod ({ cls := "MarginFolk$State", name := "meeting", desc := "(III)V" } : Jvm.MethodName)) ∈ lw_tbl := lw_at lw_m6 89 rfl
theorem q1441 : (Jvm.Cond.instanceMethod ({ cls := "MarginFolk$State", name := "meeting", desc := "(III)V" } : Jvm.MethodName)) ∈ lw_all := lw_g (lw_at lw_m6 90 rfl) rfl
theorem q1442 : (Jvm.Cond.code ({ cls := "MarginFolk$State", name := "meeting", desc := "(III)V" } : Jvm.MethodName) prog_16_method_11_code (4 : Nat) (Option.none : Option Jvm.ClassFile.FieldType)) ∈ lw_all := lw_g (lw_at lw_m6 91 rfl) rfl
theorem q1443 : (Jvm.Cond.methodLink "MarginFolk$State" (133 : Nat) ({ cls := "MarginFolk$State", name := "pays", desc := "(III)V" } : Jvm.MethodName)) ∈ lw_all := lw_g (lw_at lw_m6 92 rfl) rfl
theorem q1444 : (Jvm.Cond.privateMethod ({ cls := "MarginFolk$State", name := "pays", desc := "(III)V" } : Jvm.MethodName)) ∈ lw_tbl := lw_at lw_m6 93 rfl
theorem q1445 : (Jvm.Cond.instanceMethod ({ cls := "MarginFolk$State", name := "pays", desc := "(III)V" } : Jvm.MethodName)) ∈ lw_all := lw_g (lw_at lw_m6 94 rfl) rfl
theorem q1446 : (Jvm.Cond.code ({ cls := "MarginFolk$State", name := "pays", desc := "(III)V" } : Jvm.MethodName) prog_16_method_9_code (9 : Nat) (Option.none : Option Jvm.ClassFile.FieldType)) ∈ lw_all := lw_g (lw_at lw_m6 95 rfl) rfl
theorem q1447 : (Jvm.Cond.methodLink "MarginFolk$State" (113 : Nat) ({ cls := "MarginFolk$State", name := "asks", desc := "(II)V" } : Jvm.MethodName)) ∈ lw_all := lw_g (lw_at lw_m6 96 rfl) rfl
theorem q1448 : (Jvm.Cond.privateMethod ({ cls := "MarginFolk$State", name := "asks", desc := "(II)V" } : Jvm.MethodName)) ∈ lw_tbl := lw_at lw_m6 97 rfl
theorem q1449 : (Jvm.Cond.instanceMethod ({ cls := "MarginFolk$State", name := "asks", desc := "(II)V" } : Jvm.MethodName)) ∈ lw_all := lw_g (lw_at lw_m6 98 rfl) rfl
theorem q1450 : (Jvm.Cond.code ({ cls := "MarginFolk$State", name := "asks", desc := "(II)V" } : Jvm.MethodName) prog_16_method_8_code (3 : Nat) (Option.none : Option Jvm.ClassFile.FieldType)) ∈ lw_all := lw_g (lw_at lw_m6 99 rfl) rfl
theorem q1451 : (Jvm.Cond.methodLinkNest "MarginFolk$State" (110 : Nat) ({ cls := "MarginFolk", name := "isOpen", desc := "(II)Z" } : Jvm.MethodName) "MarginFolk") ∈ lw_tbl := lw_at lw_m6 100 rfl
theorem q1452 : (Jvm.Cond.methodLink "MarginFolk$State" (121 : Nat) ({ cls := "MarginFolk$Value", name := "at", desc := "(LMarginFolk$Moment;)J" } : Jvm.MethodName)) ∈ lw_all := lw_g (lw_at lw_m6 101 rfl) rfl
theorem q1453 : (Jvm.Cond.methodLink "MarginFolk$State" (127 : Nat) ({ cls := "java/lang/Math", name := "abs", desc := "(J)J" } : Jvm.MethodName)) ∈ lw_all := lw_g (lw_at lw_m6 102 rfl) rfl
theorem q1456 : (Jvm.Cond.methodLink "MarginFolk$State" (130 : Nat) ({ cls := "java/lang/Math", name := "min", desc := "(JJ)J" } : Jvm.MethodName)) ∈ lw_all := lw_g (lw_at lw_m6 105 rfl) rfl
theorem q1457 : (Jvm.Cond.methodLink "MarginFolk$State" (137 : Nat) ({ cls := "MarginFolk$State", name := "tells", desc := "(II)V" } : Jvm.MethodName)) ∈ lw_all := lw_g (lw_at lw_m6 106 rfl) rfl
theorem q1458 : (Jvm.Cond.privateMethod ({ cls := "MarginFolk$State", name := "tells", desc := "(II)V" } : Jvm.MethodName)) ∈ lw_tbl := lw_at lw_m6 107 rfl
theorem q1459 : (Jvm.Cond.instanceMethod ({ cls := "MarginFolk$State", name := "tells", desc := "(II)V" } : Jvm.MethodName)) ∈ lw_all := lw_g (lw_at lw_m6 108 rfl) rfl
theorem q1460 : (Jvm.Cond.code ({ cls := "MarginFolk$State", name := "tells", desc := "(II)V" } : Jvm.MethodName) prog_16_method_10_code (5 : Nat) (Option.none : Option Jvm.ClassFile.FieldType)) ∈ lw_all := lw_g (lw_at lw_m6 109 rfl) rfl
theorem q1461 : (Jvm.Cond.methodLink "MarginFolk$State" (155 : Nat) ({ cls := "MarginFolk$State", name := "reaps", desc := "(II)V" } : Jvm.MethodName)) ∈ lw_all := lw_g (lw_at lw_m6 110 rfl) rfl
theorem q1462 : (Jvm.Cond.privateMethod ({ cls := "MarginFolk$State", name := "reaps", desc := "(II)V" } : Jvm.MethodName)) ∈ lw_tbl := lw_at lw_m6 111 rfl
theorem q1463 : (Jvm.Cond.instanceMethod ({ cls := "MarginFolk$State", name := "reaps", desc := "(II)V" } : Jvm.MethodName)) ∈ lw_all := lw_g (lw_at lw_m6 112 rfl) rfl
theorem q1464 : (Jvm.Cond.code ({ cls := "MarginFolk$State", name := "reaps", desc := "(II)V" } : Jvm.MethodName) prog_16_method_12_code (5 : Nat) (Option.none : Option Jvm.ClassFile.FieldType)) ∈ lw_all := lw_g (lw_at lw_m6 113 rfl) rfl
theorem q1465 : (Jvm.Cond.constantLong "MarginFolk$State" (143 : Nat) (-99 : Int64)) ∈ lw_all := lw_g (lw_at lw_m6 114 rfl) rfl
theorem q1466 : (Jvm.Cond.constantLong "MarginFolk$State" (145 : Nat) (99 : Int64)) ∈ lw_all := lw_g (lw_at lw_m6 115 rfl) rfl
theorem q1467 : (Jvm.Cond.methodLink "MarginFolk$State" (147 : Nat) ({ cls := "java/lang/Math", name := "max", desc := "(JJ)J" } : Jvm.MethodName)) ∈ lw_all := lw_g (lw_at lw_m6 116 rfl) rfl
theorem q1468 : (Jvm.Cond.constantLong "MarginFolk$State" (150 : Nat) (9999 : Int64)) ∈ lw_all := lw_g (lw_at lw_m6 117 rfl) rfl
theorem q1469 : (Jvm.Cond.methodLink "MarginFolk$State" (165 : Nat) ({ cls := "MarginFolk$State", name := "isFree", desc := "(II)Z" } : Jvm.MethodName)) ∈ lw_all := lw_g (lw_at lw_m6 118 rfl) rfl
theorem q1470 : (Jvm.Cond.instanceMethod ({ cls := "MarginFolk$State", name := "isFree", desc := "(II)Z" } : Jvm.MethodName)) ∈ lw_all := lw_g (lw_at lw_m6 119 rfl) rfl
theorem q1471 : (Jvm.Cond.selects "MarginFolk$State" ({ cls := "MarginFolk$State", name := "isFree", desc := "(II)Z" } : Jvm.MethodName) ({ cls := "MarginFolk$State", name := "isFree", desc := "(II)Z" } : Jvm.MethodName)) ∈ lw_all := lw_g (lw_at lw_m6 120 rfl) rfl
theorem q1472 : (Jvm.Cond.code ({ cls := "MarginFolk$State", name := "isFree", desc := "(II)Z" } : Jvm.MethodName) prog_16_method_5_code (3 : Nat) (Option.some Jvm.ClassFile.FieldType.boolean)) ∈ lw_all := lw_g (lw_at lw_m6 121 rfl) rfl
theorem q1473 : (Jvm.Cond.methodLinkNest "MarginFolk$State" (70 : Nat) ({ cls := "MarginFolk", name := "has", desc := "(II)Z" } : Jvm.MethodName) "MarginFolk") ∈ lw_tbl := lw_at lw_m6 122 rfl
theorem q1474 : (Jvm.Cond.methodLink "MarginFolk$State" (74 : Nat) ({ cls := "MarginFolk$State", name := "who", desc := "(II)I" } : Jvm.MethodName)) ∈ lw_all := lw_g (lw_at lw_m6 123 rfl) rfl
theorem q1475 : (Jvm.Cond.methodLink "MarginFolk$State" (168 : Nat) ({ cls := "MarginFolk$Test", name := "holds", desc := "(LMarginFolk$Moment;)Z" } : Jvm.MethodName)) ∈ lw_all := lw_g (lw_at lw_m6 124 rfl) rfl
theorem q1503 : (Jvm.Cond.instanceMethod ({ cls := "MarginFolk$State", name := "days", desc := "(I)LMarginFolk$State;" } : Jvm.MethodName)) ∈ lw_all := lw_g (lw_at lw_m6 152 rfl) rfl
theorem q1504 : (Jvm.Cond.selects "MarginFolk$State" ({ cls := "MarginFolk$State", name := "days", desc := "(I)LMarginFolk$State;" } : Jvm.MethodName) ({ cls := "MarginFolk$State", name := "days", desc := "(I)LMarginFolk$State;" } : Jvm.MethodName)) ∈ lw_all := lw_g (lw_at lw_m6 153 rfl) rfl
theorem q1505 : (Jvm.Cond.code ({ cls := "MarginFolk$State", name := "days", desc := "(I)LMarginFolk$State;" } : Jvm.MethodName) prog_16_method_14_code (3 : Nat) (Option.some (Jvm.ClassFile.FieldType.object "MarginFolk$State"))) ∈ lw_all := lw_g (lw_at lw_m6 154 rfl) rfl
theorem q1506 : (Jvm.Cond.methodLinkNest "MarginFolk$State" (174 : Nat) ({ cls := "MarginFolk", name := "openingOf", desc := "(I)I" } : Jvm.MethodName) "MarginFolk") ∈ lw_tbl := lw_at lw_m6 155 rfl
theorem q1507 : (Jvm.Cond.methodLink "MarginFolk$State" (177 : Nat) ({ cls := "MarginFolk$State", name := "passes", desc := "(I)V" } : Jvm.MethodName)) ∈ lw_all := lw_g (lw_at lw_m6 156 rfl) rfl
theorem q1576 : (Jvm.Cond.instanceMethod ({ cls := "MarginFolk$State", name := "nearest", desc := "(II)I" } : Jvm.MethodName)) ∈ lw_all := lw_g (lw_at lw_m6 225 rfl) rfl
theorem q1577 : (Jvm.Cond.selects "MarginFolk$State" ({ cls := "MarginFolk$State", name := "nearest", desc := "(II)I" } : Jvm.MethodName) ({ cls := "MarginFolk$State", name := "nearest", desc := "(II)I" } : Jvm.MethodName)) ∈ lw_all := lw_g (lw_at lw_m6 226 rfl) rfl
theorem q1578 : (Jvm.Cond.code ({ cls := "MarginFolk$State", name := "nearest", desc := "(II)I" } : Jvm.MethodName) prog_16_method_16_code (4 : Nat) (Option.some Jvm.ClassFile.FieldType.int)) ∈ lw_all := lw_g (lw_at lw_m6 227 rfl) rfl
theorem q2546 : (Jvm.Cond.castable "MarginFolk$State" "java/lang/Object") ∈ lw_tbl := lw_at lw_m10 235 rfl
theorem in_X5 : ∀ w ∈ wsX50, w ∈ lw_all := lw_in wsX50 [446, 448, 450, 452, 454, 456, 458, 460, 462, 464, 466] (by decide +kernel) (by decide +kernel)
/-! MarginFolk$Being -/
set_option maxRecDepth 100000
def RX7 : String := "MarginFolk$Being"
def TX7 : u_T := fun k => match k with
  | 0 => ("MarginFolk$Being", "name", "Ljava/lang/String;", true)
  | 1 => ("MarginFolk$Being", "leaf", "I", true)
  | 2 => ("MarginFolk$Being", "cell", "I", true)
  | _ => ("MarginFolk$Being", "trade", "I", true)
def tyX7 : Nat → FieldType := fun k => match k with
  | 0 => .object "java/lang/String"
  | 1 => .int
  | 2 => .int
  | _ => .int
abbrev wsX70 : List Cond := u_ws RX7 TX7 4
theorem nmX7 : ∀ a, a < 4 → ∀ b, b < 4 → a ≠ b → (TX7 a).2.1 ≠ (TX7 b).2.1 := by decide +kernel
theorem tyX7_ok : ∀ k, k < 4 → parseFieldDescriptor (TX7 k).2.2.1 = some (tyX7 k) := by decide +kernel
abbrev cX7_init : ByteArray := prog_4_method_1_code
def yX7_init : MethodName := ⟨RX7, "<init>", "(Ljava/lang/String;III)V"⟩
def dkwX7_init_1 : List UInt8 := [181, 0, 20, 177]
abbrev dktX7_init_1 : List UInt8 := dkwX7_init_1 ++ []
def dkwX7_init_0 : List UInt8 := [42, 183, 0, 1, 42, 43, 181, 0, 7, 42, 28, 181, 0, 13, 42, 29, 181, 0, 17, 42, 21, 4]
abbrev dktX7_init_0 : List UInt8 := dkwX7_init_0 ++ dktX7_init_1
theorem dksX7_init_0 : cX7_init.data.toList.drop 0 = dktX7_init_0 := by decide +kernel
theorem dksX7_init_1 : cX7_init.data.toList.drop 22 = dktX7_init_1 := dk_seg dksX7_init_0 22 rfl rfl
theorem dX7_init_0 : decode cX7_init 0 = .ok (.aload_n 0, 1) := dk_42 (dk_at dksX7_init_0 0 rfl rfl)
theorem dX7_init_1 : decode cX7_init 1 = .ok (.invokespecial 1, 3) := dk_183 0 1 (dk_at dksX7_init_0 1 rfl rfl)
theorem dX7_init_4 : decode cX7_init 4 = .ok (.aload_n 0, 1) := dk_42 (dk_at dksX7_init_0 4 rfl rfl)
theorem dX7_init_5 : decode cX7_init 5 = .ok (.aload_n 1, 1) := dk_43 (dk_at dksX7_init_0 5 rfl rfl)
theorem dX7_init_6 : decode cX7_init 6 = .ok (.putfield 7, 3) := dk_181 0 7 (dk_at dksX7_init_0 6 rfl rfl)
theorem dX7_init_9 : decode cX7_init 9 = .ok (.aload_n 0, 1) := dk_42 (dk_at dksX7_init_0 9 rfl rfl)
theorem dX7_init_10 : decode cX7_init 10 = .ok (.iload_n 2, 1) := dk_28 (dk_at dksX7_init_0 10 rfl rfl)
theorem dX7_init_11 : decode cX7_init 11 = .ok (.putfield 13, 3) := dk_181 0 13 (dk_at dksX7_init_0 11 rfl rfl)
theorem dX7_init_14 : decode cX7_init 14 = .ok (.aload_n 0, 1) := dk_42 (dk_at dksX7_init_0 14 rfl rfl)
theorem dX7_init_15 : decode cX7_init 15 = .ok (.iload_n 3, 1) := dk_29 (dk_at dksX7_init_0 15 rfl rfl)
theorem dX7_init_16 : decode cX7_init 16 = .ok (.putfield 17, 3) := dk_181 0 17 (dk_at dksX7_init_0 16 rfl rfl)
theorem dX7_init_19 : decode cX7_init 19 = .ok (.aload_n 0, 1) := dk_42 (dk_at dksX7_init_0 19 rfl rfl)
theorem dX7_init_20 : decode cX7_init 20 = .ok (.iload 4, 2) := dk_21 4 (dk_at dksX7_init_0 20 rfl rfl)
theorem dX7_init_22 : decode cX7_init 22 = .ok (.putfield 20, 3) := dk_181 0 20 (dk_at dksX7_init_1 0 rfl rfl)
theorem dX7_init_25 : decode cX7_init 25 = .ok (.return_, 1) := dk_177 (dk_at dksX7_init_1 3 rfl rfl)
abbrev cX7_letter : ByteArray := prog_4_method_2_code
def yX7_letter : MethodName := ⟨RX7, "letter", "(I)I"⟩
def dkwX7_letter_1 : List UInt8 := [167, 0, 4, 3, 172]
abbrev dktX7_letter_1 : List UInt8 := dkwX7_letter_1 ++ []
def dkwX7_letter_0 : List UInt8 := [27, 42, 180, 0, 7, 182, 0, 23, 162, 0, 19, 42, 180, 0, 7, 27, 182, 0, 29, 16, 97, 100, 4, 96]
abbrev dktX7_letter_0 : List UInt8 := dkwX7_letter_0 ++ dktX7_letter_1
theorem dksX7_letter_0 : cX7_letter.data.toList.drop 0 = dktX7_letter_0 := by decide +kernel
theorem dksX7_letter_1 : cX7_letter.data.toList.drop 24 = dktX7_letter_1 := dk_seg dksX7_letter_0 24 rfl rfl
theorem dX7_letter_0 : decode cX7_letter 0 = .ok (.iload_n 1, 1) := dk_27 (dk_at dksX7_letter_0 0 rfl rfl)
theorem dX7_letter_1 : decode cX7_letter 1 = .ok (.aload_n 0, 1) := dk_42 (dk_at dksX7_letter_0 1 rfl rfl)
theorem dX7_letter_2 : decode cX7_letter 2 = .ok (.getfield 7, 3) := dk_180 0 7 (dk_at dksX7_letter_0 2 rfl rfl)
theorem dX7_letter_5 : decode cX7_letter 5 = .ok (.invokevirtual 23, 3) := dk_182 0 23 (dk_at dksX7_letter_0 5 rfl rfl)
theorem dX7_letter_8 : decode cX7_letter 8 = .ok (.if_icmp .ge 19, 3) := dk_162 0 19 (dk_at dksX7_letter_0 8 rfl rfl)
theorem dX7_letter_11 : decode cX7_letter 11 = .ok (.aload_n 0, 1) := dk_42 (dk_at dksX7_letter_0 11 rfl rfl)
theorem dX7_letter_12 : decode cX7_letter 12 = .ok (.getfield 7, 3) := dk_180 0 7 (dk_at dksX7_letter_0 12 rfl rfl)
theorem dX7_letter_15 : decode cX7_letter 15 = .ok (.iload_n 1, 1) := dk_27 (dk_at dksX7_letter_0 15 rfl rfl)
theorem dX7_letter_16 : decode cX7_letter 16 = .ok (.invokevirtual 29, 3) := dk_182 0 29 (dk_at dksX7_letter_0 16 rfl rfl)
theorem dX7_letter_19 : decode cX7_letter 19 = .ok (.bipush 97, 2) := dk_16 97 (dk_at dksX7_letter_0 19 rfl rfl)
theorem dX7_letter_21 : decode cX7_letter 21 = .ok (.isub, 1) := dk_100 (dk_at dksX7_letter_0 21 rfl rfl)
theorem dX7_letter_22 : decode cX7_letter 22 = .ok (.iconst 1, 1) := dk_4 (dk_at dksX7_letter_0 22 rfl rfl)
theorem dX7_letter_23 : decode cX7_letter 23 = .ok (.iadd, 1) := dk_96 (dk_at dksX7_letter_0 23 rfl rfl)
theorem dX7_letter_24 : decode cX7_letter 24 = .ok (.goto 4, 3) := dk_167 0 4 (dk_at dksX7_letter_1 0 rfl rfl)
theorem dX7_letter_27 : decode cX7_letter 27 = .ok (.iconst 0, 1) := dk_3 (dk_at dksX7_letter_1 3 rfl rfl)
theorem dX7_letter_28 : decode cX7_letter 28 = .ok (.ireturn, 1) := dk_172 (dk_at dksX7_letter_1 4 rfl rfl)
theorem q171 : (Jvm.Cond.initialized "MarginFolk$Being") ∈ lw_all := lw_g (lw_at lw_m1 20 rfl) rfl
theorem q853 : (Jvm.Cond.instantiable "MarginFolk$Being" (4 : Nat)) ∈ lw_all := lw_g (lw_at lw_m3 222 rfl) rfl
theorem q856 : (Jvm.Cond.instanceMethod ({ cls := "MarginFolk$Being", name := "<init>", desc := "(Ljava/lang/String;III)V" } : Jvm.MethodName)) ∈ lw_all := lw_g (lw_at lw_m3 225 rfl) rfl
theorem q857 : (Jvm.Cond.code ({ cls := "MarginFolk$Being", name := "<init>", desc := "(Ljava/lang/String;III)V" } : Jvm.MethodName) prog_4_method_1_code (5 : Nat) (Option.none : Option Jvm.ClassFile.FieldType)) ∈ lw_all := lw_g (lw_at lw_m3 226 rfl) rfl
theorem q858 : (Jvm.Cond.methodLink "MarginFolk$Being" (1 : Nat) ({ cls := "java/lang/Object", name := "<init>", desc := "()V" } : Jvm.MethodName)) ∈ lw_all := lw_g (lw_at lw_m3 227 rfl) rfl
theorem q859 : (Jvm.Cond.fieldLink "MarginFolk$Being" (7 : Nat) "MarginFolk$Being" "name" "Ljava/lang/String;") ∈ lw_all := lw_g (lw_at lw_m3 228 rfl) rfl
theorem q861 : (Jvm.Cond.fieldLink "MarginFolk$Being" (13 : Nat) "MarginFolk$Being" "leaf" "I") ∈ lw_all := lw_g (lw_at lw_m3 230 rfl) rfl
theorem q864 : (Jvm.Cond.fieldLink "MarginFolk$Being" (17 : Nat) "MarginFolk$Being" "cell" "I") ∈ lw_all := lw_g (lw_at lw_m3 233 rfl) rfl
theorem q867 : (Jvm.Cond.fieldLink "MarginFolk$Being" (20 : Nat) "MarginFolk$Being" "trade" "I") ∈ lw_all := lw_g (lw_at lw_m3 236 rfl) rfl
theorem q870 : (Jvm.Cond.laysFinal "MarginFolk$Being" "MarginFolk$Being" "name" "Ljava/lang/String;") ∈ lw_all := lw_g (lw_at lw_m3 239 rfl) rfl
theorem q871 : (Jvm.Cond.soleField "MarginFolk$Being" "name") ∈ lw_all := lw_g (lw_at lw_m4 0 rfl) rfl
theorem q872 : (Jvm.Cond.laysFinal "MarginFolk$Being" "MarginFolk$Being" "leaf" "I") ∈ lw_all := lw_g (lw_at lw_m4 1 rfl) rfl
theorem q873 : (Jvm.Cond.soleField "MarginFolk$Being" "leaf") ∈ lw_all := lw_g (lw_at lw_m4 2 rfl) rfl
theorem q874 : (Jvm.Cond.laysFinal "MarginFolk$Being" "MarginFolk$Being" "cell" "I") ∈ lw_all := lw_g (lw_at lw_m4 3 rfl) rfl
theorem q875 : (Jvm.Cond.soleField "MarginFolk$Being" "cell") ∈ lw_all := lw_g (lw_at lw_m4 4 rfl) rfl
theorem q876 : (Jvm.Cond.laysFinal "MarginFolk$Being" "MarginFolk$Being" "trade" "I") ∈ lw_all := lw_g (lw_at lw_m4 5 rfl) rfl
theorem q877 : (Jvm.Cond.soleField "MarginFolk$Being" "trade") ∈ lw_all := lw_g (lw_at lw_m4 6 rfl) rfl
theorem q878 : (Jvm.Cond.superclass "MarginFolk$Being" "java/lang/Object") ∈ lw_all := lw_g (lw_at lw_m4 7 rfl) rfl
theorem q921 : (Jvm.Cond.selects "MarginFolk$Being" ({ cls := "java/lang/Object", name := "getClass", desc := "()Ljava/lang/Class;" } : Jvm.MethodName) ({ cls := "java/lang/Object", name := "getClass", desc := "()Ljava/lang/Class;" } : Jvm.MethodName)) ∈ lw_all := lw_g (lw_at lw_m4 50 rfl) rfl
theorem q1359 : (Jvm.Cond.instanceMethod ({ cls := "MarginFolk$Being", name := "letter", desc := "(I)I" } : Jvm.MethodName)) ∈ lw_all := lw_g (lw_at lw_m6 8 rfl) rfl
theorem q1360 : (Jvm.Cond.selects "MarginFolk$Being" ({ cls := "MarginFolk$Being", name := "letter", desc := "(I)I" } : Jvm.MethodName) ({ cls := "MarginFolk$Being", name := "letter", desc := "(I)I" } : Jvm.MethodName)) ∈ lw_all := lw_g (lw_at lw_m6 9 rfl) rfl
theorem q1361 : (Jvm.Cond.code ({ cls := "MarginFolk$Being", name := "letter", desc := "(I)I" } : Jvm.MethodName) prog_4_method_2_code (2 : Nat) (Option.some Jvm.ClassFile.FieldType.int)) ∈ lw_all := lw_g (lw_at lw_m6 10 rfl) rfl
theorem q1362 : (Jvm.Cond.methodLink "MarginFolk$Being" (23 : Nat) ({ cls := "java/lang/String", name := "length", desc := "()I" } : Jvm.MethodName)) ∈ lw_all := lw_g (lw_at lw_m6 11 rfl) rfl
theorem q1363 : (Jvm.Cond.methodLink "MarginFolk$Being" (29 : Nat) ({ cls := "java/lang/String", name := "charAt", desc := "(I)C" } : Jvm.MethodName)) ∈ lw_all := lw_g (lw_at lw_m6 12 rfl) rfl
theorem q2556 : (Jvm.Cond.castable "MarginFolk$Being" "java/lang/Object") ∈ lw_tbl := lw_at lw_m11 5 rfl
theorem in_X7 : ∀ w ∈ wsX70, w ∈ lw_all := lw_in wsX70 [870, 872, 874, 876] (by decide +kernel) (by decide +kernel)
/-! MarginFolk$Value -/
set_option maxRecDepth 100000
def RX8 : String := "MarginFolk$Value"
abbrev cX8_init : ByteArray := prog_19_method_1_code
def yX8_init : MethodName := ⟨RX8, "<init>", "()V"⟩
theorem dX8_init_0 : decode cX8_init 0 = .ok (.aload_n 0, 1) := by decide +kernel
theorem dX8_init_1 : decode cX8_init 1 = .ok (.invokespecial 1, 3) := by decide +kernel
theorem dX8_init_4 : decode cX8_init 4 = .ok (.return_, 1) := by decide +kernel
theorem q175 : (Jvm.Cond.initialized "MarginFolk$Value") ∈ lw_all := lw_g (lw_at lw_m1 24 rfl) rfl
theorem q976 : (Jvm.Cond.instanceMethod ({ cls := "MarginFolk$Value", name := "<init>", desc := "()V" } : Jvm.MethodName)) ∈ lw_all := lw_g (lw_at lw_m4 105 rfl) rfl
theorem q977 : (Jvm.Cond.code ({ cls := "MarginFolk$Value", name := "<init>", desc := "()V" } : Jvm.MethodName) prog_19_method_1_code (1 : Nat) (Option.none : Option Jvm.ClassFile.FieldType)) ∈ lw_all := lw_g (lw_at lw_m4 106 rfl) rfl
theorem q978 : (Jvm.Cond.methodLink "MarginFolk$Value" (1 : Nat) ({ cls := "java/lang/Object", name := "<init>", desc := "()V" } : Jvm.MethodName)) ∈ lw_all := lw_g (lw_at lw_m4 107 rfl) rfl
theorem q1264 : (Jvm.Cond.declares ({ cls := "MarginFolk$Value", name := "at", desc := "(LMarginFolk$Moment;)J" } : Jvm.MethodName)) ∈ lw_tbl := lw_at lw_m5 153 rfl
theorem q1265 : (Jvm.Cond.sameMethod "MarginFolk$Value" "MarginFolk$Value" "at" "(LMarginFolk$Moment;)J") ∈ lw_all := lw_g (lw_at lw_m5 154 rfl) rfl
/-! MarginFolk$Chain -/
set_option maxRecDepth 100000
def RX9 : String := "MarginFolk$Chain"
def TX9 : u_T := fun k => match k with
  | 0 => ("MarginFolk$Chain", "values", "Ljava/util/List;", true)
  | _ => ("MarginFolk$Chain", "signs", "Ljava/lang/StringBuilder;", true)
def tyX9 : Nat → FieldType := fun k => match k with
  | 0 => .object "java/util/List"
  | _ => .object "java/lang/StringBuilder"
abbrev wsX90 : List Cond := u_ws RX9 TX9 2
theorem nmX9 : ∀ a, a < 2 → ∀ b, b < 2 → a ≠ b → (TX9 a).2.1 ≠ (TX9 b).2.1 := by decide +kernel
theorem tyX9_ok : ∀ k, k < 2 → parseFieldDescriptor (TX9 k).2.2.1 = some (tyX9 k) := by decide +kernel
abbrev cX9_init : ByteArray := prog_5_method_1_code
def yX9_init : MethodName := ⟨RX9, "<init>", "()V"⟩
def dkwX9_init_1 : List UInt8 := [181, 0, 21, 177]
abbrev dktX9_init_1 : List UInt8 := dkwX9_init_1 ++ []
def dkwX9_init_0 : List UInt8 := [42, 183, 0, 1, 42, 187, 0, 7, 89, 5, 183, 0, 9, 181, 0, 12, 42, 187, 0, 18, 89, 183, 0, 20]
abbrev dktX9_init_0 : List UInt8 := dkwX9_init_0 ++ dktX9_init_1
theorem dksX9_init_0 : cX9_init.data.toList.drop 0 = dktX9_init_0 := by decide +kernel
theorem dksX9_init_1 : cX9_init.data.toList.drop 24 = dktX9_init_1 := dk_seg dksX9_init_0 24 rfl rfl
theorem dX9_init_0 : decode cX9_init 0 = .ok (.aload_n 0, 1) := dk_42 (dk_at dksX9_init_0 0 rfl rfl)
theorem dX9_init_1 : decode cX9_init 1 = .ok (.invokespecial 1, 3) := dk_183 0 1 (dk_at dksX9_init_0 1 rfl rfl)
theorem dX9_init_4 : decode cX9_init 4 = .ok (.aload_n 0, 1) := dk_42 (dk_at dksX9_init_0 4 rfl rfl)
theorem dX9_init_5 : decode cX9_init 5 = .ok (.new 7, 3) := dk_187 0 7 (dk_at dksX9_init_0 5 rfl rfl)
theorem dX9_init_8 : decode cX9_init 8 = .ok (.dup, 1) := dk_89 (dk_at dksX9_init_0 8 rfl rfl)
theorem dX9_init_9 : decode cX9_init 9 = .ok (.iconst 2, 1) := dk_5 (dk_at dksX9_init_0 9 rfl rfl)
theorem dX9_init_10 : decode cX9_init 10 = .ok (.invokespecial 9, 3) := dk_183 0 9 (dk_at dksX9_init_0 10 rfl rfl)
theorem dX9_init_13 : decode cX9_init 13 = .ok (.putfield 12, 3) := dk_181 0 12 (dk_at dksX9_init_0 13 rfl rfl)
theorem dX9_init_16 : decode cX9_init 16 = .ok (.aload_n 0, 1) := dk_42 (dk_at dksX9_init_0 16 rfl rfl)
theorem dX9_init_17 : decode cX9_init 17 = .ok (.new 18, 3) := dk_187 0 18 (dk_at dksX9_init_0 17 rfl rfl)
theorem dX9_init_20 : decode cX9_init 20 = .ok (.dup, 1) := dk_89 (dk_at dksX9_init_0 20 rfl rfl)
theorem dX9_init_21 : decode cX9_init 21 = .ok (.invokespecial 20, 3) := dk_183 0 20 (dk_at dksX9_init_0 21 rfl rfl)
theorem dX9_init_24 : decode cX9_init 24 = .ok (.putfield 21, 3) := dk_181 0 21 (dk_at dksX9_init_1 0 rfl rfl)
theorem dX9_init_27 : decode cX9_init 27 = .ok (.return_, 1) := dk_177 (dk_at dksX9_init_1 3 rfl rfl)
abbrev cX9_add : ByteArray := prog_5_method_2_code
def yX9_add : MethodName := ⟨RX9, "add", "(CLMarginFolk$Value;)V"⟩
def dkwX9_add_0 : List UInt8 := [42, 180, 0, 21, 27, 182, 0, 25, 87, 42, 180, 0, 12, 44, 185, 0, 29, 2, 0, 87, 177]
abbrev dktX9_add_0 : List UInt8 := dkwX9_add_0 ++ []
theorem dksX9_add_0 : cX9_add.data.toList.drop 0 = dktX9_add_0 := by decide +kernel
theorem dX9_add_0 : decode cX9_add 0 = .ok (.aload_n 0, 1) := dk_42 (dk_at dksX9_add_0 0 rfl rfl)
theorem dX9_add_1 : decode cX9_add 1 = .ok (.getfield 21, 3) := dk_180 0 21 (dk_at dksX9_add_0 1 rfl rfl)
theorem dX9_add_4 : decode cX9_add 4 = .ok (.iload_n 1, 1) := dk_27 (dk_at dksX9_add_0 4 rfl rfl)
theorem dX9_add_5 : decode cX9_add 5 = .ok (.invokevirtual 25, 3) := dk_182 0 25 (dk_at dksX9_add_0 5 rfl rfl)
theorem dX9_add_8 : decode cX9_add 8 = .ok (.pop, 1) := dk_87 (dk_at dksX9_add_0 8 rfl rfl)
theorem dX9_add_9 : decode cX9_add 9 = .ok (.aload_n 0, 1) := dk_42 (dk_at dksX9_add_0 9 rfl rfl)
theorem dX9_add_10 : decode cX9_add 10 = .ok (.getfield 12, 3) := dk_180 0 12 (dk_at dksX9_add_0 10 rfl rfl)
theorem dX9_add_13 : decode cX9_add 13 = .ok (.aload_n 2, 1) := dk_44 (dk_at dksX9_add_0 13 rfl rfl)
theorem dX9_add_14 : decode cX9_add 14 = .ok (.invokeinterface 29 2, 5) := by decide +kernel
theorem dX9_add_19 : decode cX9_add 19 = .ok (.pop, 1) := dk_87 (dk_at dksX9_add_0 19 rfl rfl)
theorem dX9_add_20 : decode cX9_add 20 = .ok (.return_, 1) := dk_177 (dk_at dksX9_add_0 20 rfl rfl)
abbrev cX9_at : ByteArray := prog_5_method_3_code
def yX9_at : MethodName := ⟨RX9, "at", "(LMarginFolk$Moment;)J"⟩
def dkwX9_at_3 : List UInt8 := [132, 4, 1, 167, 255, 204, 32, 173]
abbrev dktX9_at_3 : List UInt8 := dkwX9_at_3 ++ []
def dkwX9_at_2 : List UInt8 := [180, 0, 12, 21, 4, 185, 0, 35, 2, 0, 192, 0, 2, 43, 182, 0, 39, 184, 0, 51, 184, 0, 55, 65]
abbrev dktX9_at_2 : List UInt8 := dkwX9_at_2 ++ dktX9_at_3
def dkwX9_at_1 : List UInt8 := [180, 0, 12, 185, 0, 43, 1, 0, 162, 0, 44, 42, 180, 0, 21, 21, 4, 182, 0, 47, 32, 42]
abbrev dktX9_at_1 : List UInt8 := dkwX9_at_1 ++ dktX9_at_2
def dkwX9_at_0 : List UInt8 := [42, 180, 0, 12, 3, 185, 0, 35, 2, 0, 192, 0, 2, 43, 182, 0, 39, 65, 4, 54, 4, 21, 4, 42]
abbrev dktX9_at_0 : List UInt8 := dkwX9_at_0 ++ dktX9_at_1
theorem dksX9_at_0 : cX9_at.data.toList.drop 0 = dktX9_at_0 := by decide +kernel
theorem dksX9_at_1 : cX9_at.data.toList.drop 24 = dktX9_at_1 := dk_seg dksX9_at_0 24 rfl rfl
theorem dksX9_at_2 : cX9_at.data.toList.drop 46 = dktX9_at_2 := dk_seg dksX9_at_1 22 rfl rfl
theorem dksX9_at_3 : cX9_at.data.toList.drop 70 = dktX9_at_3 := dk_seg dksX9_at_2 24 rfl rfl
theorem dX9_at_0 : decode cX9_at 0 = .ok (.aload_n 0, 1) := dk_42 (dk_at dksX9_at_0 0 rfl rfl)
theorem dX9_at_1 : decode cX9_at 1 = .ok (.getfield 12, 3) := dk_180 0 12 (dk_at dksX9_at_0 1 rfl rfl)
theorem dX9_at_4 : decode cX9_at 4 = .ok (.iconst 0, 1) := dk_3 (dk_at dksX9_at_0 4 rfl rfl)
theorem dX9_at_5 : decode cX9_at 5 = .ok (.invokeinterface 35 2, 5) := by decide +kernel
theorem dX9_at_10 : decode cX9_at 10 = .ok (.checkcast 2, 3) := dk_192 0 2 (dk_at dksX9_at_0 10 rfl rfl)
theorem dX9_at_13 : decode cX9_at 13 = .ok (.aload_n 1, 1) := dk_43 (dk_at dksX9_at_0 13 rfl rfl)
theorem dX9_at_14 : decode cX9_at 14 = .ok (.invokevirtual 39, 3) := dk_182 0 39 (dk_at dksX9_at_0 14 rfl rfl)
theorem dX9_at_17 : decode cX9_at 17 = .ok (.lstore_n 2, 1) := dk_65 (dk_at dksX9_at_0 17 rfl rfl)
theorem dX9_at_18 : decode cX9_at 18 = .ok (.iconst 1, 1) := dk_4 (dk_at dksX9_at_0 18 rfl rfl)
theorem dX9_at_19 : decode cX9_at 19 = .ok (.istore 4, 2) := dk_54 4 (dk_at dksX9_at_0 19 rfl rfl)
theorem dX9_at_21 : decode cX9_at 21 = .ok (.iload 4, 2) := dk_21 4 (dk_at dksX9_at_0 21 rfl rfl)
theorem dX9_at_23 : decode cX9_at 23 = .ok (.aload_n 0, 1) := dk_42 (dk_at dksX9_at_0 23 rfl rfl)
theorem dX9_at_24 : decode cX9_at 24 = .ok (.getfield 12, 3) := dk_180 0 12 (dk_at dksX9_at_1 0 rfl rfl)
theorem dX9_at_27 : decode cX9_at 27 = .ok (.invokeinterface 43 1, 5) := by decide +kernel
theorem dX9_at_32 : decode cX9_at 32 = .ok (.if_icmp .ge 44, 3) := dk_162 0 44 (dk_at dksX9_at_1 8 rfl rfl)
theorem dX9_at_35 : decode cX9_at 35 = .ok (.aload_n 0, 1) := dk_42 (dk_at dksX9_at_1 11 rfl rfl)
theorem dX9_at_36 : decode cX9_at 36 = .ok (.getfield 21, 3) := dk_180 0 21 (dk_at dksX9_at_1 12 rfl rfl)
theorem dX9_at_39 : decode cX9_at 39 = .ok (.iload 4, 2) := dk_21 4 (dk_at dksX9_at_1 15 rfl rfl)
theorem dX9_at_41 : decode cX9_at 41 = .ok (.invokevirtual 47, 3) := dk_182 0 47 (dk_at dksX9_at_1 17 rfl rfl)
theorem dX9_at_44 : decode cX9_at 44 = .ok (.lload_n 2, 1) := dk_32 (dk_at dksX9_at_1 20 rfl rfl)
theorem dX9_at_45 : decode cX9_at 45 = .ok (.aload_n 0, 1) := dk_42 (dk_at dksX9_at_1 21 rfl rfl)
theorem dX9_at_46 : decode cX9_at 46 = .ok (.getfield 12, 3) := dk_180 0 12 (dk_at dksX9_at_2 0 rfl rfl)
theorem dX9_at_49 : decode cX9_at 49 = .ok (.iload 4, 2) := dk_21 4 (dk_at dksX9_at_2 3 rfl rfl)
theorem dX9_at_51 : decode cX9_at 51 = .ok (.invokeinterface 35 2, 5) := by decide +kernel
theorem dX9_at_56 : decode cX9_at 56 = .ok (.checkcast 2, 3) := dk_192 0 2 (dk_at dksX9_at_2 10 rfl rfl)
theorem dX9_at_59 : decode cX9_at 59 = .ok (.aload_n 1, 1) := dk_43 (dk_at dksX9_at_2 13 rfl rfl)
theorem dX9_at_60 : decode cX9_at 60 = .ok (.invokevirtual 39, 3) := dk_182 0 39 (dk_at dksX9_at_2 14 rfl rfl)
theorem dX9_at_63 : decode cX9_at 63 = .ok (.invokestatic 51, 3) := dk_184 0 51 (dk_at dksX9_at_2 17 rfl rfl)
theorem dX9_at_66 : decode cX9_at 66 = .ok (.invokestatic 55, 3) := dk_184 0 55 (dk_at dksX9_at_2 20 rfl rfl)
theorem dX9_at_69 : decode cX9_at 69 = .ok (.lstore_n 2, 1) := dk_65 (dk_at dksX9_at_2 23 rfl rfl)
theorem dX9_at_70 : decode cX9_at 70 = .ok (.iinc 4 1, 3) := dk_132 4 1 (dk_at dksX9_at_3 0 rfl rfl)
theorem dX9_at_73 : decode cX9_at 73 = .ok (.goto (-52), 3) := dk_167 255 204 (dk_at dksX9_at_3 3 rfl rfl)
theorem dX9_at_76 : decode cX9_at 76 = .ok (.lload_n 2, 1) := dk_32 (dk_at dksX9_at_3 6 rfl rfl)
theorem dX9_at_77 : decode cX9_at 77 = .ok (.lreturn, 1) := dk_173 (dk_at dksX9_at_3 7 rfl rfl)
abbrev cX9_two : ByteArray := prog_5_method_4_code
def yX9_two : MethodName := ⟨RX9, "two", "(CJJ)J"⟩
def dkwX9_two_3 : List UInt8 := [184, 0, 61, 173]
abbrev dktX9_two_3 : List UInt8 := dkwX9_two_3 ++ []
def dkwX9_two_2 : List UInt8 := [31, 33, 97, 173, 31, 33, 101, 173, 31, 33, 105, 173, 33, 9, 148, 154, 0, 7, 9, 167, 0, 8, 31, 33]
abbrev dktX9_two_2 : List UInt8 := dkwX9_two_2 ++ dktX9_two_3
def dkwX9_two_1 : List UInt8 := [170, 0, 0, 0, 0, 0, 43, 0, 0, 0, 42, 0, 0, 0, 45, 0, 0, 0, 39, 0, 0, 0, 31, 0, 0, 0, 43, 0, 0, 0, 35]
abbrev dktX9_two_1 : List UInt8 := dkwX9_two_1 ++ dktX9_two_2
def dkwX9_two_0 : List UInt8 := [26]
abbrev dktX9_two_0 : List UInt8 := dkwX9_two_0 ++ dktX9_two_1
theorem dksX9_two_0 : cX9_two.data.toList.drop 0 = dktX9_two_0 := by decide +kernel
theorem dksX9_two_1 : cX9_two.data.toList.drop 1 = dktX9_two_1 := dk_seg dksX9_two_0 1 rfl rfl
theorem dksX9_two_2 : cX9_two.data.toList.drop 32 = dktX9_two_2 := dk_seg dksX9_two_1 31 rfl rfl
theorem dksX9_two_3 : cX9_two.data.toList.drop 56 = dktX9_two_3 := dk_seg dksX9_two_2 24 rfl rfl
theorem dX9_two_0 : decode cX9_two 0 = .ok (.iload_n 0, 1) := dk_26 (dk_at dksX9_two_0 0 rfl rfl)
theorem dX9_two_1 : decode cX9_two 1 = .ok (.tableswitch 43 42 45 #[39, 31, 43, 35], 31) := by decide +kernel
theorem dX9_two_32 : decode cX9_two 32 = .ok (.lload_n 1, 1) := dk_31 (dk_at dksX9_two_2 0 rfl rfl)
theorem dX9_two_33 : decode cX9_two 33 = .ok (.lload_n 3, 1) := dk_33 (dk_at dksX9_two_2 1 rfl rfl)
theorem dX9_two_34 : decode cX9_two 34 = .ok (.ladd, 1) := dk_97 (dk_at dksX9_two_2 2 rfl rfl)
theorem dX9_two_35 : decode cX9_two 35 = .ok (.lreturn, 1) := dk_173 (dk_at dksX9_two_2 3 rfl rfl)
theorem dX9_two_36 : decode cX9_two 36 = .ok (.lload_n 1, 1) := dk_31 (dk_at dksX9_two_2 4 rfl rfl)
theorem dX9_two_37 : decode cX9_two 37 = .ok (.lload_n 3, 1) := dk_33 (dk_at dksX9_two_2 5 rfl rfl)
theorem dX9_two_38 : decode cX9_two 38 = .ok (.lsub, 1) := dk_101 (dk_at dksX9_two_2 6 rfl rfl)
theorem dX9_two_39 : decode cX9_two 39 = .ok (.lreturn, 1) := dk_173 (dk_at dksX9_two_2 7 rfl rfl)
theorem dX9_two_40 : decode cX9_two 40 = .ok (.lload_n 1, 1) := dk_31 (dk_at dksX9_two_2 8 rfl rfl)
theorem dX9_two_41 : decode cX9_two 41 = .ok (.lload_n 3, 1) := dk_33 (dk_at dksX9_two_2 9 rfl rfl)
theorem dX9_two_42 : decode cX9_two 42 = .ok (.lmul, 1) := dk_105 (dk_at dksX9_two_2 10 rfl rfl)
theorem dX9_two_43 : decode cX9_two 43 = .ok (.lreturn, 1) := dk_173 (dk_at dksX9_two_2 11 rfl rfl)
theorem dX9_two_44 : decode cX9_two 44 = .ok (.lload_n 3, 1) := dk_33 (dk_at dksX9_two_2 12 rfl rfl)
theorem dX9_two_45 : decode cX9_two 45 = .ok (.lconst 0, 1) := dk_9 (dk_at dksX9_two_2 13 rfl rfl)
theorem dX9_two_46 : decode cX9_two 46 = .ok (.lcmp, 1) := dk_148 (dk_at dksX9_two_2 14 rfl rfl)
theorem dX9_two_47 : decode cX9_two 47 = .ok (.ifCond .ne 7, 3) := dk_154 0 7 (dk_at dksX9_two_2 15 rfl rfl)
theorem dX9_two_50 : decode cX9_two 50 = .ok (.lconst 0, 1) := dk_9 (dk_at dksX9_two_2 18 rfl rfl)
theorem dX9_two_51 : decode cX9_two 51 = .ok (.goto 8, 3) := dk_167 0 8 (dk_at dksX9_two_2 19 rfl rfl)
theorem dX9_two_54 : decode cX9_two 54 = .ok (.lload_n 1, 1) := dk_31 (dk_at dksX9_two_2 22 rfl rfl)
theorem dX9_two_55 : decode cX9_two 55 = .ok (.lload_n 3, 1) := dk_33 (dk_at dksX9_two_2 23 rfl rfl)
theorem dX9_two_56 : decode cX9_two 56 = .ok (.invokestatic 61, 3) := dk_184 0 61 (dk_at dksX9_two_3 0 rfl rfl)
theorem dX9_two_59 : decode cX9_two 59 = .ok (.lreturn, 1) := dk_173 (dk_at dksX9_two_3 3 rfl rfl)
theorem q176 : (Jvm.Cond.initialized "MarginFolk$Chain") ∈ lw_all := lw_g (lw_at lw_m1 25 rfl) rfl
theorem q922 : (Jvm.Cond.selects "MarginFolk$Chain" ({ cls := "java/lang/Object", name := "getClass", desc := "()Ljava/lang/Class;" } : Jvm.MethodName) ({ cls := "java/lang/Object", name := "getClass", desc := "()Ljava/lang/Class;" } : Jvm.MethodName)) ∈ lw_all := lw_g (lw_at lw_m4 51 rfl) rfl
theorem q971 : (Jvm.Cond.instantiable "MarginFolk$Chain" (2 : Nat)) ∈ lw_all := lw_g (lw_at lw_m4 100 rfl) rfl
theorem q973 : (Jvm.Cond.instanceMethod ({ cls := "MarginFolk$Chain", name := "<init>", desc := "()V" } : Jvm.MethodName)) ∈ lw_all := lw_g (lw_at lw_m4 102 rfl) rfl
theorem q974 : (Jvm.Cond.code ({ cls := "MarginFolk$Chain", name := "<init>", desc := "()V" } : Jvm.MethodName) prog_5_method_1_code (1 : Nat) (Option.none : Option Jvm.ClassFile.FieldType)) ∈ lw_all := lw_g (lw_at lw_m4 103 rfl) rfl
theorem q975 : (Jvm.Cond.methodLinkNest "MarginFolk$Chain" (1 : Nat) ({ cls := "MarginFolk$Value", name := "<init>", desc := "()V" } : Jvm.MethodName) "MarginFolk") ∈ lw_tbl := lw_at lw_m4 104 rfl
theorem q979 : (Jvm.Cond.classLink "MarginFolk$Chain" (7 : Nat) "java/util/ArrayList") ∈ lw_all := lw_g (lw_at lw_m4 108 rfl) rfl
theorem q980 : (Jvm.Cond.methodLink "MarginFolk$Chain" (9 : Nat) ({ cls := "java/util/ArrayList", name := "<init>", desc := "(I)V" } : Jvm.MethodName)) ∈ lw_all := lw_g (lw_at lw_m4 109 rfl) rfl
theorem q981 : (Jvm.Cond.classLink "MarginFolk$Chain" (18 : Nat) "java/lang/StringBuilder") ∈ lw_all := lw_g (lw_at lw_m4 110 rfl) rfl
theorem q983 : (Jvm.Cond.methodLink "MarginFolk$Chain" (20 : Nat) ({ cls := "java/lang/StringBuilder", name := "<init>", desc := "()V" } : Jvm.MethodName)) ∈ lw_all := lw_g (lw_at lw_m4 112 rfl) rfl
theorem q1004 : (Jvm.Cond.fieldLink "MarginFolk$Chain" (12 : Nat) "MarginFolk$Chain" "values" "Ljava/util/List;") ∈ lw_all := lw_g (lw_at lw_m4 133 rfl) rfl
theorem q1005 : (Jvm.Cond.fieldLink "MarginFolk$Chain" (21 : Nat) "MarginFolk$Chain" "signs" "Ljava/lang/StringBuilder;") ∈ lw_all := lw_g (lw_at lw_m4 134 rfl) rfl
theorem q1006 : (Jvm.Cond.laysFinal "MarginFolk$Chain" "MarginFolk$Chain" "values" "Ljava/util/List;") ∈ lw_all := lw_g (lw_at lw_m4 135 rfl) rfl
theorem q1007 : (Jvm.Cond.soleField "MarginFolk$Chain" "values") ∈ lw_all := lw_g (lw_at lw_m4 136 rfl) rfl
theorem q1008 : (Jvm.Cond.laysFinal "MarginFolk$Chain" "MarginFolk$Chain" "signs" "Ljava/lang/StringBuilder;") ∈ lw_all := lw_g (lw_at lw_m4 137 rfl) rfl
theorem q1009 : (Jvm.Cond.soleField "MarginFolk$Chain" "signs") ∈ lw_all := lw_g (lw_at lw_m4 138 rfl) rfl
theorem q1010 : (Jvm.Cond.superclass "MarginFolk$Chain" "MarginFolk$Value") ∈ lw_all := lw_g (lw_at lw_m4 139 rfl) rfl
theorem q1091 : (Jvm.Cond.instanceMethod ({ cls := "MarginFolk$Chain", name := "add", desc := "(CLMarginFolk$Value;)V" } : Jvm.MethodName)) ∈ lw_all := lw_g (lw_at lw_m4 220 rfl) rfl
theorem q1092 : (Jvm.Cond.selects "MarginFolk$Chain" ({ cls := "MarginFolk$Chain", name := "add", desc := "(CLMarginFolk$Value;)V" } : Jvm.MethodName) ({ cls := "MarginFolk$Chain", name := "add", desc := "(CLMarginFolk$Value;)V" } : Jvm.MethodName)) ∈ lw_all := lw_g (lw_at lw_m4 221 rfl) rfl
theorem q1093 : (Jvm.Cond.code ({ cls := "MarginFolk$Chain", name := "add", desc := "(CLMarginFolk$Value;)V" } : Jvm.MethodName) prog_5_method_2_code (3 : Nat) (Option.none : Option Jvm.ClassFile.FieldType)) ∈ lw_all := lw_g (lw_at lw_m4 222 rfl) rfl
theorem q1094 : (Jvm.Cond.methodLink "MarginFolk$Chain" (25 : Nat) ({ cls := "java/lang/StringBuilder", name := "append", desc := "(C)Ljava/lang/StringBuilder;" } : Jvm.MethodName)) ∈ lw_all := lw_g (lw_at lw_m4 223 rfl) rfl
theorem q1149 : (Jvm.Cond.interfaceEntry "MarginFolk$Chain" (29 : Nat)) ∈ lw_tbl := lw_at lw_m5 38 rfl
theorem q1150 : (Jvm.Cond.methodLink "MarginFolk$Chain" (29 : Nat) ({ cls := "java/util/List", name := "add", desc := "(Ljava/lang/Object;)Z" } : Jvm.MethodName)) ∈ lw_all := lw_g (lw_at lw_m5 39 rfl) rfl
theorem q1280 : (Jvm.Cond.selects "MarginFolk$Chain" ({ cls := "MarginFolk$Value", name := "at", desc := "(LMarginFolk$Moment;)J" } : Jvm.MethodName) ({ cls := "MarginFolk$Chain", name := "at", desc := "(LMarginFolk$Moment;)J" } : Jvm.MethodName)) ∈ lw_all := lw_g (lw_at lw_m5 169 rfl) rfl
theorem q1281 : (Jvm.Cond.instanceMethod ({ cls := "MarginFolk$Chain", name := "at", desc := "(LMarginFolk$Moment;)J" } : Jvm.MethodName)) ∈ lw_all := lw_g (lw_at lw_m5 170 rfl) rfl
theorem q1282 : (Jvm.Cond.code ({ cls := "MarginFolk$Chain", name := "at", desc := "(LMarginFolk$Moment;)J" } : Jvm.MethodName) prog_5_method_3_code (5 : Nat) (Option.some Jvm.ClassFile.FieldType.long)) ∈ lw_all := lw_g (lw_at lw_m5 171 rfl) rfl
theorem q1283 : (Jvm.Cond.interfaceEntry "MarginFolk$Chain" (35 : Nat)) ∈ lw_tbl := lw_at lw_m5 172 rfl
theorem q1284 : (Jvm.Cond.methodLink "MarginFolk$Chain" (35 : Nat) ({ cls := "java/util/List", name := "get", desc := "(I)Ljava/lang/Object;" } : Jvm.MethodName)) ∈ lw_all := lw_g (lw_at lw_m5 173 rfl) rfl
theorem q1285 : (Jvm.Cond.classLink "MarginFolk$Chain" (2 : Nat) "MarginFolk$Value") ∈ lw_all := lw_g (lw_at lw_m5 174 rfl) rfl
theorem q1286 : (Jvm.Cond.methodLink "MarginFolk$Chain" (39 : Nat) ({ cls := "MarginFolk$Value", name := "at", desc := "(LMarginFolk$Moment;)J" } : Jvm.MethodName)) ∈ lw_all := lw_g (lw_at lw_m5 175 rfl) rfl
theorem q1319 : (Jvm.Cond.interfaceEntry "MarginFolk$Chain" (43 : Nat)) ∈ lw_tbl := lw_at lw_m5 208 rfl
theorem q1320 : (Jvm.Cond.methodLink "MarginFolk$Chain" (43 : Nat) ({ cls := "java/util/List", name := "size", desc := "()I" } : Jvm.MethodName)) ∈ lw_all := lw_g (lw_at lw_m5 209 rfl) rfl
theorem q1321 : (Jvm.Cond.methodLink "MarginFolk$Chain" (47 : Nat) ({ cls := "java/lang/StringBuilder", name := "charAt", desc := "(I)C" } : Jvm.MethodName)) ∈ lw_all := lw_g (lw_at lw_m5 210 rfl) rfl
theorem q1331 : (Jvm.Cond.methodLink "MarginFolk$Chain" (51 : Nat) ({ cls := "MarginFolk$Chain", name := "two", desc := "(CJJ)J" } : Jvm.MethodName)) ∈ lw_all := lw_g (lw_at lw_m5 220 rfl) rfl
theorem q1332 : (Jvm.Cond.static ({ cls := "MarginFolk$Chain", name := "two", desc := "(CJJ)J" } : Jvm.MethodName)) ∈ lw_all := lw_g (lw_at lw_m5 221 rfl) rfl
theorem q1333 : (Jvm.Cond.code ({ cls := "MarginFolk$Chain", name := "two", desc := "(CJJ)J" } : Jvm.MethodName) prog_5_method_4_code (5 : Nat) (Option.some Jvm.ClassFile.FieldType.long)) ∈ lw_all := lw_g (lw_at lw_m5 222 rfl) rfl
theorem q1334 : (Jvm.Cond.methodLink "MarginFolk$Chain" (61 : Nat) ({ cls := "java/lang/Math", name := "floorDiv", desc := "(JJ)J" } : Jvm.MethodName)) ∈ lw_all := lw_g (lw_at lw_m5 223 rfl) rfl
theorem q1337 : (Jvm.Cond.methodLinkNest "MarginFolk$Chain" (55 : Nat) ({ cls := "MarginFolk", name := "held", desc := "(J)J" } : Jvm.MethodName) "MarginFolk") ∈ lw_tbl := lw_at lw_m5 226 rfl
theorem q2538 : (Jvm.Cond.castable "MarginFolk$Chain" "MarginFolk$Value") ∈ lw_tbl := lw_at lw_m10 227 rfl
theorem q2557 : (Jvm.Cond.castable "MarginFolk$Chain" "java/lang/Object") ∈ lw_tbl := lw_at lw_m11 6 rfl
theorem in_X9 : ∀ w ∈ wsX90, w ∈ lw_all := lw_in wsX90 [1006, 1008] (by decide +kernel) (by decide +kernel)
/-! MarginFolk$Pair -/
set_option maxRecDepth 100000
def RX10 : String := "MarginFolk$Pair"
def TX10 : u_T := fun k => match k with
  | 0 => ("MarginFolk$Pair", "most", "Z", true)
  | 1 => ("MarginFolk$Pair", "first", "LMarginFolk$Value;", true)
  | _ => ("MarginFolk$Pair", "second", "LMarginFolk$Value;", true)
def tyX10 : Nat → FieldType := fun k => match k with
  | 0 => .boolean
  | 1 => .object "MarginFolk$Value"
  | _ => .object "MarginFolk$Value"
abbrev wsX100 : List Cond := u_ws RX10 TX10 3
theorem nmX10 : ∀ a, a < 3 → ∀ b, b < 3 → a ≠ b → (TX10 a).2.1 ≠ (TX10 b).2.1 := by decide +kernel
theorem tyX10_ok : ∀ k, k < 3 → parseFieldDescriptor (TX10 k).2.2.1 = some (tyX10 k) := by decide +kernel
abbrev cX10_init : ByteArray := prog_13_method_1_code
def yX10_init : MethodName := ⟨RX10, "<init>", "(ZLMarginFolk$Value;LMarginFolk$Value;)V"⟩
def dkwX10_init_0 : List UInt8 := [42, 183, 0, 1, 42, 27, 181, 0, 7, 42, 44, 181, 0, 13, 42, 45, 181, 0, 17, 177]
abbrev dktX10_init_0 : List UInt8 := dkwX10_init_0 ++ []
theorem dksX10_init_0 : cX10_init.data.toList.drop 0 = dktX10_init_0 := by decide +kernel
theorem dX10_init_0 : decode cX10_init 0 = .ok (.aload_n 0, 1) := dk_42 (dk_at dksX10_init_0 0 rfl rfl)
theorem dX10_init_1 : decode cX10_init 1 = .ok (.invokespecial 1, 3) := dk_183 0 1 (dk_at dksX10_init_0 1 rfl rfl)
theorem dX10_init_4 : decode cX10_init 4 = .ok (.aload_n 0, 1) := dk_42 (dk_at dksX10_init_0 4 rfl rfl)
theorem dX10_init_5 : decode cX10_init 5 = .ok (.iload_n 1, 1) := dk_27 (dk_at dksX10_init_0 5 rfl rfl)
theorem dX10_init_6 : decode cX10_init 6 = .ok (.putfield 7, 3) := dk_181 0 7 (dk_at dksX10_init_0 6 rfl rfl)
theorem dX10_init_9 : decode cX10_init 9 = .ok (.aload_n 0, 1) := dk_42 (dk_at dksX10_init_0 9 rfl rfl)
theorem dX10_init_10 : decode cX10_init 10 = .ok (.aload_n 2, 1) := dk_44 (dk_at dksX10_init_0 10 rfl rfl)
theorem dX10_init_11 : decode cX10_init 11 = .ok (.putfield 13, 3) := dk_181 0 13 (dk_at dksX10_init_0 11 rfl rfl)
theorem dX10_init_14 : decode cX10_init 14 = .ok (.aload_n 0, 1) := dk_42 (dk_at dksX10_init_0 14 rfl rfl)
theorem dX10_init_15 : decode cX10_init 15 = .ok (.aload_n 3, 1) := dk_45 (dk_at dksX10_init_0 15 rfl rfl)
theorem dX10_init_16 : decode cX10_init 16 = .ok (.putfield 17, 3) := dk_181 0 17 (dk_at dksX10_init_0 16 rfl rfl)
theorem dX10_init_19 : decode cX10_init 19 = .ok (.return_, 1) := dk_177 (dk_at dksX10_init_0 19 rfl rfl)
abbrev cX10_at : ByteArray := prog_13_method_2_code
def yX10_at : MethodName := ⟨RX10, "at", "(LMarginFolk$Moment;)J"⟩
def dkwX10_at_1 : List UInt8 := [22, 4, 148, 158, 0, 7, 4, 167, 0, 4, 3, 160, 0, 7, 32, 167, 0, 5, 22, 4, 173]
abbrev dktX10_at_1 : List UInt8 := dkwX10_at_1 ++ []
def dkwX10_at_0 : List UInt8 := [42, 180, 0, 13, 43, 182, 0, 20, 65, 42, 180, 0, 17, 43, 182, 0, 20, 55, 4, 42, 180, 0, 7, 32]
abbrev dktX10_at_0 : List UInt8 := dkwX10_at_0 ++ dktX10_at_1
theorem dksX10_at_0 : cX10_at.data.toList.drop 0 = dktX10_at_0 := by decide +kernel
theorem dksX10_at_1 : cX10_at.data.toList.drop 24 = dktX10_at_1 := dk_seg dksX10_at_0 24 rfl rfl
theorem dX10_at_0 : decode cX10_at 0 = .ok (.aload_n 0, 1) := dk_42 (dk_at dksX10_at_0 0 rfl rfl)
theorem dX10_at_1 : decode cX10_at 1 = .ok (.getfield 13, 3) := dk_180 0 13 (dk_at dksX10_at_0 1 rfl rfl)
theorem dX10_at_4 : decode cX10_at 4 = .ok (.aload_n 1, 1) := dk_43 (dk_at dksX10_at_0 4 rfl rfl)
theorem dX10_at_5 : decode cX10_at 5 = .ok (.invokevirtual 20, 3) := dk_182 0 20 (dk_at dksX10_at_0 5 rfl rfl)
theorem dX10_at_8 : decode cX10_at 8 = .ok (.lstore_n 2, 1) := dk_65 (dk_at dksX10_at_0 8 rfl rfl)
theorem dX10_at_9 : decode cX10_at 9 = .ok (.aload_n 0, 1) := dk_42 (dk_at dksX10_at_0 9 rfl rfl)
theorem dX10_at_10 : decode cX10_at 10 = .ok (.getfield 17, 3) := dk_180 0 17 (dk_at dksX10_at_0 10 rfl rfl)
theorem dX10_at_13 : decode cX10_at 13 = .ok (.aload_n 1, 1) := dk_43 (dk_at dksX10_at_0 13 rfl rfl)
theorem dX10_at_14 : decode cX10_at 14 = .ok (.invokevirtual 20, 3) := dk_182 0 20 (dk_at dksX10_at_0 14 rfl rfl)
theorem dX10_at_17 : decode cX10_at 17 = .ok (.lstore 4, 2) := dk_55 4 (dk_at dksX10_at_0 17 rfl rfl)
theorem dX10_at_19 : decode cX10_at 19 = .ok (.aload_n 0, 1) := dk_42 (dk_at dksX10_at_0 19 rfl rfl)
theorem dX10_at_20 : decode cX10_at 20 = .ok (.getfield 7, 3) := dk_180 0 7 (dk_at dksX10_at_0 20 rfl rfl)
theorem dX10_at_23 : decode cX10_at 23 = .ok (.lload_n 2, 1) := dk_32 (dk_at dksX10_at_0 23 rfl rfl)
theorem dX10_at_24 : decode cX10_at 24 = .ok (.lload 4, 2) := dk_22 4 (dk_at dksX10_at_1 0 rfl rfl)
theorem dX10_at_26 : decode cX10_at 26 = .ok (.lcmp, 1) := dk_148 (dk_at dksX10_at_1 2 rfl rfl)
theorem dX10_at_27 : decode cX10_at 27 = .ok (.ifCond .le 7, 3) := dk_158 0 7 (dk_at dksX10_at_1 3 rfl rfl)
theorem dX10_at_30 : decode cX10_at 30 = .ok (.iconst 1, 1) := dk_4 (dk_at dksX10_at_1 6 rfl rfl)
theorem dX10_at_31 : decode cX10_at 31 = .ok (.goto 4, 3) := dk_167 0 4 (dk_at dksX10_at_1 7 rfl rfl)
theorem dX10_at_34 : decode cX10_at 34 = .ok (.iconst 0, 1) := dk_3 (dk_at dksX10_at_1 10 rfl rfl)
theorem dX10_at_35 : decode cX10_at 35 = .ok (.if_icmp .ne 7, 3) := dk_160 0 7 (dk_at dksX10_at_1 11 rfl rfl)
theorem dX10_at_38 : decode cX10_at 38 = .ok (.lload_n 2, 1) := dk_32 (dk_at dksX10_at_1 14 rfl rfl)
theorem dX10_at_39 : decode cX10_at 39 = .ok (.goto 5, 3) := dk_167 0 5 (dk_at dksX10_at_1 15 rfl rfl)
theorem dX10_at_42 : decode cX10_at 42 = .ok (.lload 4, 2) := dk_22 4 (dk_at dksX10_at_1 18 rfl rfl)
theorem dX10_at_44 : decode cX10_at 44 = .ok (.lreturn, 1) := dk_173 (dk_at dksX10_at_1 20 rfl rfl)
theorem q179 : (Jvm.Cond.initialized "MarginFolk$Pair") ∈ lw_all := lw_g (lw_at lw_m1 28 rfl) rfl
theorem q930 : (Jvm.Cond.selects "MarginFolk$Pair" ({ cls := "java/lang/Object", name := "getClass", desc := "()Ljava/lang/Class;" } : Jvm.MethodName) ({ cls := "java/lang/Object", name := "getClass", desc := "()Ljava/lang/Class;" } : Jvm.MethodName)) ∈ lw_all := lw_g (lw_at lw_m4 59 rfl) rfl
theorem q1028 : (Jvm.Cond.instantiable "MarginFolk$Pair" (3 : Nat)) ∈ lw_all := lw_g (lw_at lw_m4 157 rfl) rfl
theorem q1030 : (Jvm.Cond.instanceMethod ({ cls := "MarginFolk$Pair", name := "<init>", desc := "(ZLMarginFolk$Value;LMarginFolk$Value;)V" } : Jvm.MethodName)) ∈ lw_all := lw_g (lw_at lw_m4 159 rfl) rfl
theorem q1031 : (Jvm.Cond.code ({ cls := "MarginFolk$Pair", name := "<init>", desc := "(ZLMarginFolk$Value;LMarginFolk$Value;)V" } : Jvm.MethodName) prog_13_method_1_code (4 : Nat) (Option.none : Option Jvm.ClassFile.FieldType)) ∈ lw_all := lw_g (lw_at lw_m4 160 rfl) rfl
theorem q1032 : (Jvm.Cond.methodLinkNest "MarginFolk$Pair" (1 : Nat) ({ cls := "MarginFolk$Value", name := "<init>", desc := "()V" } : Jvm.MethodName) "MarginFolk") ∈ lw_tbl := lw_at lw_m4 161 rfl
theorem q1033 : (Jvm.Cond.fieldLink "MarginFolk$Pair" (7 : Nat) "MarginFolk$Pair" "most" "Z") ∈ lw_all := lw_g (lw_at lw_m4 162 rfl) rfl
theorem q1034 : (Jvm.Cond.fieldLink "MarginFolk$Pair" (13 : Nat) "MarginFolk$Pair" "first" "LMarginFolk$Value;") ∈ lw_all := lw_g (lw_at lw_m4 163 rfl) rfl
theorem q1035 : (Jvm.Cond.fieldLink "MarginFolk$Pair" (17 : Nat) "MarginFolk$Pair" "second" "LMarginFolk$Value;") ∈ lw_all := lw_g (lw_at lw_m4 164 rfl) rfl
theorem q1036 : (Jvm.Cond.laysFinal "MarginFolk$Pair" "MarginFolk$Pair" "most" "Z") ∈ lw_all := lw_g (lw_at lw_m4 165 rfl) rfl
theorem q1037 : (Jvm.Cond.soleField "MarginFolk$Pair" "most") ∈ lw_all := lw_g (lw_at lw_m4 166 rfl) rfl
theorem q1038 : (Jvm.Cond.laysFinal "MarginFolk$Pair" "MarginFolk$Pair" "first" "LMarginFolk$Value;") ∈ lw_all := lw_g (lw_at lw_m4 167 rfl) rfl
theorem q1039 : (Jvm.Cond.soleField "MarginFolk$Pair" "first") ∈ lw_all := lw_g (lw_at lw_m4 168 rfl) rfl
theorem q1040 : (Jvm.Cond.laysFinal "MarginFolk$Pair" "MarginFolk$Pair" "second" "LMarginFolk$Value;") ∈ lw_all := lw_g (lw_at lw_m4 169 rfl) rfl
theorem q1041 : (Jvm.Cond.soleField "MarginFolk$Pair" "second") ∈ lw_all := lw_g (lw_at lw_m4 170 rfl) rfl
theorem q1042 : (Jvm.Cond.superclass "MarginFolk$Pair" "MarginFolk$Value") ∈ lw_all := lw_g (lw_at lw_m4 171 rfl) rfl
theorem q1292 : (Jvm.Cond.instanceMethod ({ cls := "MarginFolk$Pair", name := "at", desc := "(LMarginFolk$Moment;)J" } : Jvm.MethodName)) ∈ lw_all := lw_g (lw_at lw_m5 181 rfl) rfl
theorem q1293 : (Jvm.Cond.code ({ cls := "MarginFolk$Pair", name := "at", desc := "(LMarginFolk$Moment;)J" } : Jvm.MethodName) prog_13_method_2_code (6 : Nat) (Option.some Jvm.ClassFile.FieldType.long)) ∈ lw_all := lw_g (lw_at lw_m5 182 rfl) rfl
theorem q1294 : (Jvm.Cond.methodLink "MarginFolk$Pair" (20 : Nat) ({ cls := "MarginFolk$Value", name := "at", desc := "(LMarginFolk$Moment;)J" } : Jvm.MethodName)) ∈ lw_all := lw_g (lw_at lw_m5 183 rfl) rfl
theorem q1340 : (Jvm.Cond.selects "MarginFolk$Pair" ({ cls := "MarginFolk$Value", name := "at", desc := "(LMarginFolk$Moment;)J" } : Jvm.MethodName) ({ cls := "MarginFolk$Pair", name := "at", desc := "(LMarginFolk$Moment;)J" } : Jvm.MethodName)) ∈ lw_all := lw_g (lw_at lw_m5 229 rfl) rfl
theorem q2541 : (Jvm.Cond.castable "MarginFolk$Pair" "MarginFolk$Value") ∈ lw_tbl := lw_at lw_m10 230 rfl
theorem q2559 : (Jvm.Cond.castable "MarginFolk$Pair" "java/lang/Object") ∈ lw_tbl := lw_at lw_m11 8 rfl
theorem in_X10 : ∀ w ∈ wsX100, w ∈ lw_all := lw_in wsX100 [1036, 1038, 1040] (by decide +kernel) (by decide +kernel)
/-! MarginFolk$Fixed -/
set_option maxRecDepth 100000
def RX11 : String := "MarginFolk$Fixed"
def TX11 : u_T := fun k => match k with
  | _ => ("MarginFolk$Fixed", "value", "J", true)
def tyX11 : Nat → FieldType := fun k => match k with
  | _ => .long
abbrev wsX110 : List Cond := u_ws RX11 TX11 1
theorem nmX11 : ∀ a, a < 1 → ∀ b, b < 1 → a ≠ b → (TX11 a).2.1 ≠ (TX11 b).2.1 := by decide +kernel
theorem tyX11_ok : ∀ k, k < 1 → parseFieldDescriptor (TX11 k).2.2.1 = some (tyX11 k) := by decide +kernel
abbrev cX11_init : ByteArray := prog_8_method_1_code
def yX11_init : MethodName := ⟨RX11, "<init>", "(J)V"⟩
def dkwX11_init_0 : List UInt8 := [42, 183, 0, 1, 42, 31, 181, 0, 7, 177]
abbrev dktX11_init_0 : List UInt8 := dkwX11_init_0 ++ []
theorem dksX11_init_0 : cX11_init.data.toList.drop 0 = dktX11_init_0 := by decide +kernel
theorem dX11_init_0 : decode cX11_init 0 = .ok (.aload_n 0, 1) := dk_42 (dk_at dksX11_init_0 0 rfl rfl)
theorem dX11_init_1 : decode cX11_init 1 = .ok (.invokespecial 1, 3) := dk_183 0 1 (dk_at dksX11_init_0 1 rfl rfl)
theorem dX11_init_4 : decode cX11_init 4 = .ok (.aload_n 0, 1) := dk_42 (dk_at dksX11_init_0 4 rfl rfl)
theorem dX11_init_5 : decode cX11_init 5 = .ok (.lload_n 1, 1) := dk_31 (dk_at dksX11_init_0 5 rfl rfl)
theorem dX11_init_6 : decode cX11_init 6 = .ok (.putfield 7, 3) := dk_181 0 7 (dk_at dksX11_init_0 6 rfl rfl)
theorem dX11_init_9 : decode cX11_init 9 = .ok (.return_, 1) := dk_177 (dk_at dksX11_init_0 9 rfl rfl)
abbrev cX11_at : ByteArray := prog_8_method_2_code
def yX11_at : MethodName := ⟨RX11, "at", "(LMarginFolk$Moment;)J"⟩
theorem dX11_at_0 : decode cX11_at 0 = .ok (.aload_n 0, 1) := by decide +kernel
theorem dX11_at_1 : decode cX11_at 1 = .ok (.getfield 7, 3) := by decide +kernel
theorem dX11_at_4 : decode cX11_at 4 = .ok (.lreturn, 1) := by decide +kernel
theorem q180 : (Jvm.Cond.initialized "MarginFolk$Fixed") ∈ lw_all := lw_g (lw_at lw_m1 29 rfl) rfl
theorem q925 : (Jvm.Cond.selects "MarginFolk$Fixed" ({ cls := "java/lang/Object", name := "getClass", desc := "()Ljava/lang/Class;" } : Jvm.MethodName) ({ cls := "java/lang/Object", name := "getClass", desc := "()Ljava/lang/Class;" } : Jvm.MethodName)) ∈ lw_all := lw_g (lw_at lw_m4 54 rfl) rfl
theorem q1044 : (Jvm.Cond.instantiable "MarginFolk$Fixed" (1 : Nat)) ∈ lw_all := lw_g (lw_at lw_m4 173 rfl) rfl
theorem q1046 : (Jvm.Cond.instanceMethod ({ cls := "MarginFolk$Fixed", name := "<init>", desc := "(J)V" } : Jvm.MethodName)) ∈ lw_all := lw_g (lw_at lw_m4 175 rfl) rfl
theorem q1047 : (Jvm.Cond.code ({ cls := "MarginFolk$Fixed", name := "<init>", desc := "(J)V" } : Jvm.MethodName) prog_8_method_1_code (3 : Nat) (Option.none : Option Jvm.ClassFile.FieldType)) ∈ lw_all := lw_g (lw_at lw_m4 176 rfl) rfl
theorem q1048 : (Jvm.Cond.methodLinkNest "MarginFolk$Fixed" (1 : Nat) ({ cls := "MarginFolk$Value", name := "<init>", desc := "()V" } : Jvm.MethodName) "MarginFolk") ∈ lw_tbl := lw_at lw_m4 177 rfl
theorem q1049 : (Jvm.Cond.fieldLink "MarginFolk$Fixed" (7 : Nat) "MarginFolk$Fixed" "value" "J") ∈ lw_all := lw_g (lw_at lw_m4 178 rfl) rfl
theorem q1050 : (Jvm.Cond.laysFinal "MarginFolk$Fixed" "MarginFolk$Fixed" "value" "J") ∈ lw_all := lw_g (lw_at lw_m4 179 rfl) rfl
theorem q1051 : (Jvm.Cond.soleField "MarginFolk$Fixed" "value") ∈ lw_all := lw_g (lw_at lw_m4 180 rfl) rfl
theorem q1052 : (Jvm.Cond.superclass "MarginFolk$Fixed" "MarginFolk$Value") ∈ lw_all := lw_g (lw_at lw_m4 181 rfl) rfl
theorem q1287 : (Jvm.Cond.instanceMethod ({ cls := "MarginFolk$Fixed", name := "at", desc := "(LMarginFolk$Moment;)J" } : Jvm.MethodName)) ∈ lw_all := lw_g (lw_at lw_m5 176 rfl) rfl
theorem q1288 : (Jvm.Cond.code ({ cls := "MarginFolk$Fixed", name := "at", desc := "(LMarginFolk$Moment;)J" } : Jvm.MethodName) prog_8_method_2_code (2 : Nat) (Option.some Jvm.ClassFile.FieldType.long)) ∈ lw_all := lw_g (lw_at lw_m5 177 rfl) rfl
theorem q1338 : (Jvm.Cond.selects "MarginFolk$Fixed" ({ cls := "MarginFolk$Value", name := "at", desc := "(LMarginFolk$Moment;)J" } : Jvm.MethodName) ({ cls := "MarginFolk$Fixed", name := "at", desc := "(LMarginFolk$Moment;)J" } : Jvm.MethodName)) ∈ lw_all := lw_g (lw_at lw_m5 227 rfl) rfl
theorem q2539 : (Jvm.Cond.castable "MarginFolk$Fixed" "MarginFolk$Value") ∈ lw_tbl := lw_at lw_m10 228 rfl
theorem q2560 : (Jvm.Cond.castable "MarginFolk$Fixed" "java/lang/Object") ∈ lw_tbl := lw_at lw_m11 9 rfl
theorem in_X11 : ∀ w ∈ wsX110, w ∈ lw_all := lw_in wsX110 [1050] (by decide +kernel) (by decide +kernel)
/-! MarginFolk$Asked -/
set_option maxRecDepth 100000
def RX12 : String := "MarginFolk$Asked"
def TX12 : u_T := fun k => match k with
  | _ => ("MarginFolk$Asked", "what", "I", true)
def tyX12 : Nat → FieldType := fun k => match k with
  | _ => .int
abbrev wsX120 : List Cond := u_ws RX12 TX12 1
theorem nmX12 : ∀ a, a < 1 → ∀ b, b < 1 → a ≠ b → (TX12 a).2.1 ≠ (TX12 b).2.1 := by decide +kernel
theorem tyX12_ok : ∀ k, k < 1 → parseFieldDescriptor (TX12 k).2.2.1 = some (tyX12 k) := by decide +kernel
abbrev cX12_init : ByteArray := prog_3_method_1_code
def yX12_init : MethodName := ⟨RX12, "<init>", "(I)V"⟩
def dkwX12_init_0 : List UInt8 := [42, 183, 0, 1, 42, 27, 181, 0, 7, 177]
abbrev dktX12_init_0 : List UInt8 := dkwX12_init_0 ++ []
theorem dksX12_init_0 : cX12_init.data.toList.drop 0 = dktX12_init_0 := by decide +kernel
theorem dX12_init_0 : decode cX12_init 0 = .ok (.aload_n 0, 1) := dk_42 (dk_at dksX12_init_0 0 rfl rfl)
theorem dX12_init_1 : decode cX12_init 1 = .ok (.invokespecial 1, 3) := dk_183 0 1 (dk_at dksX12_init_0 1 rfl rfl)
theorem dX12_init_4 : decode cX12_init 4 = .ok (.aload_n 0, 1) := dk_42 (dk_at dksX12_init_0 4 rfl rfl)
theorem dX12_init_5 : decode cX12_init 5 = .ok (.iload_n 1, 1) := dk_27 (dk_at dksX12_init_0 5 rfl rfl)
theorem dX12_init_6 : decode cX12_init 6 = .ok (.putfield 7, 3) := dk_181 0 7 (dk_at dksX12_init_0 6 rfl rfl)
theorem dX12_init_9 : decode cX12_init 9 = .ok (.return_, 1) := dk_177 (dk_at dksX12_init_0 9 rfl rfl)
abbrev cX12_at : ByteArray := prog_3_method_2_code
def yX12_at : MethodName := ⟨RX12, "at", "(LMarginFolk$Moment;)J"⟩
def dkwX12_at_0 : List UInt8 := [43, 180, 0, 13, 42, 180, 0, 7, 47, 184, 0, 19, 173]
abbrev dktX12_at_0 : List UInt8 := dkwX12_at_0 ++ []
theorem dksX12_at_0 : cX12_at.data.toList.drop 0 = dktX12_at_0 := by decide +kernel
theorem dX12_at_0 : decode cX12_at 0 = .ok (.aload_n 1, 1) := dk_43 (dk_at dksX12_at_0 0 rfl rfl)
theorem dX12_at_1 : decode cX12_at 1 = .ok (.getfield 13, 3) := dk_180 0 13 (dk_at dksX12_at_0 1 rfl rfl)
theorem dX12_at_4 : decode cX12_at 4 = .ok (.aload_n 0, 1) := dk_42 (dk_at dksX12_at_0 4 rfl rfl)
theorem dX12_at_5 : decode cX12_at 5 = .ok (.getfield 7, 3) := dk_180 0 7 (dk_at dksX12_at_0 5 rfl rfl)
theorem dX12_at_8 : decode cX12_at 8 = .ok (.laload, 1) := dk_47 (dk_at dksX12_at_0 8 rfl rfl)
theorem dX12_at_9 : decode cX12_at 9 = .ok (.invokestatic 19, 3) := dk_184 0 19 (dk_at dksX12_at_0 9 rfl rfl)
theorem dX12_at_12 : decode cX12_at 12 = .ok (.lreturn, 1) := dk_173 (dk_at dksX12_at_0 12 rfl rfl)
theorem q181 : (Jvm.Cond.initialized "MarginFolk$Asked") ∈ lw_all := lw_g (lw_at lw_m1 30 rfl) rfl
theorem q410 : (Jvm.Cond.fieldLinkNest "MarginFolk$Asked" (13 : Nat) "MarginFolk$Moment" "of" "[J" "MarginFolk") ∈ lw_tbl := lw_at lw_m2 19 rfl
theorem q920 : (Jvm.Cond.selects "MarginFolk$Asked" ({ cls := "java/lang/Object", name := "getClass", desc := "()Ljava/lang/Class;" } : Jvm.MethodName) ({ cls := "java/lang/Object", name := "getClass", desc := "()Ljava/lang/Class;" } : Jvm.MethodName)) ∈ lw_all := lw_g (lw_at lw_m4 49 rfl) rfl
theorem q1057 : (Jvm.Cond.instantiable "MarginFolk$Asked" (1 : Nat)) ∈ lw_all := lw_g (lw_at lw_m4 186 rfl) rfl
theorem q1059 : (Jvm.Cond.instanceMethod ({ cls := "MarginFolk$Asked", name := "<init>", desc := "(I)V" } : Jvm.MethodName)) ∈ lw_all := lw_g (lw_at lw_m4 188 rfl) rfl
theorem q1060 : (Jvm.Cond.code ({ cls := "MarginFolk$Asked", name := "<init>", desc := "(I)V" } : Jvm.MethodName) prog_3_method_1_code (2 : Nat) (Option.none : Option Jvm.ClassFile.FieldType)) ∈ lw_all := lw_g (lw_at lw_m4 189 rfl) rfl
theorem q1061 : (Jvm.Cond.methodLinkNest "MarginFolk$Asked" (1 : Nat) ({ cls := "MarginFolk$Value", name := "<init>", desc := "()V" } : Jvm.MethodName) "MarginFolk") ∈ lw_tbl := lw_at lw_m4 190 rfl
theorem q1062 : (Jvm.Cond.fieldLink "MarginFolk$Asked" (7 : Nat) "MarginFolk$Asked" "what" "I") ∈ lw_all := lw_g (lw_at lw_m4 191 rfl) rfl
theorem q1063 : (Jvm.Cond.laysFinal "MarginFolk$Asked" "MarginFolk$Asked" "what" "I") ∈ lw_all := lw_g (lw_at lw_m4 192 rfl) rfl
theorem q1064 : (Jvm.Cond.soleField "MarginFolk$Asked" "what") ∈ lw_all := lw_g (lw_at lw_m4 193 rfl) rfl
theorem q1065 : (Jvm.Cond.superclass "MarginFolk$Asked" "MarginFolk$Value") ∈ lw_all := lw_g (lw_at lw_m4 194 rfl) rfl
theorem q1266 : (Jvm.Cond.selects "MarginFolk$Asked" ({ cls := "MarginFolk$Value", name := "at", desc := "(LMarginFolk$Moment;)J" } : Jvm.MethodName) ({ cls := "MarginFolk$Asked", name := "at", desc := "(LMarginFolk$Moment;)J" } : Jvm.MethodName)) ∈ lw_all := lw_g (lw_at lw_m5 155 rfl) rfl
theorem q1267 : (Jvm.Cond.instanceMethod ({ cls := "MarginFolk$Asked", name := "at", desc := "(LMarginFolk$Moment;)J" } : Jvm.MethodName)) ∈ lw_all := lw_g (lw_at lw_m5 156 rfl) rfl
theorem q1268 : (Jvm.Cond.code ({ cls := "MarginFolk$Asked", name := "at", desc := "(LMarginFolk$Moment;)J" } : Jvm.MethodName) prog_3_method_2_code (2 : Nat) (Option.some Jvm.ClassFile.FieldType.long)) ∈ lw_all := lw_g (lw_at lw_m5 157 rfl) rfl
theorem q1269 : (Jvm.Cond.methodLinkNest "MarginFolk$Asked" (19 : Nat) ({ cls := "MarginFolk", name := "held", desc := "(J)J" } : Jvm.MethodName) "MarginFolk") ∈ lw_tbl := lw_at lw_m5 158 rfl
theorem q2537 : (Jvm.Cond.castable "MarginFolk$Asked" "MarginFolk$Value") ∈ lw_tbl := lw_at lw_m10 226 rfl
theorem q2561 : (Jvm.Cond.castable "MarginFolk$Asked" "java/lang/Object") ∈ lw_tbl := lw_at lw_m11 10 rfl
theorem in_X12 : ∀ w ∈ wsX120, w ∈ lw_all := lw_in wsX120 [1063] (by decide +kernel) (by decide +kernel)
/-! MarginFolk$Looked -/
set_option maxRecDepth 100000
def RX13 : String := "MarginFolk$Looked"
def TX13 : u_T := fun k => match k with
  | 0 => ("MarginFolk$Looked", "what", "I", true)
  | 1 => ("MarginFolk$Looked", "of", "LMarginFolk$Value;", true)
  | _ => ("MarginFolk$Looked", "this$0", "LMarginFolk;", true)
def tyX13 : Nat → FieldType := fun k => match k with
  | 0 => .int
  | 1 => .object "MarginFolk$Value"
  | _ => .object "MarginFolk"
abbrev wsX130 : List Cond := u_ws RX13 TX13 3
theorem nmX13 : ∀ a, a < 3 → ∀ b, b < 3 → a ≠ b → (TX13 a).2.1 ≠ (TX13 b).2.1 := by decide +kernel
theorem tyX13_ok : ∀ k, k < 3 → parseFieldDescriptor (TX13 k).2.2.1 = some (tyX13 k) := by decide +kernel
abbrev cX13_init : ByteArray := prog_10_method_1_code
def yX13_init : MethodName := ⟨RX13, "<init>", "(LMarginFolk;ILMarginFolk$Value;)V"⟩
def dkwX13_init_0 : List UInt8 := [42, 43, 181, 0, 1, 42, 183, 0, 7, 42, 28, 181, 0, 13, 42, 45, 181, 0, 17, 177]
abbrev dktX13_init_0 : List UInt8 := dkwX13_init_0 ++ []
theorem dksX13_init_0 : cX13_init.data.toList.drop 0 = dktX13_init_0 := by decide +kernel
theorem dX13_init_0 : decode cX13_init 0 = .ok (.aload_n 0, 1) := dk_42 (dk_at dksX13_init_0 0 rfl rfl)
theorem dX13_init_1 : decode cX13_init 1 = .ok (.aload_n 1, 1) := dk_43 (dk_at dksX13_init_0 1 rfl rfl)
theorem dX13_init_2 : decode cX13_init 2 = .ok (.putfield 1, 3) := dk_181 0 1 (dk_at dksX13_init_0 2 rfl rfl)
theorem dX13_init_5 : decode cX13_init 5 = .ok (.aload_n 0, 1) := dk_42 (dk_at dksX13_init_0 5 rfl rfl)
theorem dX13_init_6 : decode cX13_init 6 = .ok (.invokespecial 7, 3) := dk_183 0 7 (dk_at dksX13_init_0 6 rfl rfl)
theorem dX13_init_9 : decode cX13_init 9 = .ok (.aload_n 0, 1) := dk_42 (dk_at dksX13_init_0 9 rfl rfl)
theorem dX13_init_10 : decode cX13_init 10 = .ok (.iload_n 2, 1) := dk_28 (dk_at dksX13_init_0 10 rfl rfl)
theorem dX13_init_11 : decode cX13_init 11 = .ok (.putfield 13, 3) := dk_181 0 13 (dk_at dksX13_init_0 11 rfl rfl)
theorem dX13_init_14 : decode cX13_init 14 = .ok (.aload_n 0, 1) := dk_42 (dk_at dksX13_init_0 14 rfl rfl)
theorem dX13_init_15 : decode cX13_init 15 = .ok (.aload_n 3, 1) := dk_45 (dk_at dksX13_init_0 15 rfl rfl)
theorem dX13_init_16 : decode cX13_init 16 = .ok (.putfield 17, 3) := dk_181 0 17 (dk_at dksX13_init_0 16 rfl rfl)
theorem dX13_init_19 : decode cX13_init 19 = .ok (.return_, 1) := dk_177 (dk_at dksX13_init_0 19 rfl rfl)
abbrev cX13_at : ByteArray := prog_10_method_2_code
def yX13_at : MethodName := ⟨RX13, "at", "(LMarginFolk$Moment;)J"⟩
def dkwX13_at_0 : List UInt8 := [42, 180, 0, 1, 42, 180, 0, 13, 42, 180, 0, 17, 43, 182, 0, 21, 182, 0, 25, 184, 0, 31, 173]
abbrev dktX13_at_0 : List UInt8 := dkwX13_at_0 ++ []
theorem dksX13_at_0 : cX13_at.data.toList.drop 0 = dktX13_at_0 := by decide +kernel
theorem dX13_at_0 : decode cX13_at 0 = .ok (.aload_n 0, 1) := dk_42 (dk_at dksX13_at_0 0 rfl rfl)
theorem dX13_at_1 : decode cX13_at 1 = .ok (.getfield 1, 3) := dk_180 0 1 (dk_at dksX13_at_0 1 rfl rfl)
theorem dX13_at_4 : decode cX13_at 4 = .ok (.aload_n 0, 1) := dk_42 (dk_at dksX13_at_0 4 rfl rfl)
theorem dX13_at_5 : decode cX13_at 5 = .ok (.getfield 13, 3) := dk_180 0 13 (dk_at dksX13_at_0 5 rfl rfl)
theorem dX13_at_8 : decode cX13_at 8 = .ok (.aload_n 0, 1) := dk_42 (dk_at dksX13_at_0 8 rfl rfl)
theorem dX13_at_9 : decode cX13_at 9 = .ok (.getfield 17, 3) := dk_180 0 17 (dk_at dksX13_at_0 9 rfl rfl)
theorem dX13_at_12 : decode cX13_at 12 = .ok (.aload_n 1, 1) := dk_43 (dk_at dksX13_at_0 12 rfl rfl)
theorem dX13_at_13 : decode cX13_at 13 = .ok (.invokevirtual 21, 3) := dk_182 0 21 (dk_at dksX13_at_0 13 rfl rfl)
theorem dX13_at_16 : decode cX13_at 16 = .ok (.invokevirtual 25, 3) := dk_182 0 25 (dk_at dksX13_at_0 16 rfl rfl)
theorem dX13_at_19 : decode cX13_at 19 = .ok (.invokestatic 31, 3) := dk_184 0 31 (dk_at dksX13_at_0 19 rfl rfl)
theorem dX13_at_22 : decode cX13_at 22 = .ok (.lreturn, 1) := dk_173 (dk_at dksX13_at_0 22 rfl rfl)
theorem q182 : (Jvm.Cond.initialized "MarginFolk$Looked") ∈ lw_all := lw_g (lw_at lw_m1 31 rfl) rfl
theorem q927 : (Jvm.Cond.selects "MarginFolk$Looked" ({ cls := "java/lang/Object", name := "getClass", desc := "()Ljava/lang/Class;" } : Jvm.MethodName) ({ cls := "java/lang/Object", name := "getClass", desc := "()Ljava/lang/Class;" } : Jvm.MethodName)) ∈ lw_all := lw_g (lw_at lw_m4 56 rfl) rfl
theorem q1073 : (Jvm.Cond.instantiable "MarginFolk$Looked" (3 : Nat)) ∈ lw_all := lw_g (lw_at lw_m4 202 rfl) rfl
theorem q1075 : (Jvm.Cond.instanceMethod ({ cls := "MarginFolk$Looked", name := "<init>", desc := "(LMarginFolk;ILMarginFolk$Value;)V" } : Jvm.MethodName)) ∈ lw_all := lw_g (lw_at lw_m4 204 rfl) rfl
theorem q1076 : (Jvm.Cond.code ({ cls := "MarginFolk$Looked", name := "<init>", desc := "(LMarginFolk;ILMarginFolk$Value;)V" } : Jvm.MethodName) prog_10_method_1_code (4 : Nat) (Option.none : Option Jvm.ClassFile.FieldType)) ∈ lw_all := lw_g (lw_at lw_m4 205 rfl) rfl
theorem q1077 : (Jvm.Cond.methodLinkNest "MarginFolk$Looked" (7 : Nat) ({ cls := "MarginFolk$Value", name := "<init>", desc := "()V" } : Jvm.MethodName) "MarginFolk") ∈ lw_tbl := lw_at lw_m4 206 rfl
theorem q1078 : (Jvm.Cond.fieldLink "MarginFolk$Looked" (13 : Nat) "MarginFolk$Looked" "what" "I") ∈ lw_all := lw_g (lw_at lw_m4 207 rfl) rfl
theorem q1079 : (Jvm.Cond.fieldLink "MarginFolk$Looked" (17 : Nat) "MarginFolk$Looked" "of" "LMarginFolk$Value;") ∈ lw_all := lw_g (lw_at lw_m4 208 rfl) rfl
theorem q1080 : (Jvm.Cond.fieldLink "MarginFolk$Looked" (1 : Nat) "MarginFolk$Looked" "this$0" "LMarginFolk;") ∈ lw_all := lw_g (lw_at lw_m4 209 rfl) rfl
theorem q1081 : (Jvm.Cond.laysFinal "MarginFolk$Looked" "MarginFolk$Looked" "what" "I") ∈ lw_all := lw_g (lw_at lw_m4 210 rfl) rfl
theorem q1082 : (Jvm.Cond.soleField "MarginFolk$Looked" "what") ∈ lw_all := lw_g (lw_at lw_m4 211 rfl) rfl
theorem q1083 : (Jvm.Cond.laysFinal "MarginFolk$Looked" "MarginFolk$Looked" "of" "LMarginFolk$Value;") ∈ lw_all := lw_g (lw_at lw_m4 212 rfl) rfl
theorem q1084 : (Jvm.Cond.soleField "MarginFolk$Looked" "of") ∈ lw_all := lw_g (lw_at lw_m4 213 rfl) rfl
theorem q1085 : (Jvm.Cond.laysFinal "MarginFolk$Looked" "MarginFolk$Looked" "this$0" "LMarginFolk;") ∈ lw_all := lw_g (lw_at lw_m4 214 rfl) rfl
theorem q1086 : (Jvm.Cond.soleField "MarginFolk$Looked" "this$0") ∈ lw_all := lw_g (lw_at lw_m4 215 rfl) rfl
theorem q1087 : (Jvm.Cond.superclass "MarginFolk$Looked" "MarginFolk$Value") ∈ lw_all := lw_g (lw_at lw_m4 216 rfl) rfl
theorem q1289 : (Jvm.Cond.instanceMethod ({ cls := "MarginFolk$Looked", name := "at", desc := "(LMarginFolk$Moment;)J" } : Jvm.MethodName)) ∈ lw_all := lw_g (lw_at lw_m5 178 rfl) rfl
theorem q1290 : (Jvm.Cond.code ({ cls := "MarginFolk$Looked", name := "at", desc := "(LMarginFolk$Moment;)J" } : Jvm.MethodName) prog_10_method_2_code (2 : Nat) (Option.some Jvm.ClassFile.FieldType.long)) ∈ lw_all := lw_g (lw_at lw_m5 179 rfl) rfl
theorem q1291 : (Jvm.Cond.methodLink "MarginFolk$Looked" (21 : Nat) ({ cls := "MarginFolk$Value", name := "at", desc := "(LMarginFolk$Moment;)J" } : Jvm.MethodName)) ∈ lw_all := lw_g (lw_at lw_m5 180 rfl) rfl
theorem q1295 : (Jvm.Cond.methodLinkNest "MarginFolk$Looked" (25 : Nat) ({ cls := "MarginFolk", name := "looked", desc := "(IJ)J" } : Jvm.MethodName) "MarginFolk") ∈ lw_tbl := lw_at lw_m5 184 rfl
theorem q1318 : (Jvm.Cond.methodLinkNest "MarginFolk$Looked" (31 : Nat) ({ cls := "MarginFolk", name := "held", desc := "(J)J" } : Jvm.MethodName) "MarginFolk") ∈ lw_tbl := lw_at lw_m5 207 rfl
theorem q1339 : (Jvm.Cond.selects "MarginFolk$Looked" ({ cls := "MarginFolk$Value", name := "at", desc := "(LMarginFolk$Moment;)J" } : Jvm.MethodName) ({ cls := "MarginFolk$Looked", name := "at", desc := "(LMarginFolk$Moment;)J" } : Jvm.MethodName)) ∈ lw_all := lw_g (lw_at lw_m5 228 rfl) rfl
theorem q2540 : (Jvm.Cond.castable "MarginFolk$Looked" "MarginFolk$Value") ∈ lw_tbl := lw_at lw_m10 229 rfl
theorem q2562 : (Jvm.Cond.castable "MarginFolk$Looked" "java/lang/Object") ∈ lw_tbl := lw_at lw_m11 11 rfl
theorem in_X13 : ∀ w ∈ wsX130, w ∈ lw_all := lw_in wsX130 [1081, 1083, 1085] (by decide +kernel) (by decide +kernel)
/-! MarginFolk$Test -/
set_option maxRecDepth 100000
def RX14 : String := "MarginFolk$Test"
abbrev cX14_init : ByteArray := prog_17_method_1_code
def yX14_init : MethodName := ⟨RX14, "<init>", "()V"⟩
theorem dX14_init_0 : decode cX14_init 0 = .ok (.aload_n 0, 1) := by decide +kernel
theorem dX14_init_1 : decode cX14_init 1 = .ok (.invokespecial 1, 3) := by decide +kernel
theorem dX14_init_4 : decode cX14_init 4 = .ok (.return_, 1) := by decide +kernel
theorem q183 : (Jvm.Cond.initialized "MarginFolk$Test") ∈ lw_all := lw_g (lw_at lw_m1 32 rfl) rfl
theorem q1165 : (Jvm.Cond.instanceMethod ({ cls := "MarginFolk$Test", name := "<init>", desc := "()V" } : Jvm.MethodName)) ∈ lw_all := lw_g (lw_at lw_m5 54 rfl) rfl
theorem q1166 : (Jvm.Cond.code ({ cls := "MarginFolk$Test", name := "<init>", desc := "()V" } : Jvm.MethodName) prog_17_method_1_code (1 : Nat) (Option.none : Option Jvm.ClassFile.FieldType)) ∈ lw_all := lw_g (lw_at lw_m5 55 rfl) rfl
theorem q1167 : (Jvm.Cond.methodLink "MarginFolk$Test" (1 : Nat) ({ cls := "java/lang/Object", name := "<init>", desc := "()V" } : Jvm.MethodName)) ∈ lw_all := lw_g (lw_at lw_m5 56 rfl) rfl
theorem q1476 : (Jvm.Cond.declares ({ cls := "MarginFolk$Test", name := "holds", desc := "(LMarginFolk$Moment;)Z" } : Jvm.MethodName)) ∈ lw_tbl := lw_at lw_m6 125 rfl
theorem q1477 : (Jvm.Cond.sameMethod "MarginFolk$Test" "MarginFolk$Test" "holds" "(LMarginFolk$Moment;)Z") ∈ lw_all := lw_g (lw_at lw_m6 126 rfl) rfl
/-! MarginFolk$Facts -/
set_option maxRecDepth 100000
def RX15 : String := "MarginFolk$Facts"
def TX15 : u_T := fun k => match k with
  | 0 => ("MarginFolk$Facts", "tests", "Ljava/util/List;", true)
  | _ => ("MarginFolk$Facts", "all", "Z", true)
def tyX15 : Nat → FieldType := fun k => match k with
  | 0 => .object "java/util/List"
  | _ => .boolean
abbrev wsX150 : List Cond := u_ws RX15 TX15 2
theorem nmX15 : ∀ a, a < 2 → ∀ b, b < 2 → a ≠ b → (TX15 a).2.1 ≠ (TX15 b).2.1 := by decide +kernel
theorem tyX15_ok : ∀ k, k < 2 → parseFieldDescriptor (TX15 k).2.2.1 = some (tyX15 k) := by decide +kernel
abbrev cX15_init : ByteArray := prog_6_method_1_code
def yX15_init : MethodName := ⟨RX15, "<init>", "(Z)V"⟩
def dkwX15_init_0 : List UInt8 := [42, 183, 0, 1, 42, 187, 0, 7, 89, 5, 183, 0, 9, 181, 0, 12, 42, 27, 181, 0, 18, 177]
abbrev dktX15_init_0 : List UInt8 := dkwX15_init_0 ++ []
theorem dksX15_init_0 : cX15_init.data.toList.drop 0 = dktX15_init_0 := by decide +kernel
theorem dX15_init_0 : decode cX15_init 0 = .ok (.aload_n 0, 1) := dk_42 (dk_at dksX15_init_0 0 rfl rfl)
theorem dX15_init_1 : decode cX15_init 1 = .ok (.invokespecial 1, 3) := dk_183 0 1 (dk_at dksX15_init_0 1 rfl rfl)
theorem dX15_init_4 : decode cX15_init 4 = .ok (.aload_n 0, 1) := dk_42 (dk_at dksX15_init_0 4 rfl rfl)
theorem dX15_init_5 : decode cX15_init 5 = .ok (.new 7, 3) := dk_187 0 7 (dk_at dksX15_init_0 5 rfl rfl)
theorem dX15_init_8 : decode cX15_init 8 = .ok (.dup, 1) := dk_89 (dk_at dksX15_init_0 8 rfl rfl)
theorem dX15_init_9 : decode cX15_init 9 = .ok (.iconst 2, 1) := dk_5 (dk_at dksX15_init_0 9 rfl rfl)
theorem dX15_init_10 : decode cX15_init 10 = .ok (.invokespecial 9, 3) := dk_183 0 9 (dk_at dksX15_init_0 10 rfl rfl)
theorem dX15_init_13 : decode cX15_init 13 = .ok (.putfield 12, 3) := dk_181 0 12 (dk_at dksX15_init_0 13 rfl rfl)
theorem dX15_init_16 : decode cX15_init 16 = .ok (.aload_n 0, 1) := dk_42 (dk_at dksX15_init_0 16 rfl rfl)
theorem dX15_init_17 : decode cX15_init 17 = .ok (.iload_n 1, 1) := dk_27 (dk_at dksX15_init_0 17 rfl rfl)
theorem dX15_init_18 : decode cX15_init 18 = .ok (.putfield 18, 3) := dk_181 0 18 (dk_at dksX15_init_0 18 rfl rfl)
theorem dX15_init_21 : decode cX15_init 21 = .ok (.return_, 1) := dk_177 (dk_at dksX15_init_0 21 rfl rfl)
abbrev cX15_holds : ByteArray := prog_6_method_2_code
def yX15_holds : MethodName := ⟨RX15, "holds", "(LMarginFolk$Moment;)Z"⟩
def dkwX15_holds_2 : List UInt8 := [154, 0, 7, 4, 167, 0, 4, 3, 172, 132, 2, 1, 167, 255, 203, 42, 180, 0, 18, 172]
abbrev dktX15_holds_2 : List UInt8 := dkwX15_holds_2 ++ []
def dkwX15_holds_1 : List UInt8 := [185, 0, 28, 2, 0, 192, 0, 2, 43, 182, 0, 32, 42, 180, 0, 18, 159, 0, 16, 42, 180, 0, 18]
abbrev dktX15_holds_1 : List UInt8 := dkwX15_holds_1 ++ dktX15_holds_2
def dkwX15_holds_0 : List UInt8 := [3, 61, 28, 42, 180, 0, 12, 185, 0, 22, 1, 0, 162, 0, 46, 42, 180, 0, 12, 28]
abbrev dktX15_holds_0 : List UInt8 := dkwX15_holds_0 ++ dktX15_holds_1
theorem dksX15_holds_0 : cX15_holds.data.toList.drop 0 = dktX15_holds_0 := by decide +kernel
theorem dksX15_holds_1 : cX15_holds.data.toList.drop 20 = dktX15_holds_1 := dk_seg dksX15_holds_0 20 rfl rfl
theorem dksX15_holds_2 : cX15_holds.data.toList.drop 43 = dktX15_holds_2 := dk_seg dksX15_holds_1 23 rfl rfl
theorem dX15_holds_0 : decode cX15_holds 0 = .ok (.iconst 0, 1) := dk_3 (dk_at dksX15_holds_0 0 rfl rfl)
theorem dX15_holds_1 : decode cX15_holds 1 = .ok (.istore_n 2, 1) := dk_61 (dk_at dksX15_holds_0 1 rfl rfl)
theorem dX15_holds_2 : decode cX15_holds 2 = .ok (.iload_n 2, 1) := dk_28 (dk_at dksX15_holds_0 2 rfl rfl)
theorem dX15_holds_3 : decode cX15_holds 3 = .ok (.aload_n 0, 1) := dk_42 (dk_at dksX15_holds_0 3 rfl rfl)
theorem dX15_holds_4 : decode cX15_holds 4 = .ok (.getfield 12, 3) := dk_180 0 12 (dk_at dksX15_holds_0 4 rfl rfl)
theorem dX15_holds_7 : decode cX15_holds 7 = .ok (.invokeinterface 22 1, 5) := by decide +kernel
theorem dX15_holds_12 : decode cX15_holds 12 = .ok (.if_icmp .ge 46, 3) := dk_162 0 46 (dk_at dksX15_holds_0 12 rfl rfl)
theorem dX15_holds_15 : decode cX15_holds 15 = .ok (.aload_n 0, 1) := dk_42 (dk_at dksX15_holds_0 15 rfl rfl)
theorem dX15_holds_16 : decode cX15_holds 16 = .ok (.getfield 12, 3) := dk_180 0 12 (dk_at dksX15_holds_0 16 rfl rfl)
theorem dX15_holds_19 : decode cX15_holds 19 = .ok (.iload_n 2, 1) := dk_28 (dk_at dksX15_holds_0 19 rfl rfl)
theorem dX15_holds_20 : decode cX15_holds 20 = .ok (.invokeinterface 28 2, 5) := by decide +kernel
theorem dX15_holds_25 : decode cX15_holds 25 = .ok (.checkcast 2, 3) := dk_192 0 2 (dk_at dksX15_holds_1 5 rfl rfl)
theorem dX15_holds_28 : decode cX15_holds 28 = .ok (.aload_n 1, 1) := dk_43 (dk_at dksX15_holds_1 8 rfl rfl)
theorem dX15_holds_29 : decode cX15_holds 29 = .ok (.invokevirtual 32, 3) := dk_182 0 32 (dk_at dksX15_holds_1 9 rfl rfl)
theorem dX15_holds_32 : decode cX15_holds 32 = .ok (.aload_n 0, 1) := dk_42 (dk_at dksX15_holds_1 12 rfl rfl)
theorem dX15_holds_33 : decode cX15_holds 33 = .ok (.getfield 18, 3) := dk_180 0 18 (dk_at dksX15_holds_1 13 rfl rfl)
theorem dX15_holds_36 : decode cX15_holds 36 = .ok (.if_icmp .eq 16, 3) := dk_159 0 16 (dk_at dksX15_holds_1 16 rfl rfl)
theorem dX15_holds_39 : decode cX15_holds 39 = .ok (.aload_n 0, 1) := dk_42 (dk_at dksX15_holds_1 19 rfl rfl)
theorem dX15_holds_40 : decode cX15_holds 40 = .ok (.getfield 18, 3) := dk_180 0 18 (dk_at dksX15_holds_1 20 rfl rfl)
theorem dX15_holds_43 : decode cX15_holds 43 = .ok (.ifCond .ne 7, 3) := dk_154 0 7 (dk_at dksX15_holds_2 0 rfl rfl)
theorem dX15_holds_46 : decode cX15_holds 46 = .ok (.iconst 1, 1) := dk_4 (dk_at dksX15_holds_2 3 rfl rfl)
theorem dX15_holds_47 : decode cX15_holds 47 = .ok (.goto 4, 3) := dk_167 0 4 (dk_at dksX15_holds_2 4 rfl rfl)
theorem dX15_holds_50 : decode cX15_holds 50 = .ok (.iconst 0, 1) := dk_3 (dk_at dksX15_holds_2 7 rfl rfl)
theorem dX15_holds_51 : decode cX15_holds 51 = .ok (.ireturn, 1) := dk_172 (dk_at dksX15_holds_2 8 rfl rfl)
theorem dX15_holds_52 : decode cX15_holds 52 = .ok (.iinc 2 1, 3) := dk_132 2 1 (dk_at dksX15_holds_2 9 rfl rfl)
theorem dX15_holds_55 : decode cX15_holds 55 = .ok (.goto (-53), 3) := dk_167 255 203 (dk_at dksX15_holds_2 12 rfl rfl)
theorem dX15_holds_58 : decode cX15_holds 58 = .ok (.aload_n 0, 1) := dk_42 (dk_at dksX15_holds_2 15 rfl rfl)
theorem dX15_holds_59 : decode cX15_holds 59 = .ok (.getfield 18, 3) := dk_180 0 18 (dk_at dksX15_holds_2 16 rfl rfl)
theorem dX15_holds_62 : decode cX15_holds 62 = .ok (.ireturn, 1) := dk_172 (dk_at dksX15_holds_2 19 rfl rfl)
theorem q184 : (Jvm.Cond.initialized "MarginFolk$Facts") ∈ lw_all := lw_g (lw_at lw_m1 33 rfl) rfl
theorem q923 : (Jvm.Cond.selects "MarginFolk$Facts" ({ cls := "java/lang/Object", name := "getClass", desc := "()Ljava/lang/Class;" } : Jvm.MethodName) ({ cls := "java/lang/Object", name := "getClass", desc := "()Ljava/lang/Class;" } : Jvm.MethodName)) ∈ lw_all := lw_g (lw_at lw_m4 52 rfl) rfl
theorem q1160 : (Jvm.Cond.instantiable "MarginFolk$Facts" (2 : Nat)) ∈ lw_all := lw_g (lw_at lw_m5 49 rfl) rfl
theorem q1162 : (Jvm.Cond.instanceMethod ({ cls := "MarginFolk$Facts", name := "<init>", desc := "(Z)V" } : Jvm.MethodName)) ∈ lw_all := lw_g (lw_at lw_m5 51 rfl) rfl
theorem q1163 : (Jvm.Cond.code ({ cls := "MarginFolk$Facts", name := "<init>", desc := "(Z)V" } : Jvm.MethodName) prog_6_method_1_code (2 : Nat) (Option.none : Option Jvm.ClassFile.FieldType)) ∈ lw_all := lw_g (lw_at lw_m5 52 rfl) rfl
theorem q1164 : (Jvm.Cond.methodLinkNest "MarginFolk$Facts" (1 : Nat) ({ cls := "MarginFolk$Test", name := "<init>", desc := "()V" } : Jvm.MethodName) "MarginFolk") ∈ lw_tbl := lw_at lw_m5 53 rfl
theorem q1168 : (Jvm.Cond.classLink "MarginFolk$Facts" (7 : Nat) "java/util/ArrayList") ∈ lw_all := lw_g (lw_at lw_m5 57 rfl) rfl
theorem q1169 : (Jvm.Cond.methodLink "MarginFolk$Facts" (9 : Nat) ({ cls := "java/util/ArrayList", name := "<init>", desc := "(I)V" } : Jvm.MethodName)) ∈ lw_all := lw_g (lw_at lw_m5 58 rfl) rfl
theorem q1170 : (Jvm.Cond.fieldLink "MarginFolk$Facts" (12 : Nat) "MarginFolk$Facts" "tests" "Ljava/util/List;") ∈ lw_all := lw_g (lw_at lw_m5 59 rfl) rfl
theorem q1172 : (Jvm.Cond.fieldLink "MarginFolk$Facts" (18 : Nat) "MarginFolk$Facts" "all" "Z") ∈ lw_all := lw_g (lw_at lw_m5 61 rfl) rfl
theorem q1173 : (Jvm.Cond.laysFinal "MarginFolk$Facts" "MarginFolk$Facts" "tests" "Ljava/util/List;") ∈ lw_all := lw_g (lw_at lw_m5 62 rfl) rfl
theorem q1174 : (Jvm.Cond.soleField "MarginFolk$Facts" "tests") ∈ lw_all := lw_g (lw_at lw_m5 63 rfl) rfl
theorem q1175 : (Jvm.Cond.laysFinal "MarginFolk$Facts" "MarginFolk$Facts" "all" "Z") ∈ lw_all := lw_g (lw_at lw_m5 64 rfl) rfl
theorem q1176 : (Jvm.Cond.soleField "MarginFolk$Facts" "all") ∈ lw_all := lw_g (lw_at lw_m5 65 rfl) rfl
theorem q1177 : (Jvm.Cond.superclass "MarginFolk$Facts" "MarginFolk$Test") ∈ lw_all := lw_g (lw_at lw_m5 66 rfl) rfl
theorem q1481 : (Jvm.Cond.selects "MarginFolk$Facts" ({ cls := "MarginFolk$Test", name := "holds", desc := "(LMarginFolk$Moment;)Z" } : Jvm.MethodName) ({ cls := "MarginFolk$Facts", name := "holds", desc := "(LMarginFolk$Moment;)Z" } : Jvm.MethodName)) ∈ lw_all := lw_g (lw_at lw_m6 130 rfl) rfl
theorem q1482 : (Jvm.Cond.instanceMethod ({ cls := "MarginFolk$Facts", name := "holds", desc := "(LMarginFolk$Moment;)Z" } : Jvm.MethodName)) ∈ lw_all := lw_g (lw_at lw_m6 131 rfl) rfl
theorem q1483 : (Jvm.Cond.code ({ cls := "MarginFolk$Facts", name := "holds", desc := "(LMarginFolk$Moment;)Z" } : Jvm.MethodName) prog_6_method_2_code (3 : Nat) (Option.some Jvm.ClassFile.FieldType.boolean)) ∈ lw_all := lw_g (lw_at lw_m6 132 rfl) rfl
theorem q1484 : (Jvm.Cond.interfaceEntry "MarginFolk$Facts" (22 : Nat)) ∈ lw_tbl := lw_at lw_m6 133 rfl
theorem q1485 : (Jvm.Cond.methodLink "MarginFolk$Facts" (22 : Nat) ({ cls := "java/util/List", name := "size", desc := "()I" } : Jvm.MethodName)) ∈ lw_all := lw_g (lw_at lw_m6 134 rfl) rfl
theorem q1486 : (Jvm.Cond.interfaceEntry "MarginFolk$Facts" (28 : Nat)) ∈ lw_tbl := lw_at lw_m6 135 rfl
theorem q1487 : (Jvm.Cond.methodLink "MarginFolk$Facts" (28 : Nat) ({ cls := "java/util/List", name := "get", desc := "(I)Ljava/lang/Object;" } : Jvm.MethodName)) ∈ lw_all := lw_g (lw_at lw_m6 136 rfl) rfl
theorem q1488 : (Jvm.Cond.classLink "MarginFolk$Facts" (2 : Nat) "MarginFolk$Test") ∈ lw_all := lw_g (lw_at lw_m6 137 rfl) rfl
theorem q1489 : (Jvm.Cond.methodLink "MarginFolk$Facts" (32 : Nat) ({ cls := "MarginFolk$Test", name := "holds", desc := "(LMarginFolk$Moment;)Z" } : Jvm.MethodName)) ∈ lw_all := lw_g (lw_at lw_m6 138 rfl) rfl
theorem q2543 : (Jvm.Cond.castable "MarginFolk$Facts" "MarginFolk$Test") ∈ lw_tbl := lw_at lw_m10 232 rfl
theorem q2563 : (Jvm.Cond.castable "MarginFolk$Facts" "java/lang/Object") ∈ lw_tbl := lw_at lw_m11 12 rfl
theorem in_X15 : ∀ w ∈ wsX150, w ∈ lw_all := lw_in wsX150 [1173, 1175] (by decide +kernel) (by decide +kernel)
/-! MarginFolk$Not -/
set_option maxRecDepth 100000
def RX16 : String := "MarginFolk$Not"
def TX16 : u_T := fun k => match k with
  | _ => ("MarginFolk$Not", "test", "LMarginFolk$Test;", true)
def tyX16 : Nat → FieldType := fun k => match k with
  | _ => .object "MarginFolk$Test"
abbrev wsX160 : List Cond := u_ws RX16 TX16 1
theorem nmX16 : ∀ a, a < 1 → ∀ b, b < 1 → a ≠ b → (TX16 a).2.1 ≠ (TX16 b).2.1 := by decide +kernel
theorem tyX16_ok : ∀ k, k < 1 → parseFieldDescriptor (TX16 k).2.2.1 = some (tyX16 k) := by decide +kernel
abbrev cX16_init : ByteArray := prog_12_method_1_code
def yX16_init : MethodName := ⟨RX16, "<init>", "(LMarginFolk$Test;)V"⟩
def dkwX16_init_0 : List UInt8 := [42, 183, 0, 1, 42, 43, 181, 0, 7, 177]
abbrev dktX16_init_0 : List UInt8 := dkwX16_init_0 ++ []
theorem dksX16_init_0 : cX16_init.data.toList.drop 0 = dktX16_init_0 := by decide +kernel
theorem dX16_init_0 : decode cX16_init 0 = .ok (.aload_n 0, 1) := dk_42 (dk_at dksX16_init_0 0 rfl rfl)
theorem dX16_init_1 : decode cX16_init 1 = .ok (.invokespecial 1, 3) := dk_183 0 1 (dk_at dksX16_init_0 1 rfl rfl)
theorem dX16_init_4 : decode cX16_init 4 = .ok (.aload_n 0, 1) := dk_42 (dk_at dksX16_init_0 4 rfl rfl)
theorem dX16_init_5 : decode cX16_init 5 = .ok (.aload_n 1, 1) := dk_43 (dk_at dksX16_init_0 5 rfl rfl)
theorem dX16_init_6 : decode cX16_init 6 = .ok (.putfield 7, 3) := dk_181 0 7 (dk_at dksX16_init_0 6 rfl rfl)
theorem dX16_init_9 : decode cX16_init 9 = .ok (.return_, 1) := dk_177 (dk_at dksX16_init_0 9 rfl rfl)
abbrev cX16_holds : ByteArray := prog_12_method_2_code
def yX16_holds : MethodName := ⟨RX16, "holds", "(LMarginFolk$Moment;)Z"⟩
def dkwX16_holds_0 : List UInt8 := [42, 180, 0, 7, 43, 182, 0, 13, 154, 0, 7, 4, 167, 0, 4, 3, 172]
abbrev dktX16_holds_0 : List UInt8 := dkwX16_holds_0 ++ []
theorem dksX16_holds_0 : cX16_holds.data.toList.drop 0 = dktX16_holds_0 := by decide +kernel
theorem dX16_holds_0 : decode cX16_holds 0 = .ok (.aload_n 0, 1) := dk_42 (dk_at dksX16_holds_0 0 rfl rfl)
theorem dX16_holds_1 : decode cX16_holds 1 = .ok (.getfield 7, 3) := dk_180 0 7 (dk_at dksX16_holds_0 1 rfl rfl)
theorem dX16_holds_4 : decode cX16_holds 4 = .ok (.aload_n 1, 1) := dk_43 (dk_at dksX16_holds_0 4 rfl rfl)
theorem dX16_holds_5 : decode cX16_holds 5 = .ok (.invokevirtual 13, 3) := dk_182 0 13 (dk_at dksX16_holds_0 5 rfl rfl)
theorem dX16_holds_8 : decode cX16_holds 8 = .ok (.ifCond .ne 7, 3) := dk_154 0 7 (dk_at dksX16_holds_0 8 rfl rfl)
theorem dX16_holds_11 : decode cX16_holds 11 = .ok (.iconst 1, 1) := dk_4 (dk_at dksX16_holds_0 11 rfl rfl)
theorem dX16_holds_12 : decode cX16_holds 12 = .ok (.goto 4, 3) := dk_167 0 4 (dk_at dksX16_holds_0 12 rfl rfl)
theorem dX16_holds_15 : decode cX16_holds 15 = .ok (.iconst 0, 1) := dk_3 (dk_at dksX16_holds_0 15 rfl rfl)
theorem dX16_holds_16 : decode cX16_holds 16 = .ok (.ireturn, 1) := dk_172 (dk_at dksX16_holds_0 16 rfl rfl)
theorem q185 : (Jvm.Cond.initialized "MarginFolk$Not") ∈ lw_all := lw_g (lw_at lw_m1 34 rfl) rfl
theorem q929 : (Jvm.Cond.selects "MarginFolk$Not" ({ cls := "java/lang/Object", name := "getClass", desc := "()Ljava/lang/Class;" } : Jvm.MethodName) ({ cls := "java/lang/Object", name := "getClass", desc := "()Ljava/lang/Class;" } : Jvm.MethodName)) ∈ lw_all := lw_g (lw_at lw_m4 58 rfl) rfl
theorem q1192 : (Jvm.Cond.instantiable "MarginFolk$Not" (1 : Nat)) ∈ lw_all := lw_g (lw_at lw_m5 81 rfl) rfl
theorem q1194 : (Jvm.Cond.instanceMethod ({ cls := "MarginFolk$Not", name := "<init>", desc := "(LMarginFolk$Test;)V" } : Jvm.MethodName)) ∈ lw_all := lw_g (lw_at lw_m5 83 rfl) rfl
theorem q1195 : (Jvm.Cond.code ({ cls := "MarginFolk$Not", name := "<init>", desc := "(LMarginFolk$Test;)V" } : Jvm.MethodName) prog_12_method_1_code (2 : Nat) (Option.none : Option Jvm.ClassFile.FieldType)) ∈ lw_all := lw_g (lw_at lw_m5 84 rfl) rfl
theorem q1196 : (Jvm.Cond.methodLinkNest "MarginFolk$Not" (1 : Nat) ({ cls := "MarginFolk$Test", name := "<init>", desc := "()V" } : Jvm.MethodName) "MarginFolk") ∈ lw_tbl := lw_at lw_m5 85 rfl
theorem q1197 : (Jvm.Cond.fieldLink "MarginFolk$Not" (7 : Nat) "MarginFolk$Not" "test" "LMarginFolk$Test;") ∈ lw_all := lw_g (lw_at lw_m5 86 rfl) rfl
theorem q1198 : (Jvm.Cond.laysFinal "MarginFolk$Not" "MarginFolk$Not" "test" "LMarginFolk$Test;") ∈ lw_all := lw_g (lw_at lw_m5 87 rfl) rfl
theorem q1199 : (Jvm.Cond.soleField "MarginFolk$Not" "test") ∈ lw_all := lw_g (lw_at lw_m5 88 rfl) rfl
theorem q1200 : (Jvm.Cond.superclass "MarginFolk$Not" "MarginFolk$Test") ∈ lw_all := lw_g (lw_at lw_m5 89 rfl) rfl
theorem q1490 : (Jvm.Cond.instanceMethod ({ cls := "MarginFolk$Not", name := "holds", desc := "(LMarginFolk$Moment;)Z" } : Jvm.MethodName)) ∈ lw_all := lw_g (lw_at lw_m6 139 rfl) rfl
theorem q1491 : (Jvm.Cond.code ({ cls := "MarginFolk$Not", name := "holds", desc := "(LMarginFolk$Moment;)Z" } : Jvm.MethodName) prog_12_method_2_code (2 : Nat) (Option.some Jvm.ClassFile.FieldType.boolean)) ∈ lw_all := lw_g (lw_at lw_m6 140 rfl) rfl
theorem q1492 : (Jvm.Cond.methodLink "MarginFolk$Not" (13 : Nat) ({ cls := "MarginFolk$Test", name := "holds", desc := "(LMarginFolk$Moment;)Z" } : Jvm.MethodName)) ∈ lw_all := lw_g (lw_at lw_m6 141 rfl) rfl
theorem q1496 : (Jvm.Cond.selects "MarginFolk$Not" ({ cls := "MarginFolk$Test", name := "holds", desc := "(LMarginFolk$Moment;)Z" } : Jvm.MethodName) ({ cls := "MarginFolk$Not", name := "holds", desc := "(LMarginFolk$Moment;)Z" } : Jvm.MethodName)) ∈ lw_all := lw_g (lw_at lw_m6 145 rfl) rfl
theorem q2544 : (Jvm.Cond.castable "MarginFolk$Not" "MarginFolk$Test") ∈ lw_tbl := lw_at lw_m10 233 rfl
theorem q2564 : (Jvm.Cond.castable "MarginFolk$Not" "java/lang/Object") ∈ lw_tbl := lw_at lw_m11 13 rfl
theorem in_X16 : ∀ w ∈ wsX160, w ∈ lw_all := lw_in wsX160 [1198] (by decide +kernel) (by decide +kernel)
/-! MarginFolk$All -/
set_option maxRecDepth 100000
def RX17 : String := "MarginFolk$All"
abbrev cX17_init : ByteArray := prog_2_method_1_code
def yX17_init : MethodName := ⟨RX17, "<init>", "()V"⟩
theorem dX17_init_0 : decode cX17_init 0 = .ok (.aload_n 0, 1) := by decide +kernel
theorem dX17_init_1 : decode cX17_init 1 = .ok (.invokespecial 1, 3) := by decide +kernel
theorem dX17_init_4 : decode cX17_init 4 = .ok (.return_, 1) := by decide +kernel
abbrev cX17_holds : ByteArray := prog_2_method_2_code
def yX17_holds : MethodName := ⟨RX17, "holds", "(LMarginFolk$Moment;)Z"⟩
theorem dX17_holds_0 : decode cX17_holds 0 = .ok (.iconst 1, 1) := by decide +kernel
theorem dX17_holds_1 : decode cX17_holds 1 = .ok (.ireturn, 1) := by decide +kernel
theorem q186 : (Jvm.Cond.initialized "MarginFolk$All") ∈ lw_all := lw_g (lw_at lw_m1 35 rfl) rfl
theorem q919 : (Jvm.Cond.selects "MarginFolk$All" ({ cls := "java/lang/Object", name := "getClass", desc := "()Ljava/lang/Class;" } : Jvm.MethodName) ({ cls := "java/lang/Object", name := "getClass", desc := "()Ljava/lang/Class;" } : Jvm.MethodName)) ∈ lw_all := lw_g (lw_at lw_m4 48 rfl) rfl
theorem q1203 : (Jvm.Cond.instantiable "MarginFolk$All" (0 : Nat)) ∈ lw_all := lw_g (lw_at lw_m5 92 rfl) rfl
theorem q1205 : (Jvm.Cond.instanceMethod ({ cls := "MarginFolk$All", name := "<init>", desc := "()V" } : Jvm.MethodName)) ∈ lw_all := lw_g (lw_at lw_m5 94 rfl) rfl
theorem q1206 : (Jvm.Cond.code ({ cls := "MarginFolk$All", name := "<init>", desc := "()V" } : Jvm.MethodName) prog_2_method_1_code (1 : Nat) (Option.none : Option Jvm.ClassFile.FieldType)) ∈ lw_all := lw_g (lw_at lw_m5 95 rfl) rfl
theorem q1207 : (Jvm.Cond.methodLinkNest "MarginFolk$All" (1 : Nat) ({ cls := "MarginFolk$Test", name := "<init>", desc := "()V" } : Jvm.MethodName) "MarginFolk") ∈ lw_tbl := lw_at lw_m5 96 rfl
theorem q1208 : (Jvm.Cond.superclass "MarginFolk$All" "MarginFolk$Test") ∈ lw_all := lw_g (lw_at lw_m5 97 rfl) rfl
theorem q1478 : (Jvm.Cond.selects "MarginFolk$All" ({ cls := "MarginFolk$Test", name := "holds", desc := "(LMarginFolk$Moment;)Z" } : Jvm.MethodName) ({ cls := "MarginFolk$All", name := "holds", desc := "(LMarginFolk$Moment;)Z" } : Jvm.MethodName)) ∈ lw_all := lw_g (lw_at lw_m6 127 rfl) rfl
theorem q1479 : (Jvm.Cond.instanceMethod ({ cls := "MarginFolk$All", name := "holds", desc := "(LMarginFolk$Moment;)Z" } : Jvm.MethodName)) ∈ lw_all := lw_g (lw_at lw_m6 128 rfl) rfl
theorem q1480 : (Jvm.Cond.code ({ cls := "MarginFolk$All", name := "holds", desc := "(LMarginFolk$Moment;)Z" } : Jvm.MethodName) prog_2_method_2_code (2 : Nat) (Option.some Jvm.ClassFile.FieldType.boolean)) ∈ lw_all := lw_g (lw_at lw_m6 129 rfl) rfl
theorem q2542 : (Jvm.Cond.castable "MarginFolk$All" "MarginFolk$Test") ∈ lw_tbl := lw_at lw_m10 231 rfl
theorem q2565 : (Jvm.Cond.castable "MarginFolk$All" "java/lang/Object") ∈ lw_tbl := lw_at lw_m11 14 rfl
/-! MarginFolk$Than -/
set_option maxRecDepth 100000
def RX18 : String := "MarginFolk$Than"
def TX18 : u_T := fun k => match k with
  | 0 => ("MarginFolk$Than", "a", "LMarginFolk$Value;", true)
  | 1 => ("MarginFolk$Than", "b", "LMarginFolk$Value;", true)
  | _ => ("MarginFolk$Than", "sign", "I", true)
def tyX18 : Nat → FieldType := fun k => match k with
  | 0 => .object "MarginFolk$Value"
  | 1 => .object "MarginFolk$Value"
  | _ => .int
abbrev wsX180 : List Cond := u_ws RX18 TX18 3
theorem nmX18 : ∀ a, a < 3 → ∀ b, b < 3 → a ≠ b → (TX18 a).2.1 ≠ (TX18 b).2.1 := by decide +kernel
theorem tyX18_ok : ∀ k, k < 3 → parseFieldDescriptor (TX18 k).2.2.1 = some (tyX18 k) := by decide +kernel
abbrev cX18_init : ByteArray := prog_18_method_1_code
def yX18_init : MethodName := ⟨RX18, "<init>", "(LMarginFolk$Value;ILMarginFolk$Value;)V"⟩
def dkwX18_init_0 : List UInt8 := [42, 183, 0, 1, 42, 43, 181, 0, 7, 42, 28, 181, 0, 13, 42, 45, 181, 0, 17, 177]
abbrev dktX18_init_0 : List UInt8 := dkwX18_init_0 ++ []
theorem dksX18_init_0 : cX18_init.data.toList.drop 0 = dktX18_init_0 := by decide +kernel
theorem dX18_init_0 : decode cX18_init 0 = .ok (.aload_n 0, 1) := dk_42 (dk_at dksX18_init_0 0 rfl rfl)
theorem dX18_init_1 : decode cX18_init 1 = .ok (.invokespecial 1, 3) := dk_183 0 1 (dk_at dksX18_init_0 1 rfl rfl)
theorem dX18_init_4 : decode cX18_init 4 = .ok (.aload_n 0, 1) := dk_42 (dk_at dksX18_init_0 4 rfl rfl)
theorem dX18_init_5 : decode cX18_init 5 = .ok (.aload_n 1, 1) := dk_43 (dk_at dksX18_init_0 5 rfl rfl)
theorem dX18_init_6 : decode cX18_init 6 = .ok (.putfield 7, 3) := dk_181 0 7 (dk_at dksX18_init_0 6 rfl rfl)
theorem dX18_init_9 : decode cX18_init 9 = .ok (.aload_n 0, 1) := dk_42 (dk_at dksX18_init_0 9 rfl rfl)
theorem dX18_init_10 : decode cX18_init 10 = .ok (.iload_n 2, 1) := dk_28 (dk_at dksX18_init_0 10 rfl rfl)
theorem dX18_init_11 : decode cX18_init 11 = .ok (.putfield 13, 3) := dk_181 0 13 (dk_at dksX18_init_0 11 rfl rfl)
theorem dX18_init_14 : decode cX18_init 14 = .ok (.aload_n 0, 1) := dk_42 (dk_at dksX18_init_0 14 rfl rfl)
theorem dX18_init_15 : decode cX18_init 15 = .ok (.aload_n 3, 1) := dk_45 (dk_at dksX18_init_0 15 rfl rfl)
theorem dX18_init_16 : decode cX18_init 16 = .ok (.putfield 17, 3) := dk_181 0 17 (dk_at dksX18_init_0 16 rfl rfl)
theorem dX18_init_19 : decode cX18_init 19 = .ok (.return_, 1) := dk_177 (dk_at dksX18_init_0 19 rfl rfl)
abbrev cX18_holds : ByteArray := prog_18_method_2_code
def yX18_holds : MethodName := ⟨RX18, "holds", "(LMarginFolk$Moment;)Z"⟩
def dkwX18_holds_3 : List UInt8 := [154, 0, 7, 4, 167, 0, 4, 3, 172]
abbrev dktX18_holds_3 : List UInt8 := dkwX18_holds_3 ++ []
def dkwX18_holds_2 : List UInt8 := [16, 62, 160, 0, 18, 32, 22, 4, 148, 158, 0, 7, 4, 167, 0, 19, 3, 167, 0, 15, 32, 22, 4, 148]
abbrev dktX18_holds_2 : List UInt8 := dkwX18_holds_2 ++ dktX18_holds_3
def dkwX18_holds_1 : List UInt8 := [16, 60, 160, 0, 18, 32, 22, 4, 148, 156, 0, 7, 4, 167, 0, 43, 3, 167, 0, 39, 42, 180, 0, 13]
abbrev dktX18_holds_1 : List UInt8 := dkwX18_holds_1 ++ dktX18_holds_2
def dkwX18_holds_0 : List UInt8 := [42, 180, 0, 7, 43, 182, 0, 20, 65, 42, 180, 0, 17, 43, 182, 0, 20, 55, 4, 42, 180, 0, 13]
abbrev dktX18_holds_0 : List UInt8 := dkwX18_holds_0 ++ dktX18_holds_1
theorem dksX18_holds_0 : cX18_holds.data.toList.drop 0 = dktX18_holds_0 := by decide +kernel
theorem dksX18_holds_1 : cX18_holds.data.toList.drop 23 = dktX18_holds_1 := dk_seg dksX18_holds_0 23 rfl rfl
theorem dksX18_holds_2 : cX18_holds.data.toList.drop 47 = dktX18_holds_2 := dk_seg dksX18_holds_1 24 rfl rfl
theorem dksX18_holds_3 : cX18_holds.data.toList.drop 71 = dktX18_holds_3 := dk_seg dksX18_holds_2 24 rfl rfl
theorem dX18_holds_0 : decode cX18_holds 0 = .ok (.aload_n 0, 1) := dk_42 (dk_at dksX18_holds_0 0 rfl rfl)
theorem dX18_holds_1 : decode cX18_holds 1 = .ok (.getfield 7, 3) := dk_180 0 7 (dk_at dksX18_holds_0 1 rfl rfl)
theorem dX18_holds_4 : decode cX18_holds 4 = .ok (.aload_n 1, 1) := dk_43 (dk_at dksX18_holds_0 4 rfl rfl)
theorem dX18_holds_5 : decode cX18_holds 5 = .ok (.invokevirtual 20, 3) := dk_182 0 20 (dk_at dksX18_holds_0 5 rfl rfl)
theorem dX18_holds_8 : decode cX18_holds 8 = .ok (.lstore_n 2, 1) := dk_65 (dk_at dksX18_holds_0 8 rfl rfl)
theorem dX18_holds_9 : decode cX18_holds 9 = .ok (.aload_n 0, 1) := dk_42 (dk_at dksX18_holds_0 9 rfl rfl)
theorem dX18_holds_10 : decode cX18_holds 10 = .ok (.getfield 17, 3) := dk_180 0 17 (dk_at dksX18_holds_0 10 rfl rfl)
theorem dX18_holds_13 : decode cX18_holds 13 = .ok (.aload_n 1, 1) := dk_43 (dk_at dksX18_holds_0 13 rfl rfl)
theorem dX18_holds_14 : decode cX18_holds 14 = .ok (.invokevirtual 20, 3) := dk_182 0 20 (dk_at dksX18_holds_0 14 rfl rfl)
theorem dX18_holds_17 : decode cX18_holds 17 = .ok (.lstore 4, 2) := dk_55 4 (dk_at dksX18_holds_0 17 rfl rfl)
theorem dX18_holds_19 : decode cX18_holds 19 = .ok (.aload_n 0, 1) := dk_42 (dk_at dksX18_holds_0 19 rfl rfl)
theorem dX18_holds_20 : decode cX18_holds 20 = .ok (.getfield 13, 3) := dk_180 0 13 (dk_at dksX18_holds_0 20 rfl rfl)
theorem dX18_holds_23 : decode cX18_holds 23 = .ok (.bipush 60, 2) := dk_16 60 (dk_at dksX18_holds_1 0 rfl rfl)
theorem dX18_holds_25 : decode cX18_holds 25 = .ok (.if_icmp .ne 18, 3) := dk_160 0 18 (dk_at dksX18_holds_1 2 rfl rfl)
theorem dX18_holds_28 : decode cX18_holds 28 = .ok (.lload_n 2, 1) := dk_32 (dk_at dksX18_holds_1 5 rfl rfl)
theorem dX18_holds_29 : decode cX18_holds 29 = .ok (.lload 4, 2) := dk_22 4 (dk_at dksX18_holds_1 6 rfl rfl)
theorem dX18_holds_31 : decode cX18_holds 31 = .ok (.lcmp, 1) := dk_148 (dk_at dksX18_holds_1 8 rfl rfl)
theorem dX18_holds_32 : decode cX18_holds 32 = .ok (.ifCond .ge 7, 3) := dk_156 0 7 (dk_at dksX18_holds_1 9 rfl rfl)
theorem dX18_holds_35 : decode cX18_holds 35 = .ok (.iconst 1, 1) := dk_4 (dk_at dksX18_holds_1 12 rfl rfl)
theorem dX18_holds_36 : decode cX18_holds 36 = .ok (.goto 43, 3) := dk_167 0 43 (dk_at dksX18_holds_1 13 rfl rfl)
theorem dX18_holds_39 : decode cX18_holds 39 = .ok (.iconst 0, 1) := dk_3 (dk_at dksX18_holds_1 16 rfl rfl)
theorem dX18_holds_40 : decode cX18_holds 40 = .ok (.goto 39, 3) := dk_167 0 39 (dk_at dksX18_holds_1 17 rfl rfl)
theorem dX18_holds_43 : decode cX18_holds 43 = .ok (.aload_n 0, 1) := dk_42 (dk_at dksX18_holds_1 20 rfl rfl)
theorem dX18_holds_44 : decode cX18_holds 44 = .ok (.getfield 13, 3) := dk_180 0 13 (dk_at dksX18_holds_1 21 rfl rfl)
theorem dX18_holds_47 : decode cX18_holds 47 = .ok (.bipush 62, 2) := dk_16 62 (dk_at dksX18_holds_2 0 rfl rfl)
theorem dX18_holds_49 : decode cX18_holds 49 = .ok (.if_icmp .ne 18, 3) := dk_160 0 18 (dk_at dksX18_holds_2 2 rfl rfl)
theorem dX18_holds_52 : decode cX18_holds 52 = .ok (.lload_n 2, 1) := dk_32 (dk_at dksX18_holds_2 5 rfl rfl)
theorem dX18_holds_53 : decode cX18_holds 53 = .ok (.lload 4, 2) := dk_22 4 (dk_at dksX18_holds_2 6 rfl rfl)
theorem dX18_holds_55 : decode cX18_holds 55 = .ok (.lcmp, 1) := dk_148 (dk_at dksX18_holds_2 8 rfl rfl)
theorem dX18_holds_56 : decode cX18_holds 56 = .ok (.ifCond .le 7, 3) := dk_158 0 7 (dk_at dksX18_holds_2 9 rfl rfl)
theorem dX18_holds_59 : decode cX18_holds 59 = .ok (.iconst 1, 1) := dk_4 (dk_at dksX18_holds_2 12 rfl rfl)
theorem dX18_holds_60 : decode cX18_holds 60 = .ok (.goto 19, 3) := dk_167 0 19 (dk_at dksX18_holds_2 13 rfl rfl)
theorem dX18_holds_63 : decode cX18_holds 63 = .ok (.iconst 0, 1) := dk_3 (dk_at dksX18_holds_2 16 rfl rfl)
theorem dX18_holds_64 : decode cX18_holds 64 = .ok (.goto 15, 3) := dk_167 0 15 (dk_at dksX18_holds_2 17 rfl rfl)
theorem dX18_holds_67 : decode cX18_holds 67 = .ok (.lload_n 2, 1) := dk_32 (dk_at dksX18_holds_2 20 rfl rfl)
theorem dX18_holds_68 : decode cX18_holds 68 = .ok (.lload 4, 2) := dk_22 4 (dk_at dksX18_holds_2 21 rfl rfl)
theorem dX18_holds_70 : decode cX18_holds 70 = .ok (.lcmp, 1) := dk_148 (dk_at dksX18_holds_2 23 rfl rfl)
theorem dX18_holds_71 : decode cX18_holds 71 = .ok (.ifCond .ne 7, 3) := dk_154 0 7 (dk_at dksX18_holds_3 0 rfl rfl)
theorem dX18_holds_74 : decode cX18_holds 74 = .ok (.iconst 1, 1) := dk_4 (dk_at dksX18_holds_3 3 rfl rfl)
theorem dX18_holds_75 : decode cX18_holds 75 = .ok (.goto 4, 3) := dk_167 0 4 (dk_at dksX18_holds_3 4 rfl rfl)
theorem dX18_holds_78 : decode cX18_holds 78 = .ok (.iconst 0, 1) := dk_3 (dk_at dksX18_holds_3 7 rfl rfl)
theorem dX18_holds_79 : decode cX18_holds 79 = .ok (.ireturn, 1) := dk_172 (dk_at dksX18_holds_3 8 rfl rfl)
theorem q187 : (Jvm.Cond.initialized "MarginFolk$Than") ∈ lw_all := lw_g (lw_at lw_m1 36 rfl) rfl
theorem q934 : (Jvm.Cond.selects "MarginFolk$Than" ({ cls := "java/lang/Object", name := "getClass", desc := "()Ljava/lang/Class;" } : Jvm.MethodName) ({ cls := "java/lang/Object", name := "getClass", desc := "()Ljava/lang/Class;" } : Jvm.MethodName)) ∈ lw_all := lw_g (lw_at lw_m4 63 rfl) rfl
theorem q1210 : (Jvm.Cond.instantiable "MarginFolk$Than" (3 : Nat)) ∈ lw_all := lw_g (lw_at lw_m5 99 rfl) rfl
theorem q1212 : (Jvm.Cond.instanceMethod ({ cls := "MarginFolk$Than", name := "<init>", desc := "(LMarginFolk$Value;ILMarginFolk$Value;)V" } : Jvm.MethodName)) ∈ lw_all := lw_g (lw_at lw_m5 101 rfl) rfl
theorem q1213 : (Jvm.Cond.code ({ cls := "MarginFolk$Than", name := "<init>", desc := "(LMarginFolk$Value;ILMarginFolk$Value;)V" } : Jvm.MethodName) prog_18_method_1_code (4 : Nat) (Option.none : Option Jvm.ClassFile.FieldType)) ∈ lw_all := lw_g (lw_at lw_m5 102 rfl) rfl
theorem q1214 : (Jvm.Cond.methodLinkNest "MarginFolk$Than" (1 : Nat) ({ cls := "MarginFolk$Test", name := "<init>", desc := "()V" } : Jvm.MethodName) "MarginFolk") ∈ lw_tbl := lw_at lw_m5 103 rfl
theorem q1215 : (Jvm.Cond.fieldLink "MarginFolk$Than" (7 : Nat) "MarginFolk$Than" "a" "LMarginFolk$Value;") ∈ lw_all := lw_g (lw_at lw_m5 104 rfl) rfl
theorem q1216 : (Jvm.Cond.fieldLink "MarginFolk$Than" (17 : Nat) "MarginFolk$Than" "b" "LMarginFolk$Value;") ∈ lw_all := lw_g (lw_at lw_m5 105 rfl) rfl
theorem q1217 : (Jvm.Cond.fieldLink "MarginFolk$Than" (13 : Nat) "MarginFolk$Than" "sign" "I") ∈ lw_all := lw_g (lw_at lw_m5 106 rfl) rfl
theorem q1218 : (Jvm.Cond.laysFinal "MarginFolk$Than" "MarginFolk$Than" "a" "LMarginFolk$Value;") ∈ lw_all := lw_g (lw_at lw_m5 107 rfl) rfl
theorem q1219 : (Jvm.Cond.soleField "MarginFolk$Than" "a") ∈ lw_all := lw_g (lw_at lw_m5 108 rfl) rfl
theorem q1220 : (Jvm.Cond.laysFinal "MarginFolk$Than" "MarginFolk$Than" "b" "LMarginFolk$Value;") ∈ lw_all := lw_g (lw_at lw_m5 109 rfl) rfl
theorem q1221 : (Jvm.Cond.soleField "MarginFolk$Than" "b") ∈ lw_all := lw_g (lw_at lw_m5 110 rfl) rfl
theorem q1222 : (Jvm.Cond.laysFinal "MarginFolk$Than" "MarginFolk$Than" "sign" "I") ∈ lw_all := lw_g (lw_at lw_m5 111 rfl) rfl
theorem q1223 : (Jvm.Cond.soleField "MarginFolk$Than" "sign") ∈ lw_all := lw_g (lw_at lw_m5 112 rfl) rfl
theorem q1224 : (Jvm.Cond.superclass "MarginFolk$Than" "MarginFolk$Test") ∈ lw_all := lw_g (lw_at lw_m5 113 rfl) rfl
theorem q1493 : (Jvm.Cond.instanceMethod ({ cls := "MarginFolk$Than", name := "holds", desc := "(LMarginFolk$Moment;)Z" } : Jvm.MethodName)) ∈ lw_all := lw_g (lw_at lw_m6 142 rfl) rfl
theorem q1494 : (Jvm.Cond.code ({ cls := "MarginFolk$Than", name := "holds", desc := "(LMarginFolk$Moment;)Z" } : Jvm.MethodName) prog_18_method_2_code (6 : Nat) (Option.some Jvm.ClassFile.FieldType.boolean)) ∈ lw_all := lw_g (lw_at lw_m6 143 rfl) rfl
theorem q1495 : (Jvm.Cond.methodLink "MarginFolk$Than" (20 : Nat) ({ cls := "MarginFolk$Value", name := "at", desc := "(LMarginFolk$Moment;)J" } : Jvm.MethodName)) ∈ lw_all := lw_g (lw_at lw_m6 144 rfl) rfl
theorem q1497 : (Jvm.Cond.selects "MarginFolk$Than" ({ cls := "MarginFolk$Test", name := "holds", desc := "(LMarginFolk$Moment;)Z" } : Jvm.MethodName) ({ cls := "MarginFolk$Than", name := "holds", desc := "(LMarginFolk$Moment;)Z" } : Jvm.MethodName)) ∈ lw_all := lw_g (lw_at lw_m6 146 rfl) rfl
theorem q2545 : (Jvm.Cond.castable "MarginFolk$Than" "MarginFolk$Test") ∈ lw_tbl := lw_at lw_m10 234 rfl
theorem q2566 : (Jvm.Cond.castable "MarginFolk$Than" "java/lang/Object") ∈ lw_tbl := lw_at lw_m11 15 rfl
theorem in_X18 : ∀ w ∈ wsX180, w ∈ lw_all := lw_in wsX180 [1218, 1220, 1222] (by decide +kernel) (by decide +kernel)
/-! MarginFolk$Question -/
set_option maxRecDepth 100000
def RX19 : String := "MarginFolk$Question"
def TX19 : u_T := fun k => match k with
  | 0 => ("MarginFolk$Question", "what", "I", true)
  | 1 => ("MarginFolk$Question", "test", "LMarginFolk$Test;", true)
  | 2 => ("MarginFolk$Question", "sum", "LMarginFolk$Value;", true)
  | 3 => ("MarginFolk$Question", "found", "J", false)
  | _ => ("MarginFolk$Question", "has", "Z", false)
def tyX19 : Nat → FieldType := fun k => match k with
  | 0 => .int
  | 1 => .object "MarginFolk$Test"
  | 2 => .object "MarginFolk$Value"
  | 3 => .long
  | _ => .boolean
abbrev wsX190 : List Cond := u_ws RX19 TX19 5
theorem nmX19 : ∀ a, a < 5 → ∀ b, b < 5 → a ≠ b → (TX19 a).2.1 ≠ (TX19 b).2.1 := by decide +kernel
theorem tyX19_ok : ∀ k, k < 5 → parseFieldDescriptor (TX19 k).2.2.1 = some (tyX19 k) := by decide +kernel
abbrev cX19_init : ByteArray := prog_14_method_1_code
def yX19_init : MethodName := ⟨RX19, "<init>", "(ILMarginFolk$Test;LMarginFolk$Value;)V"⟩
def dkwX19_init_1 : List UInt8 := [181, 0, 25, 177]
abbrev dktX19_init_1 : List UInt8 := dkwX19_init_1 ++ []
def dkwX19_init_0 : List UInt8 := [42, 183, 0, 3, 42, 20, 0, 9, 181, 0, 11, 42, 27, 181, 0, 17, 42, 44, 181, 0, 21, 42, 45]
abbrev dktX19_init_0 : List UInt8 := dkwX19_init_0 ++ dktX19_init_1
theorem dksX19_init_0 : cX19_init.data.toList.drop 0 = dktX19_init_0 := by decide +kernel
theorem dksX19_init_1 : cX19_init.data.toList.drop 23 = dktX19_init_1 := dk_seg dksX19_init_0 23 rfl rfl
theorem dX19_init_0 : decode cX19_init 0 = .ok (.aload_n 0, 1) := dk_42 (dk_at dksX19_init_0 0 rfl rfl)
theorem dX19_init_1 : decode cX19_init 1 = .ok (.invokespecial 3, 3) := dk_183 0 3 (dk_at dksX19_init_0 1 rfl rfl)
theorem dX19_init_4 : decode cX19_init 4 = .ok (.aload_n 0, 1) := dk_42 (dk_at dksX19_init_0 4 rfl rfl)
theorem dX19_init_5 : decode cX19_init 5 = .ok (.ldc2_w 9, 3) := dk_20 0 9 (dk_at dksX19_init_0 5 rfl rfl)
theorem dX19_init_8 : decode cX19_init 8 = .ok (.putfield 11, 3) := dk_181 0 11 (dk_at dksX19_init_0 8 rfl rfl)
theorem dX19_init_11 : decode cX19_init 11 = .ok (.aload_n 0, 1) := dk_42 (dk_at dksX19_init_0 11 rfl rfl)
theorem dX19_init_12 : decode cX19_init 12 = .ok (.iload_n 1, 1) := dk_27 (dk_at dksX19_init_0 12 rfl rfl)
theorem dX19_init_13 : decode cX19_init 13 = .ok (.putfield 17, 3) := dk_181 0 17 (dk_at dksX19_init_0 13 rfl rfl)
theorem dX19_init_16 : decode cX19_init 16 = .ok (.aload_n 0, 1) := dk_42 (dk_at dksX19_init_0 16 rfl rfl)
theorem dX19_init_17 : decode cX19_init 17 = .ok (.aload_n 2, 1) := dk_44 (dk_at dksX19_init_0 17 rfl rfl)
theorem dX19_init_18 : decode cX19_init 18 = .ok (.putfield 21, 3) := dk_181 0 21 (dk_at dksX19_init_0 18 rfl rfl)
theorem dX19_init_21 : decode cX19_init 21 = .ok (.aload_n 0, 1) := dk_42 (dk_at dksX19_init_0 21 rfl rfl)
theorem dX19_init_22 : decode cX19_init 22 = .ok (.aload_n 3, 1) := dk_45 (dk_at dksX19_init_0 22 rfl rfl)
theorem dX19_init_23 : decode cX19_init 23 = .ok (.putfield 25, 3) := dk_181 0 25 (dk_at dksX19_init_1 0 rfl rfl)
theorem dX19_init_26 : decode cX19_init 26 = .ok (.return_, 1) := dk_177 (dk_at dksX19_init_1 3 rfl rfl)
abbrev cX19_meets : ByteArray := prog_14_method_2_code
def yX19_meets : MethodName := ⟨RX19, "meets", "(ILMarginFolk$Moment;)V"⟩
def dkwX19_meets_6 : List UInt8 := [181, 0, 11, 42, 4, 181, 0, 41, 177]
abbrev dktX19_meets_6 : List UInt8 := dkwX19_meets_6 ++ []
def dkwX19_meets_5 : List UInt8 := [7, 160, 0, 14, 42, 180, 0, 11, 33, 184, 0, 35, 167, 0, 11, 42, 180, 0, 11, 33, 184, 0, 51]
abbrev dktX19_meets_5 : List UInt8 := dkwX19_meets_5 ++ dktX19_meets_6
def dkwX19_meets_4 : List UInt8 := [167, 0, 47, 42, 180, 0, 17, 6, 160, 0, 12, 42, 180, 0, 11, 33, 97, 167, 0, 30, 42, 180, 0, 17]
abbrev dktX19_meets_4 : List UInt8 := dkwX19_meets_4 ++ dktX19_meets_5
def dkwX19_meets_3 : List UInt8 := [181, 0, 41, 177, 42, 180, 0, 25, 44, 182, 0, 45, 66, 42, 42, 180, 0, 41, 154, 0, 7, 33]
abbrev dktX19_meets_3 : List UInt8 := dkwX19_meets_3 ++ dktX19_meets_4
def dkwX19_meets_2 : List UInt8 := [154, 0, 17, 42, 180, 0, 41, 153, 0, 10, 42, 180, 0, 11, 167, 0, 5, 27, 133, 181, 0, 11, 42, 4]
abbrev dktX19_meets_2 : List UInt8 := dkwX19_meets_2 ++ dktX19_meets_3
def dkwX19_meets_1 : List UInt8 := [180, 0, 17, 5, 160, 0, 16, 9, 42, 180, 0, 11, 184, 0, 35, 10, 97, 167, 0, 26, 42, 180, 0, 17]
abbrev dktX19_meets_1 : List UInt8 := dkwX19_meets_1 ++ dktX19_meets_2
def dkwX19_meets_0 : List UInt8 := [42, 180, 0, 17, 6, 162, 0, 69, 42, 180, 0, 21, 44, 182, 0, 29, 154, 0, 4, 177, 42, 42]
abbrev dktX19_meets_0 : List UInt8 := dkwX19_meets_0 ++ dktX19_meets_1
theorem dksX19_meets_0 : cX19_meets.data.toList.drop 0 = dktX19_meets_0 := by decide +kernel
theorem dksX19_meets_1 : cX19_meets.data.toList.drop 22 = dktX19_meets_1 := dk_seg dksX19_meets_0 22 rfl rfl
theorem dksX19_meets_2 : cX19_meets.data.toList.drop 46 = dktX19_meets_2 := dk_seg dksX19_meets_1 24 rfl rfl
theorem dksX19_meets_3 : cX19_meets.data.toList.drop 70 = dktX19_meets_3 := dk_seg dksX19_meets_2 24 rfl rfl
theorem dksX19_meets_4 : cX19_meets.data.toList.drop 92 = dktX19_meets_4 := dk_seg dksX19_meets_3 22 rfl rfl
theorem dksX19_meets_5 : cX19_meets.data.toList.drop 116 = dktX19_meets_5 := dk_seg dksX19_meets_4 24 rfl rfl
theorem dksX19_meets_6 : cX19_meets.data.toList.drop 139 = dktX19_meets_6 := dk_seg dksX19_meets_5 23 rfl rfl
theorem dX19_meets_0 : decode cX19_meets 0 = .ok (.aload_n 0, 1) := dk_42 (dk_at dksX19_meets_0 0 rfl rfl)
theorem dX19_meets_1 : decode cX19_meets 1 = .ok (.getfield 17, 3) := dk_180 0 17 (dk_at dksX19_meets_0 1 rfl rfl)
theorem dX19_meets_4 : decode cX19_meets 4 = .ok (.iconst 3, 1) := dk_6 (dk_at dksX19_meets_0 4 rfl rfl)
theorem dX19_meets_5 : decode cX19_meets 5 = .ok (.if_icmp .ge 69, 3) := dk_162 0 69 (dk_at dksX19_meets_0 5 rfl rfl)
theorem dX19_meets_8 : decode cX19_meets 8 = .ok (.aload_n 0, 1) := dk_42 (dk_at dksX19_meets_0 8 rfl rfl)
theorem dX19_meets_9 : decode cX19_meets 9 = .ok (.getfield 21, 3) := dk_180 0 21 (dk_at dksX19_meets_0 9 rfl rfl)
theorem dX19_meets_12 : decode cX19_meets 12 = .ok (.aload_n 2, 1) := dk_44 (dk_at dksX19_meets_0 12 rfl rfl)
theorem dX19_meets_13 : decode cX19_meets 13 = .ok (.invokevirtual 29, 3) := dk_182 0 29 (dk_at dksX19_meets_0 13 rfl rfl)
theorem dX19_meets_16 : decode cX19_meets 16 = .ok (.ifCond .ne 4, 3) := dk_154 0 4 (dk_at dksX19_meets_0 16 rfl rfl)
theorem dX19_meets_19 : decode cX19_meets 19 = .ok (.return_, 1) := dk_177 (dk_at dksX19_meets_0 19 rfl rfl)
theorem dX19_meets_20 : decode cX19_meets 20 = .ok (.aload_n 0, 1) := dk_42 (dk_at dksX19_meets_0 20 rfl rfl)
theorem dX19_meets_21 : decode cX19_meets 21 = .ok (.aload_n 0, 1) := dk_42 (dk_at dksX19_meets_0 21 rfl rfl)
theorem dX19_meets_22 : decode cX19_meets 22 = .ok (.getfield 17, 3) := dk_180 0 17 (dk_at dksX19_meets_1 0 rfl rfl)
theorem dX19_meets_25 : decode cX19_meets 25 = .ok (.iconst 2, 1) := dk_5 (dk_at dksX19_meets_1 3 rfl rfl)
theorem dX19_meets_26 : decode cX19_meets 26 = .ok (.if_icmp .ne 16, 3) := dk_160 0 16 (dk_at dksX19_meets_1 4 rfl rfl)
theorem dX19_meets_29 : decode cX19_meets 29 = .ok (.lconst 0, 1) := dk_9 (dk_at dksX19_meets_1 7 rfl rfl)
theorem dX19_meets_30 : decode cX19_meets 30 = .ok (.aload_n 0, 1) := dk_42 (dk_at dksX19_meets_1 8 rfl rfl)
theorem dX19_meets_31 : decode cX19_meets 31 = .ok (.getfield 11, 3) := dk_180 0 11 (dk_at dksX19_meets_1 9 rfl rfl)
theorem dX19_meets_34 : decode cX19_meets 34 = .ok (.invokestatic 35, 3) := dk_184 0 35 (dk_at dksX19_meets_1 12 rfl rfl)
theorem dX19_meets_37 : decode cX19_meets 37 = .ok (.lconst 1, 1) := dk_10 (dk_at dksX19_meets_1 15 rfl rfl)
theorem dX19_meets_38 : decode cX19_meets 38 = .ok (.ladd, 1) := dk_97 (dk_at dksX19_meets_1 16 rfl rfl)
theorem dX19_meets_39 : decode cX19_meets 39 = .ok (.goto 26, 3) := dk_167 0 26 (dk_at dksX19_meets_1 17 rfl rfl)
theorem dX19_meets_42 : decode cX19_meets 42 = .ok (.aload_n 0, 1) := dk_42 (dk_at dksX19_meets_1 20 rfl rfl)
theorem dX19_meets_43 : decode cX19_meets 43 = .ok (.getfield 17, 3) := dk_180 0 17 (dk_at dksX19_meets_1 21 rfl rfl)
theorem dX19_meets_46 : decode cX19_meets 46 = .ok (.ifCond .ne 17, 3) := dk_154 0 17 (dk_at dksX19_meets_2 0 rfl rfl)
theorem dX19_meets_49 : decode cX19_meets 49 = .ok (.aload_n 0, 1) := dk_42 (dk_at dksX19_meets_2 3 rfl rfl)
theorem dX19_meets_50 : decode cX19_meets 50 = .ok (.getfield 41, 3) := dk_180 0 41 (dk_at dksX19_meets_2 4 rfl rfl)
theorem dX19_meets_53 : decode cX19_meets 53 = .ok (.ifCond .eq 10, 3) := dk_153 0 10 (dk_at dksX19_meets_2 7 rfl rfl)
theorem dX19_meets_56 : decode cX19_meets 56 = .ok (.aload_n 0, 1) := dk_42 (dk_at dksX19_meets_2 10 rfl rfl)
theorem dX19_meets_57 : decode cX19_meets 57 = .ok (.getfield 11, 3) := dk_180 0 11 (dk_at dksX19_meets_2 11 rfl rfl)
theorem dX19_meets_60 : decode cX19_meets 60 = .ok (.goto 5, 3) := dk_167 0 5 (dk_at dksX19_meets_2 14 rfl rfl)
theorem dX19_meets_63 : decode cX19_meets 63 = .ok (.iload_n 1, 1) := dk_27 (dk_at dksX19_meets_2 17 rfl rfl)
theorem dX19_meets_64 : decode cX19_meets 64 = .ok (.i2l, 1) := dk_133 (dk_at dksX19_meets_2 18 rfl rfl)
theorem dX19_meets_65 : decode cX19_meets 65 = .ok (.putfield 11, 3) := dk_181 0 11 (dk_at dksX19_meets_2 19 rfl rfl)
theorem dX19_meets_68 : decode cX19_meets 68 = .ok (.aload_n 0, 1) := dk_42 (dk_at dksX19_meets_2 22 rfl rfl)
theorem dX19_meets_69 : decode cX19_meets 69 = .ok (.iconst 1, 1) := dk_4 (dk_at dksX19_meets_2 23 rfl rfl)
theorem dX19_meets_70 : decode cX19_meets 70 = .ok (.putfield 41, 3) := dk_181 0 41 (dk_at dksX19_meets_3 0 rfl rfl)
theorem dX19_meets_73 : decode cX19_meets 73 = .ok (.return_, 1) := dk_177 (dk_at dksX19_meets_3 3 rfl rfl)
theorem dX19_meets_74 : decode cX19_meets 74 = .ok (.aload_n 0, 1) := dk_42 (dk_at dksX19_meets_3 4 rfl rfl)
theorem dX19_meets_75 : decode cX19_meets 75 = .ok (.getfield 25, 3) := dk_180 0 25 (dk_at dksX19_meets_3 5 rfl rfl)
theorem dX19_meets_78 : decode cX19_meets 78 = .ok (.aload_n 2, 1) := dk_44 (dk_at dksX19_meets_3 8 rfl rfl)
theorem dX19_meets_79 : decode cX19_meets 79 = .ok (.invokevirtual 45, 3) := dk_182 0 45 (dk_at dksX19_meets_3 9 rfl rfl)
theorem dX19_meets_82 : decode cX19_meets 82 = .ok (.lstore_n 3, 1) := dk_66 (dk_at dksX19_meets_3 12 rfl rfl)
theorem dX19_meets_83 : decode cX19_meets 83 = .ok (.aload_n 0, 1) := dk_42 (dk_at dksX19_meets_3 13 rfl rfl)
theorem dX19_meets_84 : decode cX19_meets 84 = .ok (.aload_n 0, 1) := dk_42 (dk_at dksX19_meets_3 14 rfl rfl)
theorem dX19_meets_85 : decode cX19_meets 85 = .ok (.getfield 41, 3) := dk_180 0 41 (dk_at dksX19_meets_3 15 rfl rfl)
theorem dX19_meets_88 : decode cX19_meets 88 = .ok (.ifCond .ne 7, 3) := dk_154 0 7 (dk_at dksX19_meets_3 18 rfl rfl)
theorem dX19_meets_91 : decode cX19_meets 91 = .ok (.lload_n 3, 1) := dk_33 (dk_at dksX19_meets_3 21 rfl rfl)
theorem dX19_meets_92 : decode cX19_meets 92 = .ok (.goto 47, 3) := dk_167 0 47 (dk_at dksX19_meets_4 0 rfl rfl)
theorem dX19_meets_95 : decode cX19_meets 95 = .ok (.aload_n 0, 1) := dk_42 (dk_at dksX19_meets_4 3 rfl rfl)
theorem dX19_meets_96 : decode cX19_meets 96 = .ok (.getfield 17, 3) := dk_180 0 17 (dk_at dksX19_meets_4 4 rfl rfl)
theorem dX19_meets_99 : decode cX19_meets 99 = .ok (.iconst 3, 1) := dk_6 (dk_at dksX19_meets_4 7 rfl rfl)
theorem dX19_meets_100 : decode cX19_meets 100 = .ok (.if_icmp .ne 12, 3) := dk_160 0 12 (dk_at dksX19_meets_4 8 rfl rfl)
theorem dX19_meets_103 : decode cX19_meets 103 = .ok (.aload_n 0, 1) := dk_42 (dk_at dksX19_meets_4 11 rfl rfl)
theorem dX19_meets_104 : decode cX19_meets 104 = .ok (.getfield 11, 3) := dk_180 0 11 (dk_at dksX19_meets_4 12 rfl rfl)
theorem dX19_meets_107 : decode cX19_meets 107 = .ok (.lload_n 3, 1) := dk_33 (dk_at dksX19_meets_4 15 rfl rfl)
theorem dX19_meets_108 : decode cX19_meets 108 = .ok (.ladd, 1) := dk_97 (dk_at dksX19_meets_4 16 rfl rfl)
theorem dX19_meets_109 : decode cX19_meets 109 = .ok (.goto 30, 3) := dk_167 0 30 (dk_at dksX19_meets_4 17 rfl rfl)
theorem dX19_meets_112 : decode cX19_meets 112 = .ok (.aload_n 0, 1) := dk_42 (dk_at dksX19_meets_4 20 rfl rfl)
theorem dX19_meets_113 : decode cX19_meets 113 = .ok (.getfield 17, 3) := dk_180 0 17 (dk_at dksX19_meets_4 21 rfl rfl)
theorem dX19_meets_116 : decode cX19_meets 116 = .ok (.iconst 4, 1) := dk_7 (dk_at dksX19_meets_5 0 rfl rfl)
theorem dX19_meets_117 : decode cX19_meets 117 = .ok (.if_icmp .ne 14, 3) := dk_160 0 14 (dk_at dksX19_meets_5 1 rfl rfl)
theorem dX19_meets_120 : decode cX19_meets 120 = .ok (.aload_n 0, 1) := dk_42 (dk_at dksX19_meets_5 4 rfl rfl)
theorem dX19_meets_121 : decode cX19_meets 121 = .ok (.getfield 11, 3) := dk_180 0 11 (dk_at dksX19_meets_5 5 rfl rfl)
theorem dX19_meets_124 : decode cX19_meets 124 = .ok (.lload_n 3, 1) := dk_33 (dk_at dksX19_meets_5 8 rfl rfl)
theorem dX19_meets_125 : decode cX19_meets 125 = .ok (.invokestatic 35, 3) := dk_184 0 35 (dk_at dksX19_meets_5 9 rfl rfl)
theorem dX19_meets_128 : decode cX19_meets 128 = .ok (.goto 11, 3) := dk_167 0 11 (dk_at dksX19_meets_5 12 rfl rfl)
theorem dX19_meets_131 : decode cX19_meets 131 = .ok (.aload_n 0, 1) := dk_42 (dk_at dksX19_meets_5 15 rfl rfl)
theorem dX19_meets_132 : decode cX19_meets 132 = .ok (.getfield 11, 3) := dk_180 0 11 (dk_at dksX19_meets_5 16 rfl rfl)
theorem dX19_meets_135 : decode cX19_meets 135 = .ok (.lload_n 3, 1) := dk_33 (dk_at dksX19_meets_5 19 rfl rfl)
theorem dX19_meets_136 : decode cX19_meets 136 = .ok (.invokestatic 51, 3) := dk_184 0 51 (dk_at dksX19_meets_5 20 rfl rfl)
theorem dX19_meets_139 : decode cX19_meets 139 = .ok (.putfield 11, 3) := dk_181 0 11 (dk_at dksX19_meets_6 0 rfl rfl)
theorem dX19_meets_142 : decode cX19_meets 142 = .ok (.aload_n 0, 1) := dk_42 (dk_at dksX19_meets_6 3 rfl rfl)
theorem dX19_meets_143 : decode cX19_meets 143 = .ok (.iconst 1, 1) := dk_4 (dk_at dksX19_meets_6 4 rfl rfl)
theorem dX19_meets_144 : decode cX19_meets 144 = .ok (.putfield 41, 3) := dk_181 0 41 (dk_at dksX19_meets_6 5 rfl rfl)
theorem dX19_meets_147 : decode cX19_meets 147 = .ok (.return_, 1) := dk_177 (dk_at dksX19_meets_6 8 rfl rfl)
abbrev cX19_answer : ByteArray := prog_14_method_3_code
def yX19_answer : MethodName := ⟨RX19, "answer", "()J"⟩
def dkwX19_answer_0 : List UInt8 := [42, 180, 0, 41, 154, 0, 11, 42, 180, 0, 17, 5, 162, 0, 10, 42, 180, 0, 11, 167, 0, 4, 9, 173]
abbrev dktX19_answer_0 : List UInt8 := dkwX19_answer_0 ++ []
theorem dksX19_answer_0 : cX19_answer.data.toList.drop 0 = dktX19_answer_0 := by decide +kernel
theorem dX19_answer_0 : decode cX19_answer 0 = .ok (.aload_n 0, 1) := dk_42 (dk_at dksX19_answer_0 0 rfl rfl)
theorem dX19_answer_1 : decode cX19_answer 1 = .ok (.getfield 41, 3) := dk_180 0 41 (dk_at dksX19_answer_0 1 rfl rfl)
theorem dX19_answer_4 : decode cX19_answer 4 = .ok (.ifCond .ne 11, 3) := dk_154 0 11 (dk_at dksX19_answer_0 4 rfl rfl)
theorem dX19_answer_7 : decode cX19_answer 7 = .ok (.aload_n 0, 1) := dk_42 (dk_at dksX19_answer_0 7 rfl rfl)
theorem dX19_answer_8 : decode cX19_answer 8 = .ok (.getfield 17, 3) := dk_180 0 17 (dk_at dksX19_answer_0 8 rfl rfl)
theorem dX19_answer_11 : decode cX19_answer 11 = .ok (.iconst 2, 1) := dk_5 (dk_at dksX19_answer_0 11 rfl rfl)
theorem dX19_answer_12 : decode cX19_answer 12 = .ok (.if_icmp .ge 10, 3) := dk_162 0 10 (dk_at dksX19_answer_0 12 rfl rfl)
theorem dX19_answer_15 : decode cX19_answer 15 = .ok (.aload_n 0, 1) := dk_42 (dk_at dksX19_answer_0 15 rfl rfl)
theorem dX19_answer_16 : decode cX19_answer 16 = .ok (.getfield 11, 3) := dk_180 0 11 (dk_at dksX19_answer_0 16 rfl rfl)
theorem dX19_answer_19 : decode cX19_answer 19 = .ok (.goto 4, 3) := dk_167 0 4 (dk_at dksX19_answer_0 19 rfl rfl)
theorem dX19_answer_22 : decode cX19_answer 22 = .ok (.lconst 0, 1) := dk_9 (dk_at dksX19_answer_0 22 rfl rfl)
theorem dX19_answer_23 : decode cX19_answer 23 = .ok (.lreturn, 1) := dk_173 (dk_at dksX19_answer_0 23 rfl rfl)
theorem q189 : (Jvm.Cond.initialized "MarginFolk$Question") ∈ lw_all := lw_g (lw_at lw_m1 38 rfl) rfl
theorem q931 : (Jvm.Cond.selects "MarginFolk$Question" ({ cls := "java/lang/Object", name := "getClass", desc := "()Ljava/lang/Class;" } : Jvm.MethodName) ({ cls := "java/lang/Object", name := "getClass", desc := "()Ljava/lang/Class;" } : Jvm.MethodName)) ∈ lw_all := lw_g (lw_at lw_m4 60 rfl) rfl
theorem q1611 : (Jvm.Cond.instantiable "MarginFolk$Question" (5 : Nat)) ∈ lw_all := lw_g (lw_at lw_m7 20 rfl) rfl
theorem q1613 : (Jvm.Cond.instanceMethod ({ cls := "MarginFolk$Question", name := "<init>", desc := "(ILMarginFolk$Test;LMarginFolk$Value;)V" } : Jvm.MethodName)) ∈ lw_all := lw_g (lw_at lw_m7 22 rfl) rfl
theorem q1614 : (Jvm.Cond.code ({ cls := "MarginFolk$Question", name := "<init>", desc := "(ILMarginFolk$Test;LMarginFolk$Value;)V" } : Jvm.MethodName) prog_14_method_1_code (4 : Nat) (Option.none : Option Jvm.ClassFile.FieldType)) ∈ lw_all := lw_g (lw_at lw_m7 23 rfl) rfl
theorem q1615 : (Jvm.Cond.methodLink "MarginFolk$Question" (3 : Nat) ({ cls := "java/lang/Object", name := "<init>", desc := "()V" } : Jvm.MethodName)) ∈ lw_all := lw_g (lw_at lw_m7 24 rfl) rfl
theorem q1616 : (Jvm.Cond.constantLong "MarginFolk$Question" (9 : Nat) (-1 : Int64)) ∈ lw_all := lw_g (lw_at lw_m7 25 rfl) rfl
theorem q1617 : (Jvm.Cond.fieldLink "MarginFolk$Question" (17 : Nat) "MarginFolk$Question" "what" "I") ∈ lw_all := lw_g (lw_at lw_m7 26 rfl) rfl
theorem q1618 : (Jvm.Cond.fieldLink "MarginFolk$Question" (21 : Nat) "MarginFolk$Question" "test" "LMarginFolk$Test;") ∈ lw_all := lw_g (lw_at lw_m7 27 rfl) rfl
theorem q1619 : (Jvm.Cond.fieldLink "MarginFolk$Question" (25 : Nat) "MarginFolk$Question" "sum" "LMarginFolk$Value;") ∈ lw_all := lw_g (lw_at lw_m7 28 rfl) rfl
theorem q1620 : (Jvm.Cond.fieldLink "MarginFolk$Question" (11 : Nat) "MarginFolk$Question" "found" "J") ∈ lw_all := lw_g (lw_at lw_m7 29 rfl) rfl
theorem q1621 : (Jvm.Cond.fieldLink "MarginFolk$Question" (41 : Nat) "MarginFolk$Question" "has" "Z") ∈ lw_all := lw_g (lw_at lw_m7 30 rfl) rfl
theorem q1622 : (Jvm.Cond.laysFinal "MarginFolk$Question" "MarginFolk$Question" "what" "I") ∈ lw_all := lw_g (lw_at lw_m7 31 rfl) rfl
theorem q1623 : (Jvm.Cond.soleField "MarginFolk$Question" "what") ∈ lw_all := lw_g (lw_at lw_m7 32 rfl) rfl
theorem q1624 : (Jvm.Cond.laysFinal "MarginFolk$Question" "MarginFolk$Question" "test" "LMarginFolk$Test;") ∈ lw_all := lw_g (lw_at lw_m7 33 rfl) rfl
theorem q1625 : (Jvm.Cond.soleField "MarginFolk$Question" "test") ∈ lw_all := lw_g (lw_at lw_m7 34 rfl) rfl
theorem q1626 : (Jvm.Cond.laysFinal "MarginFolk$Question" "MarginFolk$Question" "sum" "LMarginFolk$Value;") ∈ lw_all := lw_g (lw_at lw_m7 35 rfl) rfl
theorem q1627 : (Jvm.Cond.soleField "MarginFolk$Question" "sum") ∈ lw_all := lw_g (lw_at lw_m7 36 rfl) rfl
theorem q1628 : (Jvm.Cond.lays "MarginFolk$Question" "MarginFolk$Question" "found" "J") ∈ lw_all := lw_g (lw_at lw_m7 37 rfl) rfl
theorem q1629 : (Jvm.Cond.soleField "MarginFolk$Question" "found") ∈ lw_all := lw_g (lw_at lw_m7 38 rfl) rfl
theorem q1630 : (Jvm.Cond.lays "MarginFolk$Question" "MarginFolk$Question" "has" "Z") ∈ lw_all := lw_g (lw_at lw_m7 39 rfl) rfl
theorem q1631 : (Jvm.Cond.soleField "MarginFolk$Question" "has") ∈ lw_all := lw_g (lw_at lw_m7 40 rfl) rfl
theorem q1632 : (Jvm.Cond.superclass "MarginFolk$Question" "java/lang/Object") ∈ lw_all := lw_g (lw_at lw_m7 41 rfl) rfl
theorem q1634 : (Jvm.Cond.instanceMethod ({ cls := "MarginFolk$Question", name := "meets", desc := "(ILMarginFolk$Moment;)V" } : Jvm.MethodName)) ∈ lw_all := lw_g (lw_at lw_m7 43 rfl) rfl
theorem q1635 : (Jvm.Cond.selects "MarginFolk$Question" ({ cls := "MarginFolk$Question", name := "meets", desc := "(ILMarginFolk$Moment;)V" } : Jvm.MethodName) ({ cls := "MarginFolk$Question", name := "meets", desc := "(ILMarginFolk$Moment;)V" } : Jvm.MethodName)) ∈ lw_all := lw_g (lw_at lw_m7 44 rfl) rfl
theorem q1636 : (Jvm.Cond.code ({ cls := "MarginFolk$Question", name := "meets", desc := "(ILMarginFolk$Moment;)V" } : Jvm.MethodName) prog_14_method_2_code (5 : Nat) (Option.none : Option Jvm.ClassFile.FieldType)) ∈ lw_all := lw_g (lw_at lw_m7 45 rfl) rfl
theorem q1637 : (Jvm.Cond.methodLink "MarginFolk$Question" (29 : Nat) ({ cls := "MarginFolk$Test", name := "holds", desc := "(LMarginFolk$Moment;)Z" } : Jvm.MethodName)) ∈ lw_all := lw_g (lw_at lw_m7 46 rfl) rfl
theorem q1638 : (Jvm.Cond.methodLink "MarginFolk$Question" (35 : Nat) ({ cls := "java/lang/Math", name := "max", desc := "(JJ)J" } : Jvm.MethodName)) ∈ lw_all := lw_g (lw_at lw_m7 47 rfl) rfl
theorem q1639 : (Jvm.Cond.methodLink "MarginFolk$Question" (45 : Nat) ({ cls := "MarginFolk$Value", name := "at", desc := "(LMarginFolk$Moment;)J" } : Jvm.MethodName)) ∈ lw_all := lw_g (lw_at lw_m7 48 rfl) rfl
theorem q1640 : (Jvm.Cond.methodLink "MarginFolk$Question" (51 : Nat) ({ cls := "java/lang/Math", name := "min", desc := "(JJ)J" } : Jvm.MethodName)) ∈ lw_all := lw_g (lw_at lw_m7 49 rfl) rfl
theorem q1642 : (Jvm.Cond.instanceMethod ({ cls := "MarginFolk$Question", name := "answer", desc := "()J" } : Jvm.MethodName)) ∈ lw_all := lw_g (lw_at lw_m7 51 rfl) rfl
theorem q1643 : (Jvm.Cond.selects "MarginFolk$Question" ({ cls := "MarginFolk$Question", name := "answer", desc := "()J" } : Jvm.MethodName) ({ cls := "MarginFolk$Question", name := "answer", desc := "()J" } : Jvm.MethodName)) ∈ lw_all := lw_g (lw_at lw_m7 52 rfl) rfl
theorem q1644 : (Jvm.Cond.code ({ cls := "MarginFolk$Question", name := "answer", desc := "()J" } : Jvm.MethodName) prog_14_method_3_code (1 : Nat) (Option.some Jvm.ClassFile.FieldType.long)) ∈ lw_all := lw_g (lw_at lw_m7 53 rfl) rfl
theorem q2567 : (Jvm.Cond.castable "MarginFolk$Question" "java/lang/Object") ∈ lw_tbl := lw_at lw_m11 16 rfl
theorem in_X19 : ∀ w ∈ wsX190, w ∈ lw_all := lw_in wsX190 [1622, 1624, 1626, 1628, 1630] (by decide +kernel) (by decide +kernel)
